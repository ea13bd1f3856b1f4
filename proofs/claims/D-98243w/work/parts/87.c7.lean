/-! CONTRACTS of the component: years 1 -/
set_option maxRecDepth 100000
theorem cpk {sp dp n n0 n1 : Nat} (h1 : sp + n ≤ n0) (h2 : dp + n ≤ n1) (h0 : n0 ≤ 60000) (h3 : n1 ≤ 60000) : cpOk (nI sp) (nI dp) (nI n) n0 n1 := by
  have e : ∀ k : Nat, k ≤ 60000 → ¬ nI k < 0 := fun k hk => by
    rw [← nI_0, nI_ltI (by omega) (by omega)]; omega
  unfold cpOk
  rw [nI_clamp (by omega), nI_clamp (by omega), nI_clamp (by omega)]
  exact ⟨e _ (by omega), e _ (by omega), e _ (by omega), h1, h2⟩
theorem cpy_in {α : Type} {f g : Nat → α} {sp dp n j : Nat} (h : j < n) : va_cpy f g sp dp n (dp + j) = f (sp + j) := by
  unfold va_cpy
  rw [if_pos ⟨by omega, by omega⟩, Nat.add_sub_cancel_left]
theorem cpy_i0 {α : Type} {f g : Nat → α} {n j : Nat} (h : j < n) : va_cpy f g 0 0 n j = f j := by
  have := cpy_in (f := f) (g := g) (sp := 0) (dp := 0) h
  rwa [Nat.zero_add] at this
theorem WR.of {σ τ : Nat → Nat → Int32} {w : Nat} {S : Nat → Int32} (r : WR σ w S) (e : ∀ j, j ≤ 15 → τ (w + j) = σ (w + j)) : WR τ w S := by
  unfold WR at r ⊢
  have e0 := e 0 (by omega)
  rw [Nat.add_zero] at e0
  rw [e0, e 1 (by omega), e 2 (by omega), e 3 (by omega), e 4 (by omega), e 5 (by omega), e 6 (by omega), e 7 (by omega), e 8 (by omega), e 9 (by omega), e 10 (by omega), e 11 (by omega), e 12 (by omega), e 13 (by omega), e 14 (by omega), e 15 (by omega)]
  exact r
/-- what is the most, one's own first, then the least -/
def Tk (V : Nat → Int32) (w r : Nat) : Prop := (r = w ∧ ∀ g, g < 32 → ¬ V w < V g) ∨ (V w < V r ∧ r < 32 ∧ (∀ g, g < 32 → ¬ V r < V g) ∧ ∀ g, g < r → V g < V r)
theorem Tk_uq {V : Nat → Int32} {w r q : Nat} (hr : Tk V w r) (hq : Tk V w q) : r = q := by
  rcases hr with ⟨e1, h1⟩ | ⟨a1, a2, a3, a4⟩
  · rcases hq with ⟨e2, h2⟩ | ⟨b1, b2, b3, b4⟩
    · rw [e1, e2]
    · exact absurd b1 (h1 q b2)
  · rcases hq with ⟨e2, h2⟩ | ⟨b1, b2, b3, b4⟩
    · exact absurd a1 (h2 r a2)
    · rcases Nat.lt_trichotomy r q with h | h | h
      · exact absurd (b4 r h) (a3 q b2)
      · exact h
      · exact absurd (a4 q h) (b3 r a2)
theorem tk_T (V : Nat → Int32) (w : Nat) : Tk V w (tk V w 32) := by
  have key : ∀ k, k ≤ 32 → (tk V w k = w ∧ ∀ g, g < k → ¬ V w < V g) ∨ (V w < V (tk V w k) ∧ tk V w k < k ∧ (∀ g, g < k → ¬ V (tk V w k) < V g) ∧ ∀ g, g < tk V w k → V g < V (tk V w k)) := by
    intro k
    induction k with
    | zero => intro _; exact Or.inl ⟨rfl, fun g hg => by omega⟩
    | succ k ih =>
      intro hk
      have ih := ih (by omega)
      rw [tk_s]
      generalize tk V w k = r at ih ⊢
      by_cases hc : V r < V k
      · rw [if_pos hc]
        right
        rcases ih with ⟨e, h1⟩ | ⟨a1, a2, a3, a4⟩
        · subst e
          have hlt : ∀ g, g < k → V g < V k := fun g hg => by have := h1 g hg; (simp only [Int32.lt_iff_toInt_lt, Int32.le_iff_toInt_le] at *; omega)
          refine ⟨hc, by omega, fun g hg => ?_, hlt⟩
          by_cases e : g = k
          · subst e; exact Int32.lt_irrefl
          · have := hlt g (by omega); (simp only [Int32.lt_iff_toInt_lt, Int32.le_iff_toInt_le] at *; omega)
        · have hlt : ∀ g, g < k → V g < V k := fun g hg => by have := a3 g hg; (simp only [Int32.lt_iff_toInt_lt, Int32.le_iff_toInt_le] at *; omega)
          refine ⟨by (simp only [Int32.lt_iff_toInt_lt, Int32.le_iff_toInt_le] at *; omega), by omega, fun g hg => ?_, hlt⟩
          by_cases e : g = k
          · subst e; exact Int32.lt_irrefl
          · have := hlt g (by omega); (simp only [Int32.lt_iff_toInt_lt, Int32.le_iff_toInt_le] at *; omega)
      · rw [if_neg hc]
        rcases ih with ⟨e, h1⟩ | ⟨a1, a2, a3, a4⟩
        · refine Or.inl ⟨e, fun g hg => ?_⟩
          by_cases e2 : g = k
          · subst e2; rw [e] at hc; exact hc
          · exact h1 g (by omega)
        · refine Or.inr ⟨a1, by omega, fun g hg => ?_, a4⟩
          by_cases e2 : g = k
          · subst e2; exact hc
          · exact a3 g (by omega)
  exact key 32 (Nat.le_refl _)
/-- the years' object -/
def YS (h : MH) : Prop := kd h 360 = 7 ∧ iR h 360 0 = 361 ∧ iR h 360 1 = 362 ∧ iR h 360 2 = 363 ∧ iR h 360 4 = 300 ∧ kd h 361 = 50 ∧ ln h 361 = 10 ∧ kd h 362 = 50 ∧ ln h 362 = 10 ∧ kd h 363 = 50 ∧ ln h 363 = 10
theorem yq0 {h : MH} (s : YS h) : kd h 360 = 7 := s.1
theorem yq1 {h : MH} (s : YS h) : iR h 360 0 = 361 := s.2.1
theorem yq2 {h : MH} (s : YS h) : iR h 360 1 = 362 := s.2.2.1
theorem yq3 {h : MH} (s : YS h) : iR h 360 2 = 363 := s.2.2.2.1
theorem yq4 {h : MH} (s : YS h) : iR h 360 4 = 300 := s.2.2.2.2.1
theorem yq5 {h : MH} (s : YS h) : kd h 361 = 50 := s.2.2.2.2.2.1
theorem yq6 {h : MH} (s : YS h) : ln h 361 = 10 := s.2.2.2.2.2.2.1
theorem yq7 {h : MH} (s : YS h) : kd h 362 = 50 := s.2.2.2.2.2.2.2.1
theorem yq8 {h : MH} (s : YS h) : ln h 362 = 10 := s.2.2.2.2.2.2.2.2.1
theorem yq9 {h : MH} (s : YS h) : kd h 363 = 50 := s.2.2.2.2.2.2.2.2.2.1
theorem yqa {h : MH} (s : YS h) : ln h 363 = 10 := s.2.2.2.2.2.2.2.2.2.2
section
variable {h : MH} {w : Nat} {S : Nat → Int32} {d : Nat} {σ : Nat → Nat → Int32}
theorem sX7_all (hy : YS h) {n : Nat} (hn : n ≤ 10) (e3 : σ 360 3 = nI n) : RT mX7_all d [.ref 360] (hI h σ) (some (.int (nI 1 <<< nI n - nI 1))) (hI h σ) := by
  refine mO rfl rfl ?_
  apply kX7_all_0
  try simp (disch := omega) only [tX7_all_0, yq0 hy, yq1 hy, yq2 hy, yq3 hy, yq4 hy, yq5 hy, yq6 hy, yq7 hy, yq8 hy, yq9 hy, yqa hy, e3, e_const, e_lconst, e_null, e_iload, e_lload, e_aload, e_istore, e_astore, e_lstore, e_iinc, e_iadd, e_isub, e_imul, e_iand, e_ior, e_ixor, e_ishl, e_ishr, e_iushr, e_idiv, e_irem, e_ineg, e_i2l, e_i2b, e_i2c, e_lmul, e_lcmp, e_dup, e_pop, e_dup_x1, e_dup2, e_if_eq, e_icmp_eq, e_if_ne, e_icmp_ne, e_if_lt, e_icmp_lt, e_if_ge, e_icmp_ge, e_if_gt, e_icmp_gt, e_if_le, e_icmp_le, e_ifnull, e_ifnonnull, e_acmp_eq, e_acmp_ne, e_getI, e_getJ, e_getR, e_getSI, e_getSR, e_getEI, e_getER, e_putI, e_putJ, e_putR, e_iald, e_bald, e_zald, e_lald, e_aald, e_alen, e_iast, e_bast, e_zast, e_last, e_newa, e_new, e_newq, e_ret, e_vret, e_obj, e_mmax, e_mmin, e_ldcS, e_sref, e_exc, e_thr, e_stq, e_cast, e_castY, e_castA, e_instS, e_cpy, e_aast, e_cpyR, e_cln, e_gcl, e_ldcM, e_sw, swc_n, swc_c, kon_v, kon_r, kon_t, lg_0, lg_s, ls0, lay, List.length_cons, List.length_nil, List.replicate, List.cons_append, List.nil_append, ps, lp, List.set_cons_zero, List.set_cons_succ, jk, kd_hI, ln_hI, iI_hI, iR_hI, iJ_hI, nn_hI, sU_hI, stI_hI, hI_hI, K0e, and_true, true_and, rtOk, fOk, ge_iff_le, Nat.reduceLeDiff, Nat.reduceAdd, Nat.reduceSub, Nat.reduceLT, c1, lit, nN, nN2, nI_add, pk_mul, nI_clamp, vpi, nI_leI, nI_ltI, nI_eq, bP_z, not_true_eq_false, not_false_eq_true, false_implies, true_implies, implies_true, Nat.le_refl, Nat.lt_irrefl, true_or, or_true, m31, pk_sub, pk_m1, bP_1, bP_em, Classical.not_not, Nat.zero_le, cI_T, cI_F, thr_e, thr_0, thr_m, vus, vun, vuu, pk_us, e_xO, e_xC, ex_e, e_mabsN, Nat.reduceEqDiff, ↓reduceIte]
theorem sX7_many (hy : YS h) {n : Nat} (hn : n ≤ 10) (e3 : σ 360 3 = nI n) {x : Nat → Nat} (hx : ∀ o, o < n → σ 361 o = nI (x o) ∧ x o < 32) (hd : 1 ≤ d) (F : Int32) {g : Nat} (hg : g < 32) : RT mX7_many d [.ref 360, .int F, .int (nI g)] (hI h σ) (some (.int (vt x F n g))) (hI h σ) := by
  refine mO rfl rfl ?_
  apply kX7_many_0
  try simp (disch := omega) only [tX7_many_0, e_const, e_lconst, e_null, e_iload, e_lload, e_aload, e_istore, e_astore, e_lstore, e_iinc, e_iadd, e_isub, e_imul, e_iand, e_ior, e_ixor, e_ishl, e_ishr, e_iushr, e_idiv, e_irem, e_ineg, e_i2l, e_i2b, e_i2c, e_lmul, e_lcmp, e_dup, e_pop, e_dup_x1, e_dup2, e_if_eq, e_icmp_eq, e_if_ne, e_icmp_ne, e_if_lt, e_icmp_lt, e_if_ge, e_icmp_ge, e_if_gt, e_icmp_gt, e_if_le, e_icmp_le, e_ifnull, e_ifnonnull, e_acmp_eq, e_acmp_ne, e_getI, e_getJ, e_getR, e_getSI, e_getSR, e_getEI, e_getER, e_putI, e_putJ, e_putR, e_iald, e_bald, e_zald, e_lald, e_aald, e_alen, e_iast, e_bast, e_zast, e_last, e_newa, e_new, e_newq, e_ret, e_vret, e_obj, e_mmax, e_mmin, e_ldcS, e_sref, e_exc, e_thr, e_stq, e_cast, e_castY, e_castA, e_instS, e_cpy, e_aast, e_cpyR, e_cln, e_gcl, e_ldcM, e_sw, swc_n, swc_c, kon_v, kon_r, kon_t, lg_0, lg_s, ls0, lay, List.length_cons, List.length_nil, List.replicate, List.cons_append, List.nil_append, ps, lp, List.set_cons_zero, List.set_cons_succ, jk, kd_hI, ln_hI, iI_hI, iR_hI, iJ_hI, nn_hI, sU_hI, stI_hI, hI_hI, K0e, and_true, true_and, rtOk, fOk, ge_iff_le, Nat.reduceLeDiff, Nat.reduceAdd, Nat.reduceSub, Nat.reduceLT, c1, lit, nN, nN2, nI_add, pk_mul, nI_clamp, vpi, nI_leI, nI_ltI, nI_eq, bP_z, not_true_eq_false, not_false_eq_true, false_implies, true_implies, implies_true, Nat.le_refl, Nat.lt_irrefl, true_or, or_true, m31, pk_sub, pk_m1, bP_1, bP_em, Classical.not_not, Nat.zero_le, cI_T, cI_F, thr_e, thr_0, thr_m, vus, vun, vuu, pk_us, e_xO, e_xC, ex_e, e_mabsN, Nat.reduceEqDiff, ↓reduceIte]
  refine bk (n := n) (I := fun k => WPb mX7_many d 5 [.ref 360, .int F, .int (nI g), .int (sm (fun o => cI (hasB F o ∧ x o = g) (nI 1) (nI 0)) k), .int (nI k)] [] (hI h σ) _) ?_ ?_ 0 (Nat.zero_le _)
  · apply kX7_many_5
    try simp (disch := omega) only [tX7_many_5, yq0 hy, yq1 hy, yq2 hy, yq3 hy, yq4 hy, yq5 hy, yq6 hy, yq7 hy, yq8 hy, yq9 hy, yqa hy, e3, e_const, e_lconst, e_null, e_iload, e_lload, e_aload, e_istore, e_astore, e_lstore, e_iinc, e_iadd, e_isub, e_imul, e_iand, e_ior, e_ixor, e_ishl, e_ishr, e_iushr, e_idiv, e_irem, e_ineg, e_i2l, e_i2b, e_i2c, e_lmul, e_lcmp, e_dup, e_pop, e_dup_x1, e_dup2, e_if_eq, e_icmp_eq, e_if_ne, e_icmp_ne, e_if_lt, e_icmp_lt, e_if_ge, e_icmp_ge, e_if_gt, e_icmp_gt, e_if_le, e_icmp_le, e_ifnull, e_ifnonnull, e_acmp_eq, e_acmp_ne, e_getI, e_getJ, e_getR, e_getSI, e_getSR, e_getEI, e_getER, e_putI, e_putJ, e_putR, e_iald, e_bald, e_zald, e_lald, e_aald, e_alen, e_iast, e_bast, e_zast, e_last, e_newa, e_new, e_newq, e_ret, e_vret, e_obj, e_mmax, e_mmin, e_ldcS, e_sref, e_exc, e_thr, e_stq, e_cast, e_castY, e_castA, e_instS, e_cpy, e_aast, e_cpyR, e_cln, e_gcl, e_ldcM, e_sw, swc_n, swc_c, kon_v, kon_r, kon_t, lg_0, lg_s, ls0, lay, List.length_cons, List.length_nil, List.replicate, List.cons_append, List.nil_append, ps, lp, List.set_cons_zero, List.set_cons_succ, jk, kd_hI, ln_hI, iI_hI, iR_hI, iJ_hI, nn_hI, sU_hI, stI_hI, hI_hI, K0e, and_true, true_and, rtOk, fOk, ge_iff_le, Nat.reduceLeDiff, Nat.reduceAdd, Nat.reduceSub, Nat.reduceLT, c1, lit, nN, nN2, nI_add, pk_mul, nI_clamp, vpi, nI_leI, nI_ltI, nI_eq, bP_z, not_true_eq_false, not_false_eq_true, false_implies, true_implies, implies_true, Nat.le_refl, Nat.lt_irrefl, true_or, or_true, m31, pk_sub, pk_m1, bP_1, bP_em, Classical.not_not, Nat.zero_le, cI_T, cI_F, thr_e, thr_0, thr_m, vus, vun, vuu, pk_us, e_xO, e_xC, ex_e, e_mabsN, Nat.reduceEqDiff, ↓reduceIte]
    rfl
  · intro k hk ih
    obtain ⟨x1, x2⟩ := hx k hk
    apply kX7_many_5
    try simp (disch := omega) only [tX7_many_5, yq0 hy, yq1 hy, yq2 hy, yq3 hy, yq4 hy, yq5 hy, yq6 hy, yq7 hy, yq8 hy, yq9 hy, yqa hy, e3, e_const, e_lconst, e_null, e_iload, e_lload, e_aload, e_istore, e_astore, e_lstore, e_iinc, e_iadd, e_isub, e_imul, e_iand, e_ior, e_ixor, e_ishl, e_ishr, e_iushr, e_idiv, e_irem, e_ineg, e_i2l, e_i2b, e_i2c, e_lmul, e_lcmp, e_dup, e_pop, e_dup_x1, e_dup2, e_if_eq, e_icmp_eq, e_if_ne, e_icmp_ne, e_if_lt, e_icmp_lt, e_if_ge, e_icmp_ge, e_if_gt, e_icmp_gt, e_if_le, e_icmp_le, e_ifnull, e_ifnonnull, e_acmp_eq, e_acmp_ne, e_getI, e_getJ, e_getR, e_getSI, e_getSR, e_getEI, e_getER, e_putI, e_putJ, e_putR, e_iald, e_bald, e_zald, e_lald, e_aald, e_alen, e_iast, e_bast, e_zast, e_last, e_newa, e_new, e_newq, e_ret, e_vret, e_obj, e_mmax, e_mmin, e_ldcS, e_sref, e_exc, e_thr, e_stq, e_cast, e_castY, e_castA, e_instS, e_cpy, e_aast, e_cpyR, e_cln, e_gcl, e_ldcM, e_sw, swc_n, swc_c, kon_v, kon_r, kon_t, lg_0, lg_s, ls0, lay, List.length_cons, List.length_nil, List.replicate, List.cons_append, List.nil_append, ps, lp, List.set_cons_zero, List.set_cons_succ, jk, kd_hI, ln_hI, iI_hI, iR_hI, iJ_hI, nn_hI, sU_hI, stI_hI, hI_hI, K0e, and_true, true_and, rtOk, fOk, ge_iff_le, Nat.reduceLeDiff, Nat.reduceAdd, Nat.reduceSub, Nat.reduceLT, c1, lit, nN, nN2, nI_add, pk_mul, nI_clamp, vpi, nI_leI, nI_ltI, nI_eq, bP_z, not_true_eq_false, not_false_eq_true, false_implies, true_implies, implies_true, Nat.le_refl, Nat.lt_irrefl, true_or, or_true, m31, pk_sub, pk_m1, bP_1, bP_em, Classical.not_not, Nat.zero_le, cI_T, cI_F, thr_e, thr_0, thr_m, vus, vun, vuu, pk_us, e_xO, e_xC, ex_e, e_mabsN, Nat.reduceEqDiff, ↓reduceIte]
    refine ⟨fun hc => by omega, fun _ => ?_⟩
    refine cR (sX1_has _ (by omega)) rfl rfl rfl rfl (by omega) (by first | exact trivial | exact yq0 hy | exact xk hx | exact wk hw | assumption | (simp only [pV, kd_hI]; assumption)) ?_
    try simp (disch := omega) only [yq0 hy, yq1 hy, yq2 hy, yq3 hy, yq4 hy, yq5 hy, yq6 hy, yq7 hy, yq8 hy, yq9 hy, yqa hy, x1, e_const, e_lconst, e_null, e_iload, e_lload, e_aload, e_istore, e_astore, e_lstore, e_iinc, e_iadd, e_isub, e_imul, e_iand, e_ior, e_ixor, e_ishl, e_ishr, e_iushr, e_idiv, e_irem, e_ineg, e_i2l, e_i2b, e_i2c, e_lmul, e_lcmp, e_dup, e_pop, e_dup_x1, e_dup2, e_if_eq, e_icmp_eq, e_if_ne, e_icmp_ne, e_if_lt, e_icmp_lt, e_if_ge, e_icmp_ge, e_if_gt, e_icmp_gt, e_if_le, e_icmp_le, e_ifnull, e_ifnonnull, e_acmp_eq, e_acmp_ne, e_getI, e_getJ, e_getR, e_getSI, e_getSR, e_getEI, e_getER, e_putI, e_putJ, e_putR, e_iald, e_bald, e_zald, e_lald, e_aald, e_alen, e_iast, e_bast, e_zast, e_last, e_newa, e_new, e_newq, e_ret, e_vret, e_obj, e_mmax, e_mmin, e_ldcS, e_sref, e_exc, e_thr, e_stq, e_cast, e_castY, e_castA, e_instS, e_cpy, e_aast, e_cpyR, e_cln, e_gcl, e_ldcM, e_sw, swc_n, swc_c, kon_v, kon_r, kon_t, lg_0, lg_s, ls0, lay, List.length_cons, List.length_nil, List.replicate, List.cons_append, List.nil_append, ps, lp, List.set_cons_zero, List.set_cons_succ, jk, kd_hI, ln_hI, iI_hI, iR_hI, iJ_hI, nn_hI, sU_hI, stI_hI, hI_hI, K0e, and_true, true_and, rtOk, fOk, ge_iff_le, Nat.reduceLeDiff, Nat.reduceAdd, Nat.reduceSub, Nat.reduceLT, c1, lit, nN, nN2, nI_add, pk_mul, nI_clamp, vpi, nI_leI, nI_ltI, nI_eq, bP_z, not_true_eq_false, not_false_eq_true, false_implies, true_implies, implies_true, Nat.le_refl, Nat.lt_irrefl, true_or, or_true, m31, pk_sub, pk_m1, bP_1, bP_em, Classical.not_not, Nat.zero_le, cI_T, cI_F, thr_e, thr_0, thr_m, vus, vun, vuu, pk_us, e_xO, e_xC, ex_e, e_mabsN, Nat.reduceEqDiff, ↓reduceIte]
    refine ⟨fun hc => ?_, fun hc => ⟨fun h2 => ?_, fun h2 => ?_⟩⟩
    · rw [sm_s, cI_f (fun z => hc z.1)] at ih; exact ih
    · rw [sm_s, cI_f (fun z => h2 z.2)] at ih; exact ih
    · rw [sm_s, cI_t ⟨hc, h2⟩] at ih; exact ih
theorem sX7_taken (hy : YS h) {n : Nat} (hn : n ≤ 10) (e3 : σ 360 3 = nI n) {x : Nat → Nat} (hx : ∀ o, o < n → σ 361 o = nI (x o) ∧ x o < 32) (hd : 2 ≤ d) {p : Nat} (hp : p < n) : RT mX7_taken d [.ref 360, .int (nI p)] (hI h σ) (some (.int (nI (tk (vt x (σ 363 p) n) (x p) 32)))) (hI h σ) := by
  refine mO rfl rfl ?_
  obtain ⟨p1, p2⟩ := hx p hp
  generalize hV : vt x (σ 363 p) n = V
  have hVg : ∀ g, vt x (σ 363 p) n g = V g := fun g => congrFun hV g
  have hT := tk_T V (x p)
  generalize tk V (x p) 32 = r at hT
  have key : ∀ (k b : Nat), k ≤ 32 → b < 32 → ((b = x p ∧ ∀ g, k ≤ g → g < 32 → ¬ V (x p) < V g) ∨ (V (x p) < V b ∧ k ≤ b ∧ (∀ g, k ≤ g → g < 32 → ¬ V b < V g) ∧ ∀ g, k ≤ g → g < b → V g < V b)) → ∀ c l5, c = nI k - nI 1 → WPb mX7_taken d 23 [.ref 360, .int (nI p), .int (nI b), .int (V b), .int c, l5] [] (hI h σ) (fun o h1 => o = .returned (some (.int (nI r))) ∧ h1 = hI h σ) := by
    intro k
    induction k with
    | zero =>
      intro b _ hb hB c l5 hc
      subst hc
      apply kX7_taken_23
      try simp (disch := omega) only [tX7_taken_23, e_const, e_lconst, e_null, e_iload, e_lload, e_aload, e_istore, e_astore, e_lstore, e_iinc, e_iadd, e_isub, e_imul, e_iand, e_ior, e_ixor, e_ishl, e_ishr, e_iushr, e_idiv, e_irem, e_ineg, e_i2l, e_i2b, e_i2c, e_lmul, e_lcmp, e_dup, e_pop, e_dup_x1, e_dup2, e_if_eq, e_icmp_eq, e_if_ne, e_icmp_ne, e_if_lt, e_icmp_lt, e_if_ge, e_icmp_ge, e_if_gt, e_icmp_gt, e_if_le, e_icmp_le, e_ifnull, e_ifnonnull, e_acmp_eq, e_acmp_ne, e_getI, e_getJ, e_getR, e_getSI, e_getSR, e_getEI, e_getER, e_putI, e_putJ, e_putR, e_iald, e_bald, e_zald, e_lald, e_aald, e_alen, e_iast, e_bast, e_zast, e_last, e_newa, e_new, e_newq, e_ret, e_vret, e_obj, e_mmax, e_mmin, e_ldcS, e_sref, e_exc, e_thr, e_stq, e_cast, e_castY, e_castA, e_instS, e_cpy, e_aast, e_cpyR, e_cln, e_gcl, e_ldcM, e_sw, swc_n, swc_c, kon_v, kon_r, kon_t, lg_0, lg_s, ls0, lay, List.length_cons, List.length_nil, List.replicate, List.cons_append, List.nil_append, ps, lp, List.set_cons_zero, List.set_cons_succ, jk, kd_hI, ln_hI, iI_hI, iR_hI, iJ_hI, nn_hI, sU_hI, stI_hI, hI_hI, K0e, and_true, true_and, rtOk, fOk, ge_iff_le, Nat.reduceLeDiff, Nat.reduceAdd, Nat.reduceSub, Nat.reduceLT, c1, lit, nN, nN2, nI_add, pk_mul, nI_clamp, vpi, nI_leI, nI_ltI, nI_eq, bP_z, not_true_eq_false, not_false_eq_true, false_implies, true_implies, implies_true, Nat.le_refl, Nat.lt_irrefl, true_or, or_true, m31, pk_sub, pk_m1, bP_1, bP_em, Classical.not_not, Nat.zero_le, cI_T, cI_F, thr_e, thr_0, thr_m, vus, vun, vuu, pk_us, e_xO, e_xC, ex_e, e_mabsN, Nat.reduceEqDiff, ↓reduceIte]
      refine ⟨fun _ => ?_, fun z => absurd (show nI 0 - nI 1 < nI 0 by decide) z⟩
      have hTb : Tk V (x p) b := by
        rcases hB with ⟨e, h1⟩ | ⟨a1, a2, a3, a4⟩
        · exact Or.inl ⟨e, fun g hg => h1 g (by omega) hg⟩
        · exact Or.inr ⟨a1, hb, fun g hg => a3 g (by omega) hg, fun g hg => a4 g (by omega) hg⟩
      rw [Tk_uq hTb hT]
    | succ k ih =>
      intro b hk hb hB c l5 hc
      rw [pk_sub (by omega), Nat.add_sub_cancel] at hc
      subst hc
      have next : ∀ b', b' < 32 → ((b' = x p ∧ ∀ g, k ≤ g → g < 32 → ¬ V (x p) < V g) ∨ (V (x p) < V b' ∧ k ≤ b' ∧ (∀ g, k ≤ g → g < 32 → ¬ V b' < V g) ∧ ∀ g, k ≤ g → g < b' → V g < V b')) → WPb mX7_taken d 23 [.ref 360, .int (nI p), .int (nI b'), .int (V b'), .int (nI k + -nI 1), .int (V k)] [] (hI h σ) (fun o h1 => o = .returned (some (.int (nI r))) ∧ h1 = hI h σ) := fun b' q1 q2 => ih b' (by omega) q1 q2 _ _ (by rw [Int32.sub_eq_add_neg])
      apply kX7_taken_23
      try simp (disch := omega) only [tX7_taken_23, yq0 hy, yq1 hy, yq2 hy, yq3 hy, yq4 hy, yq5 hy, yq6 hy, yq7 hy, yq8 hy, yq9 hy, yqa hy, p1, e_const, e_lconst, e_null, e_iload, e_lload, e_aload, e_istore, e_astore, e_lstore, e_iinc, e_iadd, e_isub, e_imul, e_iand, e_ior, e_ixor, e_ishl, e_ishr, e_iushr, e_idiv, e_irem, e_ineg, e_i2l, e_i2b, e_i2c, e_lmul, e_lcmp, e_dup, e_pop, e_dup_x1, e_dup2, e_if_eq, e_icmp_eq, e_if_ne, e_icmp_ne, e_if_lt, e_icmp_lt, e_if_ge, e_icmp_ge, e_if_gt, e_icmp_gt, e_if_le, e_icmp_le, e_ifnull, e_ifnonnull, e_acmp_eq, e_acmp_ne, e_getI, e_getJ, e_getR, e_getSI, e_getSR, e_getEI, e_getER, e_putI, e_putJ, e_putR, e_iald, e_bald, e_zald, e_lald, e_aald, e_alen, e_iast, e_bast, e_zast, e_last, e_newa, e_new, e_newq, e_ret, e_vret, e_obj, e_mmax, e_mmin, e_ldcS, e_sref, e_exc, e_thr, e_stq, e_cast, e_castY, e_castA, e_instS, e_cpy, e_aast, e_cpyR, e_cln, e_gcl, e_ldcM, e_sw, swc_n, swc_c, kon_v, kon_r, kon_t, lg_0, lg_s, ls0, lay, List.length_cons, List.length_nil, List.replicate, List.cons_append, List.nil_append, ps, lp, List.set_cons_zero, List.set_cons_succ, jk, kd_hI, ln_hI, iI_hI, iR_hI, iJ_hI, nn_hI, sU_hI, stI_hI, hI_hI, K0e, and_true, true_and, rtOk, fOk, ge_iff_le, Nat.reduceLeDiff, Nat.reduceAdd, Nat.reduceSub, Nat.reduceLT, c1, lit, nN, nN2, nI_add, pk_mul, nI_clamp, vpi, nI_leI, nI_ltI, nI_eq, bP_z, not_true_eq_false, not_false_eq_true, false_implies, true_implies, implies_true, Nat.le_refl, Nat.lt_irrefl, true_or, or_true, m31, pk_sub, pk_m1, bP_1, bP_em, Classical.not_not, Nat.zero_le, cI_T, cI_F, thr_e, thr_0, thr_m, vus, vun, vuu, pk_us, e_xO, e_xC, ex_e, e_mabsN, Nat.reduceEqDiff, ↓reduceIte]
      refine ⟨fun z => by omega, fun _ => ?_⟩
      refine cR (sX7_many hy hn e3 hx (by omega) _ (show k < 32 by omega)) rfl rfl rfl rfl (by omega) (by first | exact trivial | exact yq0 hy | exact xk hx | exact wk hw | assumption | (simp only [pV, kd_hI]; assumption)) ?_
      rw [hVg]
      try simp (disch := omega) only [yq0 hy, yq1 hy, yq2 hy, yq3 hy, yq4 hy, yq5 hy, yq6 hy, yq7 hy, yq8 hy, yq9 hy, yqa hy, p1, e_const, e_lconst, e_null, e_iload, e_lload, e_aload, e_istore, e_astore, e_lstore, e_iinc, e_iadd, e_isub, e_imul, e_iand, e_ior, e_ixor, e_ishl, e_ishr, e_iushr, e_idiv, e_irem, e_ineg, e_i2l, e_i2b, e_i2c, e_lmul, e_lcmp, e_dup, e_pop, e_dup_x1, e_dup2, e_if_eq, e_icmp_eq, e_if_ne, e_icmp_ne, e_if_lt, e_icmp_lt, e_if_ge, e_icmp_ge, e_if_gt, e_icmp_gt, e_if_le, e_icmp_le, e_ifnull, e_ifnonnull, e_acmp_eq, e_acmp_ne, e_getI, e_getJ, e_getR, e_getSI, e_getSR, e_getEI, e_getER, e_putI, e_putJ, e_putR, e_iald, e_bald, e_zald, e_lald, e_aald, e_alen, e_iast, e_bast, e_zast, e_last, e_newa, e_new, e_newq, e_ret, e_vret, e_obj, e_mmax, e_mmin, e_ldcS, e_sref, e_exc, e_thr, e_stq, e_cast, e_castY, e_castA, e_instS, e_cpy, e_aast, e_cpyR, e_cln, e_gcl, e_ldcM, e_sw, swc_n, swc_c, kon_v, kon_r, kon_t, lg_0, lg_s, ls0, lay, List.length_cons, List.length_nil, List.replicate, List.cons_append, List.nil_append, ps, lp, List.set_cons_zero, List.set_cons_succ, jk, kd_hI, ln_hI, iI_hI, iR_hI, iJ_hI, nn_hI, sU_hI, stI_hI, hI_hI, K0e, and_true, true_and, rtOk, fOk, ge_iff_le, Nat.reduceLeDiff, Nat.reduceAdd, Nat.reduceSub, Nat.reduceLT, c1, lit, nN, nN2, nI_add, pk_mul, nI_clamp, vpi, nI_leI, nI_ltI, nI_eq, bP_z, not_true_eq_false, not_false_eq_true, false_implies, true_implies, implies_true, Nat.le_refl, Nat.lt_irrefl, true_or, or_true, m31, pk_sub, pk_m1, bP_1, bP_em, Classical.not_not, Nat.zero_le, cI_T, cI_F, thr_e, thr_0, thr_m, vus, vun, vuu, pk_us, e_xO, e_xC, ex_e, e_mabsN, Nat.reduceEqDiff, ↓reduceIte]
      refine ⟨fun h1 => ?_, fun h1 => ⟨fun h2 => ?_, fun h2 => ⟨fun h3 => ?_, fun h3 => ?_⟩⟩⟩
      · refine next b hb ?_
        rcases hB with ⟨e, q1⟩ | ⟨a1, a2, a3, a4⟩
        · refine Or.inl ⟨e, fun g hg hg2 => ?_⟩
          by_cases e2 : g = k
          · subst e2; rw [← e]; (simp only [Int32.lt_iff_toInt_lt, Int32.le_iff_toInt_le] at *; omega)
          · exact q1 g (by omega) hg2
        · refine Or.inr ⟨a1, by omega, fun g hg hg2 => ?_, fun g hg hg2 => ?_⟩
          · by_cases e2 : g = k
            · subst e2; (simp only [Int32.lt_iff_toInt_lt, Int32.le_iff_toInt_le] at *; omega)
            · exact a3 g (by omega) hg2
          · by_cases e2 : g = k
            · subst e2; exact h1
            · exact a4 g (by omega) hg2
      · have hlt : V b < V k := by
          rcases Int32.lt_or_lt_of_ne h2 with z | z
          · exact absurd z h1
          · exact z
        refine next k (by omega) (Or.inr ?_)
        rcases hB with ⟨e, q1⟩ | ⟨a1, a2, a3, a4⟩
        · rw [e] at hlt
          refine ⟨hlt, Nat.le_refl _, fun g hg hg2 => ?_, fun g hg hg2 => by omega⟩
          by_cases e2 : g = k
          · subst e2; exact Int32.lt_irrefl
          · have := q1 g (by omega) hg2; (simp only [Int32.lt_iff_toInt_lt, Int32.le_iff_toInt_le] at *; omega)
        · refine ⟨by (simp only [Int32.lt_iff_toInt_lt, Int32.le_iff_toInt_le] at *; omega), Nat.le_refl _, fun g hg hg2 => ?_, fun g hg hg2 => by omega⟩
          by_cases e2 : g = k
          · subst e2; exact Int32.lt_irrefl
          · have := a3 g (by omega) hg2; (simp only [Int32.lt_iff_toInt_lt, Int32.le_iff_toInt_le] at *; omega)
      · have e0 : V b = V k := h2.symm
        refine next k (by omega) ?_
        rcases hB with ⟨e, q1⟩ | ⟨a1, a2, a3, a4⟩
        · exact absurd e h3
        · right
          rw [e0] at a1 a3 a4
          refine ⟨a1, Nat.le_refl _, fun g hg hg2 => ?_, fun g hg hg2 => by omega⟩
          by_cases e2 : g = k
          · subst e2; exact Int32.lt_irrefl
          · exact a3 g (by omega) hg2
      · refine next b hb ?_
        rcases hB with ⟨e, q1⟩ | ⟨a1, a2, a3, a4⟩
        · refine Or.inl ⟨e, fun g hg hg2 => ?_⟩
          by_cases e2 : g = k
          · subst e2; rw [← e, h2]; exact Int32.lt_irrefl
          · exact q1 g (by omega) hg2
        · rw [h3] at a1
          exact absurd a1 Int32.lt_irrefl
  apply kX7_taken_0
  try simp (disch := omega) only [tX7_taken_0, yq0 hy, yq1 hy, yq2 hy, yq3 hy, yq4 hy, yq5 hy, yq6 hy, yq7 hy, yq8 hy, yq9 hy, yqa hy, p1, e_const, e_lconst, e_null, e_iload, e_lload, e_aload, e_istore, e_astore, e_lstore, e_iinc, e_iadd, e_isub, e_imul, e_iand, e_ior, e_ixor, e_ishl, e_ishr, e_iushr, e_idiv, e_irem, e_ineg, e_i2l, e_i2b, e_i2c, e_lmul, e_lcmp, e_dup, e_pop, e_dup_x1, e_dup2, e_if_eq, e_icmp_eq, e_if_ne, e_icmp_ne, e_if_lt, e_icmp_lt, e_if_ge, e_icmp_ge, e_if_gt, e_icmp_gt, e_if_le, e_icmp_le, e_ifnull, e_ifnonnull, e_acmp_eq, e_acmp_ne, e_getI, e_getJ, e_getR, e_getSI, e_getSR, e_getEI, e_getER, e_putI, e_putJ, e_putR, e_iald, e_bald, e_zald, e_lald, e_aald, e_alen, e_iast, e_bast, e_zast, e_last, e_newa, e_new, e_newq, e_ret, e_vret, e_obj, e_mmax, e_mmin, e_ldcS, e_sref, e_exc, e_thr, e_stq, e_cast, e_castY, e_castA, e_instS, e_cpy, e_aast, e_cpyR, e_cln, e_gcl, e_ldcM, e_sw, swc_n, swc_c, kon_v, kon_r, kon_t, lg_0, lg_s, ls0, lay, List.length_cons, List.length_nil, List.replicate, List.cons_append, List.nil_append, ps, lp, List.set_cons_zero, List.set_cons_succ, jk, kd_hI, ln_hI, iI_hI, iR_hI, iJ_hI, nn_hI, sU_hI, stI_hI, hI_hI, K0e, and_true, true_and, rtOk, fOk, ge_iff_le, Nat.reduceLeDiff, Nat.reduceAdd, Nat.reduceSub, Nat.reduceLT, c1, lit, nN, nN2, nI_add, pk_mul, nI_clamp, vpi, nI_leI, nI_ltI, nI_eq, bP_z, not_true_eq_false, not_false_eq_true, false_implies, true_implies, implies_true, Nat.le_refl, Nat.lt_irrefl, true_or, or_true, m31, pk_sub, pk_m1, bP_1, bP_em, Classical.not_not, Nat.zero_le, cI_T, cI_F, thr_e, thr_0, thr_m, vus, vun, vuu, pk_us, e_xO, e_xC, ex_e, e_mabsN, Nat.reduceEqDiff, ↓reduceIte]
  refine cR (sX7_many hy hn e3 hx (by omega) _ p2) rfl rfl rfl rfl (by omega) (by first | exact trivial | exact yq0 hy | exact xk hx | exact wk hw | assumption | (simp only [pV, kd_hI]; assumption)) ?_
  rw [hVg]
  try simp (disch := omega) only [e_const, e_lconst, e_null, e_iload, e_lload, e_aload, e_istore, e_astore, e_lstore, e_iinc, e_iadd, e_isub, e_imul, e_iand, e_ior, e_ixor, e_ishl, e_ishr, e_iushr, e_idiv, e_irem, e_ineg, e_i2l, e_i2b, e_i2c, e_lmul, e_lcmp, e_dup, e_pop, e_dup_x1, e_dup2, e_if_eq, e_icmp_eq, e_if_ne, e_icmp_ne, e_if_lt, e_icmp_lt, e_if_ge, e_icmp_ge, e_if_gt, e_icmp_gt, e_if_le, e_icmp_le, e_ifnull, e_ifnonnull, e_acmp_eq, e_acmp_ne, e_getI, e_getJ, e_getR, e_getSI, e_getSR, e_getEI, e_getER, e_putI, e_putJ, e_putR, e_iald, e_bald, e_zald, e_lald, e_aald, e_alen, e_iast, e_bast, e_zast, e_last, e_newa, e_new, e_newq, e_ret, e_vret, e_obj, e_mmax, e_mmin, e_ldcS, e_sref, e_exc, e_thr, e_stq, e_cast, e_castY, e_castA, e_instS, e_cpy, e_aast, e_cpyR, e_cln, e_gcl, e_ldcM, e_sw, swc_n, swc_c, kon_v, kon_r, kon_t, lg_0, lg_s, ls0, lay, List.length_cons, List.length_nil, List.replicate, List.cons_append, List.nil_append, ps, lp, List.set_cons_zero, List.set_cons_succ, jk, kd_hI, ln_hI, iI_hI, iR_hI, iJ_hI, nn_hI, sU_hI, stI_hI, hI_hI, K0e, and_true, true_and, rtOk, fOk, ge_iff_le, Nat.reduceLeDiff, Nat.reduceAdd, Nat.reduceSub, Nat.reduceLT, c1, lit, nN, nN2, nI_add, pk_mul, nI_clamp, vpi, nI_leI, nI_ltI, nI_eq, bP_z, not_true_eq_false, not_false_eq_true, false_implies, true_implies, implies_true, Nat.le_refl, Nat.lt_irrefl, true_or, or_true, m31, pk_sub, pk_m1, bP_1, bP_em, Classical.not_not, Nat.zero_le, cI_T, cI_F, thr_e, thr_0, thr_m, vus, vun, vuu, pk_us, e_xO, e_xC, ex_e, e_mabsN, Nat.reduceEqDiff, ↓reduceIte]
  exact key 32 (x p) (Nat.le_refl _) p2 (Or.inl ⟨rfl, fun g hg hg2 => by omega⟩) _ _ (by decide)
theorem sX7_goes (hy : YS h) {n : Nat} (hn : n ≤ 10) (e3 : σ 360 3 = nI n) {x : Nat → Nat} (hx : ∀ o, o < n → σ 361 o = nI (x o) ∧ x o < 32) (hd : 3 ≤ d) : WPm mX7_goes d [.ref 360] (hI h σ) (fun o h1 => ∃ τ, o = .returned (some (.int (bP (∃ p, p < n ∧ ¬ yr (σ 363) n x p = x p)))) ∧ h1 = hI h τ ∧ Eqx [361, 362] σ τ ∧ ∀ p, p < n → τ 361 p = nI (yr (σ 363) n x p)) := by
  refine mO rfl rfl ?_
  apply kX7_goes_0
  try simp (disch := omega) only [tX7_goes_0, e_const, e_lconst, e_null, e_iload, e_lload, e_aload, e_istore, e_astore, e_lstore, e_iinc, e_iadd, e_isub, e_imul, e_iand, e_ior, e_ixor, e_ishl, e_ishr, e_iushr, e_idiv, e_irem, e_ineg, e_i2l, e_i2b, e_i2c, e_lmul, e_lcmp, e_dup, e_pop, e_dup_x1, e_dup2, e_if_eq, e_icmp_eq, e_if_ne, e_icmp_ne, e_if_lt, e_icmp_lt, e_if_ge, e_icmp_ge, e_if_gt, e_icmp_gt, e_if_le, e_icmp_le, e_ifnull, e_ifnonnull, e_acmp_eq, e_acmp_ne, e_getI, e_getJ, e_getR, e_getSI, e_getSR, e_getEI, e_getER, e_putI, e_putJ, e_putR, e_iald, e_bald, e_zald, e_lald, e_aald, e_alen, e_iast, e_bast, e_zast, e_last, e_newa, e_new, e_newq, e_ret, e_vret, e_obj, e_mmax, e_mmin, e_ldcS, e_sref, e_exc, e_thr, e_stq, e_cast, e_castY, e_castA, e_instS, e_cpy, e_aast, e_cpyR, e_cln, e_gcl, e_ldcM, e_sw, swc_n, swc_c, kon_v, kon_r, kon_t, lg_0, lg_s, ls0, lay, List.length_cons, List.length_nil, List.replicate, List.cons_append, List.nil_append, ps, lp, List.set_cons_zero, List.set_cons_succ, jk, kd_hI, ln_hI, iI_hI, iR_hI, iJ_hI, nn_hI, sU_hI, stI_hI, hI_hI, K0e, and_true, true_and, rtOk, fOk, ge_iff_le, Nat.reduceLeDiff, Nat.reduceAdd, Nat.reduceSub, Nat.reduceLT, c1, lit, nN, nN2, nI_add, pk_mul, nI_clamp, vpi, nI_leI, nI_ltI, nI_eq, bP_z, not_true_eq_false, not_false_eq_true, false_implies, true_implies, implies_true, Nat.le_refl, Nat.lt_irrefl, true_or, or_true, m31, pk_sub, pk_m1, bP_1, bP_em, Classical.not_not, Nat.zero_le, cI_T, cI_F, thr_e, thr_0, thr_m, vus, vun, vuu, pk_us, e_xO, e_xC, ex_e, e_mabsN, Nat.reduceEqDiff, ↓reduceIte]
  refine bk (n := n) (I := fun k => ∀ (τ : Nat → Nat → Int32) (b : Int32), Eqx [362] σ τ → (∀ p, p < k → τ 362 p = nI (yr (σ 363) n x p)) → b = bP (∃ p, p < k ∧ ¬ yr (σ 363) n x p = x p) → WPb mX7_goes d 4 [.ref 360, .int b, .int (nI k)] [] (hI h τ) _) ?_ ?_ 0 (Nat.zero_le _) σ _ (Eqx.refl _ _) (fun p hp => by omega) (by rw [bP_f]; rintro ⟨p, hp, _⟩; omega)
  · intro τ b E H hb
    subst hb
    have e3' : τ 360 3 = nI n := by rw [E 360 rfl]; exact e3
    apply kX7_goes_4
    try simp (disch := omega) only [tX7_goes_4, yq0 hy, yq1 hy, yq2 hy, yq3 hy, yq4 hy, yq5 hy, yq6 hy, yq7 hy, yq8 hy, yq9 hy, yqa hy, e3', cpk, e_const, e_lconst, e_null, e_iload, e_lload, e_aload, e_istore, e_astore, e_lstore, e_iinc, e_iadd, e_isub, e_imul, e_iand, e_ior, e_ixor, e_ishl, e_ishr, e_iushr, e_idiv, e_irem, e_ineg, e_i2l, e_i2b, e_i2c, e_lmul, e_lcmp, e_dup, e_pop, e_dup_x1, e_dup2, e_if_eq, e_icmp_eq, e_if_ne, e_icmp_ne, e_if_lt, e_icmp_lt, e_if_ge, e_icmp_ge, e_if_gt, e_icmp_gt, e_if_le, e_icmp_le, e_ifnull, e_ifnonnull, e_acmp_eq, e_acmp_ne, e_getI, e_getJ, e_getR, e_getSI, e_getSR, e_getEI, e_getER, e_putI, e_putJ, e_putR, e_iald, e_bald, e_zald, e_lald, e_aald, e_alen, e_iast, e_bast, e_zast, e_last, e_newa, e_new, e_newq, e_ret, e_vret, e_obj, e_mmax, e_mmin, e_ldcS, e_sref, e_exc, e_thr, e_stq, e_cast, e_castY, e_castA, e_instS, e_cpy, e_aast, e_cpyR, e_cln, e_gcl, e_ldcM, e_sw, swc_n, swc_c, kon_v, kon_r, kon_t, lg_0, lg_s, ls0, lay, List.length_cons, List.length_nil, List.replicate, List.cons_append, List.nil_append, ps, lp, List.set_cons_zero, List.set_cons_succ, jk, kd_hI, ln_hI, iI_hI, iR_hI, iJ_hI, nn_hI, sU_hI, stI_hI, hI_hI, K0e, and_true, true_and, rtOk, fOk, ge_iff_le, Nat.reduceLeDiff, Nat.reduceAdd, Nat.reduceSub, Nat.reduceLT, c1, lit, nN, nN2, nI_add, pk_mul, nI_clamp, vpi, nI_leI, nI_ltI, nI_eq, bP_z, not_true_eq_false, not_false_eq_true, false_implies, true_implies, implies_true, Nat.le_refl, Nat.lt_irrefl, true_or, or_true, m31, pk_sub, pk_m1, bP_1, bP_em, Classical.not_not, Nat.zero_le, cI_T, cI_F, thr_e, thr_0, thr_m, vus, vun, vuu, pk_us, e_xO, e_xC, ex_e, e_mabsN, Nat.reduceEqDiff, ↓reduceIte]
    refine ⟨⟨by omega, Nat.le_of_ble_eq_true rfl⟩, _, rfl, ?_, ?_⟩
    · exact (E.mono (ct_mono rfl)).up rfl _
    · intro p hp
      rw [vus, cpy_i0 hp]
      exact H p hp
  · intro k hk ih τ b E H hb
    have e3' : τ 360 3 = nI n := by rw [E 360 rfl]; exact e3
    have ho : ∀ o, o < n → τ 361 o = nI (x o) ∧ x o < 32 := fun o h => by rw [E 361 rfl]; exact hx o h
    have e363 : τ 363 k = σ 363 k := by rw [E 363 rfl]
    have hyr : yr (σ 363) n x k = tk (vt x (σ 363 k) n) (x k) 32 := by unfold yr; rw [if_pos hk]
    have hlt : yr (σ 363) n x k < 32 := yr_lt (fun p hp => (hx p hp).2) k hk
    obtain ⟨x1, x2⟩ := hx k hk
    have x1' : τ 361 k = nI (x k) := by rw [E 361 rfl]; exact x1
    have next : ∀ b', b' = bP (∃ p, p < k + 1 ∧ ¬ yr (σ 363) n x p = x p) → WPb mX7_goes d 4 [.ref 360, .int b', .int (nI (k + 1))] [] (hI h (va_up τ 362 (upd (τ 362) k (nI (yr (σ 363) n x k))))) _ := fun b' hb' => ih _ b' (E.up rfl _) (fun p hp => by
      rw [vus]
      by_cases e : p = k
      · subst e; rw [pk_us]
      · rw [pk_un e]; exact H p (by omega)) hb'
    apply kX7_goes_4
    try simp (disch := omega) only [tX7_goes_4, yq0 hy, yq1 hy, yq2 hy, yq3 hy, yq4 hy, yq5 hy, yq6 hy, yq7 hy, yq8 hy, yq9 hy, yqa hy, e3', e_const, e_lconst, e_null, e_iload, e_lload, e_aload, e_istore, e_astore, e_lstore, e_iinc, e_iadd, e_isub, e_imul, e_iand, e_ior, e_ixor, e_ishl, e_ishr, e_iushr, e_idiv, e_irem, e_ineg, e_i2l, e_i2b, e_i2c, e_lmul, e_lcmp, e_dup, e_pop, e_dup_x1, e_dup2, e_if_eq, e_icmp_eq, e_if_ne, e_icmp_ne, e_if_lt, e_icmp_lt, e_if_ge, e_icmp_ge, e_if_gt, e_icmp_gt, e_if_le, e_icmp_le, e_ifnull, e_ifnonnull, e_acmp_eq, e_acmp_ne, e_getI, e_getJ, e_getR, e_getSI, e_getSR, e_getEI, e_getER, e_putI, e_putJ, e_putR, e_iald, e_bald, e_zald, e_lald, e_aald, e_alen, e_iast, e_bast, e_zast, e_last, e_newa, e_new, e_newq, e_ret, e_vret, e_obj, e_mmax, e_mmin, e_ldcS, e_sref, e_exc, e_thr, e_stq, e_cast, e_castY, e_castA, e_instS, e_cpy, e_aast, e_cpyR, e_cln, e_gcl, e_ldcM, e_sw, swc_n, swc_c, kon_v, kon_r, kon_t, lg_0, lg_s, ls0, lay, List.length_cons, List.length_nil, List.replicate, List.cons_append, List.nil_append, ps, lp, List.set_cons_zero, List.set_cons_succ, jk, kd_hI, ln_hI, iI_hI, iR_hI, iJ_hI, nn_hI, sU_hI, stI_hI, hI_hI, K0e, and_true, true_and, rtOk, fOk, ge_iff_le, Nat.reduceLeDiff, Nat.reduceAdd, Nat.reduceSub, Nat.reduceLT, c1, lit, nN, nN2, nI_add, pk_mul, nI_clamp, vpi, nI_leI, nI_ltI, nI_eq, bP_z, not_true_eq_false, not_false_eq_true, false_implies, true_implies, implies_true, Nat.le_refl, Nat.lt_irrefl, true_or, or_true, m31, pk_sub, pk_m1, bP_1, bP_em, Classical.not_not, Nat.zero_le, cI_T, cI_F, thr_e, thr_0, thr_m, vus, vun, vuu, pk_us, e_xO, e_xC, ex_e, e_mabsN, Nat.reduceEqDiff, ↓reduceIte]
    refine ⟨fun hc => by omega, fun _ => ?_⟩
    refine cR (sX7_taken (σ := τ) hy hn e3' ho (by omega) hk) rfl rfl rfl rfl (by omega) (by first | exact trivial | exact yq0 hy | exact xk hx | exact wk hw | assumption | (simp only [pV, kd_hI]; assumption)) ?_
    rw [e363, ← hyr]
    try simp (disch := omega) only [yq0 hy, yq1 hy, yq2 hy, yq3 hy, yq4 hy, yq5 hy, yq6 hy, yq7 hy, yq8 hy, yq9 hy, yqa hy, x1', hb, e_const, e_lconst, e_null, e_iload, e_lload, e_aload, e_istore, e_astore, e_lstore, e_iinc, e_iadd, e_isub, e_imul, e_iand, e_ior, e_ixor, e_ishl, e_ishr, e_iushr, e_idiv, e_irem, e_ineg, e_i2l, e_i2b, e_i2c, e_lmul, e_lcmp, e_dup, e_pop, e_dup_x1, e_dup2, e_if_eq, e_icmp_eq, e_if_ne, e_icmp_ne, e_if_lt, e_icmp_lt, e_if_ge, e_icmp_ge, e_if_gt, e_icmp_gt, e_if_le, e_icmp_le, e_ifnull, e_ifnonnull, e_acmp_eq, e_acmp_ne, e_getI, e_getJ, e_getR, e_getSI, e_getSR, e_getEI, e_getER, e_putI, e_putJ, e_putR, e_iald, e_bald, e_zald, e_lald, e_aald, e_alen, e_iast, e_bast, e_zast, e_last, e_newa, e_new, e_newq, e_ret, e_vret, e_obj, e_mmax, e_mmin, e_ldcS, e_sref, e_exc, e_thr, e_stq, e_cast, e_castY, e_castA, e_instS, e_cpy, e_aast, e_cpyR, e_cln, e_gcl, e_ldcM, e_sw, swc_n, swc_c, kon_v, kon_r, kon_t, lg_0, lg_s, ls0, lay, List.length_cons, List.length_nil, List.replicate, List.cons_append, List.nil_append, ps, lp, List.set_cons_zero, List.set_cons_succ, jk, kd_hI, ln_hI, iI_hI, iR_hI, iJ_hI, nn_hI, sU_hI, stI_hI, hI_hI, K0e, and_true, true_and, rtOk, fOk, ge_iff_le, Nat.reduceLeDiff, Nat.reduceAdd, Nat.reduceSub, Nat.reduceLT, c1, lit, nN, nN2, nI_add, pk_mul, nI_clamp, vpi, nI_leI, nI_ltI, nI_eq, bP_z, not_true_eq_false, not_false_eq_true, false_implies, true_implies, implies_true, Nat.le_refl, Nat.lt_irrefl, true_or, or_true, m31, pk_sub, pk_m1, bP_1, bP_em, Classical.not_not, Nat.zero_le, cI_T, cI_F, thr_e, thr_0, thr_m, vus, vun, vuu, pk_us, e_xO, e_xC, ex_e, e_mabsN, Nat.reduceEqDiff, ↓reduceIte]
    refine ⟨fun hc => ?_, fun hc => ⟨fun h2 => ?_, fun h2 => ?_⟩⟩
    · refine next _ ?_
      obtain ⟨p, hp, hp2⟩ := hc
      rw [bP_t ⟨p, by omega, hp2⟩]
    · refine next _ ?_
      rw [bP_f]
      rintro ⟨p, hp, hp2⟩
      by_cases e : p = k
      · subst e; exact hp2 h2
      · exact hc ⟨p, by omega, hp2⟩
    · refine next _ ?_
      rw [bP_t ⟨k, by omega, h2⟩]
theorem sX7_after (hy : YS h) {m : Nat} (hm : m ≤ 10) (e3 : σ 360 3 = nI m) {x : Nat → Nat} (hx : ∀ o, o < m → σ 361 o = nI (x o) ∧ x o < 32) (hd : 4 ≤ d) {n : Nat} (hn : n ≤ 1000) : WPm mX7_after d [.ref 360, .int (nI n)] (hI h σ) (fun o h1 => ∃ τ, o = .returned (some (.ref 360)) ∧ h1 = hI h τ ∧ Eqx [361, 362] σ τ ∧ ∀ p, p < m → τ 361 p = nI (yrs (σ 363) m x n p)) := by
  refine mO rfl rfl ?_
  have hyl := yrs_lt (Fr := σ 363) (fun o ho => (hx o ho).2)
  apply kX7_after_0
  try simp (disch := omega) only [tX7_after_0, e_const, e_lconst, e_null, e_iload, e_lload, e_aload, e_istore, e_astore, e_lstore, e_iinc, e_iadd, e_isub, e_imul, e_iand, e_ior, e_ixor, e_ishl, e_ishr, e_iushr, e_idiv, e_irem, e_ineg, e_i2l, e_i2b, e_i2c, e_lmul, e_lcmp, e_dup, e_pop, e_dup_x1, e_dup2, e_if_eq, e_icmp_eq, e_if_ne, e_icmp_ne, e_if_lt, e_icmp_lt, e_if_ge, e_icmp_ge, e_if_gt, e_icmp_gt, e_if_le, e_icmp_le, e_ifnull, e_ifnonnull, e_acmp_eq, e_acmp_ne, e_getI, e_getJ, e_getR, e_getSI, e_getSR, e_getEI, e_getER, e_putI, e_putJ, e_putR, e_iald, e_bald, e_zald, e_lald, e_aald, e_alen, e_iast, e_bast, e_zast, e_last, e_newa, e_new, e_newq, e_ret, e_vret, e_obj, e_mmax, e_mmin, e_ldcS, e_sref, e_exc, e_thr, e_stq, e_cast, e_castY, e_castA, e_instS, e_cpy, e_aast, e_cpyR, e_cln, e_gcl, e_ldcM, e_sw, swc_n, swc_c, kon_v, kon_r, kon_t, lg_0, lg_s, ls0, lay, List.length_cons, List.length_nil, List.replicate, List.cons_append, List.nil_append, ps, lp, List.set_cons_zero, List.set_cons_succ, jk, kd_hI, ln_hI, iI_hI, iR_hI, iJ_hI, nn_hI, sU_hI, stI_hI, hI_hI, K0e, and_true, true_and, rtOk, fOk, ge_iff_le, Nat.reduceLeDiff, Nat.reduceAdd, Nat.reduceSub, Nat.reduceLT, c1, lit, nN, nN2, nI_add, pk_mul, nI_clamp, vpi, nI_leI, nI_ltI, nI_eq, bP_z, not_true_eq_false, not_false_eq_true, false_implies, true_implies, implies_true, Nat.le_refl, Nat.lt_irrefl, true_or, or_true, m31, pk_sub, pk_m1, bP_1, bP_em, Classical.not_not, Nat.zero_le, cI_T, cI_F, thr_e, thr_0, thr_m, vus, vun, vuu, pk_us, e_xO, e_xC, ex_e, e_mabsN, Nat.reduceEqDiff, ↓reduceIte]
  refine bk (n := n) (I := fun k => ∀ τ, Eqx [361, 362] σ τ → (∀ p, p < m → τ 361 p = nI (yrs (σ 363) m x k p)) → WPb mX7_after d 2 [.ref 360, .int (nI n), .int (nI k)] [] (hI h τ) _) ?_ ?_ 0 (Nat.zero_le _) σ (Eqx.refl _ _) (fun p hp => (hx p hp).1)
  · intro τ E H
    apply kX7_after_2
    try simp (disch := omega) only [tX7_after_2, e_const, e_lconst, e_null, e_iload, e_lload, e_aload, e_istore, e_astore, e_lstore, e_iinc, e_iadd, e_isub, e_imul, e_iand, e_ior, e_ixor, e_ishl, e_ishr, e_iushr, e_idiv, e_irem, e_ineg, e_i2l, e_i2b, e_i2c, e_lmul, e_lcmp, e_dup, e_pop, e_dup_x1, e_dup2, e_if_eq, e_icmp_eq, e_if_ne, e_icmp_ne, e_if_lt, e_icmp_lt, e_if_ge, e_icmp_ge, e_if_gt, e_icmp_gt, e_if_le, e_icmp_le, e_ifnull, e_ifnonnull, e_acmp_eq, e_acmp_ne, e_getI, e_getJ, e_getR, e_getSI, e_getSR, e_getEI, e_getER, e_putI, e_putJ, e_putR, e_iald, e_bald, e_zald, e_lald, e_aald, e_alen, e_iast, e_bast, e_zast, e_last, e_newa, e_new, e_newq, e_ret, e_vret, e_obj, e_mmax, e_mmin, e_ldcS, e_sref, e_exc, e_thr, e_stq, e_cast, e_castY, e_castA, e_instS, e_cpy, e_aast, e_cpyR, e_cln, e_gcl, e_ldcM, e_sw, swc_n, swc_c, kon_v, kon_r, kon_t, lg_0, lg_s, ls0, lay, List.length_cons, List.length_nil, List.replicate, List.cons_append, List.nil_append, ps, lp, List.set_cons_zero, List.set_cons_succ, jk, kd_hI, ln_hI, iI_hI, iR_hI, iJ_hI, nn_hI, sU_hI, stI_hI, hI_hI, K0e, and_true, true_and, rtOk, fOk, ge_iff_le, Nat.reduceLeDiff, Nat.reduceAdd, Nat.reduceSub, Nat.reduceLT, c1, lit, nN, nN2, nI_add, pk_mul, nI_clamp, vpi, nI_leI, nI_ltI, nI_eq, bP_z, not_true_eq_false, not_false_eq_true, false_implies, true_implies, implies_true, Nat.le_refl, Nat.lt_irrefl, true_or, or_true, m31, pk_sub, pk_m1, bP_1, bP_em, Classical.not_not, Nat.zero_le, cI_T, cI_F, thr_e, thr_0, thr_m, vus, vun, vuu, pk_us, e_xO, e_xC, ex_e, e_mabsN, Nat.reduceEqDiff, ↓reduceIte]
    exact ⟨τ, rfl, E, H⟩
  · intro k hk ih τ E H
    have e3' : τ 360 3 = nI m := by rw [E 360 rfl]; exact e3
    have e363 : τ 363 = σ 363 := E 363 rfl
    apply kX7_after_2
    try simp (disch := omega) only [tX7_after_2, e_const, e_lconst, e_null, e_iload, e_lload, e_aload, e_istore, e_astore, e_lstore, e_iinc, e_iadd, e_isub, e_imul, e_iand, e_ior, e_ixor, e_ishl, e_ishr, e_iushr, e_idiv, e_irem, e_ineg, e_i2l, e_i2b, e_i2c, e_lmul, e_lcmp, e_dup, e_pop, e_dup_x1, e_dup2, e_if_eq, e_icmp_eq, e_if_ne, e_icmp_ne, e_if_lt, e_icmp_lt, e_if_ge, e_icmp_ge, e_if_gt, e_icmp_gt, e_if_le, e_icmp_le, e_ifnull, e_ifnonnull, e_acmp_eq, e_acmp_ne, e_getI, e_getJ, e_getR, e_getSI, e_getSR, e_getEI, e_getER, e_putI, e_putJ, e_putR, e_iald, e_bald, e_zald, e_lald, e_aald, e_alen, e_iast, e_bast, e_zast, e_last, e_newa, e_new, e_newq, e_ret, e_vret, e_obj, e_mmax, e_mmin, e_ldcS, e_sref, e_exc, e_thr, e_stq, e_cast, e_castY, e_castA, e_instS, e_cpy, e_aast, e_cpyR, e_cln, e_gcl, e_ldcM, e_sw, swc_n, swc_c, kon_v, kon_r, kon_t, lg_0, lg_s, ls0, lay, List.length_cons, List.length_nil, List.replicate, List.cons_append, List.nil_append, ps, lp, List.set_cons_zero, List.set_cons_succ, jk, kd_hI, ln_hI, iI_hI, iR_hI, iJ_hI, nn_hI, sU_hI, stI_hI, hI_hI, K0e, and_true, true_and, rtOk, fOk, ge_iff_le, Nat.reduceLeDiff, Nat.reduceAdd, Nat.reduceSub, Nat.reduceLT, c1, lit, nN, nN2, nI_add, pk_mul, nI_clamp, vpi, nI_leI, nI_ltI, nI_eq, bP_z, not_true_eq_false, not_false_eq_true, false_implies, true_implies, implies_true, Nat.le_refl, Nat.lt_irrefl, true_or, or_true, m31, pk_sub, pk_m1, bP_1, bP_em, Classical.not_not, Nat.zero_le, cI_T, cI_F, thr_e, thr_0, thr_m, vus, vun, vuu, pk_us, e_xO, e_xC, ex_e, e_mabsN, Nat.reduceEqDiff, ↓reduceIte]
    refine ⟨fun hc => by omega, fun _ => ?_⟩
    refine cl _ _ (sX7_goes (σ := τ) (x := yrs (σ 363) m x k) hy hm e3' (fun o ho => ⟨H o ho, hyl k o ho⟩) (by omega)) rfl rfl rfl rfl (by omega) (yq0 hy) ?_
    rintro _ _ ⟨υ, rfl, rfl, E2, H2⟩
    rw [e363] at H2 ⊢
    try simp (disch := omega) only [e_const, e_lconst, e_null, e_iload, e_lload, e_aload, e_istore, e_astore, e_lstore, e_iinc, e_iadd, e_isub, e_imul, e_iand, e_ior, e_ixor, e_ishl, e_ishr, e_iushr, e_idiv, e_irem, e_ineg, e_i2l, e_i2b, e_i2c, e_lmul, e_lcmp, e_dup, e_pop, e_dup_x1, e_dup2, e_if_eq, e_icmp_eq, e_if_ne, e_icmp_ne, e_if_lt, e_icmp_lt, e_if_ge, e_icmp_ge, e_if_gt, e_icmp_gt, e_if_le, e_icmp_le, e_ifnull, e_ifnonnull, e_acmp_eq, e_acmp_ne, e_getI, e_getJ, e_getR, e_getSI, e_getSR, e_getEI, e_getER, e_putI, e_putJ, e_putR, e_iald, e_bald, e_zald, e_lald, e_aald, e_alen, e_iast, e_bast, e_zast, e_last, e_newa, e_new, e_newq, e_ret, e_vret, e_obj, e_mmax, e_mmin, e_ldcS, e_sref, e_exc, e_thr, e_stq, e_cast, e_castY, e_castA, e_instS, e_cpy, e_aast, e_cpyR, e_cln, e_gcl, e_ldcM, e_sw, swc_n, swc_c, kon_v, kon_r, kon_t, lg_0, lg_s, ls0, lay, List.length_cons, List.length_nil, List.replicate, List.cons_append, List.nil_append, ps, lp, List.set_cons_zero, List.set_cons_succ, jk, kd_hI, ln_hI, iI_hI, iR_hI, iJ_hI, nn_hI, sU_hI, stI_hI, hI_hI, K0e, and_true, true_and, rtOk, fOk, ge_iff_le, Nat.reduceLeDiff, Nat.reduceAdd, Nat.reduceSub, Nat.reduceLT, c1, lit, nN, nN2, nI_add, pk_mul, nI_clamp, vpi, nI_leI, nI_ltI, nI_eq, bP_z, not_true_eq_false, not_false_eq_true, false_implies, true_implies, implies_true, Nat.le_refl, Nat.lt_irrefl, true_or, or_true, m31, pk_sub, pk_m1, bP_1, bP_em, Classical.not_not, Nat.zero_le, cI_T, cI_F, thr_e, thr_0, thr_m, vus, vun, vuu, pk_us, e_xO, e_xC, ex_e, e_mabsN, Nat.reduceEqDiff, ↓reduceIte]
    refine ⟨fun hc => ⟨υ, rfl, E.trans E2, fun p hp => ?_⟩, fun hc => ih υ (E.trans E2) (fun p hp => by rw [yrs_s]; exact H2 p hp)⟩
    rw [H2 p hp]
    have := yrs_fix (yr_fix hc) (n - k)
    rw [show k + (n - k) = n by omega] at this
    rw [this, yr_fix hc]
end
