/-! THE LAW is read by the component: conditions 2 -/
set_option maxRecDepth 100000
section
variable {h h1 : MH} {d : Nat} {T : Nat → Int32} {e a dp : Nat}
theorem sX1_cond {D Da fc fs : Nat} {A : Nat → PR (Fc → Prop)} (hD : 3 ≤ D) (hDa : 10 ≤ Da) (HA : ∀ (g : MH) (a d : Nat), Da ≤ d → RX g T e a dp → WPm mX1_allOf_2 d [.ref 300] g (CpP T e a dp 13 2430 fc fs (CdV D) g (A a))) (okA : ∀ a, a ≤ e → okR e a (A a)) (r : RX h T e a dp) (hd : Da + 1 ≤ d) : WPm mX1_cond d [.ref 300] h (CpP T e a dp 0 0 (fc + 2) (fs + 5) (CdV (D + 1)) h (anR T e A a)) := by
  refine mO rfl rfl ?_
  have hn := r.2.1
  have he4 := r.e4
  have key : ∀ (f : Nat) (a1 : Nat) (g : MH) (l eD n cap : Nat) (pv : Nat → Nat) (fQ : Nat → Fc → Prop) (acc : Fc → Prop), e - a1 < f → a ≤ a1 → n ≤ a1 - a → RX g T e a1 dp → Gw h g → AL g l eD n cap pv → (iR g (nn h) 1 = l ∧ kd g (nn h) = 13 ∧ iI g (nn h) 0 = nI 0) → (nn h < l ∧ (eD = 18 ∨ nn h < eD)) → (∀ i, i < n → CdS (nn h) (nn g) D g (pv i) (fQ i) ∧ nn h < pv i ∧ pv i ≠ l ∧ pv i ≠ eD ∧ ∃ m0 M, nn h < m0 ∧ M ≤ nn g ∧ (M ≤ l ∨ l < m0) ∧ (M ≤ eD ∨ eD < m0) ∧ CdS m0 M D g (pv i) (fQ i)) → (∀ φ, acc φ ↔ ∃ i, i < n ∧ fQ i φ) → nn g ≤ nn h + 2 + 60 * (a1 - a) → sU g ≤ sU h + 5 + 5500 * (a1 - a) →
      WPb mX1_cond d 9 [.ref 300, .ref (nn h)] [] g (CpP T e a dp 0 0 (fc + 2) (fs + 5) (CdV (D + 1)) h (pX (A a1) (fun w a2 => anyL T e A 62 Or f (fun φ => Or (acc φ) (w φ)) a2))) := by
    intro f
    induction f with
    | zero => intro a1 g l eD n cap pv fQ acc h1; omega
    | succ f ih =>
      intro a1 g l eD n cap pv fQ acc hf ha1 hna rg Gg AL0 ⟨hl, hk, hi0⟩ ⟨hl2, he2⟩ P hacc cc1 cc2
      have hg := rg.2.1
      obtain ⟨x0, x4⟩ := rg.2.2.2.1
      apply kX1_cond_9
      try simp (disch := omega) only [tX1_cond_9, hk, hl, kd_stI, ln_stI, nn_stI, iI_stI, iR_stI, iJ_stI, sU_stI, kd_stR, ln_stR, nn_stR, iI_stR, iR_stR, iJ_stR, sU_stR, kd_stJ, ln_stJ, nn_stJ, iI_stJ, iR_stJ, iJ_stJ, sU_stJ, kd_alc, ln_alc, nn_alc, iI_alc, iR_alc, iJ_alc, sU_alc, e_const, e_lconst, e_null, e_iload, e_lload, e_aload, e_istore, e_astore, e_lstore, e_iinc, e_iadd, e_isub, e_imul, e_iand, e_ior, e_ixor, e_ishl, e_ishr, e_iushr, e_idiv, e_irem, e_ineg, e_i2l, e_i2b, e_i2c, e_lmul, e_lcmp, e_dup, e_pop, e_dup_x1, e_dup2, e_if_eq, e_icmp_eq, e_if_ne, e_icmp_ne, e_if_lt, e_icmp_lt, e_if_ge, e_icmp_ge, e_if_gt, e_icmp_gt, e_if_le, e_icmp_le, e_ifnull, e_ifnonnull, e_acmp_eq, e_acmp_ne, e_getI, e_getJ, e_getR, e_getSI, e_getSR, e_getEI, e_getER, e_putI, e_putJ, e_putR, e_iald, e_bald, e_zald, e_lald, e_aald, e_alen, e_iast, e_bast, e_zast, e_last, e_newa, e_new, e_newq, e_ret, e_vret, e_obj, e_mmax, e_mmin, e_ldcS, e_sref, e_exc, e_thr, e_stq, e_cast, e_castY, e_castA, e_instS, e_cpy, e_aast, e_cpyR, e_cln, e_gcl, e_ldcM, e_sw, swc_n, swc_c, kon_v, kon_r, kon_t, lg_0, lg_s, ls0, lay, List.length_cons, List.length_nil, List.replicate, List.cons_append, List.nil_append, ps, lp, List.set_cons_zero, List.set_cons_succ, jk, kd_hI, ln_hI, iI_hI, iR_hI, iJ_hI, nn_hI, sU_hI, stI_hI, hI_hI, K0e, and_true, true_and, rtOk, fOk, ge_iff_le, Nat.reduceLeDiff, Nat.reduceAdd, Nat.reduceSub, Nat.reduceLT, c1, lit, nN, nN2, nI_add, pk_mul, nI_clamp, vpi, nI_leI, nI_ltI, nI_eq, bP_z, not_true_eq_false, not_false_eq_true, false_implies, true_implies, implies_true, Nat.le_refl, Nat.lt_irrefl, true_or, or_true, m31, pk_sub, pk_m1, bP_1, bP_em, Classical.not_not, Nat.zero_le, cI_T, cI_F, thr_e, thr_0, thr_m, vus, vun, vuu, pk_us, e_xO, e_xC, ex_e, e_mabsN, Nat.reduceEqDiff, ↓reduceIte, pk_un]
      refine ⟨by omega, ?_⟩
      refine cl _ _ (HA g a1 (d - 1) (by omega) rg) rfl rfl rfl rfl (by omega) x0 ?_
      rintro o1 g1 ⟨G1, hP⟩
      have ok := okA _ rg.ae
      cases hF : A a1 with
      | inl b =>
        rw [hF] at hP ok
        obtain ⟨rfl, q1, q2, q3⟩ := hP
        rw [pX_l]
        try simp (disch := omega) only [kd_stI, ln_stI, nn_stI, iI_stI, iR_stI, iJ_stI, sU_stI, kd_stR, ln_stR, nn_stR, iI_stR, iR_stR, iJ_stR, sU_stR, kd_stJ, ln_stJ, nn_stJ, iI_stJ, iR_stJ, iJ_stJ, sU_stJ, kd_alc, ln_alc, nn_alc, iI_alc, iR_alc, iJ_alc, sU_alc, e_const, e_lconst, e_null, e_iload, e_lload, e_aload, e_istore, e_astore, e_lstore, e_iinc, e_iadd, e_isub, e_imul, e_iand, e_ior, e_ixor, e_ishl, e_ishr, e_iushr, e_idiv, e_irem, e_ineg, e_i2l, e_i2b, e_i2c, e_lmul, e_lcmp, e_dup, e_pop, e_dup_x1, e_dup2, e_if_eq, e_icmp_eq, e_if_ne, e_icmp_ne, e_if_lt, e_icmp_lt, e_if_ge, e_icmp_ge, e_if_gt, e_icmp_gt, e_if_le, e_icmp_le, e_ifnull, e_ifnonnull, e_acmp_eq, e_acmp_ne, e_getI, e_getJ, e_getR, e_getSI, e_getSR, e_getEI, e_getER, e_putI, e_putJ, e_putR, e_iald, e_bald, e_zald, e_lald, e_aald, e_alen, e_iast, e_bast, e_zast, e_last, e_newa, e_new, e_newq, e_ret, e_vret, e_obj, e_mmax, e_mmin, e_ldcS, e_sref, e_exc, e_thr, e_stq, e_cast, e_castY, e_castA, e_instS, e_cpy, e_aast, e_cpyR, e_cln, e_gcl, e_ldcM, e_sw, swc_n, swc_c, kon_v, kon_r, kon_t, lg_0, lg_s, ls0, lay, List.length_cons, List.length_nil, List.replicate, List.cons_append, List.nil_append, ps, lp, List.set_cons_zero, List.set_cons_succ, jk, kd_hI, ln_hI, iI_hI, iR_hI, iJ_hI, nn_hI, sU_hI, stI_hI, hI_hI, K0e, and_true, true_and, rtOk, fOk, ge_iff_le, Nat.reduceLeDiff, Nat.reduceAdd, Nat.reduceSub, Nat.reduceLT, c1, lit, nN, nN2, nI_add, pk_mul, nI_clamp, vpi, nI_leI, nI_ltI, nI_eq, bP_z, not_true_eq_false, not_false_eq_true, false_implies, true_implies, implies_true, Nat.le_refl, Nat.lt_irrefl, true_or, or_true, m31, pk_sub, pk_m1, bP_1, bP_em, Classical.not_not, Nat.zero_le, cI_T, cI_F, thr_e, thr_0, thr_m, vus, vun, vuu, pk_us, e_xO, e_xC, ex_e, e_mabsN, Nat.reduceEqDiff, ↓reduceIte, pk_un]
        have := rg.ae
        exact ⟨Gg.trans G1, rfl, q1, by omega, by omega⟩
      | inr w =>
        rw [hF] at hP ok
        obtain ⟨p, rfl, r1, v3, q2, q3⟩ := hP
        have ok : a1 < w.2 ∧ w.2 ≤ e := ok
        have hl3 := skl (T := T) ok.2
        rw [pX_r, anyL_s]
        have A1 := AL0.gw G1 hg (by omega) (by omega)
        have hlt := AL0.1.2.2
        have g1n := G1.1.1
        have hle : l ≠ eD := fun q => by have q1 := AL0.1.1; rw [q, AL0.2.2.2.1.1] at q1; omega
        have elt : eD < nn g := by
          obtain ⟨_, _, _, _, _, z, _⟩ := AL0
          omega
        have v3' : CdS (nn g) (nn g1) D g1 p w.1 := v3
        have v31 := v3'.1
        try simp (disch := omega) only [kd_stI, ln_stI, nn_stI, iI_stI, iR_stI, iJ_stI, sU_stI, kd_stR, ln_stR, nn_stR, iI_stR, iR_stR, iJ_stR, sU_stR, kd_stJ, ln_stJ, nn_stJ, iI_stJ, iR_stJ, iJ_stJ, sU_stJ, kd_alc, ln_alc, nn_alc, iI_alc, iR_alc, iJ_alc, sU_alc, e_const, e_lconst, e_null, e_iload, e_lload, e_aload, e_istore, e_astore, e_lstore, e_iinc, e_iadd, e_isub, e_imul, e_iand, e_ior, e_ixor, e_ishl, e_ishr, e_iushr, e_idiv, e_irem, e_ineg, e_i2l, e_i2b, e_i2c, e_lmul, e_lcmp, e_dup, e_pop, e_dup_x1, e_dup2, e_if_eq, e_icmp_eq, e_if_ne, e_icmp_ne, e_if_lt, e_icmp_lt, e_if_ge, e_icmp_ge, e_if_gt, e_icmp_gt, e_if_le, e_icmp_le, e_ifnull, e_ifnonnull, e_acmp_eq, e_acmp_ne, e_getI, e_getJ, e_getR, e_getSI, e_getSR, e_getEI, e_getER, e_putI, e_putJ, e_putR, e_iald, e_bald, e_zald, e_lald, e_aald, e_alen, e_iast, e_bast, e_zast, e_last, e_newa, e_new, e_newq, e_ret, e_vret, e_obj, e_mmax, e_mmin, e_ldcS, e_sref, e_exc, e_thr, e_stq, e_cast, e_castY, e_castA, e_instS, e_cpy, e_aast, e_cpyR, e_cln, e_gcl, e_ldcM, e_sw, swc_n, swc_c, kon_v, kon_r, kon_t, lg_0, lg_s, ls0, lay, List.length_cons, List.length_nil, List.replicate, List.cons_append, List.nil_append, ps, lp, List.set_cons_zero, List.set_cons_succ, jk, kd_hI, ln_hI, iI_hI, iR_hI, iJ_hI, nn_hI, sU_hI, stI_hI, hI_hI, K0e, and_true, true_and, rtOk, fOk, ge_iff_le, Nat.reduceLeDiff, Nat.reduceAdd, Nat.reduceSub, Nat.reduceLT, c1, lit, nN, nN2, nI_add, pk_mul, nI_clamp, vpi, nI_leI, nI_ltI, nI_eq, bP_z, not_true_eq_false, not_false_eq_true, false_implies, true_implies, implies_true, Nat.le_refl, Nat.lt_irrefl, true_or, or_true, m31, pk_sub, pk_m1, bP_1, bP_em, Classical.not_not, Nat.zero_le, cI_T, cI_F, thr_e, thr_0, thr_m, vus, vun, vuu, pk_us, e_xO, e_xC, ex_e, e_mabsN, Nat.reduceEqDiff, ↓reduceIte, pk_un]
        refine cl _ _ (sJ2_add (d := d - 1) (h := g1) A1 (by omega) (by omega) (by omega) hle (x := p) ⟨by omega, v31.2.2.1, by rcases v31.1 with q | q | q | q <;> rw [q] <;> rfl⟩) rfl rfl rfl rfl (by omega) A1.1.1 ?_
        rintro _ g2 ⟨rfl, ad⟩
        have G2 : Gw h g2 := (Gg.trans G1).ad hn ad (by omega) (by omega)
        obtain ⟨⟨b1, b2, b3, b4⟩, ⟨e', c', A2, he'⟩, sm2, b5, b6, b7⟩ := ad
        have s349 : Same g1 g2 349 := sm2.same (by omega) (ct2' (by omega) (by omega))
        have r2 : RX g2 T e w.2 dp := r.gw G2 (by rw [s349.2.2.1]; exact r1.1.2.2.1.1) ok.2 (by rw [s349.2.2.1]; exact r1.1.2.2.2.1)
        obtain ⟨y0, y4⟩ := r2.2.2.2.1
        have le' : e' < nn g2 := by
          obtain ⟨_, _, _, _, _, q, _⟩ := A2
          omega
        try simp (disch := omega) only [y0, y4, kd_stI, ln_stI, nn_stI, iI_stI, iR_stI, iJ_stI, sU_stI, kd_stR, ln_stR, nn_stR, iI_stR, iR_stR, iJ_stR, sU_stR, kd_stJ, ln_stJ, nn_stJ, iI_stJ, iR_stJ, iJ_stJ, sU_stJ, kd_alc, ln_alc, nn_alc, iI_alc, iR_alc, iJ_alc, sU_alc, e_const, e_lconst, e_null, e_iload, e_lload, e_aload, e_istore, e_astore, e_lstore, e_iinc, e_iadd, e_isub, e_imul, e_iand, e_ior, e_ixor, e_ishl, e_ishr, e_iushr, e_idiv, e_irem, e_ineg, e_i2l, e_i2b, e_i2c, e_lmul, e_lcmp, e_dup, e_pop, e_dup_x1, e_dup2, e_if_eq, e_icmp_eq, e_if_ne, e_icmp_ne, e_if_lt, e_icmp_lt, e_if_ge, e_icmp_ge, e_if_gt, e_icmp_gt, e_if_le, e_icmp_le, e_ifnull, e_ifnonnull, e_acmp_eq, e_acmp_ne, e_getI, e_getJ, e_getR, e_getSI, e_getSR, e_getEI, e_getER, e_putI, e_putJ, e_putR, e_iald, e_bald, e_zald, e_lald, e_aald, e_alen, e_iast, e_bast, e_zast, e_last, e_newa, e_new, e_newq, e_ret, e_vret, e_obj, e_mmax, e_mmin, e_ldcS, e_sref, e_exc, e_thr, e_stq, e_cast, e_castY, e_castA, e_instS, e_cpy, e_aast, e_cpyR, e_cln, e_gcl, e_ldcM, e_sw, swc_n, swc_c, kon_v, kon_r, kon_t, lg_0, lg_s, ls0, lay, List.length_cons, List.length_nil, List.replicate, List.cons_append, List.nil_append, ps, lp, List.set_cons_zero, List.set_cons_succ, jk, kd_hI, ln_hI, iI_hI, iR_hI, iJ_hI, nn_hI, sU_hI, stI_hI, hI_hI, K0e, and_true, true_and, rtOk, fOk, ge_iff_le, Nat.reduceLeDiff, Nat.reduceAdd, Nat.reduceSub, Nat.reduceLT, c1, lit, nN, nN2, nI_add, pk_mul, nI_clamp, vpi, nI_leI, nI_ltI, nI_eq, bP_z, not_true_eq_false, not_false_eq_true, false_implies, true_implies, implies_true, Nat.le_refl, Nat.lt_irrefl, true_or, or_true, m31, pk_sub, pk_m1, bP_1, bP_em, Classical.not_not, Nat.zero_le, cI_T, cI_F, thr_e, thr_0, thr_m, vus, vun, vuu, pk_us, e_xO, e_xC, ex_e, e_mabsN, Nat.reduceEqDiff, ↓reduceIte, pk_un]
        refine cl _ _ (sX3_passes r2 (d := d - 1) (by omega) (w := 62) 16 (by omega) rfl) rfl rfl rfl rfl (by omega) r2.k3 ?_
        rintro _ g3 ⟨rfl, w3⟩
        have w3c := w3.1
        have G23 : Gw g2 g3 := Gw.rw r2.2.1 w3
        have G3 := G2.trans G23
        have A3 : AL g3 l e' (n + 1) c' (va_up pv n p) := A2.gw G23 (by omega) (by omega) (by omega)
        have s12 : ∀ x, x < nn g1 → x ≠ l → x ≠ eD → x ≠ 349 → Same g1 g3 x := fun x hx n1 n2 n3 => (sm2.same hx (ct2' n1 n2)).trans (G23.2.1 x (by omega) n3)
        have lw3 : ∀ x, x < 300 → Same g1 g3 x := fun x hx => by
          by_cases q : x = eD
          · have q18 : eD = 18 := by omega
            rw [q]
            exact Same.trans ⟨(b5 eD (by omega)).1, (b5 eD (by omega)).2.1, b6, b7 q18⟩ (G23.2.1 eD (by omega) (by omega))
          · exact s12 x (by omega) (by omega) q (by omega)
        have P2 : ∀ i, i < n + 1 → CdS (nn h) (nn g3) D g3 (va_up pv n p i) (va_up fQ n w.1 i) ∧ nn h < va_up pv n p i ∧ va_up pv n p i ≠ l ∧ va_up pv n p i ≠ e' ∧ ∃ m0 M, nn h < m0 ∧ M ≤ nn g3 ∧ (M ≤ l ∨ l < m0) ∧ (M ≤ e' ∨ e' < m0) ∧ CdS m0 M D g3 (va_up pv n p i) (va_up fQ n w.1 i) := by
          intro i hi
          by_cases z : i = n
          · rw [z, vus, vus]
            have y : CdS (nn g) (nn g1) D g3 p w.1 := v3'.of (Nat.le_refl _) (Nat.le_refl _) (Nat.le_refl _) (fun x hx => by
              rcases hx with hx | hx
              · exact lw3 x hx
              · exact s12 x hx.2 (by omega) (by omega) (by omega))
            exact ⟨y.of (by omega) (by omega) (Nat.le_refl _) (fun x _ => Same.refl _ _), by omega, by omega, by omega, nn g, nn g1, by omega, by omega, by omega, by omega, y⟩
          · rw [vun _ _ z, vun _ _ z]
            obtain ⟨z1, z2, z3, z4, m0, M, z5, z6, z7, z8, z9⟩ := P i (by omega)
            have y : CdS m0 M D g3 (pv i) (fQ i) := z9.of (Nat.le_refl _) (Nat.le_refl _) (Nat.le_refl _) (fun x hx => by
              rcases hx with hx | hx
              · exact (G1.2.1 x (by omega) (by omega)).trans (lw3 x hx)
              · exact (G1.2.1 x (by omega) (by omega)).trans (s12 x (by omega) (by omega) (by omega) (by omega)))
            have y1 := y.1
            exact ⟨y.of (by omega) (by omega) (Nat.le_refl _) (fun x _ => Same.refl _ _), z2, z3, by omega, m0, M, z5, by omega, z7, by omega, y⟩
        have hsn : Same g1 g3 (nn h) := s12 (nn h) (by omega) (by omega) (by omega) (by omega)
        have hk2 : iR g3 (nn h) 1 = l ∧ kd g3 (nn h) = 13 ∧ iI g3 (nn h) 0 = nI 0 := by
          have q1 := G1.2.1 (nn h) (by omega) (by omega)
          rw [hsn.2.2.2, hsn.1, hsn.2.2.1, q1.2.2.2, q1.1, q1.2.2.1]; exact ⟨hl, hk, hi0⟩
        have hacc2 : ∀ φ, Or (acc φ) (w.1 φ) ↔ ∃ i, i < n + 1 ∧ va_up fQ n w.1 i φ := fun φ => by
          rw [hacc]
          constructor
          · rintro (⟨i, q1, q2⟩ | q2)
            · exact ⟨i, by omega, by rw [vun _ _ (by omega)]; exact q2⟩
            · exact ⟨n, by omega, by rw [vus]; exact q2⟩
          · rintro ⟨i, q1, q2⟩
            by_cases z : i = n
            · rw [z, vus] at q2; exact Or.inr q2
            · rw [vun _ _ z] at q2; exact Or.inl ⟨i, by omega, q2⟩
        by_cases z : isT T e (sk T e w.2) 62
        · rw [dI_t z] at w3
          rw [dI_t z, bP_t z]
          have z1 : sk T e w.2 + tln 62 ≤ e := isT_le hl3.2 z
          have r3 := r2.rw z1 w3
          try simp (disch := omega) only [Nat.reduceEqDiff, kd_stI, ln_stI, nn_stI, iI_stI, iR_stI, iJ_stI, sU_stI, kd_stR, ln_stR, nn_stR, iI_stR, iR_stR, iJ_stR, sU_stR, kd_stJ, ln_stJ, nn_stJ, iI_stJ, iR_stJ, iJ_stJ, sU_stJ, kd_alc, ln_alc, nn_alc, iI_alc, iR_alc, iJ_alc, sU_alc, e_const, e_lconst, e_null, e_iload, e_lload, e_aload, e_istore, e_astore, e_lstore, e_iinc, e_iadd, e_isub, e_imul, e_iand, e_ior, e_ixor, e_ishl, e_ishr, e_iushr, e_idiv, e_irem, e_ineg, e_i2l, e_i2b, e_i2c, e_lmul, e_lcmp, e_dup, e_pop, e_dup_x1, e_dup2, e_if_eq, e_icmp_eq, e_if_ne, e_icmp_ne, e_if_lt, e_icmp_lt, e_if_ge, e_icmp_ge, e_if_gt, e_icmp_gt, e_if_le, e_icmp_le, e_ifnull, e_ifnonnull, e_acmp_eq, e_acmp_ne, e_getI, e_getJ, e_getR, e_getSI, e_getSR, e_getEI, e_getER, e_putI, e_putJ, e_putR, e_iald, e_bald, e_zald, e_lald, e_aald, e_alen, e_iast, e_bast, e_zast, e_last, e_newa, e_new, e_newq, e_ret, e_vret, e_obj, e_mmax, e_mmin, e_ldcS, e_sref, e_exc, e_thr, e_stq, e_cast, e_castY, e_castA, e_instS, e_cpy, e_aast, e_cpyR, e_cln, e_gcl, e_ldcM, e_sw, swc_n, swc_c, kon_v, kon_r, kon_t, lg_0, lg_s, ls0, lay, List.length_cons, List.length_nil, List.replicate, List.cons_append, List.nil_append, ps, lp, List.set_cons_zero, List.set_cons_succ, jk, kd_hI, ln_hI, iI_hI, iR_hI, iJ_hI, nn_hI, sU_hI, stI_hI, hI_hI, K0e, and_true, true_and, rtOk, fOk, ge_iff_le, Nat.reduceLeDiff, Nat.reduceAdd, Nat.reduceSub, Nat.reduceLT, c1, lit, nN, nN2, nI_add, pk_mul, nI_clamp, vpi, nI_leI, nI_ltI, nI_eq, bP_z, not_true_eq_false, not_false_eq_true, false_implies, true_implies, implies_true, Nat.le_refl, Nat.lt_irrefl, true_or, or_true, m31, pk_sub, pk_m1, bP_1, bP_em, Classical.not_not, Nat.zero_le, cI_T, cI_F, thr_e, thr_0, thr_m, vus, vun, vuu, pk_us, e_xO, e_xC, ex_e, e_mabsN, Nat.reduceEqDiff, ↓reduceIte, pk_un]
          exact ih (sk T e w.2 + tln 62) g3 l e' (n + 1) c' _ _ _ (by omega) (by omega) (by omega) r3 G3 A3 hk2 ⟨hl2, by omega⟩ P2 hacc2 (by omega) (by omega)
        · rw [dI_f z] at w3
          rw [dI_f z, bP_f z]
          have r3 := r2.rw hl3.2 w3
          try simp (disch := omega) only [Nat.reduceEqDiff, kd_stI, ln_stI, nn_stI, iI_stI, iR_stI, iJ_stI, sU_stI, kd_stR, ln_stR, nn_stR, iI_stR, iR_stR, iJ_stR, sU_stR, kd_stJ, ln_stJ, nn_stJ, iI_stJ, iR_stJ, iJ_stJ, sU_stJ, kd_alc, ln_alc, nn_alc, iI_alc, iR_alc, iJ_alc, sU_alc, e_const, e_lconst, e_null, e_iload, e_lload, e_aload, e_istore, e_astore, e_lstore, e_iinc, e_iadd, e_isub, e_imul, e_iand, e_ior, e_ixor, e_ishl, e_ishr, e_iushr, e_idiv, e_irem, e_ineg, e_i2l, e_i2b, e_i2c, e_lmul, e_lcmp, e_dup, e_pop, e_dup_x1, e_dup2, e_if_eq, e_icmp_eq, e_if_ne, e_icmp_ne, e_if_lt, e_icmp_lt, e_if_ge, e_icmp_ge, e_if_gt, e_icmp_gt, e_if_le, e_icmp_le, e_ifnull, e_ifnonnull, e_acmp_eq, e_acmp_ne, e_getI, e_getJ, e_getR, e_getSI, e_getSR, e_getEI, e_getER, e_putI, e_putJ, e_putR, e_iald, e_bald, e_zald, e_lald, e_aald, e_alen, e_iast, e_bast, e_zast, e_last, e_newa, e_new, e_newq, e_ret, e_vret, e_obj, e_mmax, e_mmin, e_ldcS, e_sref, e_exc, e_thr, e_stq, e_cast, e_castY, e_castA, e_instS, e_cpy, e_aast, e_cpyR, e_cln, e_gcl, e_ldcM, e_sw, swc_n, swc_c, kon_v, kon_r, kon_t, lg_0, lg_s, ls0, lay, List.length_cons, List.length_nil, List.replicate, List.cons_append, List.nil_append, ps, lp, List.set_cons_zero, List.set_cons_succ, jk, kd_hI, ln_hI, iI_hI, iR_hI, iJ_hI, nn_hI, sU_hI, stI_hI, hI_hI, K0e, and_true, true_and, rtOk, fOk, ge_iff_le, Nat.reduceLeDiff, Nat.reduceAdd, Nat.reduceSub, Nat.reduceLT, c1, lit, nN, nN2, nI_add, pk_mul, nI_clamp, vpi, nI_leI, nI_ltI, nI_eq, bP_z, not_true_eq_false, not_false_eq_true, false_implies, true_implies, implies_true, Nat.le_refl, Nat.lt_irrefl, true_or, or_true, m31, pk_sub, pk_m1, bP_1, bP_em, Classical.not_not, Nat.zero_le, cI_T, cI_F, thr_e, thr_0, thr_m, vus, vun, vuu, pk_us, e_xO, e_xC, ex_e, e_mabsN, Nat.reduceEqDiff, ↓reduceIte, pk_un]
          refine ⟨G3, nn h, rfl, r3, ?_, by show nn g3 + 0 ≤ nn h + 60 * (sk T e w.2 - a); omega, by show sU g3 + 0 ≤ sU h + 5500 * (sk T e w.2 - a); omega⟩
          have AWw := A3.w (by omega) (by omega)
          refine CdS.row (b := 0) (l := l) (eD := e') (n := n + 1) (v := va_up pv n p) (Q := va_up fQ n w.1) hk2.2.1 ⟨Nat.le_refl _, by omega, hn⟩ (by omega) hk2.2.2 hk2.1 AWw ⟨by omega, by omega⟩ ⟨?_, by omega⟩ hD (fun i hi => (P2 i hi).1) (fun φ => ?_)
          · rcases he' with q | q
            · rw [q]
              have := AWw.2.2.2.1.2
              omega
            · omega
          · refine (hacc2 φ).trans ?_
            constructor
            · intro q; exact Or.inr ⟨rfl, q⟩
            · intro q
              rcases q with q | q
              · omega
              · exact q.2
  apply kX1_cond_0
  try simp (disch := omega) only [tX1_cond_0, kd_stI, ln_stI, nn_stI, iI_stI, iR_stI, iJ_stI, sU_stI, kd_stR, ln_stR, nn_stR, iI_stR, iR_stR, iJ_stR, sU_stR, kd_stJ, ln_stJ, nn_stJ, iI_stJ, iR_stJ, iJ_stJ, sU_stJ, kd_alc, ln_alc, nn_alc, iI_alc, iR_alc, iJ_alc, sU_alc, e_const, e_lconst, e_null, e_iload, e_lload, e_aload, e_istore, e_astore, e_lstore, e_iinc, e_iadd, e_isub, e_imul, e_iand, e_ior, e_ixor, e_ishl, e_ishr, e_iushr, e_idiv, e_irem, e_ineg, e_i2l, e_i2b, e_i2c, e_lmul, e_lcmp, e_dup, e_pop, e_dup_x1, e_dup2, e_if_eq, e_icmp_eq, e_if_ne, e_icmp_ne, e_if_lt, e_icmp_lt, e_if_ge, e_icmp_ge, e_if_gt, e_icmp_gt, e_if_le, e_icmp_le, e_ifnull, e_ifnonnull, e_acmp_eq, e_acmp_ne, e_getI, e_getJ, e_getR, e_getSI, e_getSR, e_getEI, e_getER, e_putI, e_putJ, e_putR, e_iald, e_bald, e_zald, e_lald, e_aald, e_alen, e_iast, e_bast, e_zast, e_last, e_newa, e_new, e_newq, e_ret, e_vret, e_obj, e_mmax, e_mmin, e_ldcS, e_sref, e_exc, e_thr, e_stq, e_cast, e_castY, e_castA, e_instS, e_cpy, e_aast, e_cpyR, e_cln, e_gcl, e_ldcM, e_sw, swc_n, swc_c, kon_v, kon_r, kon_t, lg_0, lg_s, ls0, lay, List.length_cons, List.length_nil, List.replicate, List.cons_append, List.nil_append, ps, lp, List.set_cons_zero, List.set_cons_succ, jk, kd_hI, ln_hI, iI_hI, iR_hI, iJ_hI, nn_hI, sU_hI, stI_hI, hI_hI, K0e, and_true, true_and, rtOk, fOk, ge_iff_le, Nat.reduceLeDiff, Nat.reduceAdd, Nat.reduceSub, Nat.reduceLT, c1, lit, nN, nN2, nI_add, pk_mul, nI_clamp, vpi, nI_leI, nI_ltI, nI_eq, bP_z, not_true_eq_false, not_false_eq_true, false_implies, true_implies, implies_true, Nat.le_refl, Nat.lt_irrefl, true_or, or_true, m31, pk_sub, pk_m1, bP_1, bP_em, Classical.not_not, Nat.zero_le, cI_T, cI_F, thr_e, thr_0, thr_m, vus, vun, vuu, pk_us, e_xO, e_xC, ex_e, e_mabsN, Nat.reduceEqDiff, ↓reduceIte, pk_un]
  generalize hg : alc h 13 0 2 z32 zN z64 = g
  have e1 : ∀ x, x < nn h → Same h g x := fun x hx => by
    subst hg
    have z : x ≠ nn h := by omega
    exact ⟨va_up_ne _ _ z, va_up_ne _ _ z, va_up_ne _ _ z, va_up_ne _ _ z⟩
  have g1 : kd g (nn h) = 13 := by subst hg; exact va_up_self _ _ _
  have n1 : nn g = nn h + 1 := by subst hg; rfl
  have s1 : sU g = sU h + 2 := by subst hg; rfl
  have h18 := r.2.2.1.2.2.1
  refine cl _ _ (sX13_init (h := g) (s := nn h) (b := 0) (d := d - 1) g1 hn n1 (by rw [(e1 18 (by omega)).1, (e1 18 (by omega)).2.1]; exact h18) (by omega) (by omega) (fun _ => 0)) rfl rfl rfl rfl (by omega) (show 0 < nn h by omega) ?_
  rintro _ h2 ⟨rfl, i1, i2, i3, i4, i5, i6⟩
  try simp (disch := omega) only [kd_stI, ln_stI, nn_stI, iI_stI, iR_stI, iJ_stI, sU_stI, kd_stR, ln_stR, nn_stR, iI_stR, iR_stR, iJ_stR, sU_stR, kd_stJ, ln_stJ, nn_stJ, iI_stJ, iR_stJ, iJ_stJ, sU_stJ, kd_alc, ln_alc, nn_alc, iI_alc, iR_alc, iJ_alc, sU_alc, e_const, e_lconst, e_null, e_iload, e_lload, e_aload, e_istore, e_astore, e_lstore, e_iinc, e_iadd, e_isub, e_imul, e_iand, e_ior, e_ixor, e_ishl, e_ishr, e_iushr, e_idiv, e_irem, e_ineg, e_i2l, e_i2b, e_i2c, e_lmul, e_lcmp, e_dup, e_pop, e_dup_x1, e_dup2, e_if_eq, e_icmp_eq, e_if_ne, e_icmp_ne, e_if_lt, e_icmp_lt, e_if_ge, e_icmp_ge, e_if_gt, e_icmp_gt, e_if_le, e_icmp_le, e_ifnull, e_ifnonnull, e_acmp_eq, e_acmp_ne, e_getI, e_getJ, e_getR, e_getSI, e_getSR, e_getEI, e_getER, e_putI, e_putJ, e_putR, e_iald, e_bald, e_zald, e_lald, e_aald, e_alen, e_iast, e_bast, e_zast, e_last, e_newa, e_new, e_newq, e_ret, e_vret, e_obj, e_mmax, e_mmin, e_ldcS, e_sref, e_exc, e_thr, e_stq, e_cast, e_castY, e_castA, e_instS, e_cpy, e_aast, e_cpyR, e_cln, e_gcl, e_ldcM, e_sw, swc_n, swc_c, kon_v, kon_r, kon_t, lg_0, lg_s, ls0, lay, List.length_cons, List.length_nil, List.replicate, List.cons_append, List.nil_append, ps, lp, List.set_cons_zero, List.set_cons_succ, jk, kd_hI, ln_hI, iI_hI, iR_hI, iJ_hI, nn_hI, sU_hI, stI_hI, hI_hI, K0e, and_true, true_and, rtOk, fOk, ge_iff_le, Nat.reduceLeDiff, Nat.reduceAdd, Nat.reduceSub, Nat.reduceLT, c1, lit, nN, nN2, nI_add, pk_mul, nI_clamp, vpi, nI_leI, nI_ltI, nI_eq, bP_z, not_true_eq_false, not_false_eq_true, false_implies, true_implies, implies_true, Nat.le_refl, Nat.lt_irrefl, true_or, or_true, m31, pk_sub, pk_m1, bP_1, bP_em, Classical.not_not, Nat.zero_le, cI_T, cI_F, thr_e, thr_0, thr_m, vus, vun, vuu, pk_us, e_xO, e_xC, ex_e, e_mabsN, Nat.reduceEqDiff, ↓reduceIte, pk_un]
  have G1 : Gw h h2 := Gw.nw hn (fun x hx => (e1 x hx).trans (i6 x hx)) (by omega) (by omega)
  have r1 := r.nw (fun x hx => (e1 x hx).trans (i6 x hx)) (by omega) (by omega)
  have := key (e + 1) a h2 (nn h + 1) 18 0 0 (fun _ => 0) (fun _ _ => True) (fun _ => False) (by omega) (Nat.le_refl _) (by omega) r1 G1 i1 ⟨i2.1, i3, i2.2⟩ ⟨by omega, Or.inl rfl⟩ (fun i hi => by omega) (fun φ => ⟨fun z => z.elim, fun ⟨i, hi, _⟩ => by omega⟩) (by omega) (by omega)
  have e0 : (fun (w : Fc → Prop) a2 => anyL T e A 62 Or (e + 1) (fun φ => Or False (w φ)) a2) = (fun w a2 => anyL T e A 62 Or (e + 1) w a2) := by
    funext w a2
    congr 1
    funext φ
    exact propext (by simp)
  rw [e0] at this
  exact this
end
