/-! THE LAW is read by the component: sums 2 -/
set_option maxRecDepth 100000
def SuV (h h1 : MH) (f : Fc → Int32) (s : Nat) : Prop := SuS (nn h) (nn h1) h1 s f
section
variable {h h1 : MH} {d : Nat} {T : Nat → Int32} {e a dp : Nat}
theorem RX.k3 (r : RX h T e a dp) : kd h 349 = 3 := r.1.1.1
/-- a list is made: an object o of one kind, with a list in its field -/
theorem Sm.same {L : List Nat} (s : Sm L h h1) {x : Nat} (hx : x < nn h) (hL : L.contains x = false) : Same h h1 x := by
  obtain ⟨c1, c2, c3, c4, _⟩ := s x hx hL
  exact ⟨c1, c2, c3, c4⟩
theorem ct2' {p q x : Nat} (h1 : x ≠ p) (h2 : x ≠ q) : [p, q].contains x = false := by
  simp only [List.contains_cons, List.contains_nil, Bool.or_false, Bool.or_eq_false_iff, beq_eq_false_iff_ne]
  exact ⟨h1, h2⟩
/-- adding to a list that is new changes new cells alone -/
theorem Gw.ad {h g h2 : MH} {l eD n x : Nat} {v : Nat → Nat} (w : Gw h g) (hn : 396 ≤ nn h) (p : adP g h2 l eD n v x) (hl : nn h ≤ l) (he : eD = 18 ∨ nn h ≤ eD) : Gw h h2 := by
  obtain ⟨⟨p1, p2, p3, p4⟩, _, sm, p5, p6, p7⟩ := p
  obtain ⟨⟨a1, a2⟩, a3, ⟨a4, a5, a6⟩, a7⟩ := w
  have key : ∀ x, x < nn h → Same g h2 x := fun x hx => by
    by_cases e : x = eD
    · have e18 : eD = 18 := by omega
      rw [e]
      exact ⟨(p5 eD (by omega)).1, (p5 eD (by omega)).2.1, p6, p7 e18⟩
    · exact sm.same (by omega) (ct2' (by omega) e)
  have k3 := key 349 (by omega)
  exact ⟨⟨by omega, by omega⟩, fun x hx hne => (a3 x hx hne).trans (key x hx), ⟨k3.1.trans a4, k3.2.1.trans a5, k3.2.2.2.trans a6⟩, fun k h1 h2 h3 => by rw [k3.2.2.1]; exact a7 k h1 h2 h3⟩
theorem AL.gw {g h2 : MH} {l eD n cap : Nat} {v : Nat → Nat} (s : AL g l eD n cap v) (w : Gw g h2) (hg : 396 ≤ nn g) (hl : l ≠ 349) (he : eD ≠ 349) : AL h2 l eD n cap v := by
  obtain ⟨⟨a1, a2⟩, a3, ⟨a4, a5, a6⟩, a7⟩ := w
  have hl2 := s.1.2.2
  have he2 : eD < nn g := by
    obtain ⟨_, _, _, _, _, z, _⟩ := s
    omega
  refine s.cn (fun a ha => ?_) a1 (by rw [(a3 l hl2 hl).2.2.1]) (by rw [(a3 l hl2 hl).2.2.2]) (fun i hi => by rw [(a3 eD he2 he).2.2.2]) (by omega)
  by_cases e : a = 349
  · rw [e]; exact ⟨a4, a5⟩
  · exact ⟨(a3 a ha e).1, (a3 a ha e).2.1⟩
theorem sX16_init {s : Nat} (k : kd h s = 16) (hs : 396 ≤ s) (hn : nn h = s + 1) (h18 : kd h 18 = 54 ∧ ln h 18 = 0) (hd : 4 ≤ d) (v : Nat → Nat) : WPm mX16_init d [.ref s] h (fun o h1 => o = .returned none ∧ AL h1 (s + 1) 18 0 0 v ∧ iR h1 s 0 = s + 1 ∧ kd h1 s = 16 ∧ nn h1 = nn h + 1 ∧ sU h1 = sU h + 3 ∧ ∀ x, x < s → Same h h1 x) := by
  refine mO rfl rfl ?_
  apply kX16_init_0
  try simp (disch := omega) only [tX16_init_0, kd_stI, ln_stI, nn_stI, iI_stI, iR_stI, iJ_stI, sU_stI, kd_stR, ln_stR, nn_stR, iI_stR, iR_stR, iJ_stR, sU_stR, kd_stJ, ln_stJ, nn_stJ, iI_stJ, iR_stJ, iJ_stJ, sU_stJ, kd_alc, ln_alc, nn_alc, iI_alc, iR_alc, iJ_alc, sU_alc, e_const, e_lconst, e_null, e_iload, e_lload, e_aload, e_istore, e_astore, e_lstore, e_iinc, e_iadd, e_isub, e_imul, e_iand, e_ior, e_ixor, e_ishl, e_ishr, e_iushr, e_idiv, e_irem, e_ineg, e_i2l, e_i2b, e_i2c, e_lmul, e_lcmp, e_dup, e_pop, e_dup_x1, e_dup2, e_if_eq, e_icmp_eq, e_if_ne, e_icmp_ne, e_if_lt, e_icmp_lt, e_if_ge, e_icmp_ge, e_if_gt, e_icmp_gt, e_if_le, e_icmp_le, e_ifnull, e_ifnonnull, e_acmp_eq, e_acmp_ne, e_getI, e_getJ, e_getR, e_getSI, e_getSR, e_getEI, e_getER, e_putI, e_putJ, e_putR, e_iald, e_bald, e_zald, e_lald, e_aald, e_alen, e_iast, e_bast, e_zast, e_last, e_newa, e_new, e_newq, e_ret, e_vret, e_obj, e_mmax, e_mmin, e_ldcS, e_sref, e_exc, e_thr, e_stq, e_cast, e_castY, e_castA, e_instS, e_cpy, e_aast, e_cpyR, e_cln, e_gcl, e_ldcM, e_sw, swc_n, swc_c, kon_v, kon_r, kon_t, lg_0, lg_s, ls0, lay, List.length_cons, List.length_nil, List.replicate, List.cons_append, List.nil_append, ps, lp, List.set_cons_zero, List.set_cons_succ, jk, kd_hI, ln_hI, iI_hI, iR_hI, iJ_hI, nn_hI, sU_hI, stI_hI, hI_hI, K0e, and_true, true_and, rtOk, fOk, ge_iff_le, Nat.reduceLeDiff, Nat.reduceAdd, Nat.reduceSub, Nat.reduceLT, c1, lit, nN, nN2, nI_add, pk_mul, nI_clamp, vpi, nI_leI, nI_ltI, nI_eq, bP_z, not_true_eq_false, not_false_eq_true, false_implies, true_implies, implies_true, Nat.le_refl, Nat.lt_irrefl, true_or, or_true, m31, pk_sub, pk_m1, bP_1, bP_em, Classical.not_not, Nat.zero_le, cI_T, cI_F, thr_e, thr_0, thr_m, vus, vun, vuu, pk_us, e_xO, e_xC, ex_e, e_mabsN, Nat.reduceEqDiff, ↓reduceIte, pk_un]
  refine ⟨⟨by omega, ⟨by omega, Nat.le_of_ble_eq_true rfl⟩⟩, ?_⟩
  generalize hg : alc h 22 0 3 z32 zN z64 = g
  have e1 : ∀ x, x < nn h → Same h g x := fun x hx => by
    subst hg
    have z : x ≠ nn h := by omega
    exact ⟨va_up_ne _ _ z, va_up_ne _ _ z, va_up_ne _ _ z, va_up_ne _ _ z⟩
  have g1 : kd g (nn h) = 22 := by subst hg; exact va_up_self _ _ _
  have g2 : iI g (nn h) = z32 := by subst hg; exact va_up_self _ _ _
  have n1 : nn g = nn h + 1 := by subst hg; rfl
  have s1 : sU g = sU h + 3 := by subst hg; rfl
  refine cl _ _ (sJ2_init (h := g) (l := nn h) (d := d - 1) g1 (by omega) n1 g2 (by rw [(e1 18 (by omega)).1, (e1 18 (by omega)).2.1]; exact h18) (by omega) v) rfl rfl rfl rfl (by omega) (show 0 < nn h by omega) ?_
  rintro _ h2 ⟨rfl, i1, i2, i3, i4, i5⟩
  have q := (e1 s (by omega)).trans (i4 s (by omega))
  have kq : kd h2 s = 16 := by rw [q.1]; exact k
  try simp (disch := omega) only [kq, kd_stI, ln_stI, nn_stI, iI_stI, iR_stI, iJ_stI, sU_stI, kd_stR, ln_stR, nn_stR, iI_stR, iR_stR, iJ_stR, sU_stR, kd_stJ, ln_stJ, nn_stJ, iI_stJ, iR_stJ, iJ_stJ, sU_stJ, kd_alc, ln_alc, nn_alc, iI_alc, iR_alc, iJ_alc, sU_alc, e_const, e_lconst, e_null, e_iload, e_lload, e_aload, e_istore, e_astore, e_lstore, e_iinc, e_iadd, e_isub, e_imul, e_iand, e_ior, e_ixor, e_ishl, e_ishr, e_iushr, e_idiv, e_irem, e_ineg, e_i2l, e_i2b, e_i2c, e_lmul, e_lcmp, e_dup, e_pop, e_dup_x1, e_dup2, e_if_eq, e_icmp_eq, e_if_ne, e_icmp_ne, e_if_lt, e_icmp_lt, e_if_ge, e_icmp_ge, e_if_gt, e_icmp_gt, e_if_le, e_icmp_le, e_ifnull, e_ifnonnull, e_acmp_eq, e_acmp_ne, e_getI, e_getJ, e_getR, e_getSI, e_getSR, e_getEI, e_getER, e_putI, e_putJ, e_putR, e_iald, e_bald, e_zald, e_lald, e_aald, e_alen, e_iast, e_bast, e_zast, e_last, e_newa, e_new, e_newq, e_ret, e_vret, e_obj, e_mmax, e_mmin, e_ldcS, e_sref, e_exc, e_thr, e_stq, e_cast, e_castY, e_castA, e_instS, e_cpy, e_aast, e_cpyR, e_cln, e_gcl, e_ldcM, e_sw, swc_n, swc_c, kon_v, kon_r, kon_t, lg_0, lg_s, ls0, lay, List.length_cons, List.length_nil, List.replicate, List.cons_append, List.nil_append, ps, lp, List.set_cons_zero, List.set_cons_succ, jk, kd_hI, ln_hI, iI_hI, iR_hI, iJ_hI, nn_hI, sU_hI, stI_hI, hI_hI, K0e, and_true, true_and, rtOk, fOk, ge_iff_le, Nat.reduceLeDiff, Nat.reduceAdd, Nat.reduceSub, Nat.reduceLT, c1, lit, nN, nN2, nI_add, pk_mul, nI_clamp, vpi, nI_leI, nI_ltI, nI_eq, bP_z, not_true_eq_false, not_false_eq_true, false_implies, true_implies, implies_true, Nat.le_refl, Nat.lt_irrefl, true_or, or_true, m31, pk_sub, pk_m1, bP_1, bP_em, Classical.not_not, Nat.zero_le, cI_T, cI_F, thr_e, thr_0, thr_m, vus, vun, vuu, pk_us, e_xO, e_xC, ex_e, e_mabsN, Nat.reduceEqDiff, ↓reduceIte, pk_un]
  refine ⟨by omega, ?_, ?_, ?_, ?_, fun x hx => ?_⟩
  · rw [← hn]
    exact i1.cn (fun _ _ => ⟨rfl, rfl⟩) (Nat.le_refl _) rfl (by rw [iR_stR, vun _ _ (by omega)]) (fun i hi => by omega) (by omega)
  · exact hn
  · omega
  · omega
  · exact ((e1 x (by omega)).trans (i4 x (by omega))).trans ⟨rfl, rfl, rfl, by rw [iR_stR, vun _ _ (by omega)]⟩
theorem sm_u {fs : Nat → Fc → Int32} {n : Nat} {w : Fc → Int32} {φ : Fc} : sm (fun i => va_up fs n w i φ) (n + 1) = sm (fun i => fs i φ) n + w φ := by
  rw [sm_s, vus]
  congr 1
  exact sm_c (fun k hk => by rw [vun _ _ (by omega)])
theorem sX1_sum (r : RX h T e a dp) (hd : 12 ≤ d) : WPm mX1_sum d [.ref 300] h (CpP T e a dp 45 3050 30 3000 SuV h (sumR T e a)) := by
  refine mO rfl rfl ?_
  have hn := r.2.1
  have he4 := r.e4
  have key : ∀ (f : Nat) (a1 : Nat) (g : MH) (l eD n cap : Nat) (pv : Nat → Nat) (fs : Nat → Fc → Int32) (acc : Fc → Int32), e - a1 < f → a ≤ a1 → n ≤ a1 - a → RX g T e a1 dp → Gw h g → AL g l eD n cap pv → (iR g (nn h) 0 = l ∧ kd g (nn h) = 16) → (nn h < l ∧ (eD = 18 ∨ nn h < eD)) → (∀ i, i < n → PtS g (pv i) (fs i) ∧ nn h < pv i) → (∀ φ, acc φ = sm (fun i => fs i φ) n) → nn g ≤ nn h + 2 + 60 * (a1 - a) → sU g ≤ sU h + 4 + 5500 * (a1 - a) →
      WPb mX1_sum d 8 [.ref 300, .ref (nn h)] [] g (CpP T e a dp 45 3050 30 3000 SuV h (pX (partR T e a1) (fun w a2 => sumL T e f (fun φ => acc φ + w φ) a2))) := by
    intro f
    induction f with
    | zero => intro a1 g l eD n cap pv fs acc h1; omega
    | succ f ih =>
      intro a1 g l eD n cap pv fs acc hf ha1 hna rg Gg A ⟨hl, hk⟩ ⟨hl2, he2⟩ P hacc cc1 cc2
      have hg := rg.2.1
      obtain ⟨x0, x4⟩ := rg.2.2.2.1
      apply kX1_sum_8
      try simp (disch := omega) only [tX1_sum_8, hk, hl, kd_stI, ln_stI, nn_stI, iI_stI, iR_stI, iJ_stI, sU_stI, kd_stR, ln_stR, nn_stR, iI_stR, iR_stR, iJ_stR, sU_stR, kd_stJ, ln_stJ, nn_stJ, iI_stJ, iR_stJ, iJ_stJ, sU_stJ, kd_alc, ln_alc, nn_alc, iI_alc, iR_alc, iJ_alc, sU_alc, e_const, e_lconst, e_null, e_iload, e_lload, e_aload, e_istore, e_astore, e_lstore, e_iinc, e_iadd, e_isub, e_imul, e_iand, e_ior, e_ixor, e_ishl, e_ishr, e_iushr, e_idiv, e_irem, e_ineg, e_i2l, e_i2b, e_i2c, e_lmul, e_lcmp, e_dup, e_pop, e_dup_x1, e_dup2, e_if_eq, e_icmp_eq, e_if_ne, e_icmp_ne, e_if_lt, e_icmp_lt, e_if_ge, e_icmp_ge, e_if_gt, e_icmp_gt, e_if_le, e_icmp_le, e_ifnull, e_ifnonnull, e_acmp_eq, e_acmp_ne, e_getI, e_getJ, e_getR, e_getSI, e_getSR, e_getEI, e_getER, e_putI, e_putJ, e_putR, e_iald, e_bald, e_zald, e_lald, e_aald, e_alen, e_iast, e_bast, e_zast, e_last, e_newa, e_new, e_newq, e_ret, e_vret, e_obj, e_mmax, e_mmin, e_ldcS, e_sref, e_exc, e_thr, e_stq, e_cast, e_castY, e_castA, e_instS, e_cpy, e_aast, e_cpyR, e_cln, e_gcl, e_ldcM, e_sw, swc_n, swc_c, kon_v, kon_r, kon_t, lg_0, lg_s, ls0, lay, List.length_cons, List.length_nil, List.replicate, List.cons_append, List.nil_append, ps, lp, List.set_cons_zero, List.set_cons_succ, jk, kd_hI, ln_hI, iI_hI, iR_hI, iJ_hI, nn_hI, sU_hI, stI_hI, hI_hI, K0e, and_true, true_and, rtOk, fOk, ge_iff_le, Nat.reduceLeDiff, Nat.reduceAdd, Nat.reduceSub, Nat.reduceLT, c1, lit, nN, nN2, nI_add, pk_mul, nI_clamp, vpi, nI_leI, nI_ltI, nI_eq, bP_z, not_true_eq_false, not_false_eq_true, false_implies, true_implies, implies_true, Nat.le_refl, Nat.lt_irrefl, true_or, or_true, m31, pk_sub, pk_m1, bP_1, bP_em, Classical.not_not, Nat.zero_le, cI_T, cI_F, thr_e, thr_0, thr_m, vus, vun, vuu, pk_us, e_xO, e_xC, ex_e, e_mabsN, Nat.reduceEqDiff, ↓reduceIte, pk_un]
      refine ⟨by omega, ?_⟩
      refine cl _ _ (sX1_onePart rg (by omega)) rfl rfl rfl rfl (by omega) x0 ?_
      rintro o1 g1 ⟨G1, hP⟩
      have ok := partR_ok (T := T) rg.ae
      cases hF : partR T e a1 with
      | inl b =>
        rw [hF] at hP ok
        obtain ⟨rfl, q1, q2, q3⟩ := hP
        rw [pX_l]
        try simp (disch := omega) only [kd_stI, ln_stI, nn_stI, iI_stI, iR_stI, iJ_stI, sU_stI, kd_stR, ln_stR, nn_stR, iI_stR, iR_stR, iJ_stR, sU_stR, kd_stJ, ln_stJ, nn_stJ, iI_stJ, iR_stJ, iJ_stJ, sU_stJ, kd_alc, ln_alc, nn_alc, iI_alc, iR_alc, iJ_alc, sU_alc, e_const, e_lconst, e_null, e_iload, e_lload, e_aload, e_istore, e_astore, e_lstore, e_iinc, e_iadd, e_isub, e_imul, e_iand, e_ior, e_ixor, e_ishl, e_ishr, e_iushr, e_idiv, e_irem, e_ineg, e_i2l, e_i2b, e_i2c, e_lmul, e_lcmp, e_dup, e_pop, e_dup_x1, e_dup2, e_if_eq, e_icmp_eq, e_if_ne, e_icmp_ne, e_if_lt, e_icmp_lt, e_if_ge, e_icmp_ge, e_if_gt, e_icmp_gt, e_if_le, e_icmp_le, e_ifnull, e_ifnonnull, e_acmp_eq, e_acmp_ne, e_getI, e_getJ, e_getR, e_getSI, e_getSR, e_getEI, e_getER, e_putI, e_putJ, e_putR, e_iald, e_bald, e_zald, e_lald, e_aald, e_alen, e_iast, e_bast, e_zast, e_last, e_newa, e_new, e_newq, e_ret, e_vret, e_obj, e_mmax, e_mmin, e_ldcS, e_sref, e_exc, e_thr, e_stq, e_cast, e_castY, e_castA, e_instS, e_cpy, e_aast, e_cpyR, e_cln, e_gcl, e_ldcM, e_sw, swc_n, swc_c, kon_v, kon_r, kon_t, lg_0, lg_s, ls0, lay, List.length_cons, List.length_nil, List.replicate, List.cons_append, List.nil_append, ps, lp, List.set_cons_zero, List.set_cons_succ, jk, kd_hI, ln_hI, iI_hI, iR_hI, iJ_hI, nn_hI, sU_hI, stI_hI, hI_hI, K0e, and_true, true_and, rtOk, fOk, ge_iff_le, Nat.reduceLeDiff, Nat.reduceAdd, Nat.reduceSub, Nat.reduceLT, c1, lit, nN, nN2, nI_add, pk_mul, nI_clamp, vpi, nI_leI, nI_ltI, nI_eq, bP_z, not_true_eq_false, not_false_eq_true, false_implies, true_implies, implies_true, Nat.le_refl, Nat.lt_irrefl, true_or, or_true, m31, pk_sub, pk_m1, bP_1, bP_em, Classical.not_not, Nat.zero_le, cI_T, cI_F, thr_e, thr_0, thr_m, vus, vun, vuu, pk_us, e_xO, e_xC, ex_e, e_mabsN, Nat.reduceEqDiff, ↓reduceIte, pk_un]
        have := rg.ae
        exact ⟨Gg.trans G1, rfl, q1, by omega, by omega⟩
      | inr w =>
        rw [hF] at hP ok
        obtain ⟨p, rfl, r1, ⟨v1, v2, v3⟩, q2, q3⟩ := hP
        have ok : a1 < w.2 ∧ w.2 ≤ e := ok
        have hl3 := skl (T := T) ok.2
        rw [pX_r, sumL_s]
        have A1 := A.gw G1 hg (by omega) (by omega)
        have hlt := A.1.2.2
        have g1n := G1.1.1
        have hle : l ≠ eD := fun q => by have q1 := A.1.1; rw [q, A.2.2.2.1.1] at q1; omega
        try simp (disch := omega) only [kd_stI, ln_stI, nn_stI, iI_stI, iR_stI, iJ_stI, sU_stI, kd_stR, ln_stR, nn_stR, iI_stR, iR_stR, iJ_stR, sU_stR, kd_stJ, ln_stJ, nn_stJ, iI_stJ, iR_stJ, iJ_stJ, sU_stJ, kd_alc, ln_alc, nn_alc, iI_alc, iR_alc, iJ_alc, sU_alc, e_const, e_lconst, e_null, e_iload, e_lload, e_aload, e_istore, e_astore, e_lstore, e_iinc, e_iadd, e_isub, e_imul, e_iand, e_ior, e_ixor, e_ishl, e_ishr, e_iushr, e_idiv, e_irem, e_ineg, e_i2l, e_i2b, e_i2c, e_lmul, e_lcmp, e_dup, e_pop, e_dup_x1, e_dup2, e_if_eq, e_icmp_eq, e_if_ne, e_icmp_ne, e_if_lt, e_icmp_lt, e_if_ge, e_icmp_ge, e_if_gt, e_icmp_gt, e_if_le, e_icmp_le, e_ifnull, e_ifnonnull, e_acmp_eq, e_acmp_ne, e_getI, e_getJ, e_getR, e_getSI, e_getSR, e_getEI, e_getER, e_putI, e_putJ, e_putR, e_iald, e_bald, e_zald, e_lald, e_aald, e_alen, e_iast, e_bast, e_zast, e_last, e_newa, e_new, e_newq, e_ret, e_vret, e_obj, e_mmax, e_mmin, e_ldcS, e_sref, e_exc, e_thr, e_stq, e_cast, e_castY, e_castA, e_instS, e_cpy, e_aast, e_cpyR, e_cln, e_gcl, e_ldcM, e_sw, swc_n, swc_c, kon_v, kon_r, kon_t, lg_0, lg_s, ls0, lay, List.length_cons, List.length_nil, List.replicate, List.cons_append, List.nil_append, ps, lp, List.set_cons_zero, List.set_cons_succ, jk, kd_hI, ln_hI, iI_hI, iR_hI, iJ_hI, nn_hI, sU_hI, stI_hI, hI_hI, K0e, and_true, true_and, rtOk, fOk, ge_iff_le, Nat.reduceLeDiff, Nat.reduceAdd, Nat.reduceSub, Nat.reduceLT, c1, lit, nN, nN2, nI_add, pk_mul, nI_clamp, vpi, nI_leI, nI_ltI, nI_eq, bP_z, not_true_eq_false, not_false_eq_true, false_implies, true_implies, implies_true, Nat.le_refl, Nat.lt_irrefl, true_or, or_true, m31, pk_sub, pk_m1, bP_1, bP_em, Classical.not_not, Nat.zero_le, cI_T, cI_F, thr_e, thr_0, thr_m, vus, vun, vuu, pk_us, e_xO, e_xC, ex_e, e_mabsN, Nat.reduceEqDiff, ↓reduceIte, pk_un]
        refine cl _ _ (sJ2_add (d := d - 1) (h := g1) A1 (by omega) (by omega) (by omega) hle (x := p) ⟨by omega, v2, by rw [v3.1]; rfl⟩) rfl rfl rfl rfl (by omega) A1.1.1 ?_
        rintro _ g2 ⟨rfl, ad⟩
        have G2 : Gw h g2 := (Gg.trans G1).ad hn ad (by omega) (by omega)
        obtain ⟨⟨b1, b2, b3, b4⟩, ⟨e', c', A2, he'⟩, sm2, b5, b6, b7⟩ := ad
        have s349 : Same g1 g2 349 := sm2.same (by omega) (ct2' (by omega) (by omega))
        have r2 : RX g2 T e w.2 dp := r.gw G2 (by rw [s349.2.2.1]; exact r1.1.2.2.1.1) ok.2 (by rw [s349.2.2.1]; exact r1.1.2.2.2.1)
        obtain ⟨y0, y4⟩ := r2.2.2.2.1
        try simp (disch := omega) only [y0, y4, kd_stI, ln_stI, nn_stI, iI_stI, iR_stI, iJ_stI, sU_stI, kd_stR, ln_stR, nn_stR, iI_stR, iR_stR, iJ_stR, sU_stR, kd_stJ, ln_stJ, nn_stJ, iI_stJ, iR_stJ, iJ_stJ, sU_stJ, kd_alc, ln_alc, nn_alc, iI_alc, iR_alc, iJ_alc, sU_alc, e_const, e_lconst, e_null, e_iload, e_lload, e_aload, e_istore, e_astore, e_lstore, e_iinc, e_iadd, e_isub, e_imul, e_iand, e_ior, e_ixor, e_ishl, e_ishr, e_iushr, e_idiv, e_irem, e_ineg, e_i2l, e_i2b, e_i2c, e_lmul, e_lcmp, e_dup, e_pop, e_dup_x1, e_dup2, e_if_eq, e_icmp_eq, e_if_ne, e_icmp_ne, e_if_lt, e_icmp_lt, e_if_ge, e_icmp_ge, e_if_gt, e_icmp_gt, e_if_le, e_icmp_le, e_ifnull, e_ifnonnull, e_acmp_eq, e_acmp_ne, e_getI, e_getJ, e_getR, e_getSI, e_getSR, e_getEI, e_getER, e_putI, e_putJ, e_putR, e_iald, e_bald, e_zald, e_lald, e_aald, e_alen, e_iast, e_bast, e_zast, e_last, e_newa, e_new, e_newq, e_ret, e_vret, e_obj, e_mmax, e_mmin, e_ldcS, e_sref, e_exc, e_thr, e_stq, e_cast, e_castY, e_castA, e_instS, e_cpy, e_aast, e_cpyR, e_cln, e_gcl, e_ldcM, e_sw, swc_n, swc_c, kon_v, kon_r, kon_t, lg_0, lg_s, ls0, lay, List.length_cons, List.length_nil, List.replicate, List.cons_append, List.nil_append, ps, lp, List.set_cons_zero, List.set_cons_succ, jk, kd_hI, ln_hI, iI_hI, iR_hI, iJ_hI, nn_hI, sU_hI, stI_hI, hI_hI, K0e, and_true, true_and, rtOk, fOk, ge_iff_le, Nat.reduceLeDiff, Nat.reduceAdd, Nat.reduceSub, Nat.reduceLT, c1, lit, nN, nN2, nI_add, pk_mul, nI_clamp, vpi, nI_leI, nI_ltI, nI_eq, bP_z, not_true_eq_false, not_false_eq_true, false_implies, true_implies, implies_true, Nat.le_refl, Nat.lt_irrefl, true_or, or_true, m31, pk_sub, pk_m1, bP_1, bP_em, Classical.not_not, Nat.zero_le, cI_T, cI_F, thr_e, thr_0, thr_m, vus, vun, vuu, pk_us, e_xO, e_xC, ex_e, e_mabsN, Nat.reduceEqDiff, ↓reduceIte, pk_un]
        refine cR (sX3_sign r2.1 (by omega) (c := 43) (by omega)) rfl rfl rfl rfl (by omega) r2.k3 ?_
        have P2 : ∀ i, i < n + 1 → PtS g2 (va_up pv n p i) (va_up fs n w.1 i) ∧ nn h < va_up pv n p i := by
          intro i hi
          have ne2 : ∀ x, kd g1 x = 17 → x ≠ l ∧ x ≠ eD := fun x hx => ⟨fun q => by have q1 := A1.1.1; rw [← q, hx] at q1; omega, fun q => by have q1 := A1.2.2.2.1.1; rw [← q, hx] at q1; omega⟩
          by_cases z : i = n
          · rw [z, vus, vus]
            have ne3 := ne2 p v3.1
            exact ⟨v3.sm (sm2.same v2 (ct2' ne3.1 ne3.2)), by omega⟩
          · rw [vun _ _ z, vun _ _ z]
            obtain ⟨z1, z2⟩ := P i (by omega)
            have z3 := (A.2.2.2.2.2.2 i (by omega)).2.2.1
            have z4 := z1.sm (G1.2.1 (pv i) z3 (by have := z1.2.1; omega))
            have ne3 := ne2 _ z4.1
            exact ⟨z4.sm (sm2.same (by omega) (ct2' ne3.1 ne3.2)), z2⟩
        have hsn : Same g1 g2 (nn h) := by
          refine sm2.same (by omega) (ct2' (by omega) ?_)
          omega
        have hk2 : iR g2 (nn h) 0 = l ∧ kd g2 (nn h) = 16 := by
          have q1 := G1.2.1 (nn h) (by omega) (by omega)
          rw [hsn.2.2.2, hsn.1, q1.2.2.2, q1.1]; exact ⟨hl, hk⟩
        have hacc2 : ∀ φ, acc φ + w.1 φ = sm (fun i => va_up fs n w.1 i φ) (n + 1) := fun φ => by rw [sm_u, hacc]
        by_cases z : sgP T e w.2 43
        · rw [dI_t z, dI_t z, bP_t z]
          have z1 : sk T e w.2 + 1 ≤ e := z.1
          try simp (disch := omega) only [Nat.reduceEqDiff, kd_stI, ln_stI, nn_stI, iI_stI, iR_stI, iJ_stI, sU_stI, kd_stR, ln_stR, nn_stR, iI_stR, iR_stR, iJ_stR, sU_stR, kd_stJ, ln_stJ, nn_stJ, iI_stJ, iR_stJ, iJ_stJ, sU_stJ, kd_alc, ln_alc, nn_alc, iI_alc, iR_alc, iJ_alc, sU_alc, e_const, e_lconst, e_null, e_iload, e_lload, e_aload, e_istore, e_astore, e_lstore, e_iinc, e_iadd, e_isub, e_imul, e_iand, e_ior, e_ixor, e_ishl, e_ishr, e_iushr, e_idiv, e_irem, e_ineg, e_i2l, e_i2b, e_i2c, e_lmul, e_lcmp, e_dup, e_pop, e_dup_x1, e_dup2, e_if_eq, e_icmp_eq, e_if_ne, e_icmp_ne, e_if_lt, e_icmp_lt, e_if_ge, e_icmp_ge, e_if_gt, e_icmp_gt, e_if_le, e_icmp_le, e_ifnull, e_ifnonnull, e_acmp_eq, e_acmp_ne, e_getI, e_getJ, e_getR, e_getSI, e_getSR, e_getEI, e_getER, e_putI, e_putJ, e_putR, e_iald, e_bald, e_zald, e_lald, e_aald, e_alen, e_iast, e_bast, e_zast, e_last, e_newa, e_new, e_newq, e_ret, e_vret, e_obj, e_mmax, e_mmin, e_ldcS, e_sref, e_exc, e_thr, e_stq, e_cast, e_castY, e_castA, e_instS, e_cpy, e_aast, e_cpyR, e_cln, e_gcl, e_ldcM, e_sw, swc_n, swc_c, kon_v, kon_r, kon_t, lg_0, lg_s, ls0, lay, List.length_cons, List.length_nil, List.replicate, List.cons_append, List.nil_append, ps, lp, List.set_cons_zero, List.set_cons_succ, jk, kd_hI, ln_hI, iI_hI, iR_hI, iJ_hI, nn_hI, sU_hI, stI_hI, hI_hI, K0e, and_true, true_and, rtOk, fOk, ge_iff_le, Nat.reduceLeDiff, Nat.reduceAdd, Nat.reduceSub, Nat.reduceLT, c1, lit, nN, nN2, nI_add, pk_mul, nI_clamp, vpi, nI_leI, nI_ltI, nI_eq, bP_z, not_true_eq_false, not_false_eq_true, false_implies, true_implies, implies_true, Nat.le_refl, Nat.lt_irrefl, true_or, or_true, m31, pk_sub, pk_m1, bP_1, bP_em, Classical.not_not, Nat.zero_le, cI_T, cI_F, thr_e, thr_0, thr_m, vus, vun, vuu, pk_us, e_xO, e_xC, ex_e, e_mabsN, Nat.reduceEqDiff, ↓reduceIte, pk_un]
          have G3 := G2.trans (Gw.rd g2 (sk T e w.2 + 1) (sk T e w.2))
          refine ih (sk T e w.2 + 1) _ l e' (n + 1) c' _ _ _ (by omega) (by omega) (by omega) (r2.rw z1 (Rw.rd _ _)) G3 (A2.gw (Gw.rd g2 _ _) (by omega) (by omega) (by omega)) hk2 ⟨hl2, by omega⟩ (fun i hi => ?_) hacc2 (by rw [rdH_nn]; omega) (by rw [rdH_sU]; omega)
          obtain ⟨y1, y2⟩ := P2 i hi
          exact ⟨y1.sm (rdHs _ _ _ (by have := y1.2.1; omega)), y2⟩
        · rw [dI_f z, dI_f z, bP_f z]
          try simp (disch := omega) only [Nat.reduceEqDiff, kd_stI, ln_stI, nn_stI, iI_stI, iR_stI, iJ_stI, sU_stI, kd_stR, ln_stR, nn_stR, iI_stR, iR_stR, iJ_stR, sU_stR, kd_stJ, ln_stJ, nn_stJ, iI_stJ, iR_stJ, iJ_stJ, sU_stJ, kd_alc, ln_alc, nn_alc, iI_alc, iR_alc, iJ_alc, sU_alc, e_const, e_lconst, e_null, e_iload, e_lload, e_aload, e_istore, e_astore, e_lstore, e_iinc, e_iadd, e_isub, e_imul, e_iand, e_ior, e_ixor, e_ishl, e_ishr, e_iushr, e_idiv, e_irem, e_ineg, e_i2l, e_i2b, e_i2c, e_lmul, e_lcmp, e_dup, e_pop, e_dup_x1, e_dup2, e_if_eq, e_icmp_eq, e_if_ne, e_icmp_ne, e_if_lt, e_icmp_lt, e_if_ge, e_icmp_ge, e_if_gt, e_icmp_gt, e_if_le, e_icmp_le, e_ifnull, e_ifnonnull, e_acmp_eq, e_acmp_ne, e_getI, e_getJ, e_getR, e_getSI, e_getSR, e_getEI, e_getER, e_putI, e_putJ, e_putR, e_iald, e_bald, e_zald, e_lald, e_aald, e_alen, e_iast, e_bast, e_zast, e_last, e_newa, e_new, e_newq, e_ret, e_vret, e_obj, e_mmax, e_mmin, e_ldcS, e_sref, e_exc, e_thr, e_stq, e_cast, e_castY, e_castA, e_instS, e_cpy, e_aast, e_cpyR, e_cln, e_gcl, e_ldcM, e_sw, swc_n, swc_c, kon_v, kon_r, kon_t, lg_0, lg_s, ls0, lay, List.length_cons, List.length_nil, List.replicate, List.cons_append, List.nil_append, ps, lp, List.set_cons_zero, List.set_cons_succ, jk, kd_hI, ln_hI, iI_hI, iR_hI, iJ_hI, nn_hI, sU_hI, stI_hI, hI_hI, K0e, and_true, true_and, rtOk, fOk, ge_iff_le, Nat.reduceLeDiff, Nat.reduceAdd, Nat.reduceSub, Nat.reduceLT, c1, lit, nN, nN2, nI_add, pk_mul, nI_clamp, vpi, nI_leI, nI_ltI, nI_eq, bP_z, not_true_eq_false, not_false_eq_true, false_implies, true_implies, implies_true, Nat.le_refl, Nat.lt_irrefl, true_or, or_true, m31, pk_sub, pk_m1, bP_1, bP_em, Classical.not_not, Nat.zero_le, cI_T, cI_F, thr_e, thr_0, thr_m, vus, vun, vuu, pk_us, e_xO, e_xC, ex_e, e_mabsN, Nat.reduceEqDiff, ↓reduceIte, pk_un]
          have G3 := G2.trans (Gw.rd g2 (sk T e w.2) (sk T e w.2))
          have r3 := r2.rw hl3.2 (Rw.rd (sk T e w.2) (sk T e w.2))
          have A3 : AL (rdH g2 (sk T e w.2) (sk T e w.2)) l e' (n + 1) c' (va_up pv n p) := A2.gw (Gw.rd g2 _ _) (by omega) (by omega) (by omega)
          have le' : e' < nn g2 := by
            obtain ⟨_, _, _, _, _, q, _⟩ := A2
            omega
          refine ⟨G3, nn h, rfl, r3, ?_, by show nn g2 + 45 ≤ nn h + 60 * (sk T e w.2 - a); omega, by show sU g2 + 3050 ≤ sU h + 5500 * (sk T e w.2 - a); omega⟩
          have AWw := A3.w (by omega) (by omega)
          refine SuS.mk (l := l) (eD := e') (n := n + 1) (v := va_up pv n p) (fs := va_up fs n w.1) r3.2.2.1.2.1 hk2.2 ⟨Nat.le_refl _, by rw [rdH_nn]; omega, hn⟩ hk2.1 AWw ⟨by omega, by rw [rdH_nn]; omega⟩ ⟨?_, by rw [rdH_nn]; exact le'⟩ (fun i hi => ?_) hacc2
          · rcases he' with q | q
            · rw [q]
              have := AWw.2.2.2.1.2
              omega
            · omega
          · obtain ⟨y1, y2⟩ := P2 i hi
            exact ⟨y1.sm (rdHs _ _ _ (by have := y1.2.1; omega)), by omega, by rw [rdH_nn]; exact (A2.2.2.2.2.2.2 i hi).2.2.1⟩
  apply kX1_sum_0
  try simp (disch := omega) only [tX1_sum_0, kd_stI, ln_stI, nn_stI, iI_stI, iR_stI, iJ_stI, sU_stI, kd_stR, ln_stR, nn_stR, iI_stR, iR_stR, iJ_stR, sU_stR, kd_stJ, ln_stJ, nn_stJ, iI_stJ, iR_stJ, iJ_stJ, sU_stJ, kd_alc, ln_alc, nn_alc, iI_alc, iR_alc, iJ_alc, sU_alc, e_const, e_lconst, e_null, e_iload, e_lload, e_aload, e_istore, e_astore, e_lstore, e_iinc, e_iadd, e_isub, e_imul, e_iand, e_ior, e_ixor, e_ishl, e_ishr, e_iushr, e_idiv, e_irem, e_ineg, e_i2l, e_i2b, e_i2c, e_lmul, e_lcmp, e_dup, e_pop, e_dup_x1, e_dup2, e_if_eq, e_icmp_eq, e_if_ne, e_icmp_ne, e_if_lt, e_icmp_lt, e_if_ge, e_icmp_ge, e_if_gt, e_icmp_gt, e_if_le, e_icmp_le, e_ifnull, e_ifnonnull, e_acmp_eq, e_acmp_ne, e_getI, e_getJ, e_getR, e_getSI, e_getSR, e_getEI, e_getER, e_putI, e_putJ, e_putR, e_iald, e_bald, e_zald, e_lald, e_aald, e_alen, e_iast, e_bast, e_zast, e_last, e_newa, e_new, e_newq, e_ret, e_vret, e_obj, e_mmax, e_mmin, e_ldcS, e_sref, e_exc, e_thr, e_stq, e_cast, e_castY, e_castA, e_instS, e_cpy, e_aast, e_cpyR, e_cln, e_gcl, e_ldcM, e_sw, swc_n, swc_c, kon_v, kon_r, kon_t, lg_0, lg_s, ls0, lay, List.length_cons, List.length_nil, List.replicate, List.cons_append, List.nil_append, ps, lp, List.set_cons_zero, List.set_cons_succ, jk, kd_hI, ln_hI, iI_hI, iR_hI, iJ_hI, nn_hI, sU_hI, stI_hI, hI_hI, K0e, and_true, true_and, rtOk, fOk, ge_iff_le, Nat.reduceLeDiff, Nat.reduceAdd, Nat.reduceSub, Nat.reduceLT, c1, lit, nN, nN2, nI_add, pk_mul, nI_clamp, vpi, nI_leI, nI_ltI, nI_eq, bP_z, not_true_eq_false, not_false_eq_true, false_implies, true_implies, implies_true, Nat.le_refl, Nat.lt_irrefl, true_or, or_true, m31, pk_sub, pk_m1, bP_1, bP_em, Classical.not_not, Nat.zero_le, cI_T, cI_F, thr_e, thr_0, thr_m, vus, vun, vuu, pk_us, e_xO, e_xC, ex_e, e_mabsN, Nat.reduceEqDiff, ↓reduceIte, pk_un]
  generalize hg : alc h 16 0 1 z32 zN z64 = g
  have e1 : ∀ x, x < nn h → Same h g x := fun x hx => by
    subst hg
    have z : x ≠ nn h := by omega
    exact ⟨va_up_ne _ _ z, va_up_ne _ _ z, va_up_ne _ _ z, va_up_ne _ _ z⟩
  have g1 : kd g (nn h) = 16 := by subst hg; exact va_up_self _ _ _
  have n1 : nn g = nn h + 1 := by subst hg; rfl
  have s1 : sU g = sU h + 1 := by subst hg; rfl
  have h18 := r.2.2.1.2.2.1
  refine cl _ _ (sX16_init (h := g) (s := nn h) (d := d - 1) g1 hn n1 (by rw [(e1 18 (by omega)).1, (e1 18 (by omega)).2.1]; exact h18) (by omega) (fun _ => 0)) rfl rfl rfl rfl (by omega) (show 0 < nn h by omega) ?_
  rintro _ h2 ⟨rfl, i1, i2, i3, i4, i5, i6⟩
  try simp (disch := omega) only [kd_stI, ln_stI, nn_stI, iI_stI, iR_stI, iJ_stI, sU_stI, kd_stR, ln_stR, nn_stR, iI_stR, iR_stR, iJ_stR, sU_stR, kd_stJ, ln_stJ, nn_stJ, iI_stJ, iR_stJ, iJ_stJ, sU_stJ, kd_alc, ln_alc, nn_alc, iI_alc, iR_alc, iJ_alc, sU_alc, e_const, e_lconst, e_null, e_iload, e_lload, e_aload, e_istore, e_astore, e_lstore, e_iinc, e_iadd, e_isub, e_imul, e_iand, e_ior, e_ixor, e_ishl, e_ishr, e_iushr, e_idiv, e_irem, e_ineg, e_i2l, e_i2b, e_i2c, e_lmul, e_lcmp, e_dup, e_pop, e_dup_x1, e_dup2, e_if_eq, e_icmp_eq, e_if_ne, e_icmp_ne, e_if_lt, e_icmp_lt, e_if_ge, e_icmp_ge, e_if_gt, e_icmp_gt, e_if_le, e_icmp_le, e_ifnull, e_ifnonnull, e_acmp_eq, e_acmp_ne, e_getI, e_getJ, e_getR, e_getSI, e_getSR, e_getEI, e_getER, e_putI, e_putJ, e_putR, e_iald, e_bald, e_zald, e_lald, e_aald, e_alen, e_iast, e_bast, e_zast, e_last, e_newa, e_new, e_newq, e_ret, e_vret, e_obj, e_mmax, e_mmin, e_ldcS, e_sref, e_exc, e_thr, e_stq, e_cast, e_castY, e_castA, e_instS, e_cpy, e_aast, e_cpyR, e_cln, e_gcl, e_ldcM, e_sw, swc_n, swc_c, kon_v, kon_r, kon_t, lg_0, lg_s, ls0, lay, List.length_cons, List.length_nil, List.replicate, List.cons_append, List.nil_append, ps, lp, List.set_cons_zero, List.set_cons_succ, jk, kd_hI, ln_hI, iI_hI, iR_hI, iJ_hI, nn_hI, sU_hI, stI_hI, hI_hI, K0e, and_true, true_and, rtOk, fOk, ge_iff_le, Nat.reduceLeDiff, Nat.reduceAdd, Nat.reduceSub, Nat.reduceLT, c1, lit, nN, nN2, nI_add, pk_mul, nI_clamp, vpi, nI_leI, nI_ltI, nI_eq, bP_z, not_true_eq_false, not_false_eq_true, false_implies, true_implies, implies_true, Nat.le_refl, Nat.lt_irrefl, true_or, or_true, m31, pk_sub, pk_m1, bP_1, bP_em, Classical.not_not, Nat.zero_le, cI_T, cI_F, thr_e, thr_0, thr_m, vus, vun, vuu, pk_us, e_xO, e_xC, ex_e, e_mabsN, Nat.reduceEqDiff, ↓reduceIte, pk_un]
  have G1 : Gw h h2 := Gw.nw hn (fun x hx => (e1 x hx).trans (i6 x hx)) (by omega) (by omega)
  have r1 := r.nw (fun x hx => (e1 x hx).trans (i6 x hx)) (by omega) (by omega)
  have := key (e + 1) a h2 (nn h + 1) 18 0 0 (fun _ => 0) (fun _ _ => nI 0) (fun _ => nI 0) (by omega) (Nat.le_refl _) (by omega) r1 G1 i1 ⟨i2, i3⟩ ⟨by omega, Or.inl rfl⟩ (fun i hi => by omega) (fun φ => rfl) (by omega) (by omega)
  have e0 : (fun (w : Fc → Int32) a2 => sumL T e (e + 1) (fun φ => nI 0 + w φ) a2) = (fun w a2 => sumL T e (e + 1) w a2) := by
    funext w a2
    congr 1
    funext φ
    rw [nI_0, Int32.zero_add]
  rw [e0] at this
  exact this
end
