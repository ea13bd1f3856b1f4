/-! THE LAW is read by the component: what is new -/
set_option maxRecDepth 100000
/-- new cells, and the reader's place -/
def Gw (h h1 : MH) : Prop := (nn h ≤ nn h1 ∧ sU h ≤ sU h1) ∧ (∀ x, x < nn h → x ≠ 349 → Same h h1 x) ∧ (kd h1 349 = kd h 349 ∧ ln h1 349 = ln h 349 ∧ iR h1 349 = iR h 349) ∧ ∀ k, k ≠ 3 → k ≠ 4 → k ≠ 6 → iI h1 349 k = iI h 349 k
theorem Gw.refl (h : MH) : Gw h h := ⟨⟨Nat.le_refl _, Nat.le_refl _⟩, fun x _ _ => Same.refl h x, ⟨rfl, rfl, rfl⟩, fun _ _ _ _ => rfl⟩
theorem Gw.trans {h h1 h2 : MH} (a : Gw h h1) (b : Gw h1 h2) : Gw h h2 := by
  obtain ⟨⟨a1, a2⟩, a3, ⟨a4, a5, a6⟩, a7⟩ := a
  obtain ⟨⟨b1, b2⟩, b3, ⟨b4, b5, b6⟩, b7⟩ := b
  exact ⟨⟨by omega, by omega⟩, fun x hx hne => (a3 x hx hne).trans (b3 x (by omega) hne), ⟨b4.trans a4, b5.trans a5, b6.trans a6⟩, fun k h1 h2 h3 => (b7 k h1 h2 h3).trans (a7 k h1 h2 h3)⟩
theorem Gw.rd (h : MH) (a b : Nat) : Gw h (rdH h a b) := by
  refine ⟨⟨Nat.le_refl _, Nat.le_refl _⟩, fun x hx hne => rdHs a b x hne, ⟨rfl, rfl, rfl⟩, fun k h1 h2 h3 => ?_⟩
  unfold rdH
  rw [iI_stI, vus, pk_un h2, pk_un h1]
/-- cells that are new alone -/
theorem Gw.nw {h h1 : MH} (hn : 396 ≤ nn h) (e : ∀ x, x < nn h → Same h h1 x) (n1 : nn h ≤ nn h1) (s1 : sU h ≤ sU h1) : Gw h h1 :=
  ⟨⟨n1, s1⟩, fun x hx _ => e x hx, ⟨(e 349 (by omega)).1, (e 349 (by omega)).2.1, (e 349 (by omega)).2.2.2⟩, fun k _ _ _ => by rw [(e 349 (by omega)).2.2.1]⟩
theorem Gw.rw {h h1 : MH} {c s a b : Nat} (hn : 396 ≤ nn h) (w : Rw c s h h1 a b) : Gw h h1 := (Gw.rd h a b).trans (Gw.nw (h := rdH h a b) hn (fun x hx => w.2 x hx) w.1.1 w.1.2.2.1)
theorem Gw.al {h : MH} (hn : 396 ≤ nn h) (k n u : Nat) (f : Nat → Int32) (g : Nat → Nat) (j : Nat → Int64) : Gw h (alc h k n u f g j) := Gw.nw hn (fun x hx => by
  have z : x ≠ nn h := by omega
  exact ⟨va_up_ne _ _ z, va_up_ne _ _ z, va_up_ne _ _ z, va_up_ne _ _ z⟩) (Nat.le_succ _) (Nat.le_add_right _ _)
/-- a new cell is written -/
theorem Gw.stI {h h1 : MH} (w : Gw h h1) {a : Nat} (ha : nn h ≤ a) (h3 : 396 ≤ nn h) (f : Nat → Int32) : Gw h (stI h1 a f) := by
  obtain ⟨a1, a3, a4, a7⟩ := w
  exact ⟨a1, fun x hx hne => (a3 x hx hne).trans ⟨rfl, rfl, by rw [iI_stI, vun _ _ (by omega)], rfl⟩, a4, fun k h1 h2 h3 => by rw [iI_stI, vun _ _ (by omega)]; exact a7 k h1 h2 h3⟩
theorem Gw.stR {h h1 : MH} (w : Gw h h1) {a : Nat} (ha : nn h ≤ a) (h3 : 396 ≤ nn h) (f : Nat → Nat) : Gw h (stR h1 a f) := by
  obtain ⟨a1, a3, ⟨a4, a5, a6⟩, a7⟩ := w
  exact ⟨a1, fun x hx hne => (a3 x hx hne).trans ⟨rfl, rfl, rfl, by rw [iR_stR, vun _ _ (by omega)]⟩, ⟨a4, a5, by rw [iR_stR, vun _ _ (by omega)]; exact a6⟩, fun k h1 h2 h3 => by rw [iI_stR]; exact a7 k h1 h2 h3⟩
section
variable {h h1 : MH} {d : Nat} {T : Nat → Int32} {e a dp : Nat}
theorem RX.gw (r : RX h T e a dp) (w : Gw h h1) {a' dp' : Nat} (h3 : iI h1 349 3 = nI a') (ha : a' ≤ e) (h6 : iI h1 349 6 = nI dp') : RX h1 T e a' dp' := by
  obtain ⟨r1, r2, r3, r4, r5⟩ := r
  obtain ⟨⟨a1, a2⟩, a3, ⟨a4, a5, a6⟩, a7⟩ := w
  have e5 := a3 350 (by omega) (by omega)
  have e30 := a3 300 (by omega) (by omega)
  refine ⟨?_, by omega, r3.sm (fun a ha => a3 a (by omega) (by omega)), ⟨by rw [e30.1]; exact r4.1, by rw [e30.2.2.2]; exact r4.2⟩, by rw [(a3 351 (by omega) (by omega)).1]; exact r5⟩
  obtain ⟨⟨x1, x2, x3, x4⟩, ⟨x5, x6⟩, ⟨x7, x8⟩, x9, x10, x11⟩ := r1
  exact ⟨⟨by rw [a4]; exact x1, by rw [a6]; exact x2, by rw [e5.1]; exact x3, by rw [e5.2.1]; exact x4⟩, ⟨by rw [a7 2 (by omega) (by omega) (by omega)]; exact x5, x6⟩, ⟨h3, ha⟩, h6, fun k hk => by rw [e5.2.2.1]; exact x10 k hk, x11⟩
/-- new cells leave the reader as it was -/
theorem RX.nw (r : RX h T e a dp) (e1 : ∀ x, x < nn h → Same h h1 x) (n1 : nn h ≤ nn h1) (s1 : sU h ≤ sU h1) : RX h1 T e a dp := by
  have e3 := e1 349 (by have := r.2.1; omega)
  exact r.gw (Gw.nw r.2.1 e1 n1 s1) (by rw [e3.2.2.1]; exact r.1.2.2.1.1) r.1.2.2.1.2 (by rw [e3.2.2.1]; exact r.1.2.2.2.1)
theorem RX.ge (r : RX h T e a dp) : 396 ≤ nn h := r.2.1
theorem RX.ae (r : RX h T e a dp) : a ≤ e := r.1.2.2.1.2
theorem RX.e4 (r : RX h T e a dp) : e ≤ 400 := r.1.2.1.2
/-- what a reading of the component gives; costs: so much is left of 60 cells and 5500 slots a byte -/
def CpP {α : Type} (T : Nat → Int32) (e a dp : Nat) (rc rs fc fs : Nat) (V : MH → MH → α → Nat → Prop) (h : MH) (r : PR α) (o : Outcome) (h1 : MH) : Prop := Gw h h1 ∧ match r with
  | .inl b => o = .threw 9 ∧ iI h1 349 4 = nI b ∧ nn h1 ≤ nn h + 60 * (e - a) + fc ∧ sU h1 ≤ sU h + 5500 * (e - a) + fs
  | .inr z => ∃ p, o = .returned (some (.ref p)) ∧ RX h1 T e z.2 dp ∧ V h h1 z.1 p ∧ nn h1 + rc ≤ nn h + 60 * (z.2 - a) ∧ sU h1 + rs ≤ sU h + 5500 * (z.2 - a)
/-- a new list -/
theorem sJ2_init {l : Nat} (k : kd h l = 22) (hl : 300 ≤ l) (hn : nn h = l + 1) (hi : iI h l = z32) (h18 : kd h 18 = 54 ∧ ln h 18 = 0) (hd : 3 ≤ d) (v : Nat → Nat) : WPm mJ2_init d [.ref l] h (fun o h1 => o = .returned none ∧ AL h1 l 18 0 0 v ∧ nn h1 = nn h ∧ sU h1 = sU h ∧ (∀ x, x ≠ l → Same h h1 x) ∧ kd h1 l = 22) := by
  refine mO rfl rfl ?_
  apply kJ2_init_0
  try simp (disch := omega) only [tJ2_init_0, kd_stI, ln_stI, nn_stI, iI_stI, iR_stI, iJ_stI, sU_stI, kd_stR, ln_stR, nn_stR, iI_stR, iR_stR, iJ_stR, sU_stR, kd_stJ, ln_stJ, nn_stJ, iI_stJ, iR_stJ, iJ_stJ, sU_stJ, kd_alc, ln_alc, nn_alc, iI_alc, iR_alc, iJ_alc, sU_alc, e_const, e_lconst, e_null, e_iload, e_lload, e_aload, e_istore, e_astore, e_lstore, e_iinc, e_iadd, e_isub, e_imul, e_iand, e_ior, e_ixor, e_ishl, e_ishr, e_iushr, e_idiv, e_irem, e_ineg, e_i2l, e_i2b, e_i2c, e_lmul, e_lcmp, e_dup, e_pop, e_dup_x1, e_dup2, e_if_eq, e_icmp_eq, e_if_ne, e_icmp_ne, e_if_lt, e_icmp_lt, e_if_ge, e_icmp_ge, e_if_gt, e_icmp_gt, e_if_le, e_icmp_le, e_ifnull, e_ifnonnull, e_acmp_eq, e_acmp_ne, e_getI, e_getJ, e_getR, e_getSI, e_getSR, e_getEI, e_getER, e_putI, e_putJ, e_putR, e_iald, e_bald, e_zald, e_lald, e_aald, e_alen, e_iast, e_bast, e_zast, e_last, e_newa, e_new, e_newq, e_ret, e_vret, e_obj, e_mmax, e_mmin, e_ldcS, e_sref, e_exc, e_thr, e_stq, e_cast, e_castY, e_castA, e_instS, e_cpy, e_aast, e_cpyR, e_cln, e_gcl, e_ldcM, e_sw, swc_n, swc_c, kon_v, kon_r, kon_t, lg_0, lg_s, ls0, lay, List.length_cons, List.length_nil, List.replicate, List.cons_append, List.nil_append, ps, lp, List.set_cons_zero, List.set_cons_succ, jk, kd_hI, ln_hI, iI_hI, iR_hI, iJ_hI, nn_hI, sU_hI, stI_hI, hI_hI, K0e, and_true, true_and, rtOk, fOk, ge_iff_le, Nat.reduceLeDiff, Nat.reduceAdd, Nat.reduceSub, Nat.reduceLT, c1, lit, nN, nN2, nI_add, pk_mul, nI_clamp, vpi, nI_leI, nI_ltI, nI_eq, bP_z, not_true_eq_false, not_false_eq_true, false_implies, true_implies, implies_true, Nat.le_refl, Nat.lt_irrefl, true_or, or_true, m31, pk_sub, pk_m1, bP_1, bP_em, Classical.not_not, Nat.zero_le, cI_T, cI_F, thr_e, thr_0, thr_m, vus, vun, vuu, pk_us, e_xO, e_xC, ex_e, e_mabsN, Nat.reduceEqDiff, ↓reduceIte, pk_un]
  refine cV (h' := stI h l (upd (iI h l) 0 (nI 0))) ?_ rfl rfl rfl rfl (by omega) (show 0 < l by omega) ?_
  · refine mO rfl rfl ?_
    apply kJ1_init_0
    try simp (disch := omega) only [tJ1_init_0, kd_stI, ln_stI, nn_stI, iI_stI, iR_stI, iJ_stI, sU_stI, kd_stR, ln_stR, nn_stR, iI_stR, iR_stR, iJ_stR, sU_stR, kd_stJ, ln_stJ, nn_stJ, iI_stJ, iR_stJ, iJ_stJ, sU_stJ, kd_alc, ln_alc, nn_alc, iI_alc, iR_alc, iJ_alc, sU_alc, e_const, e_lconst, e_null, e_iload, e_lload, e_aload, e_istore, e_astore, e_lstore, e_iinc, e_iadd, e_isub, e_imul, e_iand, e_ior, e_ixor, e_ishl, e_ishr, e_iushr, e_idiv, e_irem, e_ineg, e_i2l, e_i2b, e_i2c, e_lmul, e_lcmp, e_dup, e_pop, e_dup_x1, e_dup2, e_if_eq, e_icmp_eq, e_if_ne, e_icmp_ne, e_if_lt, e_icmp_lt, e_if_ge, e_icmp_ge, e_if_gt, e_icmp_gt, e_if_le, e_icmp_le, e_ifnull, e_ifnonnull, e_acmp_eq, e_acmp_ne, e_getI, e_getJ, e_getR, e_getSI, e_getSR, e_getEI, e_getER, e_putI, e_putJ, e_putR, e_iald, e_bald, e_zald, e_lald, e_aald, e_alen, e_iast, e_bast, e_zast, e_last, e_newa, e_new, e_newq, e_ret, e_vret, e_obj, e_mmax, e_mmin, e_ldcS, e_sref, e_exc, e_thr, e_stq, e_cast, e_castY, e_castA, e_instS, e_cpy, e_aast, e_cpyR, e_cln, e_gcl, e_ldcM, e_sw, swc_n, swc_c, kon_v, kon_r, kon_t, lg_0, lg_s, ls0, lay, List.length_cons, List.length_nil, List.replicate, List.cons_append, List.nil_append, ps, lp, List.set_cons_zero, List.set_cons_succ, jk, kd_hI, ln_hI, iI_hI, iR_hI, iJ_hI, nn_hI, sU_hI, stI_hI, hI_hI, K0e, and_true, true_and, rtOk, fOk, ge_iff_le, Nat.reduceLeDiff, Nat.reduceAdd, Nat.reduceSub, Nat.reduceLT, c1, lit, nN, nN2, nI_add, pk_mul, nI_clamp, vpi, nI_leI, nI_ltI, nI_eq, bP_z, not_true_eq_false, not_false_eq_true, false_implies, true_implies, implies_true, Nat.le_refl, Nat.lt_irrefl, true_or, or_true, m31, pk_sub, pk_m1, bP_1, bP_em, Classical.not_not, Nat.zero_le, cI_T, cI_F, thr_e, thr_0, thr_m, vus, vun, vuu, pk_us, e_xO, e_xC, ex_e, e_mabsN, Nat.reduceEqDiff, ↓reduceIte, pk_un]
    refine cV (h' := h) ?_ rfl rfl rfl rfl (by omega) (show 0 < l by omega) ?_
    · refine mO rfl rfl ?_
      apply kJ0_init_0
      try simp (disch := omega) only [tJ0_init_0, kd_stI, ln_stI, nn_stI, iI_stI, iR_stI, iJ_stI, sU_stI, kd_stR, ln_stR, nn_stR, iI_stR, iR_stR, iJ_stR, sU_stR, kd_stJ, ln_stJ, nn_stJ, iI_stJ, iR_stJ, iJ_stJ, sU_stJ, kd_alc, ln_alc, nn_alc, iI_alc, iR_alc, iJ_alc, sU_alc, e_const, e_lconst, e_null, e_iload, e_lload, e_aload, e_istore, e_astore, e_lstore, e_iinc, e_iadd, e_isub, e_imul, e_iand, e_ior, e_ixor, e_ishl, e_ishr, e_iushr, e_idiv, e_irem, e_ineg, e_i2l, e_i2b, e_i2c, e_lmul, e_lcmp, e_dup, e_pop, e_dup_x1, e_dup2, e_if_eq, e_icmp_eq, e_if_ne, e_icmp_ne, e_if_lt, e_icmp_lt, e_if_ge, e_icmp_ge, e_if_gt, e_icmp_gt, e_if_le, e_icmp_le, e_ifnull, e_ifnonnull, e_acmp_eq, e_acmp_ne, e_getI, e_getJ, e_getR, e_getSI, e_getSR, e_getEI, e_getER, e_putI, e_putJ, e_putR, e_iald, e_bald, e_zald, e_lald, e_aald, e_alen, e_iast, e_bast, e_zast, e_last, e_newa, e_new, e_newq, e_ret, e_vret, e_obj, e_mmax, e_mmin, e_ldcS, e_sref, e_exc, e_thr, e_stq, e_cast, e_castY, e_castA, e_instS, e_cpy, e_aast, e_cpyR, e_cln, e_gcl, e_ldcM, e_sw, swc_n, swc_c, kon_v, kon_r, kon_t, lg_0, lg_s, ls0, lay, List.length_cons, List.length_nil, List.replicate, List.cons_append, List.nil_append, ps, lp, List.set_cons_zero, List.set_cons_succ, jk, kd_hI, ln_hI, iI_hI, iR_hI, iJ_hI, nn_hI, sU_hI, stI_hI, hI_hI, K0e, and_true, true_and, rtOk, fOk, ge_iff_le, Nat.reduceLeDiff, Nat.reduceAdd, Nat.reduceSub, Nat.reduceLT, c1, lit, nN, nN2, nI_add, pk_mul, nI_clamp, vpi, nI_leI, nI_ltI, nI_eq, bP_z, not_true_eq_false, not_false_eq_true, false_implies, true_implies, implies_true, Nat.le_refl, Nat.lt_irrefl, true_or, or_true, m31, pk_sub, pk_m1, bP_1, bP_em, Classical.not_not, Nat.zero_le, cI_T, cI_F, thr_e, thr_0, thr_m, vus, vun, vuu, pk_us, e_xO, e_xC, ex_e, e_mabsN, Nat.reduceEqDiff, ↓reduceIte, pk_un]
      exact ⟨by omega, ⟨by omega, Nat.le_of_ble_eq_true rfl⟩⟩
    · try simp (disch := omega) only [k, kd_stI, ln_stI, nn_stI, iI_stI, iR_stI, iJ_stI, sU_stI, kd_stR, ln_stR, nn_stR, iI_stR, iR_stR, iJ_stR, sU_stR, kd_stJ, ln_stJ, nn_stJ, iI_stJ, iR_stJ, iJ_stJ, sU_stJ, kd_alc, ln_alc, nn_alc, iI_alc, iR_alc, iJ_alc, sU_alc, e_const, e_lconst, e_null, e_iload, e_lload, e_aload, e_istore, e_astore, e_lstore, e_iinc, e_iadd, e_isub, e_imul, e_iand, e_ior, e_ixor, e_ishl, e_ishr, e_iushr, e_idiv, e_irem, e_ineg, e_i2l, e_i2b, e_i2c, e_lmul, e_lcmp, e_dup, e_pop, e_dup_x1, e_dup2, e_if_eq, e_icmp_eq, e_if_ne, e_icmp_ne, e_if_lt, e_icmp_lt, e_if_ge, e_icmp_ge, e_if_gt, e_icmp_gt, e_if_le, e_icmp_le, e_ifnull, e_ifnonnull, e_acmp_eq, e_acmp_ne, e_getI, e_getJ, e_getR, e_getSI, e_getSR, e_getEI, e_getER, e_putI, e_putJ, e_putR, e_iald, e_bald, e_zald, e_lald, e_aald, e_alen, e_iast, e_bast, e_zast, e_last, e_newa, e_new, e_newq, e_ret, e_vret, e_obj, e_mmax, e_mmin, e_ldcS, e_sref, e_exc, e_thr, e_stq, e_cast, e_castY, e_castA, e_instS, e_cpy, e_aast, e_cpyR, e_cln, e_gcl, e_ldcM, e_sw, swc_n, swc_c, kon_v, kon_r, kon_t, lg_0, lg_s, ls0, lay, List.length_cons, List.length_nil, List.replicate, List.cons_append, List.nil_append, ps, lp, List.set_cons_zero, List.set_cons_succ, jk, kd_hI, ln_hI, iI_hI, iR_hI, iJ_hI, nn_hI, sU_hI, stI_hI, hI_hI, K0e, and_true, true_and, rtOk, fOk, ge_iff_le, Nat.reduceLeDiff, Nat.reduceAdd, Nat.reduceSub, Nat.reduceLT, c1, lit, nN, nN2, nI_add, pk_mul, nI_clamp, vpi, nI_leI, nI_ltI, nI_eq, bP_z, not_true_eq_false, not_false_eq_true, false_implies, true_implies, implies_true, Nat.le_refl, Nat.lt_irrefl, true_or, or_true, m31, pk_sub, pk_m1, bP_1, bP_em, Classical.not_not, Nat.zero_le, cI_T, cI_F, thr_e, thr_0, thr_m, vus, vun, vuu, pk_us, e_xO, e_xC, ex_e, e_mabsN, Nat.reduceEqDiff, ↓reduceIte, pk_un]
      exact hl
  · try simp (disch := omega) only [k, kd_stI, ln_stI, nn_stI, iI_stI, iR_stI, iJ_stI, sU_stI, kd_stR, ln_stR, nn_stR, iI_stR, iR_stR, iJ_stR, sU_stR, kd_stJ, ln_stJ, nn_stJ, iI_stJ, iR_stJ, iJ_stJ, sU_stJ, kd_alc, ln_alc, nn_alc, iI_alc, iR_alc, iJ_alc, sU_alc, e_const, e_lconst, e_null, e_iload, e_lload, e_aload, e_istore, e_astore, e_lstore, e_iinc, e_iadd, e_isub, e_imul, e_iand, e_ior, e_ixor, e_ishl, e_ishr, e_iushr, e_idiv, e_irem, e_ineg, e_i2l, e_i2b, e_i2c, e_lmul, e_lcmp, e_dup, e_pop, e_dup_x1, e_dup2, e_if_eq, e_icmp_eq, e_if_ne, e_icmp_ne, e_if_lt, e_icmp_lt, e_if_ge, e_icmp_ge, e_if_gt, e_icmp_gt, e_if_le, e_icmp_le, e_ifnull, e_ifnonnull, e_acmp_eq, e_acmp_ne, e_getI, e_getJ, e_getR, e_getSI, e_getSR, e_getEI, e_getER, e_putI, e_putJ, e_putR, e_iald, e_bald, e_zald, e_lald, e_aald, e_alen, e_iast, e_bast, e_zast, e_last, e_newa, e_new, e_newq, e_ret, e_vret, e_obj, e_mmax, e_mmin, e_ldcS, e_sref, e_exc, e_thr, e_stq, e_cast, e_castY, e_castA, e_instS, e_cpy, e_aast, e_cpyR, e_cln, e_gcl, e_ldcM, e_sw, swc_n, swc_c, kon_v, kon_r, kon_t, lg_0, lg_s, ls0, lay, List.length_cons, List.length_nil, List.replicate, List.cons_append, List.nil_append, ps, lp, List.set_cons_zero, List.set_cons_succ, jk, kd_hI, ln_hI, iI_hI, iR_hI, iJ_hI, nn_hI, sU_hI, stI_hI, hI_hI, K0e, and_true, true_and, rtOk, fOk, ge_iff_le, Nat.reduceLeDiff, Nat.reduceAdd, Nat.reduceSub, Nat.reduceLT, c1, lit, nN, nN2, nI_add, pk_mul, nI_clamp, vpi, nI_leI, nI_ltI, nI_eq, bP_z, not_true_eq_false, not_false_eq_true, false_implies, true_implies, implies_true, Nat.le_refl, Nat.lt_irrefl, true_or, or_true, m31, pk_sub, pk_m1, bP_1, bP_em, Classical.not_not, Nat.zero_le, cI_T, cI_F, thr_e, thr_0, thr_m, vus, vun, vuu, pk_us, e_xO, e_xC, ex_e, e_mabsN, Nat.reduceEqDiff, ↓reduceIte, pk_un]
    refine ⟨hl, ⟨⟨k, hl, by show l < nn h; omega⟩, ?_, ?_, h18, ⟨by omega, by omega⟩, Or.inl ⟨rfl, rfl, by show kd h 18 ≠ 0; rw [h18.1]; omega⟩, fun i hi => by omega⟩, fun x hx => ⟨rfl, rfl, ?_, ?_⟩⟩
    · rw [iI_stR, iI_stI, vus, pk_un (by omega), hi]; rfl
    · rw [iR_stR, vus, vus]
    · rw [iI_stR, iI_stI, vun _ _ hx]
    · rw [iR_stR, vun _ _ hx, iR_stI]
/-- a word that was read -/
def WdS (h : MH) (T : Nat → Int32) (e b s : Nat) : Prop := 300 ≤ s ∧ ∃ c : Nat → Nat, Str h (iI h) s (wL T e b) c ∧ ∀ k, k < wL T e b → T (b + k) = nI (c k)
theorem wd_iff {b s w i : Nat} {c : Nat → Nat} (hw : w = 30 + 2 * i) (hi : i < 27) (ck : CK h (iI h)) (w3 : Str h (iI h) s (wL T e b) c) (w4 : ∀ k, k < wL T e b → T (b + k) = nI (c k)) : (wL T e b = tln w ∧ ∀ k, k < wL T e b → c k = tch w k) ↔ isT T e b w := by
  have ck := ck i hi
  rw [← hw] at ck
  constructor
  · intro z
    refine ⟨z.1, fun k hk => ?_⟩
    rw [← z.1] at hk
    rw [w4 k hk, z.2 k hk]
  · intro z
    refine ⟨z.1, fun k hk => ?_⟩
    have e1 := z.2 k (by rw [← z.1]; exact hk)
    rw [w4 k hk] at e1
    have c1' := (w3.2.2.2.2.2.2.2 k hk).2
    have c2 := (ck.2.2.2.2.2.2.2 k (by rw [← z.1]; exact hk)).2
    rwa [nI_eq (by omega) (by omega)] at e1
theorem WdS.eq {b s w i : Nat} (W : WdS h T e b s) (hd : 1 ≤ d) (hw : w = 30 + 2 * i) (hi : i < 27) (ck : CK h (iI h)) : RT mJ5_equals d [.ref s, .ref w] h (some (.int (bP (isT T e b w)))) h := by
  obtain ⟨w1, c, w3, w4⟩ := W
  have k := ck i hi
  rw [← hw] at k
  have := sJ5_equals (d := d) hd (by omega) w3 k
  rw [propext (wd_iff hw hi ck w3 w4)] at this
  exact this
theorem WdS.qe {b s w i : Nat} (W : WdS h T e b s) (hd : 1 ≤ d) (hw : w = 30 + 2 * i) (hi : i < 27) (ck : CK h (iI h)) : RT mJ5_equals d [.ref w, .ref s] h (some (.int (bP (isT T e b w)))) h := by
  obtain ⟨w1, c, w3, w4⟩ := W
  have k := ck i hi
  rw [← hw] at k
  have := sJ5_equals (d := d) hd (by omega) k w3
  have e1 : (tln w = wL T e b ∧ ∀ k, k < tln w → tch w k = c k) ↔ (wL T e b = tln w ∧ ∀ k, k < wL T e b → c k = tch w k) := by
    constructor
    · rintro ⟨z1, z2⟩; exact ⟨z1.symm, fun k hk => (z2 k (by omega)).symm⟩
    · rintro ⟨z1, z2⟩; exact ⟨z1.symm, fun k hk => (z2 k (by omega)).symm⟩
  rw [propext e1, propext (wd_iff hw hi ck w3 w4)] at this
  exact this
theorem WdS.sm {b s : Nat} (W : WdS h T e b s) (e1 : Same h h1 s) (e2 : Same h h1 (iR h s 0)) (e0 : Same h h1 0) : WdS h1 T e b s := by
  obtain ⟨w1, c, ⟨t1, t2, t3, t4, t5, t6, t7, t8⟩, w4⟩ := W
  refine ⟨w1, c, ?_, w4⟩
  unfold Str
  rw [e1.2.2.2, e1.1, e2.1, e2.2.1, e1.2.2.1, e2.2.2.1, e0.2.2.2]
  exact ⟨t1, t2, t3, t4, t5, t6, t7, t8⟩
/-- the word that comes next -/
theorem sX3_wd (r : RX h T e a dp) (hd : 8 ≤ d) : WPm mX3_word d [.ref 349] h (fun o h1 => ∃ s, o = .returned (some (.ref s)) ∧ (nn h ≤ s ∧ s < nn h1 ∧ nn h ≤ iR h1 s 0 ∧ iR h1 s 0 < nn h1) ∧ WdS h1 T e (sk T e a) s ∧ (iI h1 s 2 = nI 0 ∧ iI h1 s 3 = nI 0) ∧ Rw 10 1600 h h1 (sk T e a + wL T e (sk T e a)) (sk T e a)) := by
  refine WPm.mono (sX3_word r.1 r.2.1 (r.2.2.1.2.2.2.2 2 (by omega)) hd) ?_
  rintro o h1 ⟨s, rfl, w1, w2, ⟨c, w3, w4⟩, w5, w6⟩
  have := r.2.1
  exact ⟨s, rfl, w2, ⟨by omega, c, w3, w4⟩, w5, w1, w6⟩
end
