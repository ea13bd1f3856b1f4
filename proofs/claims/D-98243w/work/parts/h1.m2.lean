/-! THE TOWN is read by the component -/
set_option maxRecDepth 100000
/-- as Gw, but the draft's ints may be written -/
def Gd (h h1 : MH) : Prop := (nn h ≤ nn h1 ∧ sU h ≤ sU h1) ∧ (∀ x, x < nn h → x ≠ 349 → (x < 317 ∨ 332 < x) → Same h h1 x) ∧ (∀ x, 317 ≤ x → x ≤ 332 → kd h1 x = kd h x ∧ ln h1 x = ln h x ∧ iR h1 x = iR h x) ∧ (kd h1 349 = kd h 349 ∧ ln h1 349 = ln h 349 ∧ iR h1 349 = iR h 349) ∧ ∀ k, k ≠ 3 → k ≠ 4 → k ≠ 6 → iI h1 349 k = iI h 349 k
theorem Gd.trans {h h1 h2 : MH} (a : Gd h h1) (b : Gd h1 h2) : Gd h h2 := by
  obtain ⟨⟨a1, a2⟩, a3, a8, ⟨a4, a5, a6⟩, a7⟩ := a
  obtain ⟨⟨b1, b2⟩, b3, b8, ⟨b4, b5, b6⟩, b7⟩ := b
  exact ⟨⟨by omega, by omega⟩, fun x hx hne z => (a3 x hx hne z).trans (b3 x (by omega) hne z), fun x z1 z2 => ⟨(b8 x z1 z2).1.trans (a8 x z1 z2).1, (b8 x z1 z2).2.1.trans (a8 x z1 z2).2.1, (b8 x z1 z2).2.2.trans (a8 x z1 z2).2.2⟩, ⟨b4.trans a4, b5.trans a5, b6.trans a6⟩, fun k h1 h2 h3 => (b7 k h1 h2 h3).trans (a7 k h1 h2 h3)⟩
theorem Gw.gd {h h1 : MH} (hn : 396 ≤ nn h) (a : Gw h h1) : Gd h h1 := by
  obtain ⟨a1, a3, a4, a7⟩ := a
  exact ⟨a1, fun x hx hne _ => a3 x hx hne, fun x z1 z2 => ⟨(a3 x (by omega) (by omega)).1, (a3 x (by omega) (by omega)).2.1, (a3 x (by omega) (by omega)).2.2.2⟩, a4, a7⟩
theorem Gd.st (h : MH) {a : Nat} (h1 : 317 ≤ a) (h2 : a ≤ 332) (f : Nat → Int32) : Gd h (stI h a f) := by
  refine ⟨⟨Nat.le_refl _, Nat.le_refl _⟩, fun x _ _ z => ⟨rfl, rfl, by rw [iI_stI, vun _ _ (by omega)], rfl⟩, fun x _ _ => ⟨rfl, rfl, rfl⟩, ⟨rfl, rfl, rfl⟩, fun k _ _ _ => by rw [iI_stI, vun _ _ (by omega)]⟩
theorem Gd.refl (h : MH) : Gd h h := ⟨⟨Nat.le_refl _, Nat.le_refl _⟩, fun x _ _ _ => Same.refl h x, fun _ _ _ => ⟨rfl, rfl, rfl⟩, ⟨rfl, rfl, rfl⟩, fun _ _ _ _ => rfl⟩
section
variable {h h1 : MH} {d : Nat} {T : Nat → Int32} {e a dp : Nat} {S : Nat → Int32}
theorem RX.gd (r : RX h T e a dp) (w : Gd h h1) {a' dp' : Nat} (h3 : iI h1 349 3 = nI a') (ha : a' ≤ e) (h6 : iI h1 349 6 = nI dp') : RX h1 T e a' dp' := by
  obtain ⟨r1, r2, r3, r4, r5⟩ := r
  obtain ⟨⟨a1, a2⟩, a3, a8, ⟨a4, a5, a6⟩, a7⟩ := w
  have e5 := a3 350 (by omega) (by omega) (by omega)
  have e30 := a3 300 (by omega) (by omega) (by omega)
  refine ⟨?_, by omega, r3.sm (fun a ha => a3 a (by omega) (by omega) (by omega)), ⟨by rw [e30.1]; exact r4.1, by rw [e30.2.2.2]; exact r4.2⟩, by rw [(a3 351 (by omega) (by omega) (by omega)).1]; exact r5⟩
  obtain ⟨⟨x1, x2, x3, x4⟩, ⟨x5, x6⟩, ⟨x7, x8⟩, x9, x10, x11⟩ := r1
  exact ⟨⟨by rw [a4]; exact x1, by rw [a6]; exact x2, by rw [e5.1]; exact x3, by rw [e5.2.1]; exact x4⟩, ⟨by rw [a7 2 (by omega) (by omega) (by omega)]; exact x5, x6⟩, ⟨h3, ha⟩, h6, fun k hk => by rw [e5.2.2.1]; exact x10 k hk, x11⟩
theorem RX.st (r : RX h T e a dp) {x : Nat} (h1 : 317 ≤ x) (h2 : x ≤ 332) (f : Nat → Int32) : RX (stI h x f) T e a dp := r.gd (Gd.st h h1 h2 f) (by rw [iI_stI, vun _ _ (by omega)]; exact r.1.2.2.1.1) r.ae (by rw [iI_stI, vun _ _ (by omega)]; exact r.1.2.2.2.1)
theorem WS.gd (s : WS h 317) (w : Gd h h1) : WS h1 317 := by
  obtain ⟨s1, s2, s3⟩ := s
  obtain ⟨_, _, w3, _⟩ := w
  refine ⟨s1, by rw [(w3 317 (by omega) (by omega)).1]; exact s2, fun j z1 z2 => ?_⟩
  rw [(w3 317 (by omega) (by omega)).2.2, (w3 (317 + j) (by omega) (by omega)).1, (w3 (317 + j) (by omega) (by omega)).2.1]
  exact s3 j z1 z2
theorem WR.gw (r : WR (iI h) 317 S) (w : Gw h h1) (hn : 396 ≤ nn h) : WR (iI h1) 317 S := r.of (fun j hj => (w.2.1 (317 + j) (by omega) (by omega)).2.2.1)
/-- the draft, and a reader -/
def DX (h : MH) (T : Nat → Int32) (e a : Nat) (S : Nat → Int32) : Prop := RX h T e a 0 ∧ WS h 317 ∧ WR (iI h) 317 S
theorem DX.gw (x : DX h T e a S) (w : Gw h h1) {a' : Nat} (r : RX h1 T e a' 0) : DX h1 T e a' S := ⟨r, x.2.1.gd (w.gd x.1.2.1), x.2.2.gw w x.1.2.1⟩
/-- what a line of the town gives -/
def tcP (T : Nat → Int32) (e a fc fs : Nat) (h : MH) (r : PR (Nat → Int32)) (o : Outcome) (h1 : MH) : Prop := Gd h h1 ∧ match r with
  | .inl b => o = .threw 9 ∧ iI h1 349 4 = nI b ∧ nn h1 ≤ nn h + 60 * (e - a) + fc ∧ sU h1 ≤ sU h + 5500 * (e - a) + fs
  | .inr z => o = .returned none ∧ DX h1 T e z.2 z.1 ∧ nn h1 ≤ nn h + 60 * (z.2 - a) ∧ sU h1 ≤ sU h + 5500 * (z.2 - a)
/-- a word that must come, by the component -/
def neP (T : Nat → Int32) (e a : Nat) (h : MH) (r : PR Unit) (o : Outcome) (h1 : MH) : Prop := Gw h h1 ∧ (nn h1 ≤ nn h + 11 ∧ sU h1 ≤ sU h + 1606) ∧ match r with
  | .inl b => o = .threw 9 ∧ iI h1 349 4 = nI b
  | .inr z => o = .returned none ∧ RX h1 T e z.2 0
theorem sX1_needs (r : RX h T e a 0) (hd : 10 ≤ d) {w : Nat} (i : Nat) (hi : i < 27) (hw : w = 30 + 2 * i) : WPm mX1_needs d [.ref 300, .ref w] h (neP T e a h (muR T e w a)) := by
  refine mO rfl rfl ?_
  have hn := r.2.1
  have hl := skl (T := T) r.ae
  obtain ⟨x0, x4⟩ := r.2.2.2.1
  apply kX1_needs_0
  try simp (disch := omega) only [tX1_needs_0, x0, x4, kd_stI, ln_stI, nn_stI, iI_stI, iR_stI, iJ_stI, sU_stI, kd_stR, ln_stR, nn_stR, iI_stR, iR_stR, iJ_stR, sU_stR, kd_stJ, ln_stJ, nn_stJ, iI_stJ, iR_stJ, iJ_stJ, sU_stJ, kd_alc, ln_alc, nn_alc, iI_alc, iR_alc, iJ_alc, sU_alc, e_const, e_lconst, e_null, e_iload, e_lload, e_aload, e_istore, e_astore, e_lstore, e_iinc, e_iadd, e_isub, e_imul, e_iand, e_ior, e_ixor, e_ishl, e_ishr, e_iushr, e_idiv, e_irem, e_ineg, e_i2l, e_i2b, e_i2c, e_lmul, e_lcmp, e_dup, e_pop, e_dup_x1, e_dup2, e_if_eq, e_icmp_eq, e_if_ne, e_icmp_ne, e_if_lt, e_icmp_lt, e_if_ge, e_icmp_ge, e_if_gt, e_icmp_gt, e_if_le, e_icmp_le, e_ifnull, e_ifnonnull, e_acmp_eq, e_acmp_ne, e_getI, e_getJ, e_getR, e_getSI, e_getSR, e_getEI, e_getER, e_putI, e_putJ, e_putR, e_iald, e_bald, e_zald, e_lald, e_aald, e_alen, e_iast, e_bast, e_zast, e_last, e_newa, e_new, e_newq, e_ret, e_vret, e_obj, e_mmax, e_mmin, e_ldcS, e_sref, e_exc, e_thr, e_stq, e_cast, e_castY, e_castA, e_instS, e_cpy, e_aast, e_cpyR, e_cln, e_gcl, e_ldcM, e_sw, swc_n, swc_c, kon_v, kon_r, kon_t, lg_0, lg_s, ls0, lay, List.length_cons, List.length_nil, List.replicate, List.cons_append, List.nil_append, ps, lp, List.set_cons_zero, List.set_cons_succ, jk, kd_hI, ln_hI, iI_hI, iR_hI, iJ_hI, nn_hI, sU_hI, stI_hI, hI_hI, K0e, and_true, true_and, rtOk, fOk, ge_iff_le, Nat.reduceLeDiff, Nat.reduceAdd, Nat.reduceSub, Nat.reduceLT, c1, lit, nN, nN2, nI_add, pk_mul, nI_clamp, vpi, nI_leI, nI_ltI, nI_eq, bP_z, not_true_eq_false, not_false_eq_true, false_implies, true_implies, implies_true, Nat.le_refl, Nat.lt_irrefl, true_or, or_true, m31, pk_sub, pk_m1, bP_1, bP_em, Classical.not_not, Nat.zero_le, cI_T, cI_F, thr_e, thr_0, thr_m, vus, vun, vuu, pk_us, e_xO, e_xC, ex_e, e_mabsN, Nat.reduceEqDiff, ↓reduceIte, pk_un]
  refine cl _ _ (sX3_wd (d := d - 1) r (by omega)) rfl rfl rfl rfl (by omega) r.k3 ?_
  rintro _ h1 ⟨s, rfl, w1, W, w2, w3⟩
  have r1 := r.rw (isL_e hl.2) w3
  obtain ⟨y0, y4⟩ := r1.2.2.2.1
  have G1 := Gw.rw r.2.1 w3
  have b4 : iI h1 349 4 = nI (sk T e a) := by rw [(w3.2 349 (by omega)).2.2.1]; exact rdH_4 _ _
  have wc := w3.1
  have ks : kd h1 s = 24 := by obtain ⟨_, c, st, _⟩ := W; exact st.1
  try simp (disch := omega) only [kd_stI, ln_stI, nn_stI, iI_stI, iR_stI, iJ_stI, sU_stI, kd_stR, ln_stR, nn_stR, iI_stR, iR_stR, iJ_stR, sU_stR, kd_stJ, ln_stJ, nn_stJ, iI_stJ, iR_stJ, iJ_stJ, sU_stJ, kd_alc, ln_alc, nn_alc, iI_alc, iR_alc, iJ_alc, sU_alc, e_const, e_lconst, e_null, e_iload, e_lload, e_aload, e_istore, e_astore, e_lstore, e_iinc, e_iadd, e_isub, e_imul, e_iand, e_ior, e_ixor, e_ishl, e_ishr, e_iushr, e_idiv, e_irem, e_ineg, e_i2l, e_i2b, e_i2c, e_lmul, e_lcmp, e_dup, e_pop, e_dup_x1, e_dup2, e_if_eq, e_icmp_eq, e_if_ne, e_icmp_ne, e_if_lt, e_icmp_lt, e_if_ge, e_icmp_ge, e_if_gt, e_icmp_gt, e_if_le, e_icmp_le, e_ifnull, e_ifnonnull, e_acmp_eq, e_acmp_ne, e_getI, e_getJ, e_getR, e_getSI, e_getSR, e_getEI, e_getER, e_putI, e_putJ, e_putR, e_iald, e_bald, e_zald, e_lald, e_aald, e_alen, e_iast, e_bast, e_zast, e_last, e_newa, e_new, e_newq, e_ret, e_vret, e_obj, e_mmax, e_mmin, e_ldcS, e_sref, e_exc, e_thr, e_stq, e_cast, e_castY, e_castA, e_instS, e_cpy, e_aast, e_cpyR, e_cln, e_gcl, e_ldcM, e_sw, swc_n, swc_c, kon_v, kon_r, kon_t, lg_0, lg_s, ls0, lay, List.length_cons, List.length_nil, List.replicate, List.cons_append, List.nil_append, ps, lp, List.set_cons_zero, List.set_cons_succ, jk, kd_hI, ln_hI, iI_hI, iR_hI, iJ_hI, nn_hI, sU_hI, stI_hI, hI_hI, K0e, and_true, true_and, rtOk, fOk, ge_iff_le, Nat.reduceLeDiff, Nat.reduceAdd, Nat.reduceSub, Nat.reduceLT, c1, lit, nN, nN2, nI_add, pk_mul, nI_clamp, vpi, nI_leI, nI_ltI, nI_eq, bP_z, not_true_eq_false, not_false_eq_true, false_implies, true_implies, implies_true, Nat.le_refl, Nat.lt_irrefl, true_or, or_true, m31, pk_sub, pk_m1, bP_1, bP_em, Classical.not_not, Nat.zero_le, cI_T, cI_F, thr_e, thr_0, thr_m, vus, vun, vuu, pk_us, e_xO, e_xC, ex_e, e_mabsN, Nat.reduceEqDiff, ↓reduceIte, pk_un]
  refine cR (W.eq (d := d - 1) (by omega) hw hi r1.2.2.1.1) rfl rfl rfl rfl (by omega) ks ?_
  unfold muR
  try simp (disch := omega) only [y0, y4, kd_stI, ln_stI, nn_stI, iI_stI, iR_stI, iJ_stI, sU_stI, kd_stR, ln_stR, nn_stR, iI_stR, iR_stR, iJ_stR, sU_stR, kd_stJ, ln_stJ, nn_stJ, iI_stJ, iR_stJ, iJ_stJ, sU_stJ, kd_alc, ln_alc, nn_alc, iI_alc, iR_alc, iJ_alc, sU_alc, e_const, e_lconst, e_null, e_iload, e_lload, e_aload, e_istore, e_astore, e_lstore, e_iinc, e_iadd, e_isub, e_imul, e_iand, e_ior, e_ixor, e_ishl, e_ishr, e_iushr, e_idiv, e_irem, e_ineg, e_i2l, e_i2b, e_i2c, e_lmul, e_lcmp, e_dup, e_pop, e_dup_x1, e_dup2, e_if_eq, e_icmp_eq, e_if_ne, e_icmp_ne, e_if_lt, e_icmp_lt, e_if_ge, e_icmp_ge, e_if_gt, e_icmp_gt, e_if_le, e_icmp_le, e_ifnull, e_ifnonnull, e_acmp_eq, e_acmp_ne, e_getI, e_getJ, e_getR, e_getSI, e_getSR, e_getEI, e_getER, e_putI, e_putJ, e_putR, e_iald, e_bald, e_zald, e_lald, e_aald, e_alen, e_iast, e_bast, e_zast, e_last, e_newa, e_new, e_newq, e_ret, e_vret, e_obj, e_mmax, e_mmin, e_ldcS, e_sref, e_exc, e_thr, e_stq, e_cast, e_castY, e_castA, e_instS, e_cpy, e_aast, e_cpyR, e_cln, e_gcl, e_ldcM, e_sw, swc_n, swc_c, kon_v, kon_r, kon_t, lg_0, lg_s, ls0, lay, List.length_cons, List.length_nil, List.replicate, List.cons_append, List.nil_append, ps, lp, List.set_cons_zero, List.set_cons_succ, jk, kd_hI, ln_hI, iI_hI, iR_hI, iJ_hI, nn_hI, sU_hI, stI_hI, hI_hI, K0e, and_true, true_and, rtOk, fOk, ge_iff_le, Nat.reduceLeDiff, Nat.reduceAdd, Nat.reduceSub, Nat.reduceLT, c1, lit, nN, nN2, nI_add, pk_mul, nI_clamp, vpi, nI_leI, nI_ltI, nI_eq, bP_z, not_true_eq_false, not_false_eq_true, false_implies, true_implies, implies_true, Nat.le_refl, Nat.lt_irrefl, true_or, or_true, m31, pk_sub, pk_m1, bP_1, bP_em, Classical.not_not, Nat.zero_le, cI_T, cI_F, thr_e, thr_0, thr_m, vus, vun, vuu, pk_us, e_xO, e_xC, ex_e, e_mabsN, Nat.reduceEqDiff, ↓reduceIte, pk_un]
  refine ⟨fun z => ?_, fun z => ?_⟩
  · rw [dI_t z]
    refine ⟨G1, ⟨by omega, by omega⟩, rfl, ?_⟩
    show RX h1 T e (sk T e a + tln w) 0
    rw [← z.1]
    exact r1
  · rw [dI_f z]
    have hn1 := r1.2.1
    refine cl _ _ (sX3_wrong (h := h1) hn1 r1.2.2.1.2.2.2.2 (by omega)) rfl rfl rfl rfl (by omega) r1.k3 ?_
    rintro _ h2 ⟨rfl, v1, v2, v3, v4⟩
    try simp (disch := omega) only [v3, kd_stI, ln_stI, nn_stI, iI_stI, iR_stI, iJ_stI, sU_stI, kd_stR, ln_stR, nn_stR, iI_stR, iR_stR, iJ_stR, sU_stR, kd_stJ, ln_stJ, nn_stJ, iI_stJ, iR_stJ, iJ_stJ, sU_stJ, kd_alc, ln_alc, nn_alc, iI_alc, iR_alc, iJ_alc, sU_alc, e_const, e_lconst, e_null, e_iload, e_lload, e_aload, e_istore, e_astore, e_lstore, e_iinc, e_iadd, e_isub, e_imul, e_iand, e_ior, e_ixor, e_ishl, e_ishr, e_iushr, e_idiv, e_irem, e_ineg, e_i2l, e_i2b, e_i2c, e_lmul, e_lcmp, e_dup, e_pop, e_dup_x1, e_dup2, e_if_eq, e_icmp_eq, e_if_ne, e_icmp_ne, e_if_lt, e_icmp_lt, e_if_ge, e_icmp_ge, e_if_gt, e_icmp_gt, e_if_le, e_icmp_le, e_ifnull, e_ifnonnull, e_acmp_eq, e_acmp_ne, e_getI, e_getJ, e_getR, e_getSI, e_getSR, e_getEI, e_getER, e_putI, e_putJ, e_putR, e_iald, e_bald, e_zald, e_lald, e_aald, e_alen, e_iast, e_bast, e_zast, e_last, e_newa, e_new, e_newq, e_ret, e_vret, e_obj, e_mmax, e_mmin, e_ldcS, e_sref, e_exc, e_thr, e_stq, e_cast, e_castY, e_castA, e_instS, e_cpy, e_aast, e_cpyR, e_cln, e_gcl, e_ldcM, e_sw, swc_n, swc_c, kon_v, kon_r, kon_t, lg_0, lg_s, ls0, lay, List.length_cons, List.length_nil, List.replicate, List.cons_append, List.nil_append, ps, lp, List.set_cons_zero, List.set_cons_succ, jk, kd_hI, ln_hI, iI_hI, iR_hI, iJ_hI, nn_hI, sU_hI, stI_hI, hI_hI, K0e, and_true, true_and, rtOk, fOk, ge_iff_le, Nat.reduceLeDiff, Nat.reduceAdd, Nat.reduceSub, Nat.reduceLT, c1, lit, nN, nN2, nI_add, pk_mul, nI_clamp, vpi, nI_leI, nI_ltI, nI_eq, bP_z, not_true_eq_false, not_false_eq_true, false_implies, true_implies, implies_true, Nat.le_refl, Nat.lt_irrefl, true_or, or_true, m31, pk_sub, pk_m1, bP_1, bP_em, Classical.not_not, Nat.zero_le, cI_T, cI_F, thr_e, thr_0, thr_m, vus, vun, vuu, pk_us, e_xO, e_xC, ex_e, e_mabsN, Nat.reduceEqDiff, ↓reduceIte, pk_un]
    exact ⟨⟨by omega, by omega⟩, G1.trans (Gw.nw hn1 v4 (by omega) (by omega)), ⟨by omega, by omega⟩, rfl, by rw [(v4 349 (by omega)).2.2.1]; exact b4⟩
/-- a number, in the way of lines -/
def nmP (T : Nat → Int32) (e a : Nat) (h : MH) (r : PR Int32) (o : Outcome) (h1 : MH) : Prop := Gw h h1 ∧ (nn h1 ≤ nn h + 1 ∧ sU h1 ≤ sU h + 6) ∧ match r with
  | .inl b => o = .threw 9 ∧ iI h1 349 4 = nI b
  | .inr z => o = .returned (some (.int z.1)) ∧ RX h1 T e z.2 0
theorem sX3_num (r : RX h T e a 0) (hd : 7 ≤ d) (lo hi : Int32) : WPm mX3_number d [.ref 349, .int lo, .int hi] h (nmP T e a h (fgR T e a lo hi)) := by
  refine WPm.mono (sX3_number r hd lo hi) ?_
  intro o h1 hP
  have hn := r.2.1
  cases hF : fgR T e a lo hi with
  | inl b =>
    rw [hF] at hP
    obtain ⟨rfl, a', w⟩ := hP
    obtain ⟨v1, v2, v3, v4⟩ := Gw.wg hn w
    exact ⟨v1, ⟨by omega, by omega⟩, rfl, v2⟩
  | inr z =>
    rw [hF] at hP
    obtain ⟨rfl, rfl⟩ := hP
    have hz := fgR_le r.ae hF
    exact ⟨Gw.rd h _ _, ⟨by rw [rdH_nn]; omega, by rw [rdH_sU]; omega⟩, rfl, r.rw hz.1 (Rw.rd _ _)⟩
end
