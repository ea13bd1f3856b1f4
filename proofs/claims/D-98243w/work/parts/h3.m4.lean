/-! THE TOWN is read by the component: people -/
set_option maxRecDepth 100000
def sawS (X : Nat → Int32) (p : Nat) : Nat → Nat → Int32 := fu (fun g o => upd (upd g (272 + 10 * p + o) N1) (272 + 10 * o + p) N1) X
section
variable {h h1 : MH} {d : Nat} {T : Nat → Int32} {e a : Nat} {S : Nat → Int32}
theorem sawS_s (S : Nat → Int32) (p o : Nat) : sawS S p (o + 1) = upd (upd (sawS S p o) (272 + 10 * p + o) N1) (272 + 10 * o + p) N1 := rfl
theorem sawS_e {p : Nat} (hp : p < 10) : ∀ o, o ≤ 10 → ∀ i, ((i < 272 ∨ 372 ≤ i) → sawS S p o i = S i) ∧ (∀ x y, x < 10 → y < 10 → i = 272 + 10 * x + y → sawS S p o i = if (x = p ∧ y < o) ∨ (y = p ∧ x < o) then N1 else S i) := by
  intro o
  induction o with
  | zero =>
    intro _ i
    refine ⟨fun _ => rfl, fun x y hx hy hi => ?_⟩
    rw [if_neg (by omega)]; rfl
  | succ o ih =>
    intro ho i
    obtain ⟨i1, i3⟩ := ih (by omega) i
    rw [sawS_s]
    refine ⟨fun h => ?_, fun x y hx hy hi => ?_⟩
    · rw [pk_un (by omega), pk_un (by omega)]; exact i1 h
    · by_cases z : x = o ∧ y = p
      · rw [show i = 272 + 10 * o + p by omega, pk_us, if_pos (by omega)]
      · rw [pk_un (by omega)]
        by_cases z2 : x = p ∧ y = o
        · rw [show i = 272 + 10 * p + o by omega, pk_us, if_pos (by omega)]
        · rw [pk_un (by omega), i3 x y hx hy hi]
          by_cases w : (x = p ∧ y < o) ∨ (y = p ∧ x < o)
          · rw [if_pos w, if_pos (by omega)]
          · rw [if_neg w, if_neg (by omega)]
/-- the row of the component ahead of what was seen -/
def perY (S : Nat → Int32) (l g r n : Int32) : Nat → Int32 := upd (upd (upd (upd (upd (upd (upd S (92 + 8 * nP S + 0) l) (92 + 8 * nP S + 1) g) (92 + 8 * nP S + 2) r) (92 + 8 * nP S + 3) n) (92 + 8 * nP S + 4) (nI 0)) (92 + 8 * nP S + 6) N1) (92 + 8 * nP S + 7) N1
theorem perY_u (l g r b : Int32) {i : Nat} (h : i < 92 + 8 * nP S ∨ 92 + 8 * nP S + 7 < i) : perY S l g r b i = S i := by
  unfold perY
  rw [pk_un (by omega), pk_un (by omega), pk_un (by omega), pk_un (by omega), pk_un (by omega), pk_un (by omega), pk_un (by omega)]
theorem perY_A (l g r b : Int32) {i : Nat} (h : i ≠ 92 + 8 * nP S + 5) : perA S l g r b i = perY S l g r b i := by
  unfold perA perY
  by_cases z7 : i = 92 + 8 * nP S + 7
  · rw [z7, pk_us, pk_us]
  · rw [pk_un z7, pk_un z7]
    by_cases z6 : i = 92 + 8 * nP S + 6
    · rw [z6, pk_us, pk_us]
    · rw [pk_un z6, pk_un z6, pk_un h]
theorem per_eq (I : Iv S) (hP : nP S < 10) (l g r n : Int32) (i : Nat) : perS S l g r n i = upd (upd (sawS (perY S l g r n) (nP S) 10) 5 (nI (nP S + 1))) (92 + 8 * nP S + 5) (nI 0) i := by
  obtain ⟨ic, io, ib, ih, it, iw, im, iz, ig, is, iq⟩ := I
  unfold perS
  by_cases z5 : i = 92 + 8 * nP S + 5
  · rw [z5, pk_us, pk_un (by omega), (seeS_e hP 10 (by omega) _).1 (by omega)]
    unfold perA
    rw [pk_un (by omega), pk_un (by omega), pk_us]
  · rw [pk_un z5]
    by_cases z0 : i = 5
    · rw [z0, pk_us, pk_us]
    · rw [pk_un z0, pk_un z0]
      by_cases r1 : i < 172 ∨ 372 ≤ i
      · rw [(seeS_e hP 10 (by omega) _).1 r1, (sawS_e hP 10 (by omega) _).1 (by omega), perY_A _ _ _ _ z5]
      · by_cases r2 : i < 272
        · obtain ⟨x, y, hx, hy, hi⟩ : ∃ x y, x < 10 ∧ y < 10 ∧ i = 172 + 10 * x + y := ⟨(i - 172) / 10, (i - 172) % 10, by omega, by omega, by omega⟩
          rw [(seeS_e hP 10 (by omega) _).2.1 x y hx hy hi, (sawS_e hP 10 (by omega) _).1 (by omega), perY_A _ _ _ _ z5, perY_u _ _ _ _ (by omega)]
          by_cases w : (x = nP S ∧ y < 10) ∨ (y = nP S ∧ x < 10)
          · rw [if_pos w, hi, iz x y hx hy (by omega)]
          · rw [if_neg w]
        · obtain ⟨x, y, hx, hy, hi⟩ : ∃ x y, x < 10 ∧ y < 10 ∧ i = 272 + 10 * x + y := ⟨(i - 272) / 10, (i - 272) % 10, by omega, by omega, by omega⟩
          rw [(seeS_e hP 10 (by omega) _).2.2 x y hx hy hi, (sawS_e hP 10 (by omega) _).2 x y hx hy hi, perY_A _ _ _ _ z5]
theorem k110 {b : Nat} (I : Iv S) (hP : nP S < 10) (l g r n : Int32) {a2 : Nat} : ∀ o, o ≤ 10 → ∀ (m : MH), Gd h m → DX m T e a2 (sawS (perY S l g r n) (nP S) o) → nn m ≤ nn h + 60 * (a2 - a) → sU m ≤ sU h + 5500 * (a2 - a) → WPb mX1_aPerson d 110 [.ref 300, .ref 317, .ref 349, .int (nI (nP S)), .int (nI o)] [] m (tcP T e a 60 6000 h (.inr (perS S l g r n, a2))) := by
  refine bk (n := 10) (I := fun o => ∀ (m : MH), Gd h m → DX m T e a2 (sawS (perY S l g r n) (nP S) o) → nn m ≤ nn h + 60 * (a2 - a) → sU m ≤ sU h + 5500 * (a2 - a) → WPb mX1_aPerson d 110 [.ref 300, .ref 317, .ref 349, .int (nI (nP S)), .int (nI o)] [] m (tcP T e a 60 6000 h (.inr (perS S l g r n, a2)))) ?_ ?_
  · intro m D ⟨rr, hw, hr⟩ c1' c2'
    have e5 : sawS (perY S l g r n) (nP S) 10 5 = nI (nP S) := by rw [(sawS_e hP 10 (by omega) 5).1 (by omega), perY_u _ _ _ _ (by omega)]; exact I.1.2.2.1.1
    apply kX1_aPerson_110
    try simp (disch := omega) only [tX1_aPerson_110, e5, wk hw, wg hw, wgj hw, wr15 hw, wr16 hw, wr17 hw, wr18 hw, wr19 hw, wr20 hw, wr21 hw, wr22 hw, wr23 hw, wr24 hw, wr25 hw, wr26 hw, wr27 hw, wr28 hw, wr29 hw, wk1 hw, wk2 hw, wk3 hw, wk4 hw, wk5 hw, wk6 hw, wk7 hw, wk8 hw, wk9 hw, wk10 hw, wk11 hw, wk12 hw, wk13 hw, wk14 hw, wk15 hw, wl1 hw, wl2 hw, wl3 hw, wl4 hw, wl5 hw, wl6 hw, wl7 hw, wl8 hw, wl9 hw, wl10 hw, wl11 hw, wl12 hw, wl13 hw, wl14 hw, wl15 hw, wf0 hr, wf1 hr, wf2 hr, wf3 hr, wf4 hr, wf5 hr, wf6 hr, wf7 hr, wf8 hr, wf9 hr, wf10 hr, wf11 hr, wf12 hr, wf13 hr, wf14 hr, wv1 hr, wv2 hr, wv3 hr, wv4 hr, wv5 hr, wv6 hr, wv7 hr, wv8 hr, wv11 hr, wv12 hr, wv9 hr, wv10 hr, wv13 hr, wv14 hr, wv15 hr, e_const, e_lconst, e_null, e_iload, e_lload, e_aload, e_istore, e_astore, e_lstore, e_iinc, e_iadd, e_isub, e_imul, e_iand, e_ior, e_ixor, e_ishl, e_ishr, e_iushr, e_idiv, e_irem, e_ineg, e_i2l, e_i2b, e_i2c, e_lmul, e_lcmp, e_dup, e_pop, e_dup_x1, e_dup2, e_if_eq, e_icmp_eq, e_if_ne, e_icmp_ne, e_if_lt, e_icmp_lt, e_if_ge, e_icmp_ge, e_if_gt, e_icmp_gt, e_if_le, e_icmp_le, e_ifnull, e_ifnonnull, e_acmp_eq, e_acmp_ne, e_getI, e_getJ, e_getR, e_getSI, e_getSR, e_getEI, e_getER, e_putI, e_putJ, e_putR, e_iald, e_bald, e_zald, e_lald, e_aald, e_alen, e_iast, e_bast, e_zast, e_last, e_newa, e_new, e_newq, e_ret, e_vret, e_obj, e_mmax, e_mmin, e_ldcS, e_sref, e_exc, e_thr, e_stq, e_cast, e_castY, e_castA, e_instS, e_cpy, e_aast, e_cpyR, e_cln, e_gcl, e_ldcM, e_sw, swc_n, swc_c, kon_v, kon_r, kon_t, lg_0, lg_s, ls0, lay, List.length_cons, List.length_nil, List.replicate, List.cons_append, List.nil_append, ps, lp, List.set_cons_zero, List.set_cons_succ, jk, kd_hI, ln_hI, iI_hI, iR_hI, iJ_hI, nn_hI, sU_hI, stI_hI, hI_hI, K0e, and_true, true_and, rtOk, fOk, ge_iff_le, Nat.reduceLeDiff, Nat.reduceAdd, Nat.reduceSub, Nat.reduceLT, c1, lit, nN, nN2, nI_add, pk_mul, nI_clamp, vpi, nI_leI, nI_ltI, nI_eq, bP_z, not_true_eq_false, not_false_eq_true, false_implies, true_implies, implies_true, Nat.le_refl, Nat.lt_irrefl, true_or, or_true, m31, pk_sub, pk_m1, bP_1, bP_em, Classical.not_not, Nat.zero_le, cI_T, cI_F, thr_e, thr_0, thr_m, vus, vun, vuu, pk_us, e_xO, e_xC, ex_e, e_mabsN, Nat.reduceEqDiff, ↓reduceIte, pk_un]
    have q := (hr.f3 (nI (nP S + 1))).no (i := 92 + 8 * nP S + 5) (Or.inr (Or.inr (Or.inr ⟨nP S, hP, rfl⟩))) (nI 0)
    exact ⟨D.trans (Gd.st m (by omega) (by omega) _), rfl, ⟨rr.st (by omega) (by omega) _, hw.gd (Gd.st m (by omega) (by omega) _), q.cg (fun i _ _ _ => per_eq I hP l g r n i)⟩, c1', c2'⟩
  · intro o ho ih m D ⟨rr, hw, hr⟩ c1' c2'
    apply kX1_aPerson_110
    try simp (disch := omega) only [tX1_aPerson_110, kd_stI, ln_stI, iR_stI, wk hw, wg hw, wgj hw, wr15 hw, wr16 hw, wr17 hw, wr18 hw, wr19 hw, wr20 hw, wr21 hw, wr22 hw, wr23 hw, wr24 hw, wr25 hw, wr26 hw, wr27 hw, wr28 hw, wr29 hw, wk1 hw, wk2 hw, wk3 hw, wk4 hw, wk5 hw, wk6 hw, wk7 hw, wk8 hw, wk9 hw, wk10 hw, wk11 hw, wk12 hw, wk13 hw, wk14 hw, wk15 hw, wl1 hw, wl2 hw, wl3 hw, wl4 hw, wl5 hw, wl6 hw, wl7 hw, wl8 hw, wl9 hw, wl10 hw, wl11 hw, wl12 hw, wl13 hw, wl14 hw, wl15 hw, wf0 hr, wf1 hr, wf2 hr, wf3 hr, wf4 hr, wf5 hr, wf6 hr, wf7 hr, wf8 hr, wf9 hr, wf10 hr, wf11 hr, wf12 hr, wf13 hr, wf14 hr, wv1 hr, wv2 hr, wv3 hr, wv4 hr, wv5 hr, wv6 hr, wv7 hr, wv8 hr, wv11 hr, wv12 hr, wv9 hr, wv10 hr, wv13 hr, wv14 hr, wv15 hr, e_const, e_lconst, e_null, e_iload, e_lload, e_aload, e_istore, e_astore, e_lstore, e_iinc, e_iadd, e_isub, e_imul, e_iand, e_ior, e_ixor, e_ishl, e_ishr, e_iushr, e_idiv, e_irem, e_ineg, e_i2l, e_i2b, e_i2c, e_lmul, e_lcmp, e_dup, e_pop, e_dup_x1, e_dup2, e_if_eq, e_icmp_eq, e_if_ne, e_icmp_ne, e_if_lt, e_icmp_lt, e_if_ge, e_icmp_ge, e_if_gt, e_icmp_gt, e_if_le, e_icmp_le, e_ifnull, e_ifnonnull, e_acmp_eq, e_acmp_ne, e_getI, e_getJ, e_getR, e_getSI, e_getSR, e_getEI, e_getER, e_putI, e_putJ, e_putR, e_iald, e_bald, e_zald, e_lald, e_aald, e_alen, e_iast, e_bast, e_zast, e_last, e_newa, e_new, e_newq, e_ret, e_vret, e_obj, e_mmax, e_mmin, e_ldcS, e_sref, e_exc, e_thr, e_stq, e_cast, e_castY, e_castA, e_instS, e_cpy, e_aast, e_cpyR, e_cln, e_gcl, e_ldcM, e_sw, swc_n, swc_c, kon_v, kon_r, kon_t, lg_0, lg_s, ls0, lay, List.length_cons, List.length_nil, List.replicate, List.cons_append, List.nil_append, ps, lp, List.set_cons_zero, List.set_cons_succ, jk, kd_hI, ln_hI, iI_hI, iR_hI, iJ_hI, nn_hI, sU_hI, stI_hI, hI_hI, K0e, and_true, true_and, rtOk, fOk, ge_iff_le, Nat.reduceLeDiff, Nat.reduceAdd, Nat.reduceSub, Nat.reduceLT, c1, lit, nN, nN2, nI_add, pk_mul, nI_clamp, vpi, nI_leI, nI_ltI, nI_eq, bP_z, not_true_eq_false, not_false_eq_true, false_implies, true_implies, implies_true, Nat.le_refl, Nat.lt_irrefl, true_or, or_true, m31, pk_sub, pk_m1, bP_1, bP_em, Classical.not_not, Nat.zero_le, cI_T, cI_F, thr_e, thr_0, thr_m, vus, vun, vuu, pk_us, e_xO, e_xC, ex_e, e_mabsN, Nat.reduceEqDiff, ↓reduceIte, pk_un]
    refine ⟨fun z => by omega, fun _ => ?_⟩
    have q := (hr.a10 (i := nP S) (j := o) hP (by omega) N1).a10 (i := o) (j := nP S) (by omega) hP N1
    exact ih _ (D.trans ((Gd.st m (a := 327) (by omega) (by omega) _).trans (Gd.st _ (a := 327) (by omega) (by omega) _))) ⟨(rr.st (by omega) (by omega) _).st (by omega) (by omega) _, hw.gd ((Gd.st m (a := 327) (by omega) (by omega) _).trans (Gd.st _ (a := 327) (by omega) (by omega) _)), q⟩ c1' c2'
theorem sX1_aPerson (x : DX h T e a S) (I : Iv S) (hd : 14 ≤ d) {b : Nat} (hb : iI h 349 4 = nI b) : WPm mX1_aPerson d [.ref 300, .ref 317] h (tcP T e a 60 6000 h (perR T e S b a)) := by
  obtain ⟨r, hw, hr⟩ := x
  refine mO rfl rfl ?_
  have hn := r.2.1
  have hae := r.ae
  obtain ⟨x0, x4⟩ := r.2.2.2.1
  obtain ⟨c5, h10⟩ := I.1.2.2.1
  unfold perR
  apply kX1_aPerson_0
  try simp (disch := omega) only [tX1_aPerson_0, x0, x4, c5, wk hw, wg hw, wgj hw, wr15 hw, wr16 hw, wr17 hw, wr18 hw, wr19 hw, wr20 hw, wr21 hw, wr22 hw, wr23 hw, wr24 hw, wr25 hw, wr26 hw, wr27 hw, wr28 hw, wr29 hw, wk1 hw, wk2 hw, wk3 hw, wk4 hw, wk5 hw, wk6 hw, wk7 hw, wk8 hw, wk9 hw, wk10 hw, wk11 hw, wk12 hw, wk13 hw, wk14 hw, wk15 hw, wl1 hw, wl2 hw, wl3 hw, wl4 hw, wl5 hw, wl6 hw, wl7 hw, wl8 hw, wl9 hw, wl10 hw, wl11 hw, wl12 hw, wl13 hw, wl14 hw, wl15 hw, wf0 hr, wf1 hr, wf2 hr, wf3 hr, wf4 hr, wf5 hr, wf6 hr, wf7 hr, wf8 hr, wf9 hr, wf10 hr, wf11 hr, wf12 hr, wf13 hr, wf14 hr, wv1 hr, wv2 hr, wv3 hr, wv4 hr, wv5 hr, wv6 hr, wv7 hr, wv8 hr, wv11 hr, wv12 hr, wv9 hr, wv10 hr, wv13 hr, wv14 hr, wv15 hr, e_const, e_lconst, e_null, e_iload, e_lload, e_aload, e_istore, e_astore, e_lstore, e_iinc, e_iadd, e_isub, e_imul, e_iand, e_ior, e_ixor, e_ishl, e_ishr, e_iushr, e_idiv, e_irem, e_ineg, e_i2l, e_i2b, e_i2c, e_lmul, e_lcmp, e_dup, e_pop, e_dup_x1, e_dup2, e_if_eq, e_icmp_eq, e_if_ne, e_icmp_ne, e_if_lt, e_icmp_lt, e_if_ge, e_icmp_ge, e_if_gt, e_icmp_gt, e_if_le, e_icmp_le, e_ifnull, e_ifnonnull, e_acmp_eq, e_acmp_ne, e_getI, e_getJ, e_getR, e_getSI, e_getSR, e_getEI, e_getER, e_putI, e_putJ, e_putR, e_iald, e_bald, e_zald, e_lald, e_aald, e_alen, e_iast, e_bast, e_zast, e_last, e_newa, e_new, e_newq, e_ret, e_vret, e_obj, e_mmax, e_mmin, e_ldcS, e_sref, e_exc, e_thr, e_stq, e_cast, e_castY, e_castA, e_instS, e_cpy, e_aast, e_cpyR, e_cln, e_gcl, e_ldcM, e_sw, swc_n, swc_c, kon_v, kon_r, kon_t, lg_0, lg_s, ls0, lay, List.length_cons, List.length_nil, List.replicate, List.cons_append, List.nil_append, ps, lp, List.set_cons_zero, List.set_cons_succ, jk, kd_hI, ln_hI, iI_hI, iR_hI, iJ_hI, nn_hI, sU_hI, stI_hI, hI_hI, K0e, and_true, true_and, rtOk, fOk, ge_iff_le, Nat.reduceLeDiff, Nat.reduceAdd, Nat.reduceSub, Nat.reduceLT, c1, lit, nN, nN2, nI_add, pk_mul, nI_clamp, vpi, nI_leI, nI_ltI, nI_eq, bP_z, not_true_eq_false, not_false_eq_true, false_implies, true_implies, implies_true, Nat.le_refl, Nat.lt_irrefl, true_or, or_true, m31, pk_sub, pk_m1, bP_1, bP_em, Classical.not_not, Nat.zero_le, cI_T, cI_F, thr_e, thr_0, thr_m, vus, vun, vuu, pk_us, e_xO, e_xC, ex_e, e_mabsN, Nat.reduceEqDiff, ↓reduceIte, pk_un]
  refine ⟨fun hP9 => ?_, fun z => ?_⟩
  · rw [dI_f hP9]
    have ok := fgR_ok (T := T) hae (nI 0) (S 3 - nI 1)
    refine cl _ _ (sX3_num r (d := d - 1) (by omega) (nI 0) (S 3 - nI 1)) rfl rfl rfl rfl (by omega) r.k3 ?_
    rintro o1 g1 ⟨G1, q1, hP⟩
    cases hx : fgR T e a (nI 0) (S 3 - nI 1) with
    | inl c =>
      rw [hx] at hP
      obtain ⟨rfl, b4⟩ := hP
      rw [pX_l]
      try simp (disch := omega) only [kd_stI, ln_stI, nn_stI, iI_stI, iR_stI, iJ_stI, sU_stI, kd_stR, ln_stR, nn_stR, iI_stR, iR_stR, iJ_stR, sU_stR, kd_stJ, ln_stJ, nn_stJ, iI_stJ, iR_stJ, iJ_stJ, sU_stJ, kd_alc, ln_alc, nn_alc, iI_alc, iR_alc, iJ_alc, sU_alc, e_const, e_lconst, e_null, e_iload, e_lload, e_aload, e_istore, e_astore, e_lstore, e_iinc, e_iadd, e_isub, e_imul, e_iand, e_ior, e_ixor, e_ishl, e_ishr, e_iushr, e_idiv, e_irem, e_ineg, e_i2l, e_i2b, e_i2c, e_lmul, e_lcmp, e_dup, e_pop, e_dup_x1, e_dup2, e_if_eq, e_icmp_eq, e_if_ne, e_icmp_ne, e_if_lt, e_icmp_lt, e_if_ge, e_icmp_ge, e_if_gt, e_icmp_gt, e_if_le, e_icmp_le, e_ifnull, e_ifnonnull, e_acmp_eq, e_acmp_ne, e_getI, e_getJ, e_getR, e_getSI, e_getSR, e_getEI, e_getER, e_putI, e_putJ, e_putR, e_iald, e_bald, e_zald, e_lald, e_aald, e_alen, e_iast, e_bast, e_zast, e_last, e_newa, e_new, e_newq, e_ret, e_vret, e_obj, e_mmax, e_mmin, e_ldcS, e_sref, e_exc, e_thr, e_stq, e_cast, e_castY, e_castA, e_instS, e_cpy, e_aast, e_cpyR, e_cln, e_gcl, e_ldcM, e_sw, swc_n, swc_c, kon_v, kon_r, kon_t, lg_0, lg_s, ls0, lay, List.length_cons, List.length_nil, List.replicate, List.cons_append, List.nil_append, ps, lp, List.set_cons_zero, List.set_cons_succ, jk, kd_hI, ln_hI, iI_hI, iR_hI, iJ_hI, nn_hI, sU_hI, stI_hI, hI_hI, K0e, and_true, true_and, rtOk, fOk, ge_iff_le, Nat.reduceLeDiff, Nat.reduceAdd, Nat.reduceSub, Nat.reduceLT, c1, lit, nN, nN2, nI_add, pk_mul, nI_clamp, vpi, nI_leI, nI_ltI, nI_eq, bP_z, not_true_eq_false, not_false_eq_true, false_implies, true_implies, implies_true, Nat.le_refl, Nat.lt_irrefl, true_or, or_true, m31, pk_sub, pk_m1, bP_1, bP_em, Classical.not_not, Nat.zero_le, cI_T, cI_F, thr_e, thr_0, thr_m, vus, vun, vuu, pk_us, e_xO, e_xC, ex_e, e_mabsN, Nat.reduceEqDiff, ↓reduceIte, pk_un]
      exact ⟨(G1.gd hn), rfl, b4, by omega, by omega⟩
    | inr x =>
      rw [hx] at hP ok
      obtain ⟨rfl, r1⟩ := hP
      have okx : a < x.2 ∧ x.2 ≤ e := ok
      have hw := hw.gd (G1.gd hn)
      have hr := hr.gw G1 hn
      have hn1 := r1.2.1
      obtain ⟨w1, v1⟩ := r1.2.2.2.1
      rw [pX_r]
      try simp (disch := omega) only [kd_stI, ln_stI, iR_stI, w1, v1, wk hw, wg hw, wgj hw, wr15 hw, wr16 hw, wr17 hw, wr18 hw, wr19 hw, wr20 hw, wr21 hw, wr22 hw, wr23 hw, wr24 hw, wr25 hw, wr26 hw, wr27 hw, wr28 hw, wr29 hw, wk1 hw, wk2 hw, wk3 hw, wk4 hw, wk5 hw, wk6 hw, wk7 hw, wk8 hw, wk9 hw, wk10 hw, wk11 hw, wk12 hw, wk13 hw, wk14 hw, wk15 hw, wl1 hw, wl2 hw, wl3 hw, wl4 hw, wl5 hw, wl6 hw, wl7 hw, wl8 hw, wl9 hw, wl10 hw, wl11 hw, wl12 hw, wl13 hw, wl14 hw, wl15 hw, wf0 hr, wf1 hr, wf2 hr, wf3 hr, wf4 hr, wf5 hr, wf6 hr, wf7 hr, wf8 hr, wf9 hr, wf10 hr, wf11 hr, wf12 hr, wf13 hr, wf14 hr, wv1 hr, wv2 hr, wv3 hr, wv4 hr, wv5 hr, wv6 hr, wv7 hr, wv8 hr, wv11 hr, wv12 hr, wv9 hr, wv10 hr, wv13 hr, wv14 hr, wv15 hr, e_const, e_lconst, e_null, e_iload, e_lload, e_aload, e_istore, e_astore, e_lstore, e_iinc, e_iadd, e_isub, e_imul, e_iand, e_ior, e_ixor, e_ishl, e_ishr, e_iushr, e_idiv, e_irem, e_ineg, e_i2l, e_i2b, e_i2c, e_lmul, e_lcmp, e_dup, e_pop, e_dup_x1, e_dup2, e_if_eq, e_icmp_eq, e_if_ne, e_icmp_ne, e_if_lt, e_icmp_lt, e_if_ge, e_icmp_ge, e_if_gt, e_icmp_gt, e_if_le, e_icmp_le, e_ifnull, e_ifnonnull, e_acmp_eq, e_acmp_ne, e_getI, e_getJ, e_getR, e_getSI, e_getSR, e_getEI, e_getER, e_putI, e_putJ, e_putR, e_iald, e_bald, e_zald, e_lald, e_aald, e_alen, e_iast, e_bast, e_zast, e_last, e_newa, e_new, e_newq, e_ret, e_vret, e_obj, e_mmax, e_mmin, e_ldcS, e_sref, e_exc, e_thr, e_stq, e_cast, e_castY, e_castA, e_instS, e_cpy, e_aast, e_cpyR, e_cln, e_gcl, e_ldcM, e_sw, swc_n, swc_c, kon_v, kon_r, kon_t, lg_0, lg_s, ls0, lay, List.length_cons, List.length_nil, List.replicate, List.cons_append, List.nil_append, ps, lp, List.set_cons_zero, List.set_cons_succ, jk, kd_hI, ln_hI, iI_hI, iR_hI, iJ_hI, nn_hI, sU_hI, stI_hI, hI_hI, K0e, and_true, true_and, rtOk, fOk, ge_iff_le, Nat.reduceLeDiff, Nat.reduceAdd, Nat.reduceSub, Nat.reduceLT, c1, lit, nN, nN2, nI_add, pk_mul, nI_clamp, vpi, nI_leI, nI_ltI, nI_eq, bP_z, not_true_eq_false, not_false_eq_true, false_implies, true_implies, implies_true, Nat.le_refl, Nat.lt_irrefl, true_or, or_true, m31, pk_sub, pk_m1, bP_1, bP_em, Classical.not_not, Nat.zero_le, cI_T, cI_F, thr_e, thr_0, thr_m, vus, vun, vuu, pk_us, e_xO, e_xC, ex_e, e_mabsN, Nat.reduceEqDiff, ↓reduceIte, pk_un]
      have E1 := (G1.gd hn)
      have x1 : DX (stI g1 321 (upd (iI g1 321) (nP S) x.1)) T e x.2 (upd S (92 + 8 * nP S + 0) x.1) := ⟨r1.st (by omega) (by omega) _, hw.gd (Gd.st g1 (by omega) (by omega) _), hr.a4 (by omega) x.1⟩
      have F1 := E1.trans (Gd.st g1 (a := 321) (by omega) (by omega) (upd (iI g1 321) (nP S) x.1))
      have nn1 : nn (stI g1 321 (upd (iI g1 321) (nP S) x.1)) = nn g1 := rfl
      have su1 : sU (stI g1 321 (upd (iI g1 321) (nP S) x.1)) = sU g1 := rfl
      generalize stI g1 321 (upd (iI g1 321) (nP S) x.1) = f1 at x1 F1 nn1 su1
      obtain ⟨t1, hw, hr⟩ := x1
      have hm1 := t1.2.1
      have ok := greR_ok (T := T) okx.2
      refine cl _ _ (sX1_greetingTold (d := d - 1) t1 (by omega)) rfl rfl rfl rfl (by omega) t1.2.2.2.1.1 ?_
      rintro o2 g3 ⟨G2, hP⟩
      cases hy : greR T e x.2 with
      | inl c =>
        rw [hy] at hP
        obtain ⟨rfl, b4, p2, s2⟩ := hP
        rw [pX_l]
        try simp (disch := omega) only [kd_stI, ln_stI, nn_stI, iI_stI, iR_stI, iJ_stI, sU_stI, kd_stR, ln_stR, nn_stR, iI_stR, iR_stR, iJ_stR, sU_stR, kd_stJ, ln_stJ, nn_stJ, iI_stJ, iR_stJ, iJ_stJ, sU_stJ, kd_alc, ln_alc, nn_alc, iI_alc, iR_alc, iJ_alc, sU_alc, e_const, e_lconst, e_null, e_iload, e_lload, e_aload, e_istore, e_astore, e_lstore, e_iinc, e_iadd, e_isub, e_imul, e_iand, e_ior, e_ixor, e_ishl, e_ishr, e_iushr, e_idiv, e_irem, e_ineg, e_i2l, e_i2b, e_i2c, e_lmul, e_lcmp, e_dup, e_pop, e_dup_x1, e_dup2, e_if_eq, e_icmp_eq, e_if_ne, e_icmp_ne, e_if_lt, e_icmp_lt, e_if_ge, e_icmp_ge, e_if_gt, e_icmp_gt, e_if_le, e_icmp_le, e_ifnull, e_ifnonnull, e_acmp_eq, e_acmp_ne, e_getI, e_getJ, e_getR, e_getSI, e_getSR, e_getEI, e_getER, e_putI, e_putJ, e_putR, e_iald, e_bald, e_zald, e_lald, e_aald, e_alen, e_iast, e_bast, e_zast, e_last, e_newa, e_new, e_newq, e_ret, e_vret, e_obj, e_mmax, e_mmin, e_ldcS, e_sref, e_exc, e_thr, e_stq, e_cast, e_castY, e_castA, e_instS, e_cpy, e_aast, e_cpyR, e_cln, e_gcl, e_ldcM, e_sw, swc_n, swc_c, kon_v, kon_r, kon_t, lg_0, lg_s, ls0, lay, List.length_cons, List.length_nil, List.replicate, List.cons_append, List.nil_append, ps, lp, List.set_cons_zero, List.set_cons_succ, jk, kd_hI, ln_hI, iI_hI, iR_hI, iJ_hI, nn_hI, sU_hI, stI_hI, hI_hI, K0e, and_true, true_and, rtOk, fOk, ge_iff_le, Nat.reduceLeDiff, Nat.reduceAdd, Nat.reduceSub, Nat.reduceLT, c1, lit, nN, nN2, nI_add, pk_mul, nI_clamp, vpi, nI_leI, nI_ltI, nI_eq, bP_z, not_true_eq_false, not_false_eq_true, false_implies, true_implies, implies_true, Nat.le_refl, Nat.lt_irrefl, true_or, or_true, m31, pk_sub, pk_m1, bP_1, bP_em, Classical.not_not, Nat.zero_le, cI_T, cI_F, thr_e, thr_0, thr_m, vus, vun, vuu, pk_us, e_xO, e_xC, ex_e, e_mabsN, Nat.reduceEqDiff, ↓reduceIte, pk_un]
        exact ⟨(F1.trans (G2.gd hm1)), rfl, b4, by omega, by omega⟩
      | inr y =>
        rw [hy] at hP ok
        obtain ⟨rfl, r2, p2, s2⟩ := hP
        have oky : x.2 < y.2 ∧ y.2 ≤ e := ok
        have hw := hw.gd (G2.gd hm1)
        have hr := hr.gw G2 hm1
        have hn2 := r2.2.1
        obtain ⟨w2, v2⟩ := r2.2.2.2.1
        rw [pX_r]
        try simp (disch := omega) only [kd_stI, ln_stI, iR_stI, w2, v2, wk hw, wg hw, wgj hw, wr15 hw, wr16 hw, wr17 hw, wr18 hw, wr19 hw, wr20 hw, wr21 hw, wr22 hw, wr23 hw, wr24 hw, wr25 hw, wr26 hw, wr27 hw, wr28 hw, wr29 hw, wk1 hw, wk2 hw, wk3 hw, wk4 hw, wk5 hw, wk6 hw, wk7 hw, wk8 hw, wk9 hw, wk10 hw, wk11 hw, wk12 hw, wk13 hw, wk14 hw, wk15 hw, wl1 hw, wl2 hw, wl3 hw, wl4 hw, wl5 hw, wl6 hw, wl7 hw, wl8 hw, wl9 hw, wl10 hw, wl11 hw, wl12 hw, wl13 hw, wl14 hw, wl15 hw, wf0 hr, wf1 hr, wf2 hr, wf3 hr, wf4 hr, wf5 hr, wf6 hr, wf7 hr, wf8 hr, wf9 hr, wf10 hr, wf11 hr, wf12 hr, wf13 hr, wf14 hr, wv1 hr, wv2 hr, wv3 hr, wv4 hr, wv5 hr, wv6 hr, wv7 hr, wv8 hr, wv11 hr, wv12 hr, wv9 hr, wv10 hr, wv13 hr, wv14 hr, wv15 hr, e_const, e_lconst, e_null, e_iload, e_lload, e_aload, e_istore, e_astore, e_lstore, e_iinc, e_iadd, e_isub, e_imul, e_iand, e_ior, e_ixor, e_ishl, e_ishr, e_iushr, e_idiv, e_irem, e_ineg, e_i2l, e_i2b, e_i2c, e_lmul, e_lcmp, e_dup, e_pop, e_dup_x1, e_dup2, e_if_eq, e_icmp_eq, e_if_ne, e_icmp_ne, e_if_lt, e_icmp_lt, e_if_ge, e_icmp_ge, e_if_gt, e_icmp_gt, e_if_le, e_icmp_le, e_ifnull, e_ifnonnull, e_acmp_eq, e_acmp_ne, e_getI, e_getJ, e_getR, e_getSI, e_getSR, e_getEI, e_getER, e_putI, e_putJ, e_putR, e_iald, e_bald, e_zald, e_lald, e_aald, e_alen, e_iast, e_bast, e_zast, e_last, e_newa, e_new, e_newq, e_ret, e_vret, e_obj, e_mmax, e_mmin, e_ldcS, e_sref, e_exc, e_thr, e_stq, e_cast, e_castY, e_castA, e_instS, e_cpy, e_aast, e_cpyR, e_cln, e_gcl, e_ldcM, e_sw, swc_n, swc_c, kon_v, kon_r, kon_t, lg_0, lg_s, ls0, lay, List.length_cons, List.length_nil, List.replicate, List.cons_append, List.nil_append, ps, lp, List.set_cons_zero, List.set_cons_succ, jk, kd_hI, ln_hI, iI_hI, iR_hI, iJ_hI, nn_hI, sU_hI, stI_hI, hI_hI, K0e, and_true, true_and, rtOk, fOk, ge_iff_le, Nat.reduceLeDiff, Nat.reduceAdd, Nat.reduceSub, Nat.reduceLT, c1, lit, nN, nN2, nI_add, pk_mul, nI_clamp, vpi, nI_leI, nI_ltI, nI_eq, bP_z, not_true_eq_false, not_false_eq_true, false_implies, true_implies, implies_true, Nat.le_refl, Nat.lt_irrefl, true_or, or_true, m31, pk_sub, pk_m1, bP_1, bP_em, Classical.not_not, Nat.zero_le, cI_T, cI_F, thr_e, thr_0, thr_m, vus, vun, vuu, pk_us, e_xO, e_xC, ex_e, e_mabsN, Nat.reduceEqDiff, ↓reduceIte, pk_un]
        have E2 := (F1.trans (G2.gd hm1))
        have x2 : DX (stI g3 322 (upd (iI g3 322) (nP S) y.1)) T e y.2 (upd (upd S (92 + 8 * nP S + 0) x.1) (92 + 8 * nP S + 1) y.1) := ⟨r2.st (by omega) (by omega) _, hw.gd (Gd.st g3 (by omega) (by omega) _), hr.a5 (by omega) y.1⟩
        have F2 := E2.trans (Gd.st g3 (a := 322) (by omega) (by omega) (upd (iI g3 322) (nP S) y.1))
        have nn2 : nn (stI g3 322 (upd (iI g3 322) (nP S) y.1)) = nn g3 := rfl
        have su2 : sU (stI g3 322 (upd (iI g3 322) (nP S) y.1)) = sU g3 := rfl
        generalize stI g3 322 (upd (iI g3 322) (nP S) y.1) = f2 at x2 F2 nn2 su2
        obtain ⟨t2, hw, hr⟩ := x2
        have hm2 := t2.2.1
        have ok := muR_ok (T := T) oky.2 36 (by decide)
        refine cl _ _ (sX1_needs (d := d - 1) t2 (by omega) (w := 36) 3 (by omega) rfl) rfl rfl rfl rfl (by omega) t2.2.2.2.1.1 ?_
        rintro o3 g5 ⟨G3, q3, hP⟩
        cases hm : muR T e 36 y.2 with
        | inl c =>
          rw [hm] at hP
          obtain ⟨rfl, b4⟩ := hP
          rw [pX_l]
          try simp (disch := omega) only [kd_stI, ln_stI, nn_stI, iI_stI, iR_stI, iJ_stI, sU_stI, kd_stR, ln_stR, nn_stR, iI_stR, iR_stR, iJ_stR, sU_stR, kd_stJ, ln_stJ, nn_stJ, iI_stJ, iR_stJ, iJ_stJ, sU_stJ, kd_alc, ln_alc, nn_alc, iI_alc, iR_alc, iJ_alc, sU_alc, e_const, e_lconst, e_null, e_iload, e_lload, e_aload, e_istore, e_astore, e_lstore, e_iinc, e_iadd, e_isub, e_imul, e_iand, e_ior, e_ixor, e_ishl, e_ishr, e_iushr, e_idiv, e_irem, e_ineg, e_i2l, e_i2b, e_i2c, e_lmul, e_lcmp, e_dup, e_pop, e_dup_x1, e_dup2, e_if_eq, e_icmp_eq, e_if_ne, e_icmp_ne, e_if_lt, e_icmp_lt, e_if_ge, e_icmp_ge, e_if_gt, e_icmp_gt, e_if_le, e_icmp_le, e_ifnull, e_ifnonnull, e_acmp_eq, e_acmp_ne, e_getI, e_getJ, e_getR, e_getSI, e_getSR, e_getEI, e_getER, e_putI, e_putJ, e_putR, e_iald, e_bald, e_zald, e_lald, e_aald, e_alen, e_iast, e_bast, e_zast, e_last, e_newa, e_new, e_newq, e_ret, e_vret, e_obj, e_mmax, e_mmin, e_ldcS, e_sref, e_exc, e_thr, e_stq, e_cast, e_castY, e_castA, e_instS, e_cpy, e_aast, e_cpyR, e_cln, e_gcl, e_ldcM, e_sw, swc_n, swc_c, kon_v, kon_r, kon_t, lg_0, lg_s, ls0, lay, List.length_cons, List.length_nil, List.replicate, List.cons_append, List.nil_append, ps, lp, List.set_cons_zero, List.set_cons_succ, jk, kd_hI, ln_hI, iI_hI, iR_hI, iJ_hI, nn_hI, sU_hI, stI_hI, hI_hI, K0e, and_true, true_and, rtOk, fOk, ge_iff_le, Nat.reduceLeDiff, Nat.reduceAdd, Nat.reduceSub, Nat.reduceLT, c1, lit, nN, nN2, nI_add, pk_mul, nI_clamp, vpi, nI_leI, nI_ltI, nI_eq, bP_z, not_true_eq_false, not_false_eq_true, false_implies, true_implies, implies_true, Nat.le_refl, Nat.lt_irrefl, true_or, or_true, m31, pk_sub, pk_m1, bP_1, bP_em, Classical.not_not, Nat.zero_le, cI_T, cI_F, thr_e, thr_0, thr_m, vus, vun, vuu, pk_us, e_xO, e_xC, ex_e, e_mabsN, Nat.reduceEqDiff, ↓reduceIte, pk_un]
          exact ⟨(F2.trans (G3.gd hm2)), rfl, b4, by omega, by omega⟩
        | inr m =>
          rw [hm] at hP ok
          obtain ⟨rfl, r3⟩ := hP
          have okm : y.2 < m.2 ∧ m.2 ≤ e := ok
          have hw := hw.gd (G3.gd hm2)
          have hr := hr.gw G3 hm2
          have hn3 := r3.2.1
          obtain ⟨w3, v3⟩ := r3.2.2.2.1
          rw [pX_r]
          try simp (disch := omega) only [kd_stI, ln_stI, iR_stI, w3, v3, wk hw, wg hw, wgj hw, wr15 hw, wr16 hw, wr17 hw, wr18 hw, wr19 hw, wr20 hw, wr21 hw, wr22 hw, wr23 hw, wr24 hw, wr25 hw, wr26 hw, wr27 hw, wr28 hw, wr29 hw, wk1 hw, wk2 hw, wk3 hw, wk4 hw, wk5 hw, wk6 hw, wk7 hw, wk8 hw, wk9 hw, wk10 hw, wk11 hw, wk12 hw, wk13 hw, wk14 hw, wk15 hw, wl1 hw, wl2 hw, wl3 hw, wl4 hw, wl5 hw, wl6 hw, wl7 hw, wl8 hw, wl9 hw, wl10 hw, wl11 hw, wl12 hw, wl13 hw, wl14 hw, wl15 hw, wf0 hr, wf1 hr, wf2 hr, wf3 hr, wf4 hr, wf5 hr, wf6 hr, wf7 hr, wf8 hr, wf9 hr, wf10 hr, wf11 hr, wf12 hr, wf13 hr, wf14 hr, wv1 hr, wv2 hr, wv3 hr, wv4 hr, wv5 hr, wv6 hr, wv7 hr, wv8 hr, wv11 hr, wv12 hr, wv9 hr, wv10 hr, wv13 hr, wv14 hr, wv15 hr, e_const, e_lconst, e_null, e_iload, e_lload, e_aload, e_istore, e_astore, e_lstore, e_iinc, e_iadd, e_isub, e_imul, e_iand, e_ior, e_ixor, e_ishl, e_ishr, e_iushr, e_idiv, e_irem, e_ineg, e_i2l, e_i2b, e_i2c, e_lmul, e_lcmp, e_dup, e_pop, e_dup_x1, e_dup2, e_if_eq, e_icmp_eq, e_if_ne, e_icmp_ne, e_if_lt, e_icmp_lt, e_if_ge, e_icmp_ge, e_if_gt, e_icmp_gt, e_if_le, e_icmp_le, e_ifnull, e_ifnonnull, e_acmp_eq, e_acmp_ne, e_getI, e_getJ, e_getR, e_getSI, e_getSR, e_getEI, e_getER, e_putI, e_putJ, e_putR, e_iald, e_bald, e_zald, e_lald, e_aald, e_alen, e_iast, e_bast, e_zast, e_last, e_newa, e_new, e_newq, e_ret, e_vret, e_obj, e_mmax, e_mmin, e_ldcS, e_sref, e_exc, e_thr, e_stq, e_cast, e_castY, e_castA, e_instS, e_cpy, e_aast, e_cpyR, e_cln, e_gcl, e_ldcM, e_sw, swc_n, swc_c, kon_v, kon_r, kon_t, lg_0, lg_s, ls0, lay, List.length_cons, List.length_nil, List.replicate, List.cons_append, List.nil_append, ps, lp, List.set_cons_zero, List.set_cons_succ, jk, kd_hI, ln_hI, iI_hI, iR_hI, iJ_hI, nn_hI, sU_hI, stI_hI, hI_hI, K0e, and_true, true_and, rtOk, fOk, ge_iff_le, Nat.reduceLeDiff, Nat.reduceAdd, Nat.reduceSub, Nat.reduceLT, c1, lit, nN, nN2, nI_add, pk_mul, nI_clamp, vpi, nI_leI, nI_ltI, nI_eq, bP_z, not_true_eq_false, not_false_eq_true, false_implies, true_implies, implies_true, Nat.le_refl, Nat.lt_irrefl, true_or, or_true, m31, pk_sub, pk_m1, bP_1, bP_em, Classical.not_not, Nat.zero_le, cI_T, cI_F, thr_e, thr_0, thr_m, vus, vun, vuu, pk_us, e_xO, e_xC, ex_e, e_mabsN, Nat.reduceEqDiff, ↓reduceIte, pk_un]
          have E3 := (F2.trans (G3.gd hm2))
          have ok := fgR_ok (T := T) okm.2 (nI 0) (nI 9)
          refine cl _ _ (sX3_num r3 (d := d - 1) (by omega) (nI 0) (nI 9)) rfl rfl rfl rfl (by omega) r3.k3 ?_
          rintro o4 g7 ⟨G4, q4, hP⟩
          cases hz : fgR T e m.2 (nI 0) (nI 9) with
          | inl c =>
            rw [hz] at hP
            obtain ⟨rfl, b4⟩ := hP
            rw [pX_l]
            try simp (disch := omega) only [kd_stI, ln_stI, nn_stI, iI_stI, iR_stI, iJ_stI, sU_stI, kd_stR, ln_stR, nn_stR, iI_stR, iR_stR, iJ_stR, sU_stR, kd_stJ, ln_stJ, nn_stJ, iI_stJ, iR_stJ, iJ_stJ, sU_stJ, kd_alc, ln_alc, nn_alc, iI_alc, iR_alc, iJ_alc, sU_alc, e_const, e_lconst, e_null, e_iload, e_lload, e_aload, e_istore, e_astore, e_lstore, e_iinc, e_iadd, e_isub, e_imul, e_iand, e_ior, e_ixor, e_ishl, e_ishr, e_iushr, e_idiv, e_irem, e_ineg, e_i2l, e_i2b, e_i2c, e_lmul, e_lcmp, e_dup, e_pop, e_dup_x1, e_dup2, e_if_eq, e_icmp_eq, e_if_ne, e_icmp_ne, e_if_lt, e_icmp_lt, e_if_ge, e_icmp_ge, e_if_gt, e_icmp_gt, e_if_le, e_icmp_le, e_ifnull, e_ifnonnull, e_acmp_eq, e_acmp_ne, e_getI, e_getJ, e_getR, e_getSI, e_getSR, e_getEI, e_getER, e_putI, e_putJ, e_putR, e_iald, e_bald, e_zald, e_lald, e_aald, e_alen, e_iast, e_bast, e_zast, e_last, e_newa, e_new, e_newq, e_ret, e_vret, e_obj, e_mmax, e_mmin, e_ldcS, e_sref, e_exc, e_thr, e_stq, e_cast, e_castY, e_castA, e_instS, e_cpy, e_aast, e_cpyR, e_cln, e_gcl, e_ldcM, e_sw, swc_n, swc_c, kon_v, kon_r, kon_t, lg_0, lg_s, ls0, lay, List.length_cons, List.length_nil, List.replicate, List.cons_append, List.nil_append, ps, lp, List.set_cons_zero, List.set_cons_succ, jk, kd_hI, ln_hI, iI_hI, iR_hI, iJ_hI, nn_hI, sU_hI, stI_hI, hI_hI, K0e, and_true, true_and, rtOk, fOk, ge_iff_le, Nat.reduceLeDiff, Nat.reduceAdd, Nat.reduceSub, Nat.reduceLT, c1, lit, nN, nN2, nI_add, pk_mul, nI_clamp, vpi, nI_leI, nI_ltI, nI_eq, bP_z, not_true_eq_false, not_false_eq_true, false_implies, true_implies, implies_true, Nat.le_refl, Nat.lt_irrefl, true_or, or_true, m31, pk_sub, pk_m1, bP_1, bP_em, Classical.not_not, Nat.zero_le, cI_T, cI_F, thr_e, thr_0, thr_m, vus, vun, vuu, pk_us, e_xO, e_xC, ex_e, e_mabsN, Nat.reduceEqDiff, ↓reduceIte, pk_un]
            exact ⟨(E3.trans (G4.gd hn3)), rfl, b4, by omega, by omega⟩
          | inr z =>
            rw [hz] at hP ok
            obtain ⟨rfl, r4⟩ := hP
            have okz : m.2 < z.2 ∧ z.2 ≤ e := ok
            have hw := hw.gd (G4.gd hn3)
            have hr := hr.gw G4 hn3
            have hn4 := r4.2.1
            obtain ⟨w4, v4⟩ := r4.2.2.2.1
            rw [pX_r]
            try simp (disch := omega) only [kd_stI, ln_stI, iR_stI, w4, v4, wk hw, wg hw, wgj hw, wr15 hw, wr16 hw, wr17 hw, wr18 hw, wr19 hw, wr20 hw, wr21 hw, wr22 hw, wr23 hw, wr24 hw, wr25 hw, wr26 hw, wr27 hw, wr28 hw, wr29 hw, wk1 hw, wk2 hw, wk3 hw, wk4 hw, wk5 hw, wk6 hw, wk7 hw, wk8 hw, wk9 hw, wk10 hw, wk11 hw, wk12 hw, wk13 hw, wk14 hw, wk15 hw, wl1 hw, wl2 hw, wl3 hw, wl4 hw, wl5 hw, wl6 hw, wl7 hw, wl8 hw, wl9 hw, wl10 hw, wl11 hw, wl12 hw, wl13 hw, wl14 hw, wl15 hw, wf0 hr, wf1 hr, wf2 hr, wf3 hr, wf4 hr, wf5 hr, wf6 hr, wf7 hr, wf8 hr, wf9 hr, wf10 hr, wf11 hr, wf12 hr, wf13 hr, wf14 hr, wv1 hr, wv2 hr, wv3 hr, wv4 hr, wv5 hr, wv6 hr, wv7 hr, wv8 hr, wv11 hr, wv12 hr, wv9 hr, wv10 hr, wv13 hr, wv14 hr, wv15 hr, e_const, e_lconst, e_null, e_iload, e_lload, e_aload, e_istore, e_astore, e_lstore, e_iinc, e_iadd, e_isub, e_imul, e_iand, e_ior, e_ixor, e_ishl, e_ishr, e_iushr, e_idiv, e_irem, e_ineg, e_i2l, e_i2b, e_i2c, e_lmul, e_lcmp, e_dup, e_pop, e_dup_x1, e_dup2, e_if_eq, e_icmp_eq, e_if_ne, e_icmp_ne, e_if_lt, e_icmp_lt, e_if_ge, e_icmp_ge, e_if_gt, e_icmp_gt, e_if_le, e_icmp_le, e_ifnull, e_ifnonnull, e_acmp_eq, e_acmp_ne, e_getI, e_getJ, e_getR, e_getSI, e_getSR, e_getEI, e_getER, e_putI, e_putJ, e_putR, e_iald, e_bald, e_zald, e_lald, e_aald, e_alen, e_iast, e_bast, e_zast, e_last, e_newa, e_new, e_newq, e_ret, e_vret, e_obj, e_mmax, e_mmin, e_ldcS, e_sref, e_exc, e_thr, e_stq, e_cast, e_castY, e_castA, e_instS, e_cpy, e_aast, e_cpyR, e_cln, e_gcl, e_ldcM, e_sw, swc_n, swc_c, kon_v, kon_r, kon_t, lg_0, lg_s, ls0, lay, List.length_cons, List.length_nil, List.replicate, List.cons_append, List.nil_append, ps, lp, List.set_cons_zero, List.set_cons_succ, jk, kd_hI, ln_hI, iI_hI, iR_hI, iJ_hI, nn_hI, sU_hI, stI_hI, hI_hI, K0e, and_true, true_and, rtOk, fOk, ge_iff_le, Nat.reduceLeDiff, Nat.reduceAdd, Nat.reduceSub, Nat.reduceLT, c1, lit, nN, nN2, nI_add, pk_mul, nI_clamp, vpi, nI_leI, nI_ltI, nI_eq, bP_z, not_true_eq_false, not_false_eq_true, false_implies, true_implies, implies_true, Nat.le_refl, Nat.lt_irrefl, true_or, or_true, m31, pk_sub, pk_m1, bP_1, bP_em, Classical.not_not, Nat.zero_le, cI_T, cI_F, thr_e, thr_0, thr_m, vus, vun, vuu, pk_us, e_xO, e_xC, ex_e, e_mabsN, Nat.reduceEqDiff, ↓reduceIte, pk_un]
            have E4 := (E3.trans (G4.gd hn3))
            have x4 : DX (stI g7 323 (upd (iI g7 323) (nP S) z.1)) T e z.2 (upd (upd (upd S (92 + 8 * nP S + 0) x.1) (92 + 8 * nP S + 1) y.1) (92 + 8 * nP S + 2) z.1) := ⟨r4.st (by omega) (by omega) _, hw.gd (Gd.st g7 (by omega) (by omega) _), hr.a6 (by omega) z.1⟩
            have F4 := E4.trans (Gd.st g7 (a := 323) (by omega) (by omega) (upd (iI g7 323) (nP S) z.1))
            have nn4 : nn (stI g7 323 (upd (iI g7 323) (nP S) z.1)) = nn g7 := rfl
            have su4 : sU (stI g7 323 (upd (iI g7 323) (nP S) z.1)) = sU g7 := rfl
            generalize stI g7 323 (upd (iI g7 323) (nP S) z.1) = f4 at x4 F4 nn4 su4
            obtain ⟨t4, hw, hr⟩ := x4
            have hm4 := t4.2.1
            have ok := muR_ok (T := T) okz.2 38 (by decide)
            refine cl _ _ (sX1_needs (d := d - 1) t4 (by omega) (w := 38) 4 (by omega) rfl) rfl rfl rfl rfl (by omega) t4.2.2.2.1.1 ?_
            rintro o5 g9 ⟨G5, q5, hP⟩
            cases hn : muR T e 38 z.2 with
            | inl c =>
              rw [hn] at hP
              obtain ⟨rfl, b4⟩ := hP
              rw [pX_l]
              try simp (disch := omega) only [kd_stI, ln_stI, nn_stI, iI_stI, iR_stI, iJ_stI, sU_stI, kd_stR, ln_stR, nn_stR, iI_stR, iR_stR, iJ_stR, sU_stR, kd_stJ, ln_stJ, nn_stJ, iI_stJ, iR_stJ, iJ_stJ, sU_stJ, kd_alc, ln_alc, nn_alc, iI_alc, iR_alc, iJ_alc, sU_alc, e_const, e_lconst, e_null, e_iload, e_lload, e_aload, e_istore, e_astore, e_lstore, e_iinc, e_iadd, e_isub, e_imul, e_iand, e_ior, e_ixor, e_ishl, e_ishr, e_iushr, e_idiv, e_irem, e_ineg, e_i2l, e_i2b, e_i2c, e_lmul, e_lcmp, e_dup, e_pop, e_dup_x1, e_dup2, e_if_eq, e_icmp_eq, e_if_ne, e_icmp_ne, e_if_lt, e_icmp_lt, e_if_ge, e_icmp_ge, e_if_gt, e_icmp_gt, e_if_le, e_icmp_le, e_ifnull, e_ifnonnull, e_acmp_eq, e_acmp_ne, e_getI, e_getJ, e_getR, e_getSI, e_getSR, e_getEI, e_getER, e_putI, e_putJ, e_putR, e_iald, e_bald, e_zald, e_lald, e_aald, e_alen, e_iast, e_bast, e_zast, e_last, e_newa, e_new, e_newq, e_ret, e_vret, e_obj, e_mmax, e_mmin, e_ldcS, e_sref, e_exc, e_thr, e_stq, e_cast, e_castY, e_castA, e_instS, e_cpy, e_aast, e_cpyR, e_cln, e_gcl, e_ldcM, e_sw, swc_n, swc_c, kon_v, kon_r, kon_t, lg_0, lg_s, ls0, lay, List.length_cons, List.length_nil, List.replicate, List.cons_append, List.nil_append, ps, lp, List.set_cons_zero, List.set_cons_succ, jk, kd_hI, ln_hI, iI_hI, iR_hI, iJ_hI, nn_hI, sU_hI, stI_hI, hI_hI, K0e, and_true, true_and, rtOk, fOk, ge_iff_le, Nat.reduceLeDiff, Nat.reduceAdd, Nat.reduceSub, Nat.reduceLT, c1, lit, nN, nN2, nI_add, pk_mul, nI_clamp, vpi, nI_leI, nI_ltI, nI_eq, bP_z, not_true_eq_false, not_false_eq_true, false_implies, true_implies, implies_true, Nat.le_refl, Nat.lt_irrefl, true_or, or_true, m31, pk_sub, pk_m1, bP_1, bP_em, Classical.not_not, Nat.zero_le, cI_T, cI_F, thr_e, thr_0, thr_m, vus, vun, vuu, pk_us, e_xO, e_xC, ex_e, e_mabsN, Nat.reduceEqDiff, ↓reduceIte, pk_un]
              exact ⟨(F4.trans (G5.gd hm4)), rfl, b4, by omega, by omega⟩
            | inr n =>
              rw [hn] at hP ok
              obtain ⟨rfl, r5⟩ := hP
              have okn : z.2 < n.2 ∧ n.2 ≤ e := ok
              have hw := hw.gd (G5.gd hm4)
              have hr := hr.gw G5 hm4
              have hn5 := r5.2.1
              obtain ⟨w5, v5⟩ := r5.2.2.2.1
              rw [pX_r]
              try simp (disch := omega) only [kd_stI, ln_stI, iR_stI, w5, v5, wk hw, wg hw, wgj hw, wr15 hw, wr16 hw, wr17 hw, wr18 hw, wr19 hw, wr20 hw, wr21 hw, wr22 hw, wr23 hw, wr24 hw, wr25 hw, wr26 hw, wr27 hw, wr28 hw, wr29 hw, wk1 hw, wk2 hw, wk3 hw, wk4 hw, wk5 hw, wk6 hw, wk7 hw, wk8 hw, wk9 hw, wk10 hw, wk11 hw, wk12 hw, wk13 hw, wk14 hw, wk15 hw, wl1 hw, wl2 hw, wl3 hw, wl4 hw, wl5 hw, wl6 hw, wl7 hw, wl8 hw, wl9 hw, wl10 hw, wl11 hw, wl12 hw, wl13 hw, wl14 hw, wl15 hw, wf0 hr, wf1 hr, wf2 hr, wf3 hr, wf4 hr, wf5 hr, wf6 hr, wf7 hr, wf8 hr, wf9 hr, wf10 hr, wf11 hr, wf12 hr, wf13 hr, wf14 hr, wv1 hr, wv2 hr, wv3 hr, wv4 hr, wv5 hr, wv6 hr, wv7 hr, wv8 hr, wv11 hr, wv12 hr, wv9 hr, wv10 hr, wv13 hr, wv14 hr, wv15 hr, e_const, e_lconst, e_null, e_iload, e_lload, e_aload, e_istore, e_astore, e_lstore, e_iinc, e_iadd, e_isub, e_imul, e_iand, e_ior, e_ixor, e_ishl, e_ishr, e_iushr, e_idiv, e_irem, e_ineg, e_i2l, e_i2b, e_i2c, e_lmul, e_lcmp, e_dup, e_pop, e_dup_x1, e_dup2, e_if_eq, e_icmp_eq, e_if_ne, e_icmp_ne, e_if_lt, e_icmp_lt, e_if_ge, e_icmp_ge, e_if_gt, e_icmp_gt, e_if_le, e_icmp_le, e_ifnull, e_ifnonnull, e_acmp_eq, e_acmp_ne, e_getI, e_getJ, e_getR, e_getSI, e_getSR, e_getEI, e_getER, e_putI, e_putJ, e_putR, e_iald, e_bald, e_zald, e_lald, e_aald, e_alen, e_iast, e_bast, e_zast, e_last, e_newa, e_new, e_newq, e_ret, e_vret, e_obj, e_mmax, e_mmin, e_ldcS, e_sref, e_exc, e_thr, e_stq, e_cast, e_castY, e_castA, e_instS, e_cpy, e_aast, e_cpyR, e_cln, e_gcl, e_ldcM, e_sw, swc_n, swc_c, kon_v, kon_r, kon_t, lg_0, lg_s, ls0, lay, List.length_cons, List.length_nil, List.replicate, List.cons_append, List.nil_append, ps, lp, List.set_cons_zero, List.set_cons_succ, jk, kd_hI, ln_hI, iI_hI, iR_hI, iJ_hI, nn_hI, sU_hI, stI_hI, hI_hI, K0e, and_true, true_and, rtOk, fOk, ge_iff_le, Nat.reduceLeDiff, Nat.reduceAdd, Nat.reduceSub, Nat.reduceLT, c1, lit, nN, nN2, nI_add, pk_mul, nI_clamp, vpi, nI_leI, nI_ltI, nI_eq, bP_z, not_true_eq_false, not_false_eq_true, false_implies, true_implies, implies_true, Nat.le_refl, Nat.lt_irrefl, true_or, or_true, m31, pk_sub, pk_m1, bP_1, bP_em, Classical.not_not, Nat.zero_le, cI_T, cI_F, thr_e, thr_0, thr_m, vus, vun, vuu, pk_us, e_xO, e_xC, ex_e, e_mabsN, Nat.reduceEqDiff, ↓reduceIte, pk_un]
              have E5 := (F4.trans (G5.gd hm4))
              have ok := fgR_ok (T := T) okn.2 (nI 0) (nI 100)
              refine cl _ _ (sX3_num r5 (d := d - 1) (by omega) (nI 0) (nI 100)) rfl rfl rfl rfl (by omega) r5.k3 ?_
              rintro o6 g11 ⟨G6, q6, hP⟩
              cases hu : fgR T e n.2 (nI 0) (nI 100) with
              | inl c =>
                rw [hu] at hP
                obtain ⟨rfl, b4⟩ := hP
                rw [pX_l]
                try simp (disch := omega) only [kd_stI, ln_stI, nn_stI, iI_stI, iR_stI, iJ_stI, sU_stI, kd_stR, ln_stR, nn_stR, iI_stR, iR_stR, iJ_stR, sU_stR, kd_stJ, ln_stJ, nn_stJ, iI_stJ, iR_stJ, iJ_stJ, sU_stJ, kd_alc, ln_alc, nn_alc, iI_alc, iR_alc, iJ_alc, sU_alc, e_const, e_lconst, e_null, e_iload, e_lload, e_aload, e_istore, e_astore, e_lstore, e_iinc, e_iadd, e_isub, e_imul, e_iand, e_ior, e_ixor, e_ishl, e_ishr, e_iushr, e_idiv, e_irem, e_ineg, e_i2l, e_i2b, e_i2c, e_lmul, e_lcmp, e_dup, e_pop, e_dup_x1, e_dup2, e_if_eq, e_icmp_eq, e_if_ne, e_icmp_ne, e_if_lt, e_icmp_lt, e_if_ge, e_icmp_ge, e_if_gt, e_icmp_gt, e_if_le, e_icmp_le, e_ifnull, e_ifnonnull, e_acmp_eq, e_acmp_ne, e_getI, e_getJ, e_getR, e_getSI, e_getSR, e_getEI, e_getER, e_putI, e_putJ, e_putR, e_iald, e_bald, e_zald, e_lald, e_aald, e_alen, e_iast, e_bast, e_zast, e_last, e_newa, e_new, e_newq, e_ret, e_vret, e_obj, e_mmax, e_mmin, e_ldcS, e_sref, e_exc, e_thr, e_stq, e_cast, e_castY, e_castA, e_instS, e_cpy, e_aast, e_cpyR, e_cln, e_gcl, e_ldcM, e_sw, swc_n, swc_c, kon_v, kon_r, kon_t, lg_0, lg_s, ls0, lay, List.length_cons, List.length_nil, List.replicate, List.cons_append, List.nil_append, ps, lp, List.set_cons_zero, List.set_cons_succ, jk, kd_hI, ln_hI, iI_hI, iR_hI, iJ_hI, nn_hI, sU_hI, stI_hI, hI_hI, K0e, and_true, true_and, rtOk, fOk, ge_iff_le, Nat.reduceLeDiff, Nat.reduceAdd, Nat.reduceSub, Nat.reduceLT, c1, lit, nN, nN2, nI_add, pk_mul, nI_clamp, vpi, nI_leI, nI_ltI, nI_eq, bP_z, not_true_eq_false, not_false_eq_true, false_implies, true_implies, implies_true, Nat.le_refl, Nat.lt_irrefl, true_or, or_true, m31, pk_sub, pk_m1, bP_1, bP_em, Classical.not_not, Nat.zero_le, cI_T, cI_F, thr_e, thr_0, thr_m, vus, vun, vuu, pk_us, e_xO, e_xC, ex_e, e_mabsN, Nat.reduceEqDiff, ↓reduceIte, pk_un]
                exact ⟨(E5.trans (G6.gd hn5)), rfl, b4, by omega, by omega⟩
              | inr u =>
                rw [hu] at hP ok
                obtain ⟨rfl, r6⟩ := hP
                have oku : n.2 < u.2 ∧ u.2 ≤ e := ok
                have hw := hw.gd (G6.gd hn5)
                have hr := hr.gw G6 hn5
                have hn6 := r6.2.1
                obtain ⟨w6, v6⟩ := r6.2.2.2.1
                rw [pX_r]
                try simp (disch := omega) only [kd_stI, ln_stI, iR_stI, w6, v6, wk hw, wg hw, wgj hw, wr15 hw, wr16 hw, wr17 hw, wr18 hw, wr19 hw, wr20 hw, wr21 hw, wr22 hw, wr23 hw, wr24 hw, wr25 hw, wr26 hw, wr27 hw, wr28 hw, wr29 hw, wk1 hw, wk2 hw, wk3 hw, wk4 hw, wk5 hw, wk6 hw, wk7 hw, wk8 hw, wk9 hw, wk10 hw, wk11 hw, wk12 hw, wk13 hw, wk14 hw, wk15 hw, wl1 hw, wl2 hw, wl3 hw, wl4 hw, wl5 hw, wl6 hw, wl7 hw, wl8 hw, wl9 hw, wl10 hw, wl11 hw, wl12 hw, wl13 hw, wl14 hw, wl15 hw, wf0 hr, wf1 hr, wf2 hr, wf3 hr, wf4 hr, wf5 hr, wf6 hr, wf7 hr, wf8 hr, wf9 hr, wf10 hr, wf11 hr, wf12 hr, wf13 hr, wf14 hr, wv1 hr, wv2 hr, wv3 hr, wv4 hr, wv5 hr, wv6 hr, wv7 hr, wv8 hr, wv11 hr, wv12 hr, wv9 hr, wv10 hr, wv13 hr, wv14 hr, wv15 hr, e_const, e_lconst, e_null, e_iload, e_lload, e_aload, e_istore, e_astore, e_lstore, e_iinc, e_iadd, e_isub, e_imul, e_iand, e_ior, e_ixor, e_ishl, e_ishr, e_iushr, e_idiv, e_irem, e_ineg, e_i2l, e_i2b, e_i2c, e_lmul, e_lcmp, e_dup, e_pop, e_dup_x1, e_dup2, e_if_eq, e_icmp_eq, e_if_ne, e_icmp_ne, e_if_lt, e_icmp_lt, e_if_ge, e_icmp_ge, e_if_gt, e_icmp_gt, e_if_le, e_icmp_le, e_ifnull, e_ifnonnull, e_acmp_eq, e_acmp_ne, e_getI, e_getJ, e_getR, e_getSI, e_getSR, e_getEI, e_getER, e_putI, e_putJ, e_putR, e_iald, e_bald, e_zald, e_lald, e_aald, e_alen, e_iast, e_bast, e_zast, e_last, e_newa, e_new, e_newq, e_ret, e_vret, e_obj, e_mmax, e_mmin, e_ldcS, e_sref, e_exc, e_thr, e_stq, e_cast, e_castY, e_castA, e_instS, e_cpy, e_aast, e_cpyR, e_cln, e_gcl, e_ldcM, e_sw, swc_n, swc_c, kon_v, kon_r, kon_t, lg_0, lg_s, ls0, lay, List.length_cons, List.length_nil, List.replicate, List.cons_append, List.nil_append, ps, lp, List.set_cons_zero, List.set_cons_succ, jk, kd_hI, ln_hI, iI_hI, iR_hI, iJ_hI, nn_hI, sU_hI, stI_hI, hI_hI, K0e, and_true, true_and, rtOk, fOk, ge_iff_le, Nat.reduceLeDiff, Nat.reduceAdd, Nat.reduceSub, Nat.reduceLT, c1, lit, nN, nN2, nI_add, pk_mul, nI_clamp, vpi, nI_leI, nI_ltI, nI_eq, bP_z, not_true_eq_false, not_false_eq_true, false_implies, true_implies, implies_true, Nat.le_refl, Nat.lt_irrefl, true_or, or_true, m31, pk_sub, pk_m1, bP_1, bP_em, Classical.not_not, Nat.zero_le, cI_T, cI_F, thr_e, thr_0, thr_m, vus, vun, vuu, pk_us, e_xO, e_xC, ex_e, e_mabsN, Nat.reduceEqDiff, ↓reduceIte, pk_un]
                have E6 := (E5.trans (G6.gd hn5))
                have q := (((hr.a7 (i := nP S) (by omega) u.1).a8 (i := nP S) (by omega) (nI 0)).a11 (i := nP S) (by omega) N1).a12 (i := nP S) (by omega) N1
                have GG := ((((Gd.st g11 (a := 324) (by omega) (by omega) (upd (iI g11 324) (nP S) u.1))).trans (Gd.st _ (a := 325) (by omega) (by omega) (upd (iI (stI g11 324 (upd (iI g11 324) (nP S) u.1)) 325) (nP S) (nI 0)))).trans (Gd.st _ (a := 328) (by omega) (by omega) (upd (iI (stI (stI g11 324 (upd (iI g11 324) (nP S) u.1)) 325 (upd (iI (stI g11 324 (upd (iI g11 324) (nP S) u.1)) 325) (nP S) (nI 0))) 328) (nP S) N1))).trans (Gd.st _ (a := 329) (by omega) (by omega) (upd (iI (stI (stI (stI g11 324 (upd (iI g11 324) (nP S) u.1)) 325 (upd (iI (stI g11 324 (upd (iI g11 324) (nP S) u.1)) 325) (nP S) (nI 0))) 328 (upd (iI (stI (stI g11 324 (upd (iI g11 324) (nP S) u.1)) 325 (upd (iI (stI g11 324 (upd (iI g11 324) (nP S) u.1)) 325) (nP S) (nI 0))) 328) (nP S) N1)) 329) (nP S) N1))
                exact k110 (b := b) I (by omega) x.1 y.1 z.1 u.1 0 (by omega) _ (E6.trans GG) ⟨(((r6.st (by omega) (by omega) _).st (by omega) (by omega) _).st (by omega) (by omega) _).st (by omega) (by omega) _, hw.gd GG, q⟩ (by show nn g11 ≤ _; omega) (by show sU g11 ≤ _; omega)
  · rw [dI_t z]
    refine cl _ _ (sX3_wrong (h := h) hn r.2.2.1.2.2.2.2 (by omega)) rfl rfl rfl rfl (by omega) r.k3 ?_
    rintro _ h2 ⟨rfl, v1, v2, v3, v4⟩
    try simp (disch := omega) only [v3, kd_stI, ln_stI, nn_stI, iI_stI, iR_stI, iJ_stI, sU_stI, kd_stR, ln_stR, nn_stR, iI_stR, iR_stR, iJ_stR, sU_stR, kd_stJ, ln_stJ, nn_stJ, iI_stJ, iR_stJ, iJ_stJ, sU_stJ, kd_alc, ln_alc, nn_alc, iI_alc, iR_alc, iJ_alc, sU_alc, e_const, e_lconst, e_null, e_iload, e_lload, e_aload, e_istore, e_astore, e_lstore, e_iinc, e_iadd, e_isub, e_imul, e_iand, e_ior, e_ixor, e_ishl, e_ishr, e_iushr, e_idiv, e_irem, e_ineg, e_i2l, e_i2b, e_i2c, e_lmul, e_lcmp, e_dup, e_pop, e_dup_x1, e_dup2, e_if_eq, e_icmp_eq, e_if_ne, e_icmp_ne, e_if_lt, e_icmp_lt, e_if_ge, e_icmp_ge, e_if_gt, e_icmp_gt, e_if_le, e_icmp_le, e_ifnull, e_ifnonnull, e_acmp_eq, e_acmp_ne, e_getI, e_getJ, e_getR, e_getSI, e_getSR, e_getEI, e_getER, e_putI, e_putJ, e_putR, e_iald, e_bald, e_zald, e_lald, e_aald, e_alen, e_iast, e_bast, e_zast, e_last, e_newa, e_new, e_newq, e_ret, e_vret, e_obj, e_mmax, e_mmin, e_ldcS, e_sref, e_exc, e_thr, e_stq, e_cast, e_castY, e_castA, e_instS, e_cpy, e_aast, e_cpyR, e_cln, e_gcl, e_ldcM, e_sw, swc_n, swc_c, kon_v, kon_r, kon_t, lg_0, lg_s, ls0, lay, List.length_cons, List.length_nil, List.replicate, List.cons_append, List.nil_append, ps, lp, List.set_cons_zero, List.set_cons_succ, jk, kd_hI, ln_hI, iI_hI, iR_hI, iJ_hI, nn_hI, sU_hI, stI_hI, hI_hI, K0e, and_true, true_and, rtOk, fOk, ge_iff_le, Nat.reduceLeDiff, Nat.reduceAdd, Nat.reduceSub, Nat.reduceLT, c1, lit, nN, nN2, nI_add, pk_mul, nI_clamp, vpi, nI_leI, nI_ltI, nI_eq, bP_z, not_true_eq_false, not_false_eq_true, false_implies, true_implies, implies_true, Nat.le_refl, Nat.lt_irrefl, true_or, or_true, m31, pk_sub, pk_m1, bP_1, bP_em, Classical.not_not, Nat.zero_le, cI_T, cI_F, thr_e, thr_0, thr_m, vus, vun, vuu, pk_us, e_xO, e_xC, ex_e, e_mabsN, Nat.reduceEqDiff, ↓reduceIte, pk_un]
    exact ⟨⟨by omega, by omega⟩, (Gw.nw hn v4 (by omega) (by omega)).gd hn, rfl, by rw [(v4 349 (by omega)).2.2.1]; exact hb, by omega, by omega⟩
end
