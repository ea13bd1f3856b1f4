/-! THE COMPONENT WHOLE 12: feed -/
set_option maxRecDepth 100000
/-- new cells alone -/
theorem Ag_new {h h1 : MH} (hn : 396 ≤ nn h) (e : ∀ a, a < nn h → Same h h1 a) (en : nn h ≤ nn h1) (es : sU h ≤ sU h1) : Ag h h1 :=
  ⟨⟨en, fun a ha => ⟨(e a (by omega)).1, (e a (by omega)).2.1⟩, fun a k ha _ _ => by rw [(e a (by omega)).2.2.2], fun a ha => (e a (by omega)).2.2.1⟩, es, fun a ha => e a (by omega), fun a ha => (e a (by omega)).2.2.1, by rw [(e 301 (by omega)).2.2.2], by rw [(e 333 (by omega)).2.2.2], by rw [(e 349 (by omega)).2.2.1], by rw [(e 349 (by omega)).2.2.1], (e 350 (by omega)).2.2.1⟩
theorem b255 : ∀ i, i < 8 → (nI 255).toBitVec.getLsbD i = true := by decide
theorem fbz_a (x : Int32) (s : Nat) (hs : s ≤ 24) (e1 : ((nI s).toBitVec.smod 32#32).toNat = s) (e2 : ((nI s).toBitVec.toNat &&& (nI 31).toBitVec.toNat) % 32 = s) : (x >>> nI s).toInt8 = ((x.toUInt32 >>> ((nI s).toUInt32 &&& Int32.toUInt32 (nI 31))).toInt32 &&& nI 255).toInt8 := by
  apply Int8.toBitVec_inj.mp
  ext i hi
  simp only [Int32.toBitVec_toInt8, Int32.toBitVec_shiftRight, Int32.toBitVec_and, UInt32.toBitVec_toInt32, UInt32.toBitVec_shiftRight, UInt32.toBitVec_and, Int32.toBitVec_toUInt32]
  simp [BitVec.signExtend_eq_setWidth_of_le, e1, e2, BitVec.getLsbD_sshiftRight]
  rw [b255 i hi, if_pos (by omega), decide_eq_false (by omega), Bool.not_false, Bool.true_and, Bool.and_true]
theorem fbz_b : ∀ (x : Int32) (k : Nat), fbz x k = (fby x k).toInt8.toInt32 := by
  intro x k
  have hk : k % 4 = 0 ∨ k % 4 = 1 ∨ k % 4 = 2 ∨ k % 4 = 3 := by omega
  unfold fbz fby
  congr 1
  rcases hk with e | e | e | e <;> rw [e]
  · exact fbz_a x 24 (by omega) (by decide) (by decide)
  · exact fbz_a x 16 (by omega) (by decide) (by decide)
  · exact fbz_a x 8 (by omega) (by decide) (by decide)
  · exact fbz_a x 0 (by omega) (by decide) (by decide)
section
variable {h : MH} {d : Nat} {S : Nat → Int32} {n : Nat} {A : Nat → Nat → Int32} {im : Prop} {I : Nat → Int32} {t : Nat} {T : Nat → Int32} {f : Int32} {v vI : LV}
theorem pX1_feed_n (c : CI h S n A im I t T f v vI) (hd : 2 ≤ d) (hf : 380 < t) (a b x y e : Int32) : WPm mX1_feed d [.ref 300, .int a, .int b, .int x, .int y, .int e] h (cP h (some (.int N1)) 1 5 (fun h1 => CI h1 S n A im I t T f v vI)) := by
  have hx := c.x0
  have hn := c.ge
  have x4 := c.x4
  refine mO rfl rfl ?_
  apply kX1_feed_0
  try simp (disch := omega) only [tX1_feed_0, xk hx, x4, kd_stI, ln_stI, nn_stI, iI_stI, iR_stI, iJ_stI, sU_stI, kd_stR, ln_stR, nn_stR, iI_stR, iR_stR, iJ_stR, sU_stR, kd_stJ, ln_stJ, nn_stJ, iI_stJ, iR_stJ, iJ_stJ, sU_stJ, kd_alc, ln_alc, nn_alc, iI_alc, iR_alc, iJ_alc, sU_alc, e_const, e_lconst, e_null, e_iload, e_lload, e_aload, e_istore, e_astore, e_lstore, e_iinc, e_iadd, e_isub, e_imul, e_iand, e_ior, e_ixor, e_ishl, e_ishr, e_iushr, e_idiv, e_irem, e_ineg, e_i2l, e_i2b, e_i2c, e_lmul, e_lcmp, e_dup, e_pop, e_dup_x1, e_dup2, e_if_eq, e_icmp_eq, e_if_ne, e_icmp_ne, e_if_lt, e_icmp_lt, e_if_ge, e_icmp_ge, e_if_gt, e_icmp_gt, e_if_le, e_icmp_le, e_ifnull, e_ifnonnull, e_acmp_eq, e_acmp_ne, e_getI, e_getJ, e_getR, e_getSI, e_getSR, e_getEI, e_getER, e_putI, e_putJ, e_putR, e_iald, e_bald, e_zald, e_lald, e_aald, e_alen, e_iast, e_bast, e_zast, e_last, e_newa, e_new, e_newq, e_ret, e_vret, e_obj, e_mmax, e_mmin, e_ldcS, e_sref, e_exc, e_thr, e_stq, e_cast, e_castY, e_castA, e_instS, e_cpy, e_aast, e_cpyR, e_cln, e_gcl, e_ldcM, e_sw, swc_n, swc_c, kon_v, kon_r, kon_t, lg_0, lg_s, ls0, lay, List.length_cons, List.length_nil, List.replicate, List.cons_append, List.nil_append, ps, lp, List.set_cons_zero, List.set_cons_succ, jk, kd_hI, ln_hI, iI_hI, iR_hI, iJ_hI, nn_hI, sU_hI, stI_hI, hI_hI, K0e, and_true, true_and, rtOk, fOk, ge_iff_le, Nat.reduceLeDiff, Nat.reduceAdd, Nat.reduceSub, Nat.reduceLT, c1, lit, nN, nN2, nI_add, pk_mul, nI_clamp, vpi, nI_leI, nI_ltI, nI_eq, bP_z, not_true_eq_false, not_false_eq_true, false_implies, true_implies, implies_true, Nat.le_refl, Nat.lt_irrefl, true_or, or_true, m31, pk_sub, pk_m1, bP_1, bP_em, Classical.not_not, Nat.zero_le, cI_T, cI_F, thr_e, thr_0, thr_m, vus, vun, vuu, pk_us, e_xO, e_xC, ex_e, e_mabsN, Nat.reduceEqDiff, ↓reduceIte, pk_un]
  refine ⟨by omega, by omega, by omega, by omega, by omega, ?_⟩
  generalize hh : stI (stI (stI (stI (stI (alc h 50 5 5 z32 zN z64) (nn h) (upd z32 0 a)) (nn h) (upd (upd z32 0 a) 1 b)) (nn h) (upd (upd (upd z32 0 a) 1 b) 2 x)) (nn h) (upd (upd (upd (upd z32 0 a) 1 b) 2 x) 3 y)) (nn h) (upd (upd (upd (upd (upd z32 0 a) 1 b) 2 x) 3 y) 4 e) = h1
  have e1 : ∀ a, a < nn h → Same h h1 a := fun a ha => by
    subst hh
    have z : a ≠ nn h := by omega
    exact ⟨va_up_ne _ _ z, va_up_ne _ _ z, by simp (disch := exact z) only [iI_stI, vun]; exact va_up_ne _ _ z, va_up_ne _ _ z⟩
  have en : nn h1 = nn h + 1 := by subst hh; rfl
  have es : sU h1 = sU h + 5 := by subst hh; rfl
  have c1' := c.ag (Ag_new hn e1 (by omega) (by omega))
  have k3 := c1'.1.2.2.2.1.1
  refine cR (pX3_add_n (h := h1) k3 c1'.2.2.2.1 c1'.2.2.2.2.1 hf _) rfl rfl rfl rfl (by omega) k3 ?_
  try simp (disch := omega) only [kd_stI, ln_stI, nn_stI, iI_stI, iR_stI, iJ_stI, sU_stI, kd_stR, ln_stR, nn_stR, iI_stR, iR_stR, iJ_stR, sU_stR, kd_stJ, ln_stJ, nn_stJ, iI_stJ, iR_stJ, iJ_stJ, sU_stJ, kd_alc, ln_alc, nn_alc, iI_alc, iR_alc, iJ_alc, sU_alc, e_const, e_lconst, e_null, e_iload, e_lload, e_aload, e_istore, e_astore, e_lstore, e_iinc, e_iadd, e_isub, e_imul, e_iand, e_ior, e_ixor, e_ishl, e_ishr, e_iushr, e_idiv, e_irem, e_ineg, e_i2l, e_i2b, e_i2c, e_lmul, e_lcmp, e_dup, e_pop, e_dup_x1, e_dup2, e_if_eq, e_icmp_eq, e_if_ne, e_icmp_ne, e_if_lt, e_icmp_lt, e_if_ge, e_icmp_ge, e_if_gt, e_icmp_gt, e_if_le, e_icmp_le, e_ifnull, e_ifnonnull, e_acmp_eq, e_acmp_ne, e_getI, e_getJ, e_getR, e_getSI, e_getSR, e_getEI, e_getER, e_putI, e_putJ, e_putR, e_iald, e_bald, e_zald, e_lald, e_aald, e_alen, e_iast, e_bast, e_zast, e_last, e_newa, e_new, e_newq, e_ret, e_vret, e_obj, e_mmax, e_mmin, e_ldcS, e_sref, e_exc, e_thr, e_stq, e_cast, e_castY, e_castA, e_instS, e_cpy, e_aast, e_cpyR, e_cln, e_gcl, e_ldcM, e_sw, swc_n, swc_c, kon_v, kon_r, kon_t, lg_0, lg_s, ls0, lay, List.length_cons, List.length_nil, List.replicate, List.cons_append, List.nil_append, ps, lp, List.set_cons_zero, List.set_cons_succ, jk, kd_hI, ln_hI, iI_hI, iR_hI, iJ_hI, nn_hI, sU_hI, stI_hI, hI_hI, K0e, and_true, true_and, rtOk, fOk, ge_iff_le, Nat.reduceLeDiff, Nat.reduceAdd, Nat.reduceSub, Nat.reduceLT, c1, lit, nN, nN2, nI_add, pk_mul, nI_clamp, vpi, nI_leI, nI_ltI, nI_eq, bP_z, not_true_eq_false, not_false_eq_true, false_implies, true_implies, implies_true, Nat.le_refl, Nat.lt_irrefl, true_or, or_true, m31, pk_sub, pk_m1, bP_1, bP_em, Classical.not_not, Nat.zero_le, cI_T, cI_F, thr_e, thr_0, thr_m, vus, vun, vuu, pk_us, e_xO, e_xC, ex_e, e_mabsN, Nat.reduceEqDiff, ↓reduceIte, pk_un]
  exact ⟨rfl, ⟨fun a x y => (e1 a (by omega)).2.2.1, by omega, by omega, by omega⟩, c1'⟩
theorem pX1_feed_ok (c : CI h S n A im I t T f v vI) (hd : 2 ≤ d) (hf : t ≤ 380) (a b x y e : Int32) : WPm mX1_feed d [.ref 300, .int a, .int b, .int x, .int y, .int e] h (cP h (some (.int (nI (t + 20)))) 1 5 (fun h1 => CI h1 S n A im I (t + 20) (fT T t a b x y e 20) f v vI)) := by
  have hx := c.x0
  have hn := c.ge
  have x4 := c.x4
  refine mO rfl rfl ?_
  apply kX1_feed_0
  try simp (disch := omega) only [tX1_feed_0, xk hx, x4, kd_stI, ln_stI, nn_stI, iI_stI, iR_stI, iJ_stI, sU_stI, kd_stR, ln_stR, nn_stR, iI_stR, iR_stR, iJ_stR, sU_stR, kd_stJ, ln_stJ, nn_stJ, iI_stJ, iR_stJ, iJ_stJ, sU_stJ, kd_alc, ln_alc, nn_alc, iI_alc, iR_alc, iJ_alc, sU_alc, e_const, e_lconst, e_null, e_iload, e_lload, e_aload, e_istore, e_astore, e_lstore, e_iinc, e_iadd, e_isub, e_imul, e_iand, e_ior, e_ixor, e_ishl, e_ishr, e_iushr, e_idiv, e_irem, e_ineg, e_i2l, e_i2b, e_i2c, e_lmul, e_lcmp, e_dup, e_pop, e_dup_x1, e_dup2, e_if_eq, e_icmp_eq, e_if_ne, e_icmp_ne, e_if_lt, e_icmp_lt, e_if_ge, e_icmp_ge, e_if_gt, e_icmp_gt, e_if_le, e_icmp_le, e_ifnull, e_ifnonnull, e_acmp_eq, e_acmp_ne, e_getI, e_getJ, e_getR, e_getSI, e_getSR, e_getEI, e_getER, e_putI, e_putJ, e_putR, e_iald, e_bald, e_zald, e_lald, e_aald, e_alen, e_iast, e_bast, e_zast, e_last, e_newa, e_new, e_newq, e_ret, e_vret, e_obj, e_mmax, e_mmin, e_ldcS, e_sref, e_exc, e_thr, e_stq, e_cast, e_castY, e_castA, e_instS, e_cpy, e_aast, e_cpyR, e_cln, e_gcl, e_ldcM, e_sw, swc_n, swc_c, kon_v, kon_r, kon_t, lg_0, lg_s, ls0, lay, List.length_cons, List.length_nil, List.replicate, List.cons_append, List.nil_append, ps, lp, List.set_cons_zero, List.set_cons_succ, jk, kd_hI, ln_hI, iI_hI, iR_hI, iJ_hI, nn_hI, sU_hI, stI_hI, hI_hI, K0e, and_true, true_and, rtOk, fOk, ge_iff_le, Nat.reduceLeDiff, Nat.reduceAdd, Nat.reduceSub, Nat.reduceLT, c1, lit, nN, nN2, nI_add, pk_mul, nI_clamp, vpi, nI_leI, nI_ltI, nI_eq, bP_z, not_true_eq_false, not_false_eq_true, false_implies, true_implies, implies_true, Nat.le_refl, Nat.lt_irrefl, true_or, or_true, m31, pk_sub, pk_m1, bP_1, bP_em, Classical.not_not, Nat.zero_le, cI_T, cI_F, thr_e, thr_0, thr_m, vus, vun, vuu, pk_us, e_xO, e_xC, ex_e, e_mabsN, Nat.reduceEqDiff, ↓reduceIte, pk_un]
  refine ⟨by omega, by omega, by omega, by omega, by omega, ?_⟩
  generalize hh : stI (stI (stI (stI (stI (alc h 50 5 5 z32 zN z64) (nn h) (upd z32 0 a)) (nn h) (upd (upd z32 0 a) 1 b)) (nn h) (upd (upd (upd z32 0 a) 1 b) 2 x)) (nn h) (upd (upd (upd (upd z32 0 a) 1 b) 2 x) 3 y)) (nn h) (upd (upd (upd (upd (upd z32 0 a) 1 b) 2 x) 3 y) 4 e) = h1
  have e1 : ∀ a, a < nn h → Same h h1 a := fun a ha => by
    subst hh
    have z : a ≠ nn h := by omega
    exact ⟨va_up_ne _ _ z, va_up_ne _ _ z, by simp (disch := exact z) only [iI_stI, vun]; exact va_up_ne _ _ z, va_up_ne _ _ z⟩
  have en : nn h1 = nn h + 1 := by subst hh; rfl
  have es : sU h1 = sU h + 5 := by subst hh; rfl
  have ek : kd h1 (nn h) = 50 := by subst hh; exact va_up_self _ _ _
  have el : ln h1 (nn h) = 5 := by subst hh; exact va_up_self _ _ _
  have ei : ∀ k, k < 5 → iI h1 (nn h) k = fv a b x y e (4 * k) := by
    intro k hk
    subst hh
    rw [iI_stI, vus]
    have : k = 0 ∨ k = 1 ∨ k = 2 ∨ k = 3 ∨ k = 4 := by omega
    rcases this with rfl | rfl | rfl | rfl | rfl <;> rfl
  have c1' := c.ag (Ag_new hn e1 (by omega) (by omega))
  obtain ⟨k3, x30, k5, l5, _⟩ := c1'.1.2.2.2.1
  refine cl _ _ (pX3_add_ok (h := h1) (σ := iI h1) k3 x30 k5 l5 c1'.2.2.2.1 hf hn ek el) rfl rfl rfl rfl (by omega) k3 ?_
  rintro _ _ ⟨rfl, rfl⟩
  try simp (disch := omega) only [kd_stI, ln_stI, nn_stI, iI_stI, iR_stI, iJ_stI, sU_stI, kd_stR, ln_stR, nn_stR, iI_stR, iR_stR, iJ_stR, sU_stR, kd_stJ, ln_stJ, nn_stJ, iI_stJ, iR_stJ, iJ_stJ, sU_stJ, kd_alc, ln_alc, nn_alc, iI_alc, iR_alc, iJ_alc, sU_alc, e_const, e_lconst, e_null, e_iload, e_lload, e_aload, e_istore, e_astore, e_lstore, e_iinc, e_iadd, e_isub, e_imul, e_iand, e_ior, e_ixor, e_ishl, e_ishr, e_iushr, e_idiv, e_irem, e_ineg, e_i2l, e_i2b, e_i2c, e_lmul, e_lcmp, e_dup, e_pop, e_dup_x1, e_dup2, e_if_eq, e_icmp_eq, e_if_ne, e_icmp_ne, e_if_lt, e_icmp_lt, e_if_ge, e_icmp_ge, e_if_gt, e_icmp_gt, e_if_le, e_icmp_le, e_ifnull, e_ifnonnull, e_acmp_eq, e_acmp_ne, e_getI, e_getJ, e_getR, e_getSI, e_getSR, e_getEI, e_getER, e_putI, e_putJ, e_putR, e_iald, e_bald, e_zald, e_lald, e_aald, e_alen, e_iast, e_bast, e_zast, e_last, e_newa, e_new, e_newq, e_ret, e_vret, e_obj, e_mmax, e_mmin, e_ldcS, e_sref, e_exc, e_thr, e_stq, e_cast, e_castY, e_castA, e_instS, e_cpy, e_aast, e_cpyR, e_cln, e_gcl, e_ldcM, e_sw, swc_n, swc_c, kon_v, kon_r, kon_t, lg_0, lg_s, ls0, lay, List.length_cons, List.length_nil, List.replicate, List.cons_append, List.nil_append, ps, lp, List.set_cons_zero, List.set_cons_succ, jk, kd_hI, ln_hI, iI_hI, iR_hI, iJ_hI, nn_hI, sU_hI, stI_hI, hI_hI, K0e, and_true, true_and, rtOk, fOk, ge_iff_le, Nat.reduceLeDiff, Nat.reduceAdd, Nat.reduceSub, Nat.reduceLT, c1, lit, nN, nN2, nI_add, pk_mul, nI_clamp, vpi, nI_leI, nI_ltI, nI_eq, bP_z, not_true_eq_false, not_false_eq_true, false_implies, true_implies, implies_true, Nat.le_refl, Nat.lt_irrefl, true_or, or_true, m31, pk_sub, pk_m1, bP_1, bP_em, Classical.not_not, Nat.zero_le, cI_T, cI_F, thr_e, thr_0, thr_m, vus, vun, vuu, pk_us, e_xO, e_xC, ex_e, e_mabsN, Nat.reduceEqDiff, ↓reduceIte, pk_un]
  refine ⟨rfl, ⟨fun a x y => ?_, by rw [nn_hI]; omega, by rw [sU_hI]; omega, by rw [sU_hI]; omega⟩, c1'.tape (fun a z1 z2 => by rw [vun _ _ z1, vun _ _ z2]) (by rw [vus, pk_us]) (by omega) (fun k hk => ?_) (by rw [vus, pk_un (by omega)]; exact c1'.2.2.2.2.2.2)⟩
  · rw [iI_hI, vun _ _ (by omega), vun _ _ (by omega)]; exact (e1 a (by omega)).2.2.1
  · rw [vun _ _ (by omega), vus]
    have key : ∀ m, m ≤ 20 → ∀ k, k < t + m → fZ (iI h1 350) t (iI h1 (nn h)) m k = (fT T t a b x y e m k).toInt8.toInt32 := by
      intro m
      induction m with
      | zero => intro _ k hk; exact c1'.2.2.2.2.2.1 k hk
      | succ m ih =>
        intro hm k hk
        rw [fZ_s, fT_s]
        by_cases z : k = t + m
        · subst z
          rw [pk_us, pk_us, ei _ (by omega), fbz_b]
          congr 2
          unfold fv
          simp only [show (4 * (m / 4) < 4 ↔ m < 4) by omega, show (4 * (m / 4) < 8 ↔ m < 8) by omega, show (4 * (m / 4) < 12 ↔ m < 12) by omega, show (4 * (m / 4) < 16 ↔ m < 16) by omega]
        · rw [pk_un z, pk_un z]
          exact ih (by omega) k (by omega)
    exact key 20 (Nat.le_refl _) k hk
end
