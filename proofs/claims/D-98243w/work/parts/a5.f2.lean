/-! THE COMPONENT WHOLE 2: kept worlds, the law -/
set_option maxRecDepth 100000
/-- a cell is as it was -/
def Same (h h1 : MH) (a : Nat) : Prop := kd h1 a = kd h a ∧ ln h1 a = ln h a ∧ iI h1 a = iI h a ∧ iR h1 a = iR h a
theorem Same.refl (h : MH) (a : Nat) : Same h h a := ⟨rfl, rfl, rfl, rfl⟩
theorem Same.trans {h h1 h2 : MH} {a : Nat} (s : Same h h1 a) (t : Same h1 h2 a) : Same h h2 a := ⟨t.1.trans s.1, t.2.1.trans s.2.1, t.2.2.1.trans s.2.2.1, t.2.2.2.trans s.2.2.2⟩
theorem Same.symm {h h1 : MH} {a : Nat} (s : Same h h1 a) : Same h1 h a := ⟨s.1.symm, s.2.1.symm, s.2.2.1.symm, s.2.2.2.symm⟩
/-- the law at l has m lines and says v; F: its cells -/
def LwS (F : Nat → Prop) (h : MH) (l : Nat) (m : Int32) (v : LV) : Prop := (l = 0 ∧ m = N1 ∧ ∀ φ, v φ = N1) ∨ (l ≠ 0 ∧ (kd h l = 11 ∧ 396 ≤ l ∧ F l) ∧ (kd h (iR h l 0) = 22 ∧ 396 ≤ iR h l 0 ∧ F (iR h l 0) ∧ iI h (iR h l 0) 2 = m) ∧ ∀ (h' : MH) (d : Nat), 60 ≤ d → (∀ a, (a < 300 ∨ F a) → Same h h' a) → kd h' 351 = 4 → Sb (iI h' 351) → RT mX11_tells d [.ref l, .ref 351] h' (some (.int (v (iI h' 351)))) h')
theorem LwS.of {F F' : Nat → Prop} {h h1 : MH} {l : Nat} {m : Int32} {v : LV} (s : LwS F h l m v) (hF : ∀ a, F a → F' a) (hs : ∀ a, (a < 300 ∨ F a) → Same h h1 a) : LwS F' h1 l m v := by
  rcases s with s | ⟨s1, ⟨s2, s3, s4⟩, ⟨s5, s6, s7, s8⟩, s9⟩
  · exact Or.inl s
  · have e1 := hs l (Or.inr s4)
    have er : iR h1 l 0 = iR h l 0 := by rw [e1.2.2.2]
    have e2 := hs _ (Or.inr s7)
    refine Or.inr ⟨s1, ⟨by rw [e1.1]; exact s2, s3, hF _ s4⟩, ⟨by rw [er, e2.1]; exact s5, by rw [er]; exact s6, by rw [er]; exact hF _ s7, by rw [er, e2.2.2.1]; exact s8⟩, fun h' d hd hs' hk hb => s9 h' d hd (fun a ha => (hs a ha).trans (hs' a ?_)) hk hb⟩
    rcases ha with ha | ha
    · exact Or.inl ha
    · exact Or.inr (hF a ha)
theorem LwS.T {F : Nat → Prop} {h : MH} {l : Nat} {m : Int32} {v : LV} (s : LwS F h l m v) (hF : ∀ a, F a → 396 ≤ a) (hk : kd h 351 = 4) : LwT h l v (iI h) := by
  rcases s with s | ⟨s1, ⟨s2, _⟩, _, s9⟩
  · exact Or.inl ⟨s.1, s.2.2⟩
  · refine Or.inr ⟨s1, s2, fun τ d hd e hb => s9 (hI h τ) d hd (fun a ha => ⟨rfl, rfl, ?_, rfl⟩) hk hb⟩
    rw [iI_hI]
    refine e a ?_
    rcases ha with ha | ha
    · exact Or.inl ha
    · exact Or.inr (hF a ha)
/-- cells that are never written again -/
def FZ (N eD n : Nat) (ws : Nat → Nat) : Nat → Prop := fun a => 396 ≤ a ∧ a < N ∧ a ≠ eD ∧ ∀ i, i < n → ¬ (ws i ≤ a ∧ a ≤ ws i + 15)
/-- the kept worlds: n of them, rows A -/
def KP (h : MH) (eD cap n : Nat) (ws : Nat → Nat) (A : Nat → Nat → Int32) : Prop := AL h 352 eD n cap ws ∧ n ≤ 12 ∧ (eD = 18 ∨ 396 ≤ eD) ∧ (∀ i, i < n → 396 ≤ ws i ∧ ws i + 16 ≤ nn h ∧ ¬ (ws i ≤ eD ∧ eD ≤ ws i + 15) ∧ WS h (ws i) ∧ WR (iI h) (ws i) (A i) ∧ iR h (ws i) 30 = iR h 301 30) ∧ ∀ i j, i < n → j < n → i ≠ j → ws i + 16 ≤ ws j ∨ ws j + 16 ≤ ws i
theorem WS.sm {h h1 : MH} {w : Nat} (s : WS h w) (e : ∀ j, j ≤ 15 → Same h h1 (w + j)) : WS h1 w := by
  obtain ⟨s1, s2, s3⟩ := s
  have e0 := e 0 (by omega)
  rw [Nat.add_zero] at e0
  refine ⟨s1, by rw [e0.1]; exact s2, fun j h1 h2 => ?_⟩
  have ej := e j h2
  rw [e0.2.2.2, ej.1, ej.2.1]
  exact s3 j h1 h2
theorem WR.sm {h h1 : MH} {w : Nat} {S : Nat → Int32} (s : WR (iI h) w S) (e : ∀ j, j ≤ 15 → Same h h1 (w + j)) : WR (iI h1) w S := s.of (fun j hj => (e j hj).2.2.1)
section
variable {h : MH} {d : Nat} {eD cap n : Nat} {ws : Nat → Nat} {A : Nat → Nat → Int32} {S : Nat → Int32}
/-- the rows of acts with one more -/
def rmR (n : Nat) (A : Nat → Nat → Int32) (S : Nat → Int32) : Nat → Nat → Int32 := if n = 12 then fun i => if i = 11 then S else A (i + 1) else va_up A n S
def rmN (n : Nat) : Nat := if n = 12 then 12 else n + 1
/-- what remembering does -/
def rbP (h h1 : MH) (eD n : Nat) (ws : Nat → Nat) (A : Nat → Nat → Int32) (S : Nat → Int32) : Prop := (nn h ≤ nn h1 ∧ nn h1 ≤ nn h + 17 ∧ sU h ≤ sU h1 ∧ sU h1 ≤ sU h + 1000) ∧ SF h h1 ∧ (∀ a, a < 396 → a ≠ 352 → iI h1 a = iI h a ∧ iR h1 a = iR h a) ∧ (∀ a, FZ (nn h) eD n ws a → Same h h1 a) ∧ ∃ e c w', KP h1 e c (rmN n) w' (rmR n A S) ∧ ∀ a, FZ (nn h) eD n ws a → FZ (nn h1) e (rmN n) w' a
theorem sX1_remembers (sh : SH h) (k : KP h eD cap n ws A) (hr : WR (iI h) 301 S) (hd : 12 ≤ d) : WPm mX1_remembers d [.ref 300] h (fun o h1 => o = .returned none ∧ rbP h h1 eD n ws A S) := by
  obtain ⟨al, hn, heD, kw, kd'⟩ := k
  have x300 := sh.2.1.1
  have x0 := sh.2.1.2.1
  have x6 := sh.2.1.2.2.2.2.2.2.1
  have nn0 := sh.1
  have k352 := sh.2.2.2.2.2.2.2.2.1
  have hw301 := sh.2.2.1.1
  refine mO rfl rfl ?_
  apply kX1_remembers_0
  try simp (disch := omega) only [tX1_remembers_0, x300, x6, kd_stI, ln_stI, nn_stI, iI_stI, iR_stI, iJ_stI, sU_stI, kd_stR, ln_stR, nn_stR, iI_stR, iR_stR, iJ_stR, sU_stR, kd_stJ, ln_stJ, nn_stJ, iI_stJ, iR_stJ, iJ_stJ, sU_stJ, kd_alc, ln_alc, nn_alc, iI_alc, iR_alc, iJ_alc, sU_alc, e_const, e_lconst, e_null, e_iload, e_lload, e_aload, e_istore, e_astore, e_lstore, e_iinc, e_iadd, e_isub, e_imul, e_iand, e_ior, e_ixor, e_ishl, e_ishr, e_iushr, e_idiv, e_irem, e_ineg, e_i2l, e_i2b, e_i2c, e_lmul, e_lcmp, e_dup, e_pop, e_dup_x1, e_dup2, e_if_eq, e_icmp_eq, e_if_ne, e_icmp_ne, e_if_lt, e_icmp_lt, e_if_ge, e_icmp_ge, e_if_gt, e_icmp_gt, e_if_le, e_icmp_le, e_ifnull, e_ifnonnull, e_acmp_eq, e_acmp_ne, e_getI, e_getJ, e_getR, e_getSI, e_getSR, e_getEI, e_getER, e_putI, e_putJ, e_putR, e_iald, e_bald, e_zald, e_lald, e_aald, e_alen, e_iast, e_bast, e_zast, e_last, e_newa, e_new, e_newq, e_ret, e_vret, e_obj, e_mmax, e_mmin, e_ldcS, e_sref, e_exc, e_thr, e_stq, e_cast, e_castY, e_castA, e_instS, e_cpy, e_aast, e_cpyR, e_cln, e_gcl, e_ldcM, e_sw, swc_n, swc_c, kon_v, kon_r, kon_t, lg_0, lg_s, ls0, lay, List.length_cons, List.length_nil, List.replicate, List.cons_append, List.nil_append, ps, lp, List.set_cons_zero, List.set_cons_succ, jk, kd_hI, ln_hI, iI_hI, iR_hI, iJ_hI, nn_hI, sU_hI, stI_hI, hI_hI, K0e, and_true, true_and, rtOk, fOk, ge_iff_le, Nat.reduceLeDiff, Nat.reduceAdd, Nat.reduceSub, Nat.reduceLT, c1, lit, nN, nN2, nI_add, pk_mul, nI_clamp, vpi, nI_leI, nI_ltI, nI_eq, bP_z, not_true_eq_false, not_false_eq_true, false_implies, true_implies, implies_true, Nat.le_refl, Nat.lt_irrefl, true_or, or_true, m31, pk_sub, pk_m1, bP_1, bP_em, Classical.not_not, Nat.zero_le, cI_T, cI_F, thr_e, thr_0, thr_m, vus, vun, vuu, pk_us, e_xO, e_xC, ex_e, e_mabsN, Nat.reduceEqDiff, ↓reduceIte, pk_un]
  refine cR (sJ2_size al) rfl rfl rfl rfl (by omega) k352 ?_
  try simp (disch := omega) only [kd_stI, ln_stI, nn_stI, iI_stI, iR_stI, iJ_stI, sU_stI, kd_stR, ln_stR, nn_stR, iI_stR, iR_stR, iJ_stR, sU_stR, kd_stJ, ln_stJ, nn_stJ, iI_stJ, iR_stJ, iJ_stJ, sU_stJ, kd_alc, ln_alc, nn_alc, iI_alc, iR_alc, iJ_alc, sU_alc, e_const, e_lconst, e_null, e_iload, e_lload, e_aload, e_istore, e_astore, e_lstore, e_iinc, e_iadd, e_isub, e_imul, e_iand, e_ior, e_ixor, e_ishl, e_ishr, e_iushr, e_idiv, e_irem, e_ineg, e_i2l, e_i2b, e_i2c, e_lmul, e_lcmp, e_dup, e_pop, e_dup_x1, e_dup2, e_if_eq, e_icmp_eq, e_if_ne, e_icmp_ne, e_if_lt, e_icmp_lt, e_if_ge, e_icmp_ge, e_if_gt, e_icmp_gt, e_if_le, e_icmp_le, e_ifnull, e_ifnonnull, e_acmp_eq, e_acmp_ne, e_getI, e_getJ, e_getR, e_getSI, e_getSR, e_getEI, e_getER, e_putI, e_putJ, e_putR, e_iald, e_bald, e_zald, e_lald, e_aald, e_alen, e_iast, e_bast, e_zast, e_last, e_newa, e_new, e_newq, e_ret, e_vret, e_obj, e_mmax, e_mmin, e_ldcS, e_sref, e_exc, e_thr, e_stq, e_cast, e_castY, e_castA, e_instS, e_cpy, e_aast, e_cpyR, e_cln, e_gcl, e_ldcM, e_sw, swc_n, swc_c, kon_v, kon_r, kon_t, lg_0, lg_s, ls0, lay, List.length_cons, List.length_nil, List.replicate, List.cons_append, List.nil_append, ps, lp, List.set_cons_zero, List.set_cons_succ, jk, kd_hI, ln_hI, iI_hI, iR_hI, iJ_hI, nn_hI, sU_hI, stI_hI, hI_hI, K0e, and_true, true_and, rtOk, fOk, ge_iff_le, Nat.reduceLeDiff, Nat.reduceAdd, Nat.reduceSub, Nat.reduceLT, c1, lit, nN, nN2, nI_add, pk_mul, nI_clamp, vpi, nI_leI, nI_ltI, nI_eq, bP_z, not_true_eq_false, not_false_eq_true, false_implies, true_implies, implies_true, Nat.le_refl, Nat.lt_irrefl, true_or, or_true, m31, pk_sub, pk_m1, bP_1, bP_em, Classical.not_not, Nat.zero_le, cI_T, cI_F, thr_e, thr_0, thr_m, vus, vun, vuu, pk_us, e_xO, e_xC, ex_e, e_mabsN, Nat.reduceEqDiff, ↓reduceIte, pk_un]
  refine ⟨fun hc => ?_, fun hc => ?_⟩
  · generalize hh1 : alc h 2 0 31 z32 zN z64 = h1
    have a1 : ∀ a, a < nn h → Same h h1 a := fun a ha => by
      subst hh1
      exact ⟨va_up_ne _ _ (Nat.ne_of_lt ha), va_up_ne _ _ (Nat.ne_of_lt ha), va_up_ne _ _ (Nat.ne_of_lt ha), va_up_ne _ _ (Nat.ne_of_lt ha)⟩
    have b1 : nn h1 = nn h + 1 := by subst hh1; rfl
    have b2 : sU h1 = sU h + 31 := by subst hh1; rfl
    have b3 : kd h1 (nn h) = 2 := by subst hh1; exact va_up_self _ _ _
    have b4 : iI h1 (nn h) = z32 := by subst hh1; exact va_up_self _ _ _
    have b5 : iR h1 (nn h) = zN := by subst hh1; exact va_up_self _ _ _
    refine cl _ _ (sX2_init (h := h1) (w := nn h) b3 (by omega) b1 b4 b5 (by omega)) rfl rfl rfl rfl (by omega) (show 0 < nn h by omega) ?_
    rintro _ h2 ⟨rfl, i1, i2, i3, i4, i5, i6, i7⟩
    have a2 : ∀ a, a < nn h → Same h h2 a := fun a ha => by
      obtain ⟨c1', c2, c3, c4, _⟩ := i6 a (by omega) (by simp only [List.contains_cons, List.contains_nil, Bool.or_false, beq_eq_false_iff_ne]; omega)
      exact (a1 a ha).trans ⟨c1', c2, c3, c4⟩
    have w2 : WS h2 301 := hw301.sm (fun j hj => a2 _ (by omega))
    have q1 : kd h2 300 = 1 := by rw [(a2 300 (by omega)).1]; exact x300
    have q2 : iR h2 300 6 = 352 := by rw [(a2 300 (by omega)).2.2.2]; exact x6
    have q3 : iR h2 300 0 = 301 := by rw [(a2 300 (by omega)).2.2.2]; exact x0
    try simp (disch := omega) only [q1, q2, q3, kd_stI, ln_stI, nn_stI, iI_stI, iR_stI, iJ_stI, sU_stI, kd_stR, ln_stR, nn_stR, iI_stR, iR_stR, iJ_stR, sU_stR, kd_stJ, ln_stJ, nn_stJ, iI_stJ, iR_stJ, iJ_stJ, sU_stJ, kd_alc, ln_alc, nn_alc, iI_alc, iR_alc, iJ_alc, sU_alc, e_const, e_lconst, e_null, e_iload, e_lload, e_aload, e_istore, e_astore, e_lstore, e_iinc, e_iadd, e_isub, e_imul, e_iand, e_ior, e_ixor, e_ishl, e_ishr, e_iushr, e_idiv, e_irem, e_ineg, e_i2l, e_i2b, e_i2c, e_lmul, e_lcmp, e_dup, e_pop, e_dup_x1, e_dup2, e_if_eq, e_icmp_eq, e_if_ne, e_icmp_ne, e_if_lt, e_icmp_lt, e_if_ge, e_icmp_ge, e_if_gt, e_icmp_gt, e_if_le, e_icmp_le, e_ifnull, e_ifnonnull, e_acmp_eq, e_acmp_ne, e_getI, e_getJ, e_getR, e_getSI, e_getSR, e_getEI, e_getER, e_putI, e_putJ, e_putR, e_iald, e_bald, e_zald, e_lald, e_aald, e_alen, e_iast, e_bast, e_zast, e_last, e_newa, e_new, e_newq, e_ret, e_vret, e_obj, e_mmax, e_mmin, e_ldcS, e_sref, e_exc, e_thr, e_stq, e_cast, e_castY, e_castA, e_instS, e_cpy, e_aast, e_cpyR, e_cln, e_gcl, e_ldcM, e_sw, swc_n, swc_c, kon_v, kon_r, kon_t, lg_0, lg_s, ls0, lay, List.length_cons, List.length_nil, List.replicate, List.cons_append, List.nil_append, ps, lp, List.set_cons_zero, List.set_cons_succ, jk, kd_hI, ln_hI, iI_hI, iR_hI, iJ_hI, nn_hI, sU_hI, stI_hI, hI_hI, K0e, and_true, true_and, rtOk, fOk, ge_iff_le, Nat.reduceLeDiff, Nat.reduceAdd, Nat.reduceSub, Nat.reduceLT, c1, lit, nN, nN2, nI_add, pk_mul, nI_clamp, vpi, nI_leI, nI_ltI, nI_eq, bP_z, not_true_eq_false, not_false_eq_true, false_implies, true_implies, implies_true, Nat.le_refl, Nat.lt_irrefl, true_or, or_true, m31, pk_sub, pk_m1, bP_1, bP_em, Classical.not_not, Nat.zero_le, cI_T, cI_F, thr_e, thr_0, thr_m, vus, vun, vuu, pk_us, e_xO, e_xC, ex_e, e_mabsN, Nat.reduceEqDiff, ↓reduceIte, pk_un]
    refine cl _ _ (sX2_likens (h := h2) (w := nn h) (v := 301) i3 w2 (by omega) (by omega)) rfl rfl rfl rfl (by omega) (wk i3) ?_
    rintro _ h3 ⟨rfl, τ, hh3, e3, r3⟩
    have a3 : ∀ a, a < nn h → Same h h3 a := fun a ha => by
      subst hh3
      refine (a2 a ha).trans ⟨rfl, rfl, ?_, ?_⟩
      · rw [iI_hX]; exact e3 a (by omega)
      · rw [iR_hX, vun _ _ (by omega)]
    have n3 : nn h3 = nn h + 16 := by subst hh3; exact i1
    have s3 : sU h3 = sU h + 901 := by subst hh3; rw [sU_hX, i2, b2]
    have wr3 : WR (iI h3) (nn h) S := by subst hh3; exact r3 S (hr.sm (fun j hj => a2 _ (by omega)))
    have ws3 : WS h3 (nn h) := by
      subst hh3
      obtain ⟨z1, z2, z3⟩ := i3
      refine ⟨z1, z2, fun j h1 h2 => ?_⟩
      rw [iR_hX, vus, vun _ _ (by omega)]
      exact z3 j h1 h2
    have l3 : iR h3 (nn h) 30 = iR h 301 30 := by subst hh3; rw [iR_hX, vus, vus, (a2 301 (by omega)).2.2.2]
    have al3 : AL h3 352 eD n cap ws := by
      refine al.cn (fun a ha => ⟨(a3 a ha).1, (a3 a ha).2.1⟩) (by omega) (by rw [(a3 352 (by omega)).2.2.1]) (by rw [(a3 352 (by omega)).2.2.2]) (fun i hi => ?_) (by omega)
      have : eD < nn h := by
        obtain ⟨_, _, _, _, _, z, _⟩ := al
        omega
      rw [(a3 eD this).2.2.2]
    try simp (disch := omega) only [kd_stI, ln_stI, nn_stI, iI_stI, iR_stI, iJ_stI, sU_stI, kd_stR, ln_stR, nn_stR, iI_stR, iR_stR, iJ_stR, sU_stR, kd_stJ, ln_stJ, nn_stJ, iI_stJ, iR_stJ, iJ_stJ, sU_stJ, kd_alc, ln_alc, nn_alc, iI_alc, iR_alc, iJ_alc, sU_alc, e_const, e_lconst, e_null, e_iload, e_lload, e_aload, e_istore, e_astore, e_lstore, e_iinc, e_iadd, e_isub, e_imul, e_iand, e_ior, e_ixor, e_ishl, e_ishr, e_iushr, e_idiv, e_irem, e_ineg, e_i2l, e_i2b, e_i2c, e_lmul, e_lcmp, e_dup, e_pop, e_dup_x1, e_dup2, e_if_eq, e_icmp_eq, e_if_ne, e_icmp_ne, e_if_lt, e_icmp_lt, e_if_ge, e_icmp_ge, e_if_gt, e_icmp_gt, e_if_le, e_icmp_le, e_ifnull, e_ifnonnull, e_acmp_eq, e_acmp_ne, e_getI, e_getJ, e_getR, e_getSI, e_getSR, e_getEI, e_getER, e_putI, e_putJ, e_putR, e_iald, e_bald, e_zald, e_lald, e_aald, e_alen, e_iast, e_bast, e_zast, e_last, e_newa, e_new, e_newq, e_ret, e_vret, e_obj, e_mmax, e_mmin, e_ldcS, e_sref, e_exc, e_thr, e_stq, e_cast, e_castY, e_castA, e_instS, e_cpy, e_aast, e_cpyR, e_cln, e_gcl, e_ldcM, e_sw, swc_n, swc_c, kon_v, kon_r, kon_t, lg_0, lg_s, ls0, lay, List.length_cons, List.length_nil, List.replicate, List.cons_append, List.nil_append, ps, lp, List.set_cons_zero, List.set_cons_succ, jk, kd_hI, ln_hI, iI_hI, iR_hI, iJ_hI, nn_hI, sU_hI, stI_hI, hI_hI, K0e, and_true, true_and, rtOk, fOk, ge_iff_le, Nat.reduceLeDiff, Nat.reduceAdd, Nat.reduceSub, Nat.reduceLT, c1, lit, nN, nN2, nI_add, pk_mul, nI_clamp, vpi, nI_leI, nI_ltI, nI_eq, bP_z, not_true_eq_false, not_false_eq_true, false_implies, true_implies, implies_true, Nat.le_refl, Nat.lt_irrefl, true_or, or_true, m31, pk_sub, pk_m1, bP_1, bP_em, Classical.not_not, Nat.zero_le, cI_T, cI_F, thr_e, thr_0, thr_m, vus, vun, vuu, pk_us, e_xO, e_xC, ex_e, e_mabsN, Nat.reduceEqDiff, ↓reduceIte, pk_un]
    refine cl _ _ (sJ2_add (h := h3) al3 (by omega) (by omega) (by omega) (by omega) (x := nn h) ⟨by omega, by omega, by rw [wk ws3]; rfl⟩) rfl rfl rfl rfl (by omega) (by show kd h3 352 = 22; rw [(a3 352 (by omega)).1]; exact k352) ?_
    rintro _ h4 ⟨rfl, ⟨p1, p2, p3, p4⟩, ⟨e', c', al4, he'⟩, p5, p6, p7, p8⟩
    try simp (disch := omega) only [kd_stI, ln_stI, nn_stI, iI_stI, iR_stI, iJ_stI, sU_stI, kd_stR, ln_stR, nn_stR, iI_stR, iR_stR, iJ_stR, sU_stR, kd_stJ, ln_stJ, nn_stJ, iI_stJ, iR_stJ, iJ_stJ, sU_stJ, kd_alc, ln_alc, nn_alc, iI_alc, iR_alc, iJ_alc, sU_alc, e_const, e_lconst, e_null, e_iload, e_lload, e_aload, e_istore, e_astore, e_lstore, e_iinc, e_iadd, e_isub, e_imul, e_iand, e_ior, e_ixor, e_ishl, e_ishr, e_iushr, e_idiv, e_irem, e_ineg, e_i2l, e_i2b, e_i2c, e_lmul, e_lcmp, e_dup, e_pop, e_dup_x1, e_dup2, e_if_eq, e_icmp_eq, e_if_ne, e_icmp_ne, e_if_lt, e_icmp_lt, e_if_ge, e_icmp_ge, e_if_gt, e_icmp_gt, e_if_le, e_icmp_le, e_ifnull, e_ifnonnull, e_acmp_eq, e_acmp_ne, e_getI, e_getJ, e_getR, e_getSI, e_getSR, e_getEI, e_getER, e_putI, e_putJ, e_putR, e_iald, e_bald, e_zald, e_lald, e_aald, e_alen, e_iast, e_bast, e_zast, e_last, e_newa, e_new, e_newq, e_ret, e_vret, e_obj, e_mmax, e_mmin, e_ldcS, e_sref, e_exc, e_thr, e_stq, e_cast, e_castY, e_castA, e_instS, e_cpy, e_aast, e_cpyR, e_cln, e_gcl, e_ldcM, e_sw, swc_n, swc_c, kon_v, kon_r, kon_t, lg_0, lg_s, ls0, lay, List.length_cons, List.length_nil, List.replicate, List.cons_append, List.nil_append, ps, lp, List.set_cons_zero, List.set_cons_succ, jk, kd_hI, ln_hI, iI_hI, iR_hI, iJ_hI, nn_hI, sU_hI, stI_hI, hI_hI, K0e, and_true, true_and, rtOk, fOk, ge_iff_le, Nat.reduceLeDiff, Nat.reduceAdd, Nat.reduceSub, Nat.reduceLT, c1, lit, nN, nN2, nI_add, pk_mul, nI_clamp, vpi, nI_leI, nI_ltI, nI_eq, bP_z, not_true_eq_false, not_false_eq_true, false_implies, true_implies, implies_true, Nat.le_refl, Nat.lt_irrefl, true_or, or_true, m31, pk_sub, pk_m1, bP_1, bP_em, Classical.not_not, Nat.zero_le, cI_T, cI_F, thr_e, thr_0, thr_m, vus, vun, vuu, pk_us, e_xO, e_xC, ex_e, e_mabsN, Nat.reduceEqDiff, ↓reduceIte, pk_un]
    have heD' : eD < nn h := by
      obtain ⟨_, _, _, _, _, z, _⟩ := al
      omega
    have a4 : ∀ a, a < nn h3 → a ≠ 352 → a ≠ eD → Same h3 h4 a := fun a ha z1 z2 => by
      obtain ⟨c1', c2, c3, c4, _⟩ := p5 a ha (by simp only [List.contains_cons, List.contains_nil, Bool.or_false, Bool.or_eq_false_iff, beq_eq_false_iff_ne]; exact ⟨z1, z2⟩)
      exact ⟨c1', c2, c3, c4⟩
    have a5 : ∀ a, a < nn h → a ≠ 352 → (a ≠ eD ∨ eD = 18) → Same h h4 a := fun a ha z1 z2 => by
      by_cases e : a = eD
      · have e18 : eD = 18 := by omega
        subst e
        exact (a3 a ha).trans ⟨(p6 a (by omega)).1, (p6 a (by omega)).2.1, p7, p8 e18⟩
      · exact (a3 a ha).trans (a4 a (by omega) z1 e)
    have eN : rmN n = n + 1 := if_neg hc
    have eR : rmR n A S = va_up A n S := by unfold rmR; rw [if_neg hc]
    have a6 : ∀ j, j ≤ 15 → Same h3 h4 (nn h + j) := fun j hj => a4 _ (by omega) (by omega) (by omega)
    have a7 : ∀ i j, i < n → j ≤ 15 → Same h h4 (ws i + j) := fun i j hi hj => by
      obtain ⟨k1, k2, k3, _⟩ := kw i hi
      exact a5 _ (by omega) (by omega) (by omega)
    have l301 : iR h4 301 30 = iR h 301 30 := by rw [(a5 301 (by omega) (by omega) (by omega)).2.2.2]
    rw [rbP, eN, eR]
    refine ⟨⟨by omega, by omega, by omega, by omega⟩, ⟨by omega, fun a ha => ?_, fun a k ha z1 z2 => ?_, fun a ha => ?_⟩, fun a ha z => ?_, fun a ha => ?_, e', c', va_up ws n (nn h), ⟨al4, by omega, ?_, fun i hi => ?_, fun i j hi hj hij => ?_⟩, fun a ha => ?_⟩
    · exact ⟨(p6 a (by omega)).1.trans (a3 a (by omega)).1, (p6 a (by omega)).2.1.trans (a3 a (by omega)).2.1⟩
    · rw [(a5 a (by omega) z2 (by omega)).2.2.2]
    · exact (a5 a (by omega) (by omega) (by omega)).2.2.1
    · exact ⟨(a5 a (by omega) z (by omega)).2.2.1, (a5 a (by omega) z (by omega)).2.2.2⟩
    · exact a5 a ha.2.1 (by have := ha.1; omega) (Or.inl ha.2.2.1)
    · omega
    · by_cases e : i = n
      · subst e
        rw [vus, vus, l301]
        refine ⟨by omega, by omega, by omega, ws3.sm a6, wr3.sm a6, ?_⟩
        have := a6 0 (by omega)
        rw [Nat.add_zero] at this
        rw [this.2.2.2]; exact l3
      · obtain ⟨k1, k2, k3, k4, k5, k6⟩ := kw i (by omega)
        rw [vun _ _ e, vun _ _ e, l301]
        refine ⟨k1, by omega, by omega, k4.sm (fun j hj => a7 i j (by omega) hj), k5.sm (fun j hj => a7 i j (by omega) hj), ?_⟩
        have := a7 i 0 (by omega) (by omega)
        rw [Nat.add_zero] at this
        rw [this.2.2.2]; exact k6
    · by_cases ei : i = n
      · rw [ei, vus, vun _ _ (by omega)]
        obtain ⟨k1, k2, _⟩ := kw j (by omega)
        omega
      · rw [vun _ _ ei]
        by_cases ej : j = n
        · rw [ej, vus]
          obtain ⟨k1, k2, _⟩ := kw i (by omega)
          omega
        · rw [vun _ _ ej]
          exact kd' i j (by omega) (by omega) hij
    · obtain ⟨f1, f2, f3, f4⟩ := ha
      refine ⟨f1, by omega, by omega, fun i hi => ?_⟩
      by_cases e : i = n
      · rw [e, vus]; omega
      · rw [vun _ _ e]; exact f4 i (by omega)
  · subst hc
    have heD' : eD < nn h ∧ 396 ≤ eD := by
      obtain ⟨_, _, _, _, z0, z, _⟩ := al
      omega
    obtain ⟨k01, k02, k03, k04, k05, k06⟩ := kw 0 (by omega)
    refine ⟨x300, ?_⟩
    rw [x6]
    refine cl _ _ (sJ2_remove (d := d - 1) al (by omega) (by omega) (by omega) (by omega) (i := 0) (by omega)) rfl rfl rfl rfl (by omega) k352 ?_
    rintro _ h1 ⟨rfl, ⟨m1, m2⟩, al1, m3, m4, m5⟩
    have a1 : ∀ a, a < nn h → a ≠ 352 → a ≠ eD → Same h h1 a := fun a ha z1 z2 => by
      obtain ⟨c1', c2, c3, c4, _⟩ := m3 a ha (by simp only [List.contains_cons, List.contains_nil, Bool.or_false, Bool.or_eq_false_iff, beq_eq_false_iff_ne]; exact ⟨z1, z2⟩)
      exact ⟨c1', c2, c3, c4⟩
    have w1 : WS h1 (ws 0) := k04.sm (fun j hj => a1 _ (by omega) (by omega) (by omega))
    have w301 : WS h1 301 := hw301.sm (fun j hj => a1 _ (by omega) (by omega) (by omega))
    have q1 : kd h1 300 = 1 := by rw [(a1 300 (by omega) (by omega) (by omega)).1]; exact x300
    have q2 : iR h1 300 6 = 352 := by rw [(a1 300 (by omega) (by omega) (by omega)).2.2.2]; exact x6
    have q3 : iR h1 300 0 = 301 := by rw [(a1 300 (by omega) (by omega) (by omega)).2.2.2]; exact x0
    try simp (disch := omega) only [q1, q2, q3, wk w1, kd_stI, ln_stI, nn_stI, iI_stI, iR_stI, iJ_stI, sU_stI, kd_stR, ln_stR, nn_stR, iI_stR, iR_stR, iJ_stR, sU_stR, kd_stJ, ln_stJ, nn_stJ, iI_stJ, iR_stJ, iJ_stJ, sU_stJ, kd_alc, ln_alc, nn_alc, iI_alc, iR_alc, iJ_alc, sU_alc, e_const, e_lconst, e_null, e_iload, e_lload, e_aload, e_istore, e_astore, e_lstore, e_iinc, e_iadd, e_isub, e_imul, e_iand, e_ior, e_ixor, e_ishl, e_ishr, e_iushr, e_idiv, e_irem, e_ineg, e_i2l, e_i2b, e_i2c, e_lmul, e_lcmp, e_dup, e_pop, e_dup_x1, e_dup2, e_if_eq, e_icmp_eq, e_if_ne, e_icmp_ne, e_if_lt, e_icmp_lt, e_if_ge, e_icmp_ge, e_if_gt, e_icmp_gt, e_if_le, e_icmp_le, e_ifnull, e_ifnonnull, e_acmp_eq, e_acmp_ne, e_getI, e_getJ, e_getR, e_getSI, e_getSR, e_getEI, e_getER, e_putI, e_putJ, e_putR, e_iald, e_bald, e_zald, e_lald, e_aald, e_alen, e_iast, e_bast, e_zast, e_last, e_newa, e_new, e_newq, e_ret, e_vret, e_obj, e_mmax, e_mmin, e_ldcS, e_sref, e_exc, e_thr, e_stq, e_cast, e_castY, e_castA, e_instS, e_cpy, e_aast, e_cpyR, e_cln, e_gcl, e_ldcM, e_sw, swc_n, swc_c, kon_v, kon_r, kon_t, lg_0, lg_s, ls0, lay, List.length_cons, List.length_nil, List.replicate, List.cons_append, List.nil_append, ps, lp, List.set_cons_zero, List.set_cons_succ, jk, kd_hI, ln_hI, iI_hI, iR_hI, iJ_hI, nn_hI, sU_hI, stI_hI, hI_hI, K0e, and_true, true_and, rtOk, fOk, ge_iff_le, Nat.reduceLeDiff, Nat.reduceAdd, Nat.reduceSub, Nat.reduceLT, c1, lit, nN, nN2, nI_add, pk_mul, nI_clamp, vpi, nI_leI, nI_ltI, nI_eq, bP_z, not_true_eq_false, not_false_eq_true, false_implies, true_implies, implies_true, Nat.le_refl, Nat.lt_irrefl, true_or, or_true, m31, pk_sub, pk_m1, bP_1, bP_em, Classical.not_not, Nat.zero_le, cI_T, cI_F, thr_e, thr_0, thr_m, vus, vun, vuu, pk_us, e_xO, e_xC, ex_e, e_mabsN, Nat.reduceEqDiff, ↓reduceIte, pk_un]
    refine cl _ _ (sX2_likens (h := h1) (w := ws 0) (v := 301) w1 w301 (by omega) (by omega)) rfl rfl rfl rfl (by omega) (wk w1) ?_
    rintro _ h3 ⟨rfl, τ, hh3, e3, r3⟩
    have n3 : nn h3 = nn h := by subst hh3; exact m1
    have s3 : sU h3 = sU h := by subst hh3; exact m2
    have a2 : ∀ a, (a < ws 0 ∨ ws 0 + 15 < a) → Same h1 h3 a := fun a ha => by
      subst hh3
      refine ⟨rfl, rfl, ?_, ?_⟩
      · rw [iI_hX]; exact e3 a ha
      · rw [iR_hX, vun _ _ (by omega)]
    have wr3 : WR (iI h3) (ws 0) S := by subst hh3; exact r3 S (hr.sm (fun j hj => a1 _ (by omega) (by omega) (by omega)))
    have ws3 : WS h3 (ws 0) := by
      subst hh3
      obtain ⟨z1, z2, z3⟩ := w1
      refine ⟨z1, z2, fun j h1 h2 => ?_⟩
      rw [iR_hX, vus, vun _ _ (by omega)]
      exact z3 j h1 h2
    have l3 : iR h3 (ws 0) 30 = iR h 301 30 := by subst hh3; rw [iR_hX, vus, vus, (a1 301 (by omega) (by omega) (by omega)).2.2.2]
    have kl : ∀ a, kd h3 a = kd h1 a ∧ ln h3 a = ln h1 a := fun a => by subst hh3; exact ⟨rfl, rfl⟩
    have al3 : AL h3 352 eD 11 cap (rmV ws 0) := al1.cn (fun a _ => kl a) (by omega) (by rw [(a2 352 (by omega)).2.2.1]) (by rw [(a2 352 (by omega)).2.2.2]) (fun i hi => by rw [(a2 eD (by omega)).2.2.2]) (by omega)
    try simp (disch := omega) only [kd_stI, ln_stI, nn_stI, iI_stI, iR_stI, iJ_stI, sU_stI, kd_stR, ln_stR, nn_stR, iI_stR, iR_stR, iJ_stR, sU_stR, kd_stJ, ln_stJ, nn_stJ, iI_stJ, iR_stJ, iJ_stJ, sU_stJ, kd_alc, ln_alc, nn_alc, iI_alc, iR_alc, iJ_alc, sU_alc, e_const, e_lconst, e_null, e_iload, e_lload, e_aload, e_istore, e_astore, e_lstore, e_iinc, e_iadd, e_isub, e_imul, e_iand, e_ior, e_ixor, e_ishl, e_ishr, e_iushr, e_idiv, e_irem, e_ineg, e_i2l, e_i2b, e_i2c, e_lmul, e_lcmp, e_dup, e_pop, e_dup_x1, e_dup2, e_if_eq, e_icmp_eq, e_if_ne, e_icmp_ne, e_if_lt, e_icmp_lt, e_if_ge, e_icmp_ge, e_if_gt, e_icmp_gt, e_if_le, e_icmp_le, e_ifnull, e_ifnonnull, e_acmp_eq, e_acmp_ne, e_getI, e_getJ, e_getR, e_getSI, e_getSR, e_getEI, e_getER, e_putI, e_putJ, e_putR, e_iald, e_bald, e_zald, e_lald, e_aald, e_alen, e_iast, e_bast, e_zast, e_last, e_newa, e_new, e_newq, e_ret, e_vret, e_obj, e_mmax, e_mmin, e_ldcS, e_sref, e_exc, e_thr, e_stq, e_cast, e_castY, e_castA, e_instS, e_cpy, e_aast, e_cpyR, e_cln, e_gcl, e_ldcM, e_sw, swc_n, swc_c, kon_v, kon_r, kon_t, lg_0, lg_s, ls0, lay, List.length_cons, List.length_nil, List.replicate, List.cons_append, List.nil_append, ps, lp, List.set_cons_zero, List.set_cons_succ, jk, kd_hI, ln_hI, iI_hI, iR_hI, iJ_hI, nn_hI, sU_hI, stI_hI, hI_hI, K0e, and_true, true_and, rtOk, fOk, ge_iff_le, Nat.reduceLeDiff, Nat.reduceAdd, Nat.reduceSub, Nat.reduceLT, c1, lit, nN, nN2, nI_add, pk_mul, nI_clamp, vpi, nI_leI, nI_ltI, nI_eq, bP_z, not_true_eq_false, not_false_eq_true, false_implies, true_implies, implies_true, Nat.le_refl, Nat.lt_irrefl, true_or, or_true, m31, pk_sub, pk_m1, bP_1, bP_em, Classical.not_not, Nat.zero_le, cI_T, cI_F, thr_e, thr_0, thr_m, vus, vun, vuu, pk_us, e_xO, e_xC, ex_e, e_mabsN, Nat.reduceEqDiff, ↓reduceIte, pk_un]
    refine cl _ _ (sJ2_add (d := d - 1) (h := h3) al3 (by omega) (by omega) (by omega) (by omega) (x := ws 0) ⟨by omega, by omega, by rw [wk ws3]; rfl⟩) rfl rfl rfl rfl (by omega) (by show kd h3 352 = 22; rw [(kl 352).1, (m4 352 (by omega)).1]; exact k352) ?_
    rintro _ h4 ⟨rfl, ⟨p1, p2, p3, p4⟩, ⟨e', c', al4, he'⟩, p5, p6, p7, p8⟩
    try simp (disch := omega) only [kd_stI, ln_stI, nn_stI, iI_stI, iR_stI, iJ_stI, sU_stI, kd_stR, ln_stR, nn_stR, iI_stR, iR_stR, iJ_stR, sU_stR, kd_stJ, ln_stJ, nn_stJ, iI_stJ, iR_stJ, iJ_stJ, sU_stJ, kd_alc, ln_alc, nn_alc, iI_alc, iR_alc, iJ_alc, sU_alc, e_const, e_lconst, e_null, e_iload, e_lload, e_aload, e_istore, e_astore, e_lstore, e_iinc, e_iadd, e_isub, e_imul, e_iand, e_ior, e_ixor, e_ishl, e_ishr, e_iushr, e_idiv, e_irem, e_ineg, e_i2l, e_i2b, e_i2c, e_lmul, e_lcmp, e_dup, e_pop, e_dup_x1, e_dup2, e_if_eq, e_icmp_eq, e_if_ne, e_icmp_ne, e_if_lt, e_icmp_lt, e_if_ge, e_icmp_ge, e_if_gt, e_icmp_gt, e_if_le, e_icmp_le, e_ifnull, e_ifnonnull, e_acmp_eq, e_acmp_ne, e_getI, e_getJ, e_getR, e_getSI, e_getSR, e_getEI, e_getER, e_putI, e_putJ, e_putR, e_iald, e_bald, e_zald, e_lald, e_aald, e_alen, e_iast, e_bast, e_zast, e_last, e_newa, e_new, e_newq, e_ret, e_vret, e_obj, e_mmax, e_mmin, e_ldcS, e_sref, e_exc, e_thr, e_stq, e_cast, e_castY, e_castA, e_instS, e_cpy, e_aast, e_cpyR, e_cln, e_gcl, e_ldcM, e_sw, swc_n, swc_c, kon_v, kon_r, kon_t, lg_0, lg_s, ls0, lay, List.length_cons, List.length_nil, List.replicate, List.cons_append, List.nil_append, ps, lp, List.set_cons_zero, List.set_cons_succ, jk, kd_hI, ln_hI, iI_hI, iR_hI, iJ_hI, nn_hI, sU_hI, stI_hI, hI_hI, K0e, and_true, true_and, rtOk, fOk, ge_iff_le, Nat.reduceLeDiff, Nat.reduceAdd, Nat.reduceSub, Nat.reduceLT, c1, lit, nN, nN2, nI_add, pk_mul, nI_clamp, vpi, nI_leI, nI_ltI, nI_eq, bP_z, not_true_eq_false, not_false_eq_true, false_implies, true_implies, implies_true, Nat.le_refl, Nat.lt_irrefl, true_or, or_true, m31, pk_sub, pk_m1, bP_1, bP_em, Classical.not_not, Nat.zero_le, cI_T, cI_F, thr_e, thr_0, thr_m, vus, vun, vuu, pk_us, e_xO, e_xC, ex_e, e_mabsN, Nat.reduceEqDiff, ↓reduceIte, pk_un]
    have a4 : ∀ a, a < nn h3 → a ≠ 352 → a ≠ eD → Same h3 h4 a := fun a ha z1 z2 => by
      obtain ⟨c1', c2, c3, c4, _⟩ := p5 a ha (by simp only [List.contains_cons, List.contains_nil, Bool.or_false, Bool.or_eq_false_iff, beq_eq_false_iff_ne]; exact ⟨z1, z2⟩)
      exact ⟨c1', c2, c3, c4⟩
    have a5 : ∀ a, a < nn h → a ≠ 352 → a ≠ eD → (a < ws 0 ∨ ws 0 + 15 < a) → Same h h4 a := fun a ha z1 z2 z3 => ((a1 a ha z1 z2).trans (a2 a z3)).trans (a4 a (by omega) z1 z2)
    have k5 : ∀ a, a < nn h → kd h4 a = kd h a ∧ ln h4 a = ln h a := fun a ha => ⟨((p6 a (by omega)).1.trans (kl a).1).trans (m4 a ha).1, ((p6 a (by omega)).2.1.trans (kl a).2).trans (m4 a ha).2.1⟩
    have eN : rmN 12 = 12 := rfl
    have eR : ∀ i, rmR 12 A S i = if i = 11 then S else A (i + 1) := fun _ => rfl
    have a6 : ∀ j, j ≤ 15 → Same h3 h4 (ws 0 + j) := fun j hj => a4 _ (by omega) (by omega) (by omega)
    have a7 : ∀ i j, 0 < i → i < 12 → j ≤ 15 → Same h h4 (ws i + j) := fun i j h0 hi hj => by
      obtain ⟨z1, z2, z3, _⟩ := kw i hi
      have := kd' i 0 hi (by omega) (by omega)
      exact a5 _ (by omega) (by omega) (by omega) (by omega)
    have l301 : iR h4 301 30 = iR h 301 30 := by rw [(a5 301 (by omega) (by omega) (by omega) (by omega)).2.2.2]
    have ew : ∀ i, i < 12 → va_up (rmV ws 0) 11 (ws 0) i = if i = 11 then ws 0 else ws (i + 1) := fun i hi => by
      by_cases e : i = 11
      · subst e; rw [vus, if_pos rfl]
      · rw [vun _ _ e, if_neg e, rmV_r (by omega)]
    rw [rbP, eN]
    refine ⟨⟨by omega, by omega, by omega, by omega⟩, ⟨by omega, fun a ha => k5 a (by omega), fun a k ha z1 z2 => ?_, fun a ha => ?_⟩, fun a ha z => ?_, fun a ha => ?_, e', c', va_up (rmV ws 0) 11 (ws 0), ⟨al4, by omega, ?_, fun i hi => ?_, fun i j hi hj hij => ?_⟩, fun a ha => ?_⟩
    · rw [(a5 a (by omega) z2 (by omega) (by omega)).2.2.2]
    · exact (a5 a (by omega) (by omega) (by omega) (by omega)).2.2.1
    · exact ⟨(a5 a (by omega) z (by omega) (by omega)).2.2.1, (a5 a (by omega) z (by omega) (by omega)).2.2.2⟩
    · obtain ⟨f1, f2, f3, f4⟩ := ha
      have := f4 0 (by omega)
      exact a5 a f2 (by omega) f3 (by omega)
    · omega
    · rw [ew i hi, eR]
      by_cases e : i = 11
      · rw [if_pos e, if_pos e, l301]
        refine ⟨by omega, by omega, by omega, ws3.sm a6, wr3.sm a6, ?_⟩
        have := a6 0 (by omega)
        rw [Nat.add_zero] at this
        rw [this.2.2.2]; exact l3
      · obtain ⟨z1, z2, z3, z4, z5, z6⟩ := kw (i + 1) (by omega)
        rw [if_neg e, if_neg e, l301]
        refine ⟨z1, by omega, by omega, z4.sm (fun j hj => a7 _ j (by omega) (by omega) hj), z5.sm (fun j hj => a7 _ j (by omega) (by omega) hj), ?_⟩
        have := a7 (i + 1) 0 (by omega) (by omega) (by omega)
        rw [Nat.add_zero] at this
        rw [this.2.2.2]; exact z6
    · rw [ew i hi, ew j hj]
      by_cases ei : i = 11
      · rw [if_pos ei, if_neg (by omega)]
        exact kd' 0 (j + 1) (by omega) (by omega) (by omega)
      · rw [if_neg ei]
        by_cases ej : j = 11
        · rw [if_pos ej]
          exact kd' (i + 1) 0 (by omega) (by omega) (by omega)
        · rw [if_neg ej]
          exact kd' (i + 1) (j + 1) (by omega) (by omega) (by omega)
    · obtain ⟨f1, f2, f3, f4⟩ := ha
      refine ⟨f1, by omega, by omega, fun i hi => ?_⟩
      rw [ew i hi]
      by_cases e : i = 11
      · rw [if_pos e]; exact f4 0 (by omega)
      · rw [if_neg e]; exact f4 (i + 1) (by omega)
end
