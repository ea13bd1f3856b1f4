/-! CONTRACTS of the component: meetings 2 -/
set_option maxRecDepth 100000
/-- two as the law sees them -/
noncomputable def fct (S : Nat → Int32) (p q : Nat) (k : Nat) : Int32 := match k with
  | 0 => nI p | 1 => nI q | 2 => S (92 + 8 * p + 2) | 3 => S (92 + 8 * q + 2) | 4 => S (172 + 10 * p + q) | 5 => S 7 | 6 => bP (S (92 + 8 * p + 0) = S (92 + 8 * q + 0)) | _ => bP (S (92 + 8 * p + 4) = nI 1 ∨ S (92 + 8 * q + 4) = nI 1)
abbrev LV : Type := (Nat → Int32) → Int32
/-- what a law says: of eight facts alone, none or a code -/
def LvG (v : LV) : Prop := (∀ φ ψ, (∀ k, k < 8 → φ k = ψ k) → v φ = v ψ) ∧ ∀ φ, v φ = N1 ∨ cd (v φ)
/-- the two truths of a scene -/
def Sb (f : Nat → Int32) : Prop := (f 6 = nI 0 ∨ f 6 = nI 1) ∧ (f 7 = nI 0 ∨ f 7 = nI 1)
/-- the law at l says v -/
def LwT (h : MH) (l : Nat) (v : LV) (σ : Nat → Nat → Int32) : Prop := (l = 0 ∧ ∀ φ, v φ = N1) ∨ (l ≠ 0 ∧ kd h l = 11 ∧ ∀ (τ : Nat → Nat → Int32) (d : Nat), 60 ≤ d → (∀ a, (a < 300 ∨ 396 ≤ a) → τ a = σ a) → Sb (τ 351) → RT mX11_tells d [.ref l, .ref 351] (hI h τ) (some (.int (v (τ 351)))) (hI h τ))
theorem LwT.of {h : MH} {l : Nat} {v : LV} {σ τ : Nat → Nat → Int32} (t : LwT h l v σ) (e : ∀ a, (a < 300 ∨ 396 ≤ a) → τ a = σ a) : LwT h l v τ := by
  rcases t with t | ⟨t1, t2, t3⟩
  · exact Or.inl t
  · exact Or.inr ⟨t1, t2, fun υ d hd eu hb => t3 υ d hd (fun a ha => (eu a ha).trans (e a ha)) hb⟩
/-- how one begins with another one -/
noncomputable def bgn (v : LV) (S : Nat → Int32) (p q : Nat) : Int32 := cI (v (fct S p q) = N1) (cI (S (272 + 10 * p + q) = N1) (S (92 + 8 * p + 1)) (S (272 + 10 * p + q))) (v (fct S p q))
/-- what was seen is none or a code -/
def Iw (S : Nat → Int32) : Prop := ∀ p q, p < 10 → q < 10 → S (272 + 10 * p + q) = N1 ∨ cd (S (272 + 10 * p + q))
theorem bgn_cd {v : LV} {S : Nat → Int32} (hv : LvG v) (ho : Io S) (hi : Iw S) {p q : Nat} (hp : p < nP S) (hq : q < 10) (hP : nP S ≤ 10) : cd (bgn v S p q) := by
  unfold bgn
  by_cases h1 : v (fct S p q) = N1
  · rw [cI_t h1]
    by_cases h2 : S (272 + 10 * p + q) = N1
    · rw [cI_t h2]; exact ho.cd hp
    · rw [cI_f h2]; exact (hi p q (by omega) hq).resolve_left h2
  · rw [cI_f h1]; exact (hv.2 _).resolve_left h1
/-- colds pass -/
noncomputable def caS (S : Nat → Int32) (p q : Nat) (d0 d1 : Int32) : Nat → Int32 := dI ((S (92 + 8 * p + 4) = nI 1 ∨ S (92 + 8 * q + 4) = nI 1) ∧ ¬ d0 >>> nI 3 = nI 0 ∧ ¬ d1 >>> nI 3 = nI 0) (upd (upd S (92 + 8 * p + 4) (nI 1)) (92 + 8 * q + 4) (nI 1)) S
/-- the log with a row more -/
def lgS (S : Nat → Int32) (r : Nat → Int32) : Nat → Int32 := fun i => if 420 ≤ i ∧ i < 428 then r (i - 420) else if 428 ≤ i ∧ i < 900 then S (i - 8) else S i
theorem lgS_o {S r : Nat → Int32} {i : Nat} (h : i < 420 ∨ 900 ≤ i) : lgS S r i = S i := by
  unfold lgS; rw [if_neg (by omega), if_neg (by omega)]
theorem lgS_0 {S r : Nat → Int32} {z : Nat} (h : z < 8) : lgS S r (420 + 8 * 0 + z) = r z := by
  unfold lgS; rw [if_pos (by omega)]; congr 1; omega
theorem lgS_s {S r : Nat → Int32} {k z : Nat} (h0 : 0 < k) (hk : k < 60) (h : z < 8) : lgS S r (420 + 8 * k + z) = S (420 + 8 * (k - 1) + z) := by
  unfold lgS; rw [if_neg (by omega), if_pos (by omega)]; congr 1; omega
def tlR (S : Nat → Int32) (p q : Nat) (b0 b1 d0 d1 c : Int32) (k : Nat) : Int32 := match k with
  | 0 => S 7 | 1 => nI p | 2 => nI q | 3 => b0 | 4 => b1 | 5 => d0 | 6 => d1 | _ => c
def tlS (S : Nat → Int32) (p q : Nat) (b0 b1 d0 d1 c : Int32) : Nat → Int32 := upd (lgS S (tlR S p q b0 b1 d0 d1 c)) 12 (if nI 60 < S 12 + nI 1 then nI 60 else S 12 + nI 1)
section
variable {h : MH} {w : Nat} {S : Nat → Int32} {d : Nat} {σ : Nat → Nat → Int32} {x0 : Nat}
def caP (h : MH) (S : Nat → Int32) (σ : Nat → Nat → Int32) (w p q : Nat) (o : Outcome) (h1 : MH) : Prop := ∃ τ, o = .returned none ∧ h1 = hI h τ ∧ WR τ w (caS S p q (σ 354 0) (σ 354 1)) ∧ Eqw w σ τ
theorem sX1_catches (hx : X0 h x0) (hb : BS h) (hw : WS h w) (hr : WR σ w S) (ce : CE (hI h σ)) (hB : Ib S) (hd : 2 ≤ d) {p q : Nat} (hp : p < 10) (hq : q < 10) (h0 : cd (σ 354 0)) (h1 : cd (σ 354 1)) : WPm mX1_catches d [.ref 300, .ref w, .int (nI p), .int (nI q)] (hI h σ) (caP h S σ w p q) := by
  refine mO rfl rfl ?_
  have k35 : ∀ l4, WPb mX1_catches d 35 [.ref 300, .ref w, .int (nI p), .int (nI q), l4] [.int (bP (¬ σ 354 0 >>> nI 3 = nI 0 ∧ ¬ σ 354 1 >>> nI 3 = nI 0))] (hI h σ) (caP h S σ w p q) := by
    intro l4
    have yes : (S (92 + 8 * p + 4) = nI 1 ∨ S (92 + 8 * q + 4) = nI 1) → (¬ σ 354 0 >>> nI 3 = nI 0 ∧ ¬ σ 354 1 >>> nI 3 = nI 0) → caP h S σ w p q (.returned none) (hI h (va_up σ (w + 8) (upd (upd (σ (w + 8)) p (nI 1)) q (nI 1)))) := by
      intro z1 z2
      refine ⟨_, rfl, rfl, ?_, (Eqw.refl _ _).up (by omega) _⟩
      unfold caS
      rw [dI_t ⟨z1, z2⟩]
      have r2 := (hr.a8 hp (nI 1)).a8 hq (nI 1)
      rw [vus, vuu] at r2
      exact r2
    have no : ¬ ((S (92 + 8 * p + 4) = nI 1 ∨ S (92 + 8 * q + 4) = nI 1) ∧ (¬ σ 354 0 >>> nI 3 = nI 0 ∧ ¬ σ 354 1 >>> nI 3 = nI 0)) → caP h S σ w p q (.returned none) (hI h σ) := by
      intro z
      refine ⟨σ, rfl, rfl, ?_, Eqw.refl _ _⟩
      unfold caS
      rw [dI_f z]
      exact hr
    apply kX1_catches_35
    try simp (disch := omega) only [tX1_catches_35, wk hw, wg hw, wgj hw, wr15 hw, wr16 hw, wr17 hw, wr18 hw, wr19 hw, wr20 hw, wr21 hw, wr22 hw, wr23 hw, wr24 hw, wr25 hw, wr26 hw, wr27 hw, wr28 hw, wr29 hw, wk1 hw, wk2 hw, wk3 hw, wk4 hw, wk5 hw, wk6 hw, wk7 hw, wk8 hw, wk9 hw, wk10 hw, wk11 hw, wk12 hw, wk13 hw, wk14 hw, wk15 hw, wl1 hw, wl2 hw, wl3 hw, wl4 hw, wl5 hw, wl6 hw, wl7 hw, wl8 hw, wl9 hw, wl10 hw, wl11 hw, wl12 hw, wl13 hw, wl14 hw, wl15 hw, wf0 hr, wf1 hr, wf2 hr, wf3 hr, wf4 hr, wf5 hr, wf6 hr, wf7 hr, wf8 hr, wf9 hr, wf10 hr, wf11 hr, wf12 hr, wf13 hr, wf14 hr, wv1 hr, wv2 hr, wv3 hr, wv4 hr, wv5 hr, wv6 hr, wv7 hr, wv8 hr, wv11 hr, wv12 hr, wv9 hr, wv10 hr, wv13 hr, wv14 hr, wv15 hr, e_const, e_lconst, e_null, e_iload, e_lload, e_aload, e_istore, e_astore, e_lstore, e_iinc, e_iadd, e_isub, e_imul, e_iand, e_ior, e_ixor, e_ishl, e_ishr, e_iushr, e_idiv, e_irem, e_ineg, e_i2l, e_i2b, e_i2c, e_lmul, e_lcmp, e_dup, e_pop, e_dup_x1, e_dup2, e_if_eq, e_icmp_eq, e_if_ne, e_icmp_ne, e_if_lt, e_icmp_lt, e_if_ge, e_icmp_ge, e_if_gt, e_icmp_gt, e_if_le, e_icmp_le, e_ifnull, e_ifnonnull, e_acmp_eq, e_acmp_ne, e_getI, e_getJ, e_getR, e_getSI, e_getSR, e_getEI, e_getER, e_putI, e_putJ, e_putR, e_iald, e_bald, e_zald, e_lald, e_aald, e_alen, e_iast, e_bast, e_zast, e_last, e_newa, e_new, e_newq, e_ret, e_vret, e_obj, e_mmax, e_mmin, e_ldcS, e_sref, e_exc, e_thr, e_stq, e_cast, e_castY, e_castA, e_instS, e_cpy, e_aast, e_cpyR, e_cln, e_gcl, e_ldcM, e_sw, swc_n, swc_c, kon_v, kon_r, kon_t, lg_0, lg_s, ls0, lay, List.length_cons, List.length_nil, List.replicate, List.cons_append, List.nil_append, ps, lp, List.set_cons_zero, List.set_cons_succ, jk, kd_hI, ln_hI, iI_hI, iR_hI, iJ_hI, nn_hI, sU_hI, stI_hI, hI_hI, K0e, and_true, true_and, rtOk, fOk, ge_iff_le, Nat.reduceLeDiff, Nat.reduceAdd, Nat.reduceSub, Nat.reduceLT, c1, lit, nN, nN2, nI_add, pk_mul, nI_clamp, vpi, nI_leI, nI_ltI, nI_eq, bP_z, not_true_eq_false, not_false_eq_true, false_implies, true_implies, implies_true, Nat.le_refl, Nat.lt_irrefl, true_or, or_true, m31, pk_sub, pk_m1, bP_1, bP_em, Classical.not_not, Nat.zero_le, cI_T, cI_F, thr_e, thr_0, thr_m, vus, vun, vuu, pk_us, e_xO, e_xC, ex_e, e_mabsN, Nat.reduceEqDiff, ↓reduceIte, pk_un]
    refine ⟨fun hc => no (fun z => hc z.2), fun hc => ⟨fun h2 => ?_, fun h2 => ⟨fun h3 => ?_, fun h3 => ?_⟩⟩⟩
    · exact yes (Or.inl ((hB p hp).resolve_left h2)) hc
    · exact yes (Or.inr ((hB q hq).resolve_left h3)) hc
    · refine no (fun z => ?_)
      rcases z.1 with z | z
      · rw [h2] at z; exact absurd z (by decide)
      · rw [h3] at z; exact absurd z (by decide)
  apply kX1_catches_0
  try simp (disch := omega) only [tX1_catches_0, xk hx, bq1 hb, bq5 hb, bq6 hb, wk hw, wg hw, wgj hw, wr15 hw, wr16 hw, wr17 hw, wr18 hw, wr19 hw, wr20 hw, wr21 hw, wr22 hw, wr23 hw, wr24 hw, wr25 hw, wr26 hw, wr27 hw, wr28 hw, wr29 hw, wk1 hw, wk2 hw, wk3 hw, wk4 hw, wk5 hw, wk6 hw, wk7 hw, wk8 hw, wk9 hw, wk10 hw, wk11 hw, wk12 hw, wk13 hw, wk14 hw, wk15 hw, wl1 hw, wl2 hw, wl3 hw, wl4 hw, wl5 hw, wl6 hw, wl7 hw, wl8 hw, wl9 hw, wl10 hw, wl11 hw, wl12 hw, wl13 hw, wl14 hw, wl15 hw, wf0 hr, wf1 hr, wf2 hr, wf3 hr, wf4 hr, wf5 hr, wf6 hr, wf7 hr, wf8 hr, wf9 hr, wf10 hr, wf11 hr, wf12 hr, wf13 hr, wf14 hr, wv1 hr, wv2 hr, wv3 hr, wv4 hr, wv5 hr, wv6 hr, wv7 hr, wv8 hr, wv11 hr, wv12 hr, wv9 hr, wv10 hr, wv13 hr, wv14 hr, wv15 hr, e_const, e_lconst, e_null, e_iload, e_lload, e_aload, e_istore, e_astore, e_lstore, e_iinc, e_iadd, e_isub, e_imul, e_iand, e_ior, e_ixor, e_ishl, e_ishr, e_iushr, e_idiv, e_irem, e_ineg, e_i2l, e_i2b, e_i2c, e_lmul, e_lcmp, e_dup, e_pop, e_dup_x1, e_dup2, e_if_eq, e_icmp_eq, e_if_ne, e_icmp_ne, e_if_lt, e_icmp_lt, e_if_ge, e_icmp_ge, e_if_gt, e_icmp_gt, e_if_le, e_icmp_le, e_ifnull, e_ifnonnull, e_acmp_eq, e_acmp_ne, e_getI, e_getJ, e_getR, e_getSI, e_getSR, e_getEI, e_getER, e_putI, e_putJ, e_putR, e_iald, e_bald, e_zald, e_lald, e_aald, e_alen, e_iast, e_bast, e_zast, e_last, e_newa, e_new, e_newq, e_ret, e_vret, e_obj, e_mmax, e_mmin, e_ldcS, e_sref, e_exc, e_thr, e_stq, e_cast, e_castY, e_castA, e_instS, e_cpy, e_aast, e_cpyR, e_cln, e_gcl, e_ldcM, e_sw, swc_n, swc_c, kon_v, kon_r, kon_t, lg_0, lg_s, ls0, lay, List.length_cons, List.length_nil, List.replicate, List.cons_append, List.nil_append, ps, lp, List.set_cons_zero, List.set_cons_succ, jk, kd_hI, ln_hI, iI_hI, iR_hI, iJ_hI, nn_hI, sU_hI, stI_hI, hI_hI, K0e, and_true, true_and, rtOk, fOk, ge_iff_le, Nat.reduceLeDiff, Nat.reduceAdd, Nat.reduceSub, Nat.reduceLT, c1, lit, nN, nN2, nI_add, pk_mul, nI_clamp, vpi, nI_leI, nI_ltI, nI_eq, bP_z, not_true_eq_false, not_false_eq_true, false_implies, true_implies, implies_true, Nat.le_refl, Nat.lt_irrefl, true_or, or_true, m31, pk_sub, pk_m1, bP_1, bP_em, Classical.not_not, Nat.zero_le, cI_T, cI_F, thr_e, thr_0, thr_m, vus, vun, vuu, pk_us, e_xO, e_xC, ex_e, e_mabsN, Nat.reduceEqDiff, ↓reduceIte, pk_un]
  refine cR (sX1_isOf (by omega) ce (by omega) (by omega) h0) rfl rfl rfl rfl (by omega) (by first | exact trivial | exact yq0 hy | exact xk hx | exact wk hw | assumption | (simp only [pV, kd_hI]; assumption)) ?_
  try simp (disch := omega) only [xk hx, bq1 hb, bq5 hb, bq6 hb, wk hw, wg hw, wgj hw, wr15 hw, wr16 hw, wr17 hw, wr18 hw, wr19 hw, wr20 hw, wr21 hw, wr22 hw, wr23 hw, wr24 hw, wr25 hw, wr26 hw, wr27 hw, wr28 hw, wr29 hw, wk1 hw, wk2 hw, wk3 hw, wk4 hw, wk5 hw, wk6 hw, wk7 hw, wk8 hw, wk9 hw, wk10 hw, wk11 hw, wk12 hw, wk13 hw, wk14 hw, wk15 hw, wl1 hw, wl2 hw, wl3 hw, wl4 hw, wl5 hw, wl6 hw, wl7 hw, wl8 hw, wl9 hw, wl10 hw, wl11 hw, wl12 hw, wl13 hw, wl14 hw, wl15 hw, wf0 hr, wf1 hr, wf2 hr, wf3 hr, wf4 hr, wf5 hr, wf6 hr, wf7 hr, wf8 hr, wf9 hr, wf10 hr, wf11 hr, wf12 hr, wf13 hr, wf14 hr, wv1 hr, wv2 hr, wv3 hr, wv4 hr, wv5 hr, wv6 hr, wv7 hr, wv8 hr, wv11 hr, wv12 hr, wv9 hr, wv10 hr, wv13 hr, wv14 hr, wv15 hr, e_const, e_lconst, e_null, e_iload, e_lload, e_aload, e_istore, e_astore, e_lstore, e_iinc, e_iadd, e_isub, e_imul, e_iand, e_ior, e_ixor, e_ishl, e_ishr, e_iushr, e_idiv, e_irem, e_ineg, e_i2l, e_i2b, e_i2c, e_lmul, e_lcmp, e_dup, e_pop, e_dup_x1, e_dup2, e_if_eq, e_icmp_eq, e_if_ne, e_icmp_ne, e_if_lt, e_icmp_lt, e_if_ge, e_icmp_ge, e_if_gt, e_icmp_gt, e_if_le, e_icmp_le, e_ifnull, e_ifnonnull, e_acmp_eq, e_acmp_ne, e_getI, e_getJ, e_getR, e_getSI, e_getSR, e_getEI, e_getER, e_putI, e_putJ, e_putR, e_iald, e_bald, e_zald, e_lald, e_aald, e_alen, e_iast, e_bast, e_zast, e_last, e_newa, e_new, e_newq, e_ret, e_vret, e_obj, e_mmax, e_mmin, e_ldcS, e_sref, e_exc, e_thr, e_stq, e_cast, e_castY, e_castA, e_instS, e_cpy, e_aast, e_cpyR, e_cln, e_gcl, e_ldcM, e_sw, swc_n, swc_c, kon_v, kon_r, kon_t, lg_0, lg_s, ls0, lay, List.length_cons, List.length_nil, List.replicate, List.cons_append, List.nil_append, ps, lp, List.set_cons_zero, List.set_cons_succ, jk, kd_hI, ln_hI, iI_hI, iR_hI, iJ_hI, nn_hI, sU_hI, stI_hI, hI_hI, K0e, and_true, true_and, rtOk, fOk, ge_iff_le, Nat.reduceLeDiff, Nat.reduceAdd, Nat.reduceSub, Nat.reduceLT, c1, lit, nN, nN2, nI_add, pk_mul, nI_clamp, vpi, nI_leI, nI_ltI, nI_eq, bP_z, not_true_eq_false, not_false_eq_true, false_implies, true_implies, implies_true, Nat.le_refl, Nat.lt_irrefl, true_or, or_true, m31, pk_sub, pk_m1, bP_1, bP_em, Classical.not_not, Nat.zero_le, cI_T, cI_F, thr_e, thr_0, thr_m, vus, vun, vuu, pk_us, e_xO, e_xC, ex_e, e_mabsN, Nat.reduceEqDiff, ↓reduceIte, pk_un]
  refine ⟨fun hc => ?_, fun hc => ?_⟩
  · have := k35 jk
    rw [bP_f (fun z => z.1 hc)] at this; exact this
  · refine cR (sX1_isOf (by omega) ce (by omega) (by omega) h1) rfl rfl rfl rfl (by omega) (by first | exact trivial | exact yq0 hy | exact xk hx | exact wk hw | assumption | (simp only [pV, kd_hI]; assumption)) ?_
    try simp (disch := omega) only [wk hw, wg hw, wgj hw, wr15 hw, wr16 hw, wr17 hw, wr18 hw, wr19 hw, wr20 hw, wr21 hw, wr22 hw, wr23 hw, wr24 hw, wr25 hw, wr26 hw, wr27 hw, wr28 hw, wr29 hw, wk1 hw, wk2 hw, wk3 hw, wk4 hw, wk5 hw, wk6 hw, wk7 hw, wk8 hw, wk9 hw, wk10 hw, wk11 hw, wk12 hw, wk13 hw, wk14 hw, wk15 hw, wl1 hw, wl2 hw, wl3 hw, wl4 hw, wl5 hw, wl6 hw, wl7 hw, wl8 hw, wl9 hw, wl10 hw, wl11 hw, wl12 hw, wl13 hw, wl14 hw, wl15 hw, wf0 hr, wf1 hr, wf2 hr, wf3 hr, wf4 hr, wf5 hr, wf6 hr, wf7 hr, wf8 hr, wf9 hr, wf10 hr, wf11 hr, wf12 hr, wf13 hr, wf14 hr, wv1 hr, wv2 hr, wv3 hr, wv4 hr, wv5 hr, wv6 hr, wv7 hr, wv8 hr, wv11 hr, wv12 hr, wv9 hr, wv10 hr, wv13 hr, wv14 hr, wv15 hr, e_const, e_lconst, e_null, e_iload, e_lload, e_aload, e_istore, e_astore, e_lstore, e_iinc, e_iadd, e_isub, e_imul, e_iand, e_ior, e_ixor, e_ishl, e_ishr, e_iushr, e_idiv, e_irem, e_ineg, e_i2l, e_i2b, e_i2c, e_lmul, e_lcmp, e_dup, e_pop, e_dup_x1, e_dup2, e_if_eq, e_icmp_eq, e_if_ne, e_icmp_ne, e_if_lt, e_icmp_lt, e_if_ge, e_icmp_ge, e_if_gt, e_icmp_gt, e_if_le, e_icmp_le, e_ifnull, e_ifnonnull, e_acmp_eq, e_acmp_ne, e_getI, e_getJ, e_getR, e_getSI, e_getSR, e_getEI, e_getER, e_putI, e_putJ, e_putR, e_iald, e_bald, e_zald, e_lald, e_aald, e_alen, e_iast, e_bast, e_zast, e_last, e_newa, e_new, e_newq, e_ret, e_vret, e_obj, e_mmax, e_mmin, e_ldcS, e_sref, e_exc, e_thr, e_stq, e_cast, e_castY, e_castA, e_instS, e_cpy, e_aast, e_cpyR, e_cln, e_gcl, e_ldcM, e_sw, swc_n, swc_c, kon_v, kon_r, kon_t, lg_0, lg_s, ls0, lay, List.length_cons, List.length_nil, List.replicate, List.cons_append, List.nil_append, ps, lp, List.set_cons_zero, List.set_cons_succ, jk, kd_hI, ln_hI, iI_hI, iR_hI, iJ_hI, nn_hI, sU_hI, stI_hI, hI_hI, K0e, and_true, true_and, rtOk, fOk, ge_iff_le, Nat.reduceLeDiff, Nat.reduceAdd, Nat.reduceSub, Nat.reduceLT, c1, lit, nN, nN2, nI_add, pk_mul, nI_clamp, vpi, nI_leI, nI_ltI, nI_eq, bP_z, not_true_eq_false, not_false_eq_true, false_implies, true_implies, implies_true, Nat.le_refl, Nat.lt_irrefl, true_or, or_true, m31, pk_sub, pk_m1, bP_1, bP_em, Classical.not_not, Nat.zero_le, cI_T, cI_F, thr_e, thr_0, thr_m, vus, vun, vuu, pk_us, e_xO, e_xC, ex_e, e_mabsN, Nat.reduceEqDiff, ↓reduceIte, pk_un]
    refine ⟨fun h2 => ?_, fun h2 => ?_⟩
    · have := k35 jk
      rw [bP_f (fun z => z.2 h2)] at this; exact this
    · have := k35 jk
      rw [bP_t ⟨hc, h2⟩] at this; exact this
theorem lgW (hr : WR σ w S) {L r : Nat → Int32} (h0 : ∀ z, z < 8 → L z = r z) (h1 : ∀ j, j < 472 → L (8 + j) = σ (w + 15) j) : WR (va_up σ (w + 15) L) w (lgS S r) := by
  refine ⟨⟨?_, ?_, ?_, ?_, ?_, ?_, ?_, ?_, ?_, ?_, ?_, ?_, ?_, ?_, ?_⟩, ?_, ?_, ?_, ?_, ?_, ?_, ?_, ?_, ?_, ?_, ?_, ?_, ?_, ?_, ?_⟩
  · rw [vun _ _ (by omega), lgS_o (by omega)]; exact wf0 hr
  · rw [vun _ _ (by omega), lgS_o (by omega)]; exact wf1 hr
  · rw [vun _ _ (by omega), lgS_o (by omega)]; exact wf2 hr
  · rw [vun _ _ (by omega), lgS_o (by omega)]; exact wf3 hr
  · rw [vun _ _ (by omega), lgS_o (by omega)]; exact wf4 hr
  · rw [vun _ _ (by omega), lgS_o (by omega)]; exact wf5 hr
  · rw [vun _ _ (by omega), lgS_o (by omega)]; exact wf6 hr
  · rw [vun _ _ (by omega), lgS_o (by omega)]; exact wf7 hr
  · rw [vun _ _ (by omega), lgS_o (by omega)]; exact wf8 hr
  · rw [vun _ _ (by omega), lgS_o (by omega)]; exact wf9 hr
  · rw [vun _ _ (by omega), lgS_o (by omega)]; exact wf10 hr
  · rw [vun _ _ (by omega), lgS_o (by omega)]; exact wf11 hr
  · rw [vun _ _ (by omega), lgS_o (by omega)]; exact wf12 hr
  · rw [vun _ _ (by omega), lgS_o (by omega)]; exact wf13 hr
  · rw [vun _ _ (by omega), lgS_o (by omega)]; exact wf14 hr
  · intro k hk; rw [vun _ _ (by omega), lgS_o (by omega)]; exact wv1 hr hk
  · intro k hk; rw [vun _ _ (by omega), lgS_o (by omega)]; exact wv2 hr hk
  · intro k hk; rw [vun _ _ (by omega), lgS_o (by omega)]; exact wv3 hr hk
  · intro k hk; rw [vun _ _ (by omega), lgS_o (by omega)]; exact wv4 hr hk
  · intro k hk; rw [vun _ _ (by omega), lgS_o (by omega)]; exact wv5 hr hk
  · intro k hk; rw [vun _ _ (by omega), lgS_o (by omega)]; exact wv6 hr hk
  · intro k hk; rw [vun _ _ (by omega), lgS_o (by omega)]; exact wv7 hr hk
  · intro k hk; rw [vun _ _ (by omega), lgS_o (by omega)]; exact wv8 hr hk
  · intro k hk; rw [vun _ _ (by omega), lgS_o (by omega)]; exact wv11 hr hk
  · intro k hk; rw [vun _ _ (by omega), lgS_o (by omega)]; exact wv12 hr hk
  · intro p q hp hq; rw [vun _ _ (by omega), lgS_o (by omega)]; exact wv9 hr hp hq
  · intro p q hp hq; rw [vun _ _ (by omega), lgS_o (by omega)]; exact wv10 hr hp hq
  · intro k hk; rw [vun _ _ (by omega), lgS_o (by omega)]; exact wv13 hr hk
  · intro k hk; rw [vun _ _ (by omega), lgS_o (by omega)]; exact wv14 hr hk
  · intro k z hk hz
    rw [vus]
    by_cases e : k = 0
    · subst e
      rw [lgS_0 hz, Nat.mul_zero, Nat.zero_add]; exact h0 z hz
    · rw [lgS_s (by omega) hk hz, show 8 * k + z = 8 + (8 * (k - 1) + z) by omega, h1 _ (by omega)]
      exact wv15 hr (by omega) hz
def teP (h : MH) (S : Nat → Int32) (σ : Nat → Nat → Int32) (w p q : Nat) (c : Int32) (o : Outcome) (h1 : MH) : Prop := ∃ τ, o = .returned none ∧ h1 = hI h τ ∧ WR τ w (tlS S p q (σ 353 0) (σ 353 1) (σ 354 0) (σ 354 1) c) ∧ Eqw w σ τ
theorem sX2_tells (hb : BS h) (hw : WS h w) (hr : WR σ w S) (dj : w + 15 < 351 ∨ 354 < w) (hd : 1 ≤ d) {p q : Nat} (hp : p < 10) (hq : q < 10) (c : Int32) : WPm mX2_tells d [.ref w, .int (nI p), .int (nI q), .ref 353, .ref 354, .int c] (hI h σ) (teP h S σ w p q c) := by
  refine mO rfl rfl ?_
  have w3 := hw.1
  apply kX2_tells_0
  try simp (disch := omega) only [tX2_tells_0, bq3 hb, bq4 hb, bq5 hb, bq6 hb, cpk, wk hw, wg hw, wgj hw, wr15 hw, wr16 hw, wr17 hw, wr18 hw, wr19 hw, wr20 hw, wr21 hw, wr22 hw, wr23 hw, wr24 hw, wr25 hw, wr26 hw, wr27 hw, wr28 hw, wr29 hw, wk1 hw, wk2 hw, wk3 hw, wk4 hw, wk5 hw, wk6 hw, wk7 hw, wk8 hw, wk9 hw, wk10 hw, wk11 hw, wk12 hw, wk13 hw, wk14 hw, wk15 hw, wl1 hw, wl2 hw, wl3 hw, wl4 hw, wl5 hw, wl6 hw, wl7 hw, wl8 hw, wl9 hw, wl10 hw, wl11 hw, wl12 hw, wl13 hw, wl14 hw, wl15 hw, wf0 hr, wf1 hr, wf2 hr, wf3 hr, wf4 hr, wf5 hr, wf6 hr, wf7 hr, wf8 hr, wf9 hr, wf10 hr, wf11 hr, wf12 hr, wf13 hr, wf14 hr, wv1 hr, wv2 hr, wv3 hr, wv4 hr, wv5 hr, wv6 hr, wv7 hr, wv8 hr, wv11 hr, wv12 hr, wv9 hr, wv10 hr, wv13 hr, wv14 hr, wv15 hr, e_const, e_lconst, e_null, e_iload, e_lload, e_aload, e_istore, e_astore, e_lstore, e_iinc, e_iadd, e_isub, e_imul, e_iand, e_ior, e_ixor, e_ishl, e_ishr, e_iushr, e_idiv, e_irem, e_ineg, e_i2l, e_i2b, e_i2c, e_lmul, e_lcmp, e_dup, e_pop, e_dup_x1, e_dup2, e_if_eq, e_icmp_eq, e_if_ne, e_icmp_ne, e_if_lt, e_icmp_lt, e_if_ge, e_icmp_ge, e_if_gt, e_icmp_gt, e_if_le, e_icmp_le, e_ifnull, e_ifnonnull, e_acmp_eq, e_acmp_ne, e_getI, e_getJ, e_getR, e_getSI, e_getSR, e_getEI, e_getER, e_putI, e_putJ, e_putR, e_iald, e_bald, e_zald, e_lald, e_aald, e_alen, e_iast, e_bast, e_zast, e_last, e_newa, e_new, e_newq, e_ret, e_vret, e_obj, e_mmax, e_mmin, e_ldcS, e_sref, e_exc, e_thr, e_stq, e_cast, e_castY, e_castA, e_instS, e_cpy, e_aast, e_cpyR, e_cln, e_gcl, e_ldcM, e_sw, swc_n, swc_c, kon_v, kon_r, kon_t, lg_0, lg_s, ls0, lay, List.length_cons, List.length_nil, List.replicate, List.cons_append, List.nil_append, ps, lp, List.set_cons_zero, List.set_cons_succ, jk, kd_hI, ln_hI, iI_hI, iR_hI, iJ_hI, nn_hI, sU_hI, stI_hI, hI_hI, K0e, and_true, true_and, rtOk, fOk, ge_iff_le, Nat.reduceLeDiff, Nat.reduceAdd, Nat.reduceSub, Nat.reduceLT, c1, lit, nN, nN2, nI_add, pk_mul, nI_clamp, vpi, nI_leI, nI_ltI, nI_eq, bP_z, not_true_eq_false, not_false_eq_true, false_implies, true_implies, implies_true, Nat.le_refl, Nat.lt_irrefl, true_or, or_true, m31, pk_sub, pk_m1, bP_1, bP_em, Classical.not_not, Nat.zero_le, cI_T, cI_F, thr_e, thr_0, thr_m, vus, vun, vuu, pk_us, e_xO, e_xC, ex_e, e_mabsN, Nat.reduceEqDiff, ↓reduceIte, pk_un]
  refine ⟨⟨by omega, Nat.le_of_ble_eq_true rfl⟩, ⟨by omega, Nat.le_of_ble_eq_true rfl⟩, _, rfl, rfl, ?_, ((Eqw.refl _ _).up (by omega) _).u0 _⟩
  have r1 : WR (va_up σ (w + 15) (upd (upd (upd (upd (upd (upd (upd (upd (va_cpy (σ (w + 15)) (σ (w + 15)) 0 8 472) 0 (S 7)) 1 (nI p)) 2 (nI q)) 3 (σ 353 0)) 4 (σ 353 1)) 5 (σ 354 0)) 6 (σ 354 1)) 7 c)) w (lgS S (tlR S p q (σ 353 0) (σ 353 1) (σ 354 0) (σ 354 1) c)) := by
    refine lgW hr (fun z hz => ?_) (fun j hj => ?_)
    · have hz : z = 0 ∨ z = 1 ∨ z = 2 ∨ z = 3 ∨ z = 4 ∨ z = 5 ∨ z = 6 ∨ z = 7 := by omega
      rcases hz with rfl | rfl | rfl | rfl | rfl | rfl | rfl | rfl <;> rfl
    · rw [pk_un (by omega), pk_un (by omega), pk_un (by omega), pk_un (by omega), pk_un (by omega), pk_un (by omega), pk_un (by omega), pk_un (by omega), cpy_in hj, Nat.zero_add]
  have r2 := r1.f10 (if nI 60 < S 12 + nI 1 then nI 60 else S 12 + nI 1)
  rw [vun _ _ (by omega)] at r2
  unfold tlS
  rw [mnc (nI 60) (S 12 + nI 1)]
  exact r2
/-- toldBy: what the law says of two -/
def tbP (h : MH) (σ : Nat → Nat → Int32) (x : Int32) (o : Outcome) (h1 : MH) : Prop := ∃ τ, o = .returned (some (.int x)) ∧ h1 = hI h τ ∧ Eqx [351] σ τ
theorem sX1_toldBy (hx : X0 h x0) (hb : BS h) (hw : WS h w) (hr : WR σ w S) (hB : Ib S) {v : LV} (hv : LvG v) (hl : LwT h (iR h w 30) v σ) (dj : w + 15 < 351 ∨ 354 < w) (hd : 61 ≤ d) {p q : Nat} (hp : p < 10) (hq : q < 10) : WPm mX1_toldBy d [.ref 300, .ref w, .int (nI p), .int (nI q)] (hI h σ) (tbP h σ (v (fct S p q))) := by
  refine mO rfl rfl ?_
  have w3 := hw.1
  apply kX1_toldBy_0
  rcases hl with ⟨l1, l2⟩ | ⟨l1, l2, l3⟩
  · try simp (disch := omega) only [tX1_toldBy_0, l1, wk hw, wg hw, wgj hw, wr15 hw, wr16 hw, wr17 hw, wr18 hw, wr19 hw, wr20 hw, wr21 hw, wr22 hw, wr23 hw, wr24 hw, wr25 hw, wr26 hw, wr27 hw, wr28 hw, wr29 hw, wk1 hw, wk2 hw, wk3 hw, wk4 hw, wk5 hw, wk6 hw, wk7 hw, wk8 hw, wk9 hw, wk10 hw, wk11 hw, wk12 hw, wk13 hw, wk14 hw, wk15 hw, wl1 hw, wl2 hw, wl3 hw, wl4 hw, wl5 hw, wl6 hw, wl7 hw, wl8 hw, wl9 hw, wl10 hw, wl11 hw, wl12 hw, wl13 hw, wl14 hw, wl15 hw, wf0 hr, wf1 hr, wf2 hr, wf3 hr, wf4 hr, wf5 hr, wf6 hr, wf7 hr, wf8 hr, wf9 hr, wf10 hr, wf11 hr, wf12 hr, wf13 hr, wf14 hr, wv1 hr, wv2 hr, wv3 hr, wv4 hr, wv5 hr, wv6 hr, wv7 hr, wv8 hr, wv11 hr, wv12 hr, wv9 hr, wv10 hr, wv13 hr, wv14 hr, wv15 hr, e_const, e_lconst, e_null, e_iload, e_lload, e_aload, e_istore, e_astore, e_lstore, e_iinc, e_iadd, e_isub, e_imul, e_iand, e_ior, e_ixor, e_ishl, e_ishr, e_iushr, e_idiv, e_irem, e_ineg, e_i2l, e_i2b, e_i2c, e_lmul, e_lcmp, e_dup, e_pop, e_dup_x1, e_dup2, e_if_eq, e_icmp_eq, e_if_ne, e_icmp_ne, e_if_lt, e_icmp_lt, e_if_ge, e_icmp_ge, e_if_gt, e_icmp_gt, e_if_le, e_icmp_le, e_ifnull, e_ifnonnull, e_acmp_eq, e_acmp_ne, e_getI, e_getJ, e_getR, e_getSI, e_getSR, e_getEI, e_getER, e_putI, e_putJ, e_putR, e_iald, e_bald, e_zald, e_lald, e_aald, e_alen, e_iast, e_bast, e_zast, e_last, e_newa, e_new, e_newq, e_ret, e_vret, e_obj, e_mmax, e_mmin, e_ldcS, e_sref, e_exc, e_thr, e_stq, e_cast, e_castY, e_castA, e_instS, e_cpy, e_aast, e_cpyR, e_cln, e_gcl, e_ldcM, e_sw, swc_n, swc_c, kon_v, kon_r, kon_t, lg_0, lg_s, ls0, lay, List.length_cons, List.length_nil, List.replicate, List.cons_append, List.nil_append, ps, lp, List.set_cons_zero, List.set_cons_succ, jk, kd_hI, ln_hI, iI_hI, iR_hI, iJ_hI, nn_hI, sU_hI, stI_hI, hI_hI, K0e, and_true, true_and, rtOk, fOk, ge_iff_le, Nat.reduceLeDiff, Nat.reduceAdd, Nat.reduceSub, Nat.reduceLT, c1, lit, nN, nN2, nI_add, pk_mul, nI_clamp, vpi, nI_leI, nI_ltI, nI_eq, bP_z, not_true_eq_false, not_false_eq_true, false_implies, true_implies, implies_true, Nat.le_refl, Nat.lt_irrefl, true_or, or_true, m31, pk_sub, pk_m1, bP_1, bP_em, Classical.not_not, Nat.zero_le, cI_T, cI_F, thr_e, thr_0, thr_m, vus, vun, vuu, pk_us, e_xO, e_xC, ex_e, e_mabsN, Nat.reduceEqDiff, ↓reduceIte, pk_un]
    rw [l2]
    exact ⟨σ, rfl, rfl, Eqx.refl _ _⟩
  · have k104 : ∀ τ b, Eqx [351] σ τ → (∀ k, k < 6 → τ 351 k = fct S p q k) → b = fct S p q 6 → WPb mX1_toldBy d 104 [.ref 300, .ref w, .int (nI p), .int (nI q)] [.int b, .ref 351] (hI h τ) (tbP h σ (v (fct S p q))) := by
      intro τ b E H hb6
      have hr2 : WR τ w S := hr.of (fun j hj => E _ (by simp only [List.contains_cons, List.contains_nil, Bool.or_false, beq_eq_false_iff_ne]; omega))
      have fin : ∀ c, c = fct S p q 7 → i_call mX11_tells d 2 (pV 11) (xOut (tbP h σ (v (fct S p q)))) (i_ret (tbP h σ (v (fct S p q))) (some .int)) [.ref 300, .ref w, .int (nI p), .int (nI q)] [.ref 351, .ref (iR h w 30)] (hI h (va_up τ 351 (upd (upd (τ 351) 6 b) 7 c))) := by
        intro c hc
        refine cR (l3 _ (d - 1) (by omega) (fun a ha => by rw [vun _ _ (by omega)]; exact E a (by simp only [List.contains_cons, List.contains_nil, Bool.or_false, beq_eq_false_iff_ne]; omega)) ⟨by rw [vus, pk_un (by omega), pk_us, hb6]; exact bP_or _, by rw [vus, pk_us, hc]; exact bP_or _⟩) rfl rfl rfl rfl (by omega) l2 ?_
        rw [e_ret]
        refine ⟨trivial, _, ?_, rfl, E.up rfl _⟩
        rw [vus, hv.1 _ (fct S p q) (fun k hk => ?_)]
        by_cases e7 : k = 7
        · subst e7; rw [pk_us]; exact hc
        · rw [pk_un e7]
          by_cases e6 : k = 6
          · subst e6; rw [pk_us]; exact hb6
          · rw [pk_un e6]; exact H k (by omega)
      have hr := hr2
      have e6 : b = 0 ∨ b = 1 := by rw [hb6]; exact bP_or _
      apply kX1_toldBy_104
      try simp (disch := omega) only [tX1_toldBy_104, xk hx, bq2 hb, bq7 hb, wk hw, wg hw, wgj hw, wr15 hw, wr16 hw, wr17 hw, wr18 hw, wr19 hw, wr20 hw, wr21 hw, wr22 hw, wr23 hw, wr24 hw, wr25 hw, wr26 hw, wr27 hw, wr28 hw, wr29 hw, wk1 hw, wk2 hw, wk3 hw, wk4 hw, wk5 hw, wk6 hw, wk7 hw, wk8 hw, wk9 hw, wk10 hw, wk11 hw, wk12 hw, wk13 hw, wk14 hw, wk15 hw, wl1 hw, wl2 hw, wl3 hw, wl4 hw, wl5 hw, wl6 hw, wl7 hw, wl8 hw, wl9 hw, wl10 hw, wl11 hw, wl12 hw, wl13 hw, wl14 hw, wl15 hw, wf0 hr, wf1 hr, wf2 hr, wf3 hr, wf4 hr, wf5 hr, wf6 hr, wf7 hr, wf8 hr, wf9 hr, wf10 hr, wf11 hr, wf12 hr, wf13 hr, wf14 hr, wv1 hr, wv2 hr, wv3 hr, wv4 hr, wv5 hr, wv6 hr, wv7 hr, wv8 hr, wv11 hr, wv12 hr, wv9 hr, wv10 hr, wv13 hr, wv14 hr, wv15 hr, e_const, e_lconst, e_null, e_iload, e_lload, e_aload, e_istore, e_astore, e_lstore, e_iinc, e_iadd, e_isub, e_imul, e_iand, e_ior, e_ixor, e_ishl, e_ishr, e_iushr, e_idiv, e_irem, e_ineg, e_i2l, e_i2b, e_i2c, e_lmul, e_lcmp, e_dup, e_pop, e_dup_x1, e_dup2, e_if_eq, e_icmp_eq, e_if_ne, e_icmp_ne, e_if_lt, e_icmp_lt, e_if_ge, e_icmp_ge, e_if_gt, e_icmp_gt, e_if_le, e_icmp_le, e_ifnull, e_ifnonnull, e_acmp_eq, e_acmp_ne, e_getI, e_getJ, e_getR, e_getSI, e_getSR, e_getEI, e_getER, e_putI, e_putJ, e_putR, e_iald, e_bald, e_zald, e_lald, e_aald, e_alen, e_iast, e_bast, e_zast, e_last, e_newa, e_new, e_newq, e_ret, e_vret, e_obj, e_mmax, e_mmin, e_ldcS, e_sref, e_exc, e_thr, e_stq, e_cast, e_castY, e_castA, e_instS, e_cpy, e_aast, e_cpyR, e_cln, e_gcl, e_ldcM, e_sw, swc_n, swc_c, kon_v, kon_r, kon_t, lg_0, lg_s, ls0, lay, List.length_cons, List.length_nil, List.replicate, List.cons_append, List.nil_append, ps, lp, List.set_cons_zero, List.set_cons_succ, jk, kd_hI, ln_hI, iI_hI, iR_hI, iJ_hI, nn_hI, sU_hI, stI_hI, hI_hI, K0e, and_true, true_and, rtOk, fOk, ge_iff_le, Nat.reduceLeDiff, Nat.reduceAdd, Nat.reduceSub, Nat.reduceLT, c1, lit, nN, nN2, nI_add, pk_mul, nI_clamp, vpi, nI_leI, nI_ltI, nI_eq, bP_z, not_true_eq_false, not_false_eq_true, false_implies, true_implies, implies_true, Nat.le_refl, Nat.lt_irrefl, true_or, or_true, m31, pk_sub, pk_m1, bP_1, bP_em, Classical.not_not, Nat.zero_le, cI_T, cI_F, thr_e, thr_0, thr_m, vus, vun, vuu, pk_us, e_xO, e_xC, ex_e, e_mabsN, Nat.reduceEqDiff, ↓reduceIte, pk_un]
      refine ⟨e6, fun hc => ?_, fun hc => ⟨fun h2 => ?_, fun h2 => ?_⟩⟩
      · refine fin _ ?_
        show _ = bP _
        rw [bP_t (Or.inl ((hB p hp).resolve_left hc))]
      · refine fin _ ?_
        show _ = bP _
        rw [bP_f]
        rintro (z | z)
        · rw [hc] at z; exact absurd z (by decide)
        · rw [h2] at z; exact absurd z (by decide)
      · refine fin _ ?_
        show _ = bP _
        rw [bP_t (Or.inr ((hB q hq).resolve_left h2))]
    try simp (disch := omega) only [tX1_toldBy_0, xk hx, bq2 hb, bq7 hb, wk hw, wg hw, wgj hw, wr15 hw, wr16 hw, wr17 hw, wr18 hw, wr19 hw, wr20 hw, wr21 hw, wr22 hw, wr23 hw, wr24 hw, wr25 hw, wr26 hw, wr27 hw, wr28 hw, wr29 hw, wk1 hw, wk2 hw, wk3 hw, wk4 hw, wk5 hw, wk6 hw, wk7 hw, wk8 hw, wk9 hw, wk10 hw, wk11 hw, wk12 hw, wk13 hw, wk14 hw, wk15 hw, wl1 hw, wl2 hw, wl3 hw, wl4 hw, wl5 hw, wl6 hw, wl7 hw, wl8 hw, wl9 hw, wl10 hw, wl11 hw, wl12 hw, wl13 hw, wl14 hw, wl15 hw, wf0 hr, wf1 hr, wf2 hr, wf3 hr, wf4 hr, wf5 hr, wf6 hr, wf7 hr, wf8 hr, wf9 hr, wf10 hr, wf11 hr, wf12 hr, wf13 hr, wf14 hr, wv1 hr, wv2 hr, wv3 hr, wv4 hr, wv5 hr, wv6 hr, wv7 hr, wv8 hr, wv11 hr, wv12 hr, wv9 hr, wv10 hr, wv13 hr, wv14 hr, wv15 hr, e_const, e_lconst, e_null, e_iload, e_lload, e_aload, e_istore, e_astore, e_lstore, e_iinc, e_iadd, e_isub, e_imul, e_iand, e_ior, e_ixor, e_ishl, e_ishr, e_iushr, e_idiv, e_irem, e_ineg, e_i2l, e_i2b, e_i2c, e_lmul, e_lcmp, e_dup, e_pop, e_dup_x1, e_dup2, e_if_eq, e_icmp_eq, e_if_ne, e_icmp_ne, e_if_lt, e_icmp_lt, e_if_ge, e_icmp_ge, e_if_gt, e_icmp_gt, e_if_le, e_icmp_le, e_ifnull, e_ifnonnull, e_acmp_eq, e_acmp_ne, e_getI, e_getJ, e_getR, e_getSI, e_getSR, e_getEI, e_getER, e_putI, e_putJ, e_putR, e_iald, e_bald, e_zald, e_lald, e_aald, e_alen, e_iast, e_bast, e_zast, e_last, e_newa, e_new, e_newq, e_ret, e_vret, e_obj, e_mmax, e_mmin, e_ldcS, e_sref, e_exc, e_thr, e_stq, e_cast, e_castY, e_castA, e_instS, e_cpy, e_aast, e_cpyR, e_cln, e_gcl, e_ldcM, e_sw, swc_n, swc_c, kon_v, kon_r, kon_t, lg_0, lg_s, ls0, lay, List.length_cons, List.length_nil, List.replicate, List.cons_append, List.nil_append, ps, lp, List.set_cons_zero, List.set_cons_succ, jk, kd_hI, ln_hI, iI_hI, iR_hI, iJ_hI, nn_hI, sU_hI, stI_hI, hI_hI, K0e, and_true, true_and, rtOk, fOk, ge_iff_le, Nat.reduceLeDiff, Nat.reduceAdd, Nat.reduceSub, Nat.reduceLT, c1, lit, nN, nN2, nI_add, pk_mul, nI_clamp, vpi, nI_leI, nI_ltI, nI_eq, bP_z, not_true_eq_false, not_false_eq_true, false_implies, true_implies, implies_true, Nat.le_refl, Nat.lt_irrefl, true_or, or_true, m31, pk_sub, pk_m1, bP_1, bP_em, Classical.not_not, Nat.zero_le, cI_T, cI_F, thr_e, thr_0, thr_m, vus, vun, vuu, pk_us, e_xO, e_xC, ex_e, e_mabsN, Nat.reduceEqDiff, ↓reduceIte, pk_un]
    refine ⟨fun _ => ?_, fun z => absurd z l1⟩
    have H6 : ∀ k, k < 6 → (upd (upd (upd (upd (upd (upd (σ 351) 0 (nI p)) 1 (nI q)) 2 (S (92 + 8 * p + 2))) 3 (S (92 + 8 * q + 2))) 4 (S (172 + 10 * p + q))) 5 (S 7)) k = fct S p q k := by
      intro k hk
      have hk : k = 0 ∨ k = 1 ∨ k = 2 ∨ k = 3 ∨ k = 4 ∨ k = 5 := by omega
      rcases hk with rfl | rfl | rfl | rfl | rfl | rfl <;> rfl
    refine ⟨fun hc => ?_, fun hc => ?_⟩
    · refine k104 _ _ ((Eqx.refl _ _).up rfl _) (fun k hk => by rw [vus]; exact H6 k hk) ?_
      show _ = bP _
      rw [bP_f hc]
    · refine k104 _ _ ((Eqx.refl _ _).up rfl _) (fun k hk => by rw [vus]; exact H6 k hk) ?_
      show _ = bP _
      rw [bP_t hc]
theorem sX1_beginsWith (hx : X0 h x0) (hb : BS h) (hw : WS h w) (hr : WR σ w S) (hB : Ib S) {v : LV} (hv : LvG v) (hl : LwT h (iR h w 30) v σ) (dj : w + 15 < 351 ∨ 354 < w) (hd : 62 ≤ d) {p q : Nat} (hp : p < 10) (hq : q < 10) : WPm mX1_beginsWith d [.ref 300, .ref w, .int (nI p), .int (nI q)] (hI h σ) (tbP h σ (bgn v S p q)) := by
  refine mO rfl rfl ?_
  have w3 := hw.1
  apply kX1_beginsWith_0
  try simp (disch := omega) only [tX1_beginsWith_0, wk hw, wg hw, wgj hw, wr15 hw, wr16 hw, wr17 hw, wr18 hw, wr19 hw, wr20 hw, wr21 hw, wr22 hw, wr23 hw, wr24 hw, wr25 hw, wr26 hw, wr27 hw, wr28 hw, wr29 hw, wk1 hw, wk2 hw, wk3 hw, wk4 hw, wk5 hw, wk6 hw, wk7 hw, wk8 hw, wk9 hw, wk10 hw, wk11 hw, wk12 hw, wk13 hw, wk14 hw, wk15 hw, wl1 hw, wl2 hw, wl3 hw, wl4 hw, wl5 hw, wl6 hw, wl7 hw, wl8 hw, wl9 hw, wl10 hw, wl11 hw, wl12 hw, wl13 hw, wl14 hw, wl15 hw, wf0 hr, wf1 hr, wf2 hr, wf3 hr, wf4 hr, wf5 hr, wf6 hr, wf7 hr, wf8 hr, wf9 hr, wf10 hr, wf11 hr, wf12 hr, wf13 hr, wf14 hr, wv1 hr, wv2 hr, wv3 hr, wv4 hr, wv5 hr, wv6 hr, wv7 hr, wv8 hr, wv11 hr, wv12 hr, wv9 hr, wv10 hr, wv13 hr, wv14 hr, wv15 hr, e_const, e_lconst, e_null, e_iload, e_lload, e_aload, e_istore, e_astore, e_lstore, e_iinc, e_iadd, e_isub, e_imul, e_iand, e_ior, e_ixor, e_ishl, e_ishr, e_iushr, e_idiv, e_irem, e_ineg, e_i2l, e_i2b, e_i2c, e_lmul, e_lcmp, e_dup, e_pop, e_dup_x1, e_dup2, e_if_eq, e_icmp_eq, e_if_ne, e_icmp_ne, e_if_lt, e_icmp_lt, e_if_ge, e_icmp_ge, e_if_gt, e_icmp_gt, e_if_le, e_icmp_le, e_ifnull, e_ifnonnull, e_acmp_eq, e_acmp_ne, e_getI, e_getJ, e_getR, e_getSI, e_getSR, e_getEI, e_getER, e_putI, e_putJ, e_putR, e_iald, e_bald, e_zald, e_lald, e_aald, e_alen, e_iast, e_bast, e_zast, e_last, e_newa, e_new, e_newq, e_ret, e_vret, e_obj, e_mmax, e_mmin, e_ldcS, e_sref, e_exc, e_thr, e_stq, e_cast, e_castY, e_castA, e_instS, e_cpy, e_aast, e_cpyR, e_cln, e_gcl, e_ldcM, e_sw, swc_n, swc_c, kon_v, kon_r, kon_t, lg_0, lg_s, ls0, lay, List.length_cons, List.length_nil, List.replicate, List.cons_append, List.nil_append, ps, lp, List.set_cons_zero, List.set_cons_succ, jk, kd_hI, ln_hI, iI_hI, iR_hI, iJ_hI, nn_hI, sU_hI, stI_hI, hI_hI, K0e, and_true, true_and, rtOk, fOk, ge_iff_le, Nat.reduceLeDiff, Nat.reduceAdd, Nat.reduceSub, Nat.reduceLT, c1, lit, nN, nN2, nI_add, pk_mul, nI_clamp, vpi, nI_leI, nI_ltI, nI_eq, bP_z, not_true_eq_false, not_false_eq_true, false_implies, true_implies, implies_true, Nat.le_refl, Nat.lt_irrefl, true_or, or_true, m31, pk_sub, pk_m1, bP_1, bP_em, Classical.not_not, Nat.zero_le, cI_T, cI_F, thr_e, thr_0, thr_m, vus, vun, vuu, pk_us, e_xO, e_xC, ex_e, e_mabsN, Nat.reduceEqDiff, ↓reduceIte, pk_un]
  refine cl _ _ (sX1_toldBy hx hb hw hr hB hv hl dj (by omega) hp hq) rfl rfl rfl rfl (by omega) (by first | exact trivial | exact yq0 hy | exact xk hx | exact wk hw | assumption | (simp only [pV, kd_hI]; assumption)) ?_
  rintro _ _ ⟨τ, rfl, rfl, E⟩
  have hr2 : WR τ w S := hr.of (fun j hj => E _ (by simp only [List.contains_cons, List.contains_nil, Bool.or_false, beq_eq_false_iff_ne]; omega))
  have hr := hr2
  try simp (disch := omega) only [wk hw, wg hw, wgj hw, wr15 hw, wr16 hw, wr17 hw, wr18 hw, wr19 hw, wr20 hw, wr21 hw, wr22 hw, wr23 hw, wr24 hw, wr25 hw, wr26 hw, wr27 hw, wr28 hw, wr29 hw, wk1 hw, wk2 hw, wk3 hw, wk4 hw, wk5 hw, wk6 hw, wk7 hw, wk8 hw, wk9 hw, wk10 hw, wk11 hw, wk12 hw, wk13 hw, wk14 hw, wk15 hw, wl1 hw, wl2 hw, wl3 hw, wl4 hw, wl5 hw, wl6 hw, wl7 hw, wl8 hw, wl9 hw, wl10 hw, wl11 hw, wl12 hw, wl13 hw, wl14 hw, wl15 hw, wf0 hr, wf1 hr, wf2 hr, wf3 hr, wf4 hr, wf5 hr, wf6 hr, wf7 hr, wf8 hr, wf9 hr, wf10 hr, wf11 hr, wf12 hr, wf13 hr, wf14 hr, wv1 hr, wv2 hr, wv3 hr, wv4 hr, wv5 hr, wv6 hr, wv7 hr, wv8 hr, wv11 hr, wv12 hr, wv9 hr, wv10 hr, wv13 hr, wv14 hr, wv15 hr, e_const, e_lconst, e_null, e_iload, e_lload, e_aload, e_istore, e_astore, e_lstore, e_iinc, e_iadd, e_isub, e_imul, e_iand, e_ior, e_ixor, e_ishl, e_ishr, e_iushr, e_idiv, e_irem, e_ineg, e_i2l, e_i2b, e_i2c, e_lmul, e_lcmp, e_dup, e_pop, e_dup_x1, e_dup2, e_if_eq, e_icmp_eq, e_if_ne, e_icmp_ne, e_if_lt, e_icmp_lt, e_if_ge, e_icmp_ge, e_if_gt, e_icmp_gt, e_if_le, e_icmp_le, e_ifnull, e_ifnonnull, e_acmp_eq, e_acmp_ne, e_getI, e_getJ, e_getR, e_getSI, e_getSR, e_getEI, e_getER, e_putI, e_putJ, e_putR, e_iald, e_bald, e_zald, e_lald, e_aald, e_alen, e_iast, e_bast, e_zast, e_last, e_newa, e_new, e_newq, e_ret, e_vret, e_obj, e_mmax, e_mmin, e_ldcS, e_sref, e_exc, e_thr, e_stq, e_cast, e_castY, e_castA, e_instS, e_cpy, e_aast, e_cpyR, e_cln, e_gcl, e_ldcM, e_sw, swc_n, swc_c, kon_v, kon_r, kon_t, lg_0, lg_s, ls0, lay, List.length_cons, List.length_nil, List.replicate, List.cons_append, List.nil_append, ps, lp, List.set_cons_zero, List.set_cons_succ, jk, kd_hI, ln_hI, iI_hI, iR_hI, iJ_hI, nn_hI, sU_hI, stI_hI, hI_hI, K0e, and_true, true_and, rtOk, fOk, ge_iff_le, Nat.reduceLeDiff, Nat.reduceAdd, Nat.reduceSub, Nat.reduceLT, c1, lit, nN, nN2, nI_add, pk_mul, nI_clamp, vpi, nI_leI, nI_ltI, nI_eq, bP_z, not_true_eq_false, not_false_eq_true, false_implies, true_implies, implies_true, Nat.le_refl, Nat.lt_irrefl, true_or, or_true, m31, pk_sub, pk_m1, bP_1, bP_em, Classical.not_not, Nat.zero_le, cI_T, cI_F, thr_e, thr_0, thr_m, vus, vun, vuu, pk_us, e_xO, e_xC, ex_e, e_mabsN, Nat.reduceEqDiff, ↓reduceIte, pk_un]
  unfold bgn
  refine ⟨fun hc => ⟨fun h2 => ?_, fun h2 => ?_⟩, fun hc => ?_⟩
  · rw [cI_t hc, cI_t h2]; exact ⟨τ, rfl, rfl, E⟩
  · rw [cI_t hc, cI_f h2]; exact ⟨τ, rfl, rfl, E⟩
  · rw [cI_f hc]; exact ⟨τ, rfl, rfl, E⟩
end
