/-! WHAT HOLDS OF A ROW stays so when two meet -/
set_option maxRecDepth 100000
theorem Io_of {S : Nat → Int32} (h : ∀ k, k < nP S → cd (S (92 + 8 * k + 1))) : Io S := by
  intro p hp
  obtain ⟨j, hj, e⟩ := cd_ex (h p hp)
  unfold ow
  rw [e, nI_clamp (by omega)]
  exact ⟨rfl, hj⟩
theorem mtS_m (v : LV) (S : Nat → Int32) {p q i : Nat} (h : 92 ≤ i) (h2 : i < 420) : mtS v S p q i = caS (gSe (gSe (mS1 v S p q) p q (mD1 v S p q)) q p (mD0 v S p q)) p q (mD0 v S p q) (mD1 v S p q) i := by
  unfold mtS
  rw [mE_o _ _ _ _ _ _ (by omega) (by omega) (by omega) (by omega) (by omega)]
theorem nI_min (n : Nat) (hn : n ≤ 60) : (if nI 60 < nI n + nI 1 then nI 60 else nI n + nI 1) = nI (min 60 (n + 1)) := by
  rw [nI_add]
  by_cases e : n = 60
  · subst e; decide
  · rw [if_neg (by rw [nI_ltI (by omega) (by omega)]; omega), Nat.min_eq_right (by omega)]
theorem Iv_mt {v : LV} {S : Nat → Int32} (hv : LvG v) (I : Iv S) {p q : Nat} (hpq : p < q) (hq : q < nP S) : Iv (mtS v S p q) := by
  obtain ⟨ic, io, ib, ih, it, iw, im, iz, ig, is, iq⟩ := I
  have hP := hP10 ic
  have hp10 : p < 10 := by omega
  have hq10 : q < 10 := by omega
  have cb0 : cd (bgn v S p q) := bgn_cd hv io iw (by omega) hq10 hP
  have cb1 : cd (bgn v S q p) := bgn_cd hv io iw hq hp10 hP
  have cd0 : cd (mD0 v S p q) := by unfold mD0; split <;> assumption
  have cd1 : cd (mD1 v S p q) := by unfold mD1; split <;> assumption
  obtain ⟨eL, eH, eP, eT⟩ := cnt_e (S := S) (S' := mtS v S p q) (mt_u v S hp10 hq10 (by omega)) (mt_u v S hp10 hq10 (by omega)) (mt_u v S hp10 hq10 (by omega)) (mt_u v S hp10 hq10 (by omega))
  have hH := hH24 ic
  have hT := hT24 ic
  have e1 : ∀ i, 92 ≤ i → mS1 v S p q i = S i := fun i hi => mS1_k v S p q (by omega) (by omega)
  refine ⟨?_, ?_, ?_, ?_, ?_, ?_, ?_, ?_, ?_, ?_, ?_⟩
  · unfold Ic
    rw [eL, eH, eP, eT, mt_u v S hp10 hq10 (by omega), mt_u v S hp10 hq10 (by omega), mt_u v S hp10 hq10 (by omega), mt_u v S hp10 hq10 (by omega)]
    exact ic
  · refine Io_of (fun k hk => ?_)
    rw [eP] at hk
    have hco := io.cd hk
    rw [mtS_m v S (by omega) (by omega), caS_o _ _ _ (by omega) (by omega)]
    by_cases k1 : k = q
    · subst k1
      rcases gSe_own (gSe (mS1 v S p k) p k (mD1 v S p k)) (p := k) (o := p) (mD0 v S p k) hq10 with z | z
      · rw [z, gSe_o _ _ (by omega) (by omega) (by omega) (by omega) (by omega) (by omega), e1 _ (by omega)]; exact hco
      · rw [z]; exact cd0
    · rw [gSe_o _ _ (by omega) (by omega) (by omega) (by omega) (by omega) (by omega)]
      by_cases k2 : k = p
      · subst k2
        rcases gSe_own (mS1 v S k q) (p := k) (o := q) (mD1 v S k q) hp10 with z | z
        · rw [z, e1 _ (by omega)]; exact hco
        · rw [z]; exact cd1
      · rw [gSe_o _ _ (by omega) (by omega) (by omega) (by omega) (by omega) (by omega), e1 _ (by omega)]; exact hco
  · intro k hk
    rw [mtS_m v S (by omega) (by omega)]
    refine caS_c _ _ ?_
    rw [gSe_4 _ _ hq10 hp10 hk, gSe_4 _ _ hp10 hq10 hk, e1 _ (by omega)]
    exact ib k hk
  · intro k hk
    rw [eH] at hk
    rw [mt_u v S hp10 hq10 (by omega)]
    exact ih k hk
  · intro k hk
    rw [eT] at hk
    unfold ta tb
    rw [mt_u v S hp10 hq10 (by omega), mt_u v S hp10 hq10 (by omega), eP]
    exact it k hk
  · intro a b ha hb
    rw [mtS_m v S (by omega) (by omega), caS_o _ _ _ (by omega) (by omega)]
    by_cases k1 : a = q ∧ b = p
    · obtain ⟨rfl, rfl⟩ := k1
      rw [gSe_saw _ _ hq10 hp10]; exact Or.inr cd0
    · rw [gSe_o _ _ (by omega) (by omega) (by omega) (by omega) (by omega) (by omega)]
      by_cases k2 : a = p ∧ b = q
      · obtain ⟨rfl, rfl⟩ := k2
        rw [gSe_saw _ _ hp10 hq10]; exact Or.inr cd1
      · rw [gSe_o _ _ (by omega) (by omega) (by omega) (by omega) (by omega) (by omega), e1 _ (by omega)]
        exact iw a b ha hb
  · intro k hk
    unfold gMo
    rw [eP] at hk ⊢
    have hm0 : ∀ a b, a < 10 → b < 10 → ¬ (a = p ∧ b = q) → ¬ (a = q ∧ b = p) → mtS v S p q (172 + 10 * a + b) = S (172 + 10 * a + b) := fun a b ha hb n1 n2 => by
      rw [mtS_m v S (by omega) (by omega), caS_o _ _ _ (by omega) (by omega), gSe_o _ _ (by omega) (by omega) (by omega) (by omega) (by omega) (by omega), gSe_o _ _ (by omega) (by omega) (by omega) (by omega) (by omega) (by omega), e1 _ (by omega)]
    have hm1 : mtS v S p q (172 + 10 * p + q) = S (172 + 10 * p + q) + nI 1 := by
      rw [mtS_m v S (by omega) (by omega), caS_o _ _ _ (by omega) (by omega), gSe_o _ _ (by omega) (by omega) (by omega) (by omega) (by omega) (by omega), gSe_met _ _ hp10 hq10, e1 _ (by omega)]
    have hm2 : mtS v S p q (172 + 10 * q + p) = S (172 + 10 * q + p) + nI 1 := by
      rw [mtS_m v S (by omega) (by omega), caS_o _ _ _ (by omega) (by omega), gSe_met _ _ hq10 hp10, gSe_o _ _ (by omega) (by omega) (by omega) (by omega) (by omega) (by omega), e1 _ (by omega)]
    rw [mtS_m v S (by omega) (by omega), caS_o _ _ _ (by omega) (by omega)]
    by_cases k1 : k = q
    · subst k1
      rw [gSe_had, gSe_o _ _ (by omega) (by omega) (by omega) (by omega) (by omega) (by omega), e1 _ (by omega), im k hk]
      exact (sm_1 (q := p) (by omega) hm2 (fun j hj hn => hm0 k j hq10 (by omega) (by omega) (by omega))).symm
    · rw [gSe_o _ _ (by omega) (by omega) (by omega) (by omega) (by omega) (by omega)]
      by_cases k2 : k = p
      · subst k2
        rw [gSe_had, e1 _ (by omega), im k hk]
        exact (sm_1 (q := q) (by omega) hm1 (fun j hj hn => hm0 k j hp10 (by omega) (by omega) (by omega))).symm
      · rw [gSe_o _ _ (by omega) (by omega) (by omega) (by omega) (by omega) (by omega), e1 _ (by omega), im k hk]
        exact (sm_c (fun j hj => hm0 k j (by omega) (by omega) (by omega) (by omega))).symm
  · intro a b ha hb hz
    rw [eP] at hz
    rw [mtS_m v S (by omega) (by omega), caS_o _ _ _ (by omega) (by omega), gSe_o _ _ (by omega) (by omega) (by omega) (by omega) (by omega) (by omega), gSe_o _ _ (by omega) (by omega) (by omega) (by omega) (by omega) (by omega), e1 _ (by omega)]
    exact iz a b ha hb hz
  · obtain ⟨⟨g1, g2⟩, g3⟩ := ig
    have h12 : mtS v S p q 12 = nI (min 60 (nG S + 1)) := by
      unfold mtS
      rw [mE_e]
      unfold tlS
      rw [pk_us, pk_un (by omega), pk_un (by omega), pk_un (by omega), caS_o _ _ _ (by omega) (by omega), gSe_o _ _ (by omega) (by omega) (by omega) (by omega) (by omega) (by omega), gSe_o _ _ (by omega) (by omega) (by omega) (by omega) (by omega) (by omega), mS1_k _ _ _ _ (by omega) (by omega), g1]
      exact nI_min _ g2
    have hng : nG (mtS v S p q) = min 60 (nG S + 1) := by
      unfold nG; rw [h12, nI_clamp (by omega)]; rfl
    refine ⟨⟨by rw [hng]; exact h12, by omega⟩, fun j hj => ?_⟩
    rw [hng] at hj
    have hl0 : ∀ z, z < 8 → ∃ R, mtS v S p q (420 + 8 * 0 + z) = tlR R p q (bgn v S p q) (bgn v S q p) (mD0 v S p q) (mD1 v S p q) (mCc v S p q) z := by
      intro z hz
      unfold mtS
      rw [mE_e]
      unfold tlS
      rw [pk_un (by omega), lgS_0 hz]
      exact ⟨_, rfl⟩
    have hl1 : 0 < j → ∀ z, z < 8 → mtS v S p q (420 + 8 * j + z) = S (420 + 8 * (j - 1) + z) := by
      intro h0 z hz
      unfold mtS
      rw [mE_e]
      unfold tlS
      rw [pk_un (by omega), lgS_s h0 (by omega) hz, pk_un (by omega), pk_un (by omega), pk_un (by omega), caS_o _ _ _ (by omega) (by omega), gSe_o _ _ (by omega) (by omega) (by omega) (by omega) (by omega) (by omega), gSe_o _ _ (by omega) (by omega) (by omega) (by omega) (by omega) (by omega), mS1_k _ _ _ _ (by omega) (by omega)]
    by_cases e : j = 0
    · subst e
      obtain ⟨_, q1⟩ := hl0 1 (by omega)
      obtain ⟨_, q2⟩ := hl0 2 (by omega)
      obtain ⟨_, q3⟩ := hl0 3 (by omega)
      obtain ⟨_, q4⟩ := hl0 4 (by omega)
      exact ⟨p, q, hpq, hq10, q1, q2, by rw [q3]; exact cb0, by rw [q4]; exact cb1⟩
    · rw [hl1 (by omega) 1 (by omega), hl1 (by omega) 2 (by omega), hl1 (by omega) 3 (by omega), hl1 (by omega) 4 (by omega)]
      exact g3 (j - 1) (by omega)
  · intro k h1 h2
    rw [mt_u v S hp10 hq10 (by omega)]
    exact is k h1 h2
  · intro k hk
    rw [eH] at hk
    rw [mt_u v S hp10 hq10 (by omega)]
    exact iq k hk
