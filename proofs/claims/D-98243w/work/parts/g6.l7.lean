/-! THE TOWN is read: what holds of rows 3 -/
set_option maxRecDepth 100000
section
variable {S : Nat → Int32} {T : Nat → Int32} {e : Nat}
theorem seeS_s (S : Nat → Int32) (p o : Nat) : seeS S p (o + 1) = upd (upd (upd (upd (seeS S p o) (172 + 10 * p + o) (nI 0)) (272 + 10 * p + o) N1) (172 + 10 * o + p) (nI 0)) (272 + 10 * o + p) N1 := rfl
theorem seeS_e {p : Nat} (hp : p < 10) : ∀ o, o ≤ 10 → ∀ i, ((i < 172 ∨ 372 ≤ i) → seeS S p o i = S i) ∧ (∀ x y, x < 10 → y < 10 → i = 172 + 10 * x + y → seeS S p o i = if (x = p ∧ y < o) ∨ (y = p ∧ x < o) then nI 0 else S i) ∧ (∀ x y, x < 10 → y < 10 → i = 272 + 10 * x + y → seeS S p o i = if (x = p ∧ y < o) ∨ (y = p ∧ x < o) then N1 else S i) := by
  intro o
  induction o with
  | zero =>
    intro _ i
    refine ⟨fun _ => rfl, fun x y hx hy hi => ?_, fun x y hx hy hi => ?_⟩
    · rw [if_neg (by omega)]; rfl
    · rw [if_neg (by omega)]; rfl
  | succ o ih =>
    intro ho i
    obtain ⟨i1, i2, i3⟩ := ih (by omega) i
    rw [seeS_s]
    refine ⟨fun h => ?_, fun x y hx hy hi => ?_, fun x y hx hy hi => ?_⟩
    · rw [pk_un (by omega), pk_un (by omega), pk_un (by omega), pk_un (by omega)]; exact i1 h
    · rw [pk_un (by omega)]
      by_cases z : x = o ∧ y = p
      · rw [show i = 172 + 10 * o + p by omega, pk_us, if_pos (by omega)]
      · rw [pk_un (by omega), pk_un (by omega)]
        by_cases z2 : x = p ∧ y = o
        · rw [show i = 172 + 10 * p + o by omega, pk_us, if_pos (by omega)]
        · rw [pk_un (by omega), i2 x y hx hy hi]
          by_cases w : (x = p ∧ y < o) ∨ (y = p ∧ x < o)
          · rw [if_pos w, if_pos (by omega)]
          · rw [if_neg w, if_neg (by omega)]
    · by_cases z : x = o ∧ y = p
      · rw [show i = 272 + 10 * o + p by omega, pk_us, if_pos (by omega)]
      · rw [pk_un (by omega), pk_un (by omega)]
        by_cases z2 : x = p ∧ y = o
        · rw [show i = 272 + 10 * p + o by omega, pk_us, if_pos (by omega)]
        · rw [pk_un (by omega), pk_un (by omega), i3 x y hx hy hi]
          by_cases w : (x = p ∧ y < o) ∨ (y = p ∧ x < o)
          · rw [if_pos w, if_pos (by omega)]
          · rw [if_neg w, if_neg (by omega)]
theorem perA_u (l g r b : Int32) {i : Nat} (h : i < 92 + 8 * nP S ∨ 92 + 8 * nP S + 7 < i) : perA S l g r b i = S i := by
  unfold perA
  rw [pk_un (by omega), pk_un (by omega), pk_un (by omega), pk_un (by omega), pk_un (by omega), pk_un (by omega), pk_un (by omega), pk_un (by omega)]
theorem Iv_per (I : Iv S) {l g r b : Int32} (hl : nP S < 10) (hg : cd g) : Iv (perS S l g r b) := by
  obtain ⟨ic, io, ib, ih, it, iw, im, iz, ig, is, iq⟩ := I
  have hH := hH24 ic
  have hT := hT24 ic
  obtain ⟨⟨c3, hL6⟩, ⟨c4, _⟩, ⟨c5, _⟩, c6, _⟩ := ic
  have u : ∀ i, i ≠ 5 → (i < 92 + 8 * nP S ∨ 92 + 8 * nP S + 7 < i) → (i < 172 ∨ 372 ≤ i) → perS S l g r b i = S i := fun i h1 h2 h3 => by
    unfold perS
    rw [pk_un h1, (seeS_e hl 10 (by omega) i).1 h3, perA_u _ _ _ _ h2]
  have um : ∀ x y, x < 10 → y < 10 → perS S l g r b (172 + 10 * x + y) = if x = nP S ∨ y = nP S then nI 0 else S (172 + 10 * x + y) := fun x y hx hy => by
    unfold perS
    rw [pk_un (by omega), (seeS_e hl 10 (by omega) _).2.1 x y hx hy rfl]
    by_cases z : x = nP S ∨ y = nP S
    · rw [if_pos z, if_pos (by omega)]
    · rw [if_neg z, if_neg (by omega), perA_u _ _ _ _ (by omega)]
  have us : ∀ x y, x < 10 → y < 10 → perS S l g r b (272 + 10 * x + y) = if x = nP S ∨ y = nP S then N1 else S (272 + 10 * x + y) := fun x y hx hy => by
    unfold perS
    rw [pk_un (by omega), (seeS_e hl 10 (by omega) _).2.2 x y hx hy rfl]
    by_cases z : x = nP S ∨ y = nP S
    · rw [if_pos z, if_pos (by omega)]
    · rw [if_neg z, if_neg (by omega), perA_u _ _ _ _ (by omega)]
  have up : ∀ k, k < 8 → perS S l g r b (92 + 8 * nP S + k) = perA S l g r b (92 + 8 * nP S + k) := fun k hk => by
    unfold perS
    rw [pk_un (by omega), (seeS_e hl 10 (by omega) _).1 (by omega)]
  have w5 : perS S l g r b 5 = nI (nP S + 1) := by unfold perS; rw [pk_us]
  have eP : nP (perS S l g r b) = nP S + 1 := nX_eq w5 (by omega)
  have eL : nL (perS S l g r b) = nL S := by unfold nL; rw [u 3 (by omega) (by omega) (by omega)]
  have eH : nH (perS S l g r b) = nH S := by unfold nH; rw [u 4 (by omega) (by omega) (by omega)]
  have eT : nT (perS S l g r b) = nT S := by unfold nT; rw [u 6 (by omega) (by omega) (by omega)]
  refine ⟨?_, ?_, ?_, ?_, ?_, ?_, ?_, ?_, ?_, ?_, ?_⟩
  · unfold Ic
    rw [eL, eH, eP, eT, u 3 (by omega) (by omega) (by omega), u 4 (by omega) (by omega) (by omega), u 6 (by omega) (by omega) (by omega)]
    exact ⟨⟨c3, hL6⟩, ⟨c4, hH⟩, ⟨w5, by omega⟩, c6, hT⟩
  · refine Io_of (fun p hp => ?_)
    rw [eP] at hp
    by_cases z : p = nP S
    · rw [z, up 1 (by omega)]
      unfold perA
      rw [pk_un (by omega), pk_un (by omega), pk_un (by omega), pk_un (by omega), pk_un (by omega), pk_un (by omega), pk_us]; exact hg
    · rw [u _ (by omega) (by omega) (by omega)]; exact io.cd (by omega)
  · intro p hp
    by_cases z : p = nP S
    · rw [z, up 4 (by omega)]
      unfold perA
      rw [pk_un (by omega), pk_un (by omega), pk_un (by omega), pk_us]; exact Or.inl rfl
    · rw [u _ (by omega) (by omega) (by omega)]; exact ib p hp
  · intro j hj; rw [eH] at hj; rw [u _ (by omega) (by omega) (by omega)]; exact ih j hj
  · intro j hj
    rw [eT] at hj
    unfold ta tb
    rw [eP, u _ (by omega) (by omega) (by omega), u _ (by omega) (by omega) (by omega)]
    obtain ⟨t1, t2, t3, t4⟩ := it j hj
    exact ⟨t1, Nat.lt_succ_of_lt t2, Nat.lt_succ_of_lt t3, t4⟩
  · intro p q hp hq
    rw [us p q hp hq]
    by_cases z : p = nP S ∨ q = nP S
    · rw [if_pos z]; exact Or.inl rfl
    · rw [if_neg z]; exact iw p q hp hq
  · intro p hp
    rw [eP] at hp
    unfold gMo
    rw [eP]
    by_cases z : p = nP S
    · rw [z, up 5 (by omega)]
      have e0 : perA S l g r b (92 + 8 * nP S + 5) = nI 0 := by unfold perA; rw [pk_un (by omega), pk_un (by omega), pk_us]
      rw [e0]
      have : ∀ m, m ≤ 10 → sm (fun q => perS S l g r b (172 + 10 * nP S + q)) m = nI 0 := by
        intro m
        induction m with
        | zero => intro _; rfl
        | succ m ih2 =>
          intro hm
          rw [sm_s, ih2 (by omega), um (nP S) m (by omega) (by omega), if_pos (Or.inl rfl), nI_add]
      exact (this _ (by omega)).symm
    · rw [u _ (by omega) (by omega) (by omega), im p (by omega), sm_s, um p (nP S) (by omega) (by omega), if_pos (Or.inr rfl)]
      have : sm (fun q => perS S l g r b (172 + 10 * p + q)) (nP S) = gMo S p := sm_c (fun q hq => by rw [um p q (by omega) (by omega), if_neg (by omega)])
      rw [this, nI_0, Int32.add_zero]
  · intro p q hp hq h1
    rw [eP] at h1
    rw [um p q hp hq]
    by_cases z : p = nP S ∨ q = nP S
    · rw [if_pos z]
    · rw [if_neg z]; exact iz p q hp hq (by omega)
  · have e12 : nG (perS S l g r b) = nG S := by unfold nG; rw [u 12 (by omega) (by omega) (by omega)]
    unfold Ig
    rw [e12, u 12 (by omega) (by omega) (by omega)]
    refine ⟨ig.1, fun j hj => ?_⟩
    have := ig.1.2
    rw [u _ (by omega) (by omega) (by omega), u _ (by omega) (by omega) (by omega), u _ (by omega) (by omega) (by omega), u _ (by omega) (by omega) (by omega)]; exact ig.2 j hj
  · intro j h1 h2; rw [u _ (by omega) (by omega) (by omega)]; exact is j h1 h2
  · intro j hj; rw [eH] at hj; rw [u _ (by omega) (by omega) (by omega)]; exact iq j hj
/-- what was not written stays -/
def hiS (S S' : Nat → Int32) : Prop := ∀ i, 900 ≤ i ∨ i = 0 ∨ i = 1 ∨ i = 2 ∨ (7 ≤ i ∧ i ≤ 12) ∨ i = 16 → S' i = S i
theorem nI_rg {x : Int32} {a b : Nat} (h : nI a ≤ x ∧ x ≤ nI b) (hb : b ≤ 1000) (ha : a ≤ 1000) : ∃ j, a ≤ j ∧ j ≤ b ∧ x = nI j := by
  have h0 : ¬ x < 0 := by
    intro z
    have h1 : nI a < 0 := Int32.lt_of_le_of_lt h.1 z
    rw [← nI_0, nI_ltI (by omega) (by omega)] at h1
    omega
  obtain ⟨j, hj, rfl⟩ := nI_of h0
  rw [nI_leI (by omega) (by omega), nI_leI (by omega) (by omega)] at h
  exact ⟨j, h.1, h.2, rfl⟩
theorem twR_i (I : Iv S) (a : Nat) : prP (fun S' => Iv S' ∧ hiS S S') (twR T e S a) := by
  have ic := I.1
  have hH := hH24 ic
  have hT := hT24 ic
  have hP := hP10 ic
  have hL := ic.1.2
  unfold twR
  refine prD (fun _ => ?_) (fun _ => prD (fun _ => ?_) (fun _ => prD (fun _ => ?_) (fun _ => prD (fun _ => ?_) (fun _ => prD (fun _ => ?_) (fun _ => prD (fun _ => ?_) (fun _ => prD (fun _ => ?_) (fun _ => prD (fun _ => ?_) (fun _ => prN))))))))
  · unfold lanR
    exact prD (fun _ => prN) (fun z => prI ⟨Iv_land I (by omega), fun i hi => pk_un (by omega)⟩)
  · unfold habR
    refine prD (fun _ => prN) (fun z => prX (prT _) (fun l _ _ => prX (greR_f _) (fun g _ hg => prX (prT _) (fun _ _ _ => prX (fgR_f _ _ _) (fun n _ hn => ?_)))))
    obtain ⟨j, h1, h2, rfl⟩ := nI_rg hn (by omega) (by omega)
    exact prI ⟨Iv_hab I (by omega) hg h1 h2, fun i hi => by unfold habS; rw [pk_un (by omega), pk_un (by omega), pk_un (by omega), pk_un (by omega)]⟩
  · unfold perR
    refine prD (fun _ => prN) (fun z => prX (prT _) (fun l _ _ => prX (greR_f _) (fun g _ hg => prX (prT _) (fun _ _ _ => prX (prT _) (fun r _ _ => prX (prT _) (fun _ _ _ => prX (prT _) (fun n _ _ => prI ⟨Iv_per I (by omega) hg, fun i hi => ?_⟩)))))))
    unfold perS
    rw [pk_un (by omega), (seeS_e (show nP S < 10 by omega) 10 (by omega) i).1 (by omega), perA_u _ _ _ _ (by omega)]
  · unfold coldR
    refine prX (fgR_f _ _ _) (fun p _ hp => ?_)
    obtain ⟨j, hj, rfl⟩ := pe_ex ic (show pe S p from hp)
    rw [nI_clamp (by omega)]
    exact prI ⟨Iv_cold I hj, fun i hi => pk_un (by omega)⟩
  · unfold tieR
    refine prD (fun _ => prN) (fun z => prX (fgR_f _ _ _) (fun x _ hx => prX (fgR_f _ _ _) (fun y _ hy => prD (fun _ => prN) (fun q => ?_))))
    obtain ⟨j, hj, rfl⟩ := pe_ex ic (show pe S x from hx)
    obtain ⟨k, hk, rfl⟩ := pe_ex ic (show pe S y from hy)
    exact prI ⟨Iv_tie I (by omega) hj hk (fun w => q (Or.inl (by rw [w]))), fun i hi => by unfold tieS; rw [pk_un (by omega), pk_un (by omega), pk_un (by omega)]⟩
  · unfold telR
    refine prX (fgR_f _ _ _) (fun n _ hn => ?_)
    obtain ⟨j, h1, h2, rfl⟩ := nI_rg hn (by omega) (by omega)
    exact prI ⟨Iv_tell I (by omega) h2, fun i hi => pk_un (by omega)⟩
  · unfold telR
    refine prX (fgR_f _ _ _) (fun n _ hn => ?_)
    obtain ⟨j, h1, h2, rfl⟩ := nI_rg hn (by omega) (by omega)
    exact prI ⟨Iv_tell I (by omega) h2, fun i hi => pk_un (by omega)⟩
  · unfold telR
    refine prX (fgR_f _ _ _) (fun n _ hn => ?_)
    obtain ⟨j, h1, h2, rfl⟩ := nI_rg hn (by omega) (by omega)
    exact prI ⟨Iv_tell I (by omega) h2, fun i hi => pk_un (by omega)⟩
end
