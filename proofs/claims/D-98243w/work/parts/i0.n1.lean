/-! FROM: the pure law -/
set_option maxRecDepth 100000
def lJ (n : Nat) : Int64 := Int64.ofNat n
theorem lJ_i {n : Nat} (h : n < 2 ^ 63) : (lJ n).toInt = n := Int64.toInt_ofNat_of_lt h
theorem nI_L {n : Nat} (h : n < 1000) : (nI n).toInt64 = lJ n := by
  apply Int64.toInt_inj.1
  rw [Int32.toInt_toInt64, lJ_i (by omega)]
  exact Int32.toInt_ofNat_of_lt (by omega)
theorem lJ_mul (a b : Nat) : lJ a * lJ b = lJ (a * b) := (Int64.ofNat_mul a b).symm
theorem lJ_c {a b : Nat} (ha : a < 2 ^ 63) (hb : b < 2 ^ 63) : lg_cmp (lJ a) (lJ b) ≤ nI 0 ↔ a ≤ b := by
  unfold lg_cmp
  by_cases z : lJ a > lJ b
  · rw [if_pos z]
    have := Int64.lt_iff_toInt_lt.1 z
    rw [lJ_i ha, lJ_i hb] at this
    exact ⟨fun q => absurd q (by decide), fun q => by omega⟩
  · rw [if_neg z]
    have : ¬ (lJ b).toInt < (lJ a).toInt := fun q => z (Int64.lt_iff_toInt_lt.2 q)
    rw [lJ_i ha, lJ_i hb] at this
    by_cases y : lJ a = lJ b
    · rw [if_pos y]; exact ⟨fun _ => by omega, fun _ => by decide⟩
    · rw [if_neg y]; exact ⟨fun _ => by omega, fun _ => by decide⟩
theorem lJ_e {a : Nat} (ha : a < 2 ^ 63) : lg_cmp (lJ a) 0 = nI 0 ↔ a = 0 := by
  unfold lg_cmp
  have e0 : (0 : Int64).toInt = 0 := by decide
  by_cases z : lJ a > 0
  · rw [if_pos z]
    have := Int64.lt_iff_toInt_lt.1 z
    rw [lJ_i ha, e0] at this
    exact ⟨fun q => absurd q (by decide), fun q => by omega⟩
  · rw [if_neg z]
    have : ¬ (0 : Int64).toInt < (lJ a).toInt := fun q => z (Int64.lt_iff_toInt_lt.2 q)
    rw [lJ_i ha, e0] at this
    have a0 : a = 0 := by omega
    subst a0
    rw [if_pos (by decide)]; exact ⟨fun _ => rfl, fun _ => by decide⟩
theorem lJ_0 : lJ 0 = 0 := by decide
theorem lJ_1 : lJ 1 = 1 := by decide
/-- weights are natural numbers -/
theorem gW_n {S : Nat → Int32} (hi : Ic S) (q : Iq S) (l g : Int32) : ∃ w, w ≤ 216 ∧ gW S l g = nI w := by
  have hH := hH24 hi
  have key : ∀ k, k ≤ nH S → ∃ w, w ≤ 9 * k ∧ sm (fun k => cI (S (20 + 3 * k) = l ∧ (g = N1 ∨ S (20 + 3 * k + 1) = g)) (S (20 + 3 * k + 2)) (nI 0)) k = nI w := by
    intro k
    induction k with
    | zero => intro _; exact ⟨0, by omega, rfl⟩
    | succ k ih =>
      intro hk
      obtain ⟨w, hw, e⟩ := ih (by omega)
      obtain ⟨j, j1, j9, ej⟩ := q k (by omega)
      rw [sm_s, e]
      by_cases z : S (20 + 3 * k) = l ∧ (g = N1 ∨ S (20 + 3 * k + 1) = g)
      · refine ⟨w + j, by omega, ?_⟩
        show nI w + cI _ _ _ = _
        rw [cI_t z, ej]; exact (Int32.ofNat_add w j).symm
      · refine ⟨w, by omega, ?_⟩
        show nI w + cI _ _ _ = _
        rw [cI_f z, nI_0, Int32.add_zero]
  obtain ⟨w, hw, e⟩ := key (nH S) (Nat.le_refl _)
  exact ⟨w, by omega, e⟩
noncomputable def shP (S T : Nat → Int32) (l : Int32) (m : Nat) : Int64 := @ite _ (gW S l N1 = nI 0) (Classical.propDecidable _) 0 (gLk S T l (nI 0) m)
noncomputable def shW (S T : Nat → Int32) (l : Int32) (m : Nat) : Int64 := @ite _ (gW S l N1 = nI 0) (Classical.propDecidable _) 1 (gLk S T l (nI 1) m)
theorem gLk_n {S T : Nat → Int32} (hi : Ic S) (q : Iq S) (l b : Int32) (m : Nat) : ∃ p, p ≤ 216 ^ m ∧ gLk S T l b m = lJ p := by
  induction m with
  | zero => exact ⟨1, Nat.le_refl _, rfl⟩
  | succ m ih =>
    obtain ⟨p, hp, e⟩ := ih
    obtain ⟨w, hw, ew⟩ := gW_n hi q l (cI (b = nI 0) (T m) N1)
    refine ⟨p * w, ?_, ?_⟩
    · rw [Nat.pow_succ]; exact Nat.mul_le_mul hp hw
    · rw [gLk_s, e, ew, nI_L (by omega), lJ_mul]
theorem p216 {m : Nat} (h : m ≤ 4) : 216 ^ m ≤ 2176782336 := Nat.le_trans (Nat.pow_le_pow_right (by omega) h) (by decide)
theorem gLy_n {S T : Nat → Int32} (hi : Ic S) (q : Iq S) (l b : Int32) {m : Nat} (hm : m ≤ 4) : ∃ p, p ≤ 2176782336 ∧ gLy S T l b m = lJ p := by
  unfold gLy
  by_cases z : gW S l N1 = nI 0 ∧ b = nI 0
  · rw [if_pos z]; exact ⟨0, by omega, lJ_0.symm⟩
  · rw [if_neg z]
    obtain ⟨p, hp, e⟩ := gLk_n (T := T) hi q l b m
    have := p216 hm
    exact ⟨p, by omega, e⟩
theorem shP_y {S T : Nat → Int32} {l : Int32} {m : Nat} : shP S T l m = gLy S T l (nI 0) m := by
  unfold shP gLy
  by_cases z : gW S l N1 = nI 0
  · rw [if_pos z, if_pos ⟨z, rfl⟩]
  · rw [if_neg z, if_neg (fun q => z q.1)]
theorem shW_n {S T : Nat → Int32} (hi : Ic S) (q : Iq S) (l : Int32) {m : Nat} (hm : m ≤ 4) : ∃ p, p ≤ 2176782336 ∧ shW S T l m = lJ p := by
  unfold shW
  by_cases z : gW S l N1 = nI 0
  · rw [if_pos z]; exact ⟨1, by omega, lJ_1.symm⟩
  · rw [if_neg z]
    obtain ⟨p, hp, e⟩ := gLk_n (T := T) hi q l (nI 1) m
    have := p216 hm
    exact ⟨p, by omega, e⟩
theorem shW_y {S T : Nat → Int32} {l : Int32} {m : Nat} (h : gLy S T l (nI 0) m ≠ 0) : shW S T l m = gLy S T l (nI 1) m := by
  have z : ¬ gW S l N1 = nI 0 := fun z => h (by unfold gLy; rw [if_pos ⟨z, rfl⟩])
  unfold shW gLy
  rw [if_neg z, if_neg (fun q => z q.1)]
/-- the best share so far -/
def frI (S T : Nat → Int32) (n : Nat) (z : Int32) (mP mW : Int64) : Prop := (z = N1 ∧ mP = 0 ∧ mW = 1) ∨ (z ≠ N1 ∧ mP = gLy S T z (nI 0) n ∧ mW = gLy S T z (nI 1) n)
theorem fr_mask {S T : Nat → Int32} (hi : Ic S) (q : Iq S) (l : Int32) {n : Nat} (hn : n ≤ 4) : lg_cmp (shP S T l n) 0 ≤ nI 0 ↔ lg_cmp (gLy S T l (nI 0) n) 0 = nI 0 := by
  obtain ⟨p, hp, e⟩ := gLy_n (T := T) hi q l (nI 0) hn
  rw [shP_y, e, lJ_e (by omega)]
  have := lJ_c (a := p) (b := 0) (by omega) (by omega)
  rw [lJ_0] at this
  rw [this]
  omega
theorem m216 {a b : Nat} (ha : a ≤ 2176782336) (hb : b ≤ 2176782336) : a * b < 2 ^ 63 := Nat.lt_of_le_of_lt (Nat.mul_le_mul ha hb) (by decide)
theorem fr_more {S T : Nat → Int32} (hi : Ic S) (q : Iq S) (l : Int32) {n : Nat} (hn : n ≤ 4) {z : Int32} {mP mW : Int64} (I : frI S T n z mP mW) : lg_cmp (shP S T l n * mW) (mP * shW S T l n) ≤ nI 0 ↔ (lg_cmp (gLy S T l (nI 0) n) 0 = nI 0 ∨ ¬ (z = N1 ∨ ¬ lg_cmp (gLy S T l (nI 0) n * gLy S T z (nI 1) n) (gLy S T z (nI 0) n * gLy S T l (nI 1) n) ≤ nI 0)) := by
  obtain ⟨p, hp, e⟩ := gLy_n (T := T) hi q l (nI 0) hn
  obtain ⟨w, hw, ew⟩ := shW_n (T := T) hi q l hn
  have hm : ∃ a b, a ≤ 2176782336 ∧ b ≤ 2176782336 ∧ mP = lJ a ∧ mW = lJ b := by
    rcases I with ⟨_, z2, z3⟩ | ⟨_, z2, z3⟩
    · exact ⟨0, 1, by omega, by omega, by rw [z2, lJ_0], by rw [z3, lJ_1]⟩
    · obtain ⟨a, ha, ea⟩ := gLy_n (T := T) hi q z (nI 0) hn
      obtain ⟨b, hb, eb⟩ := gLy_n (T := T) hi q z (nI 1) hn
      exact ⟨a, b, ha, hb, by rw [z2, ea], by rw [z3, eb]⟩
  obtain ⟨a, b, ha, hb, ea, eb⟩ := hm
  by_cases p0 : p = 0
  · subst p0
    refine ⟨fun _ => Or.inl (by rw [e]; exact (lJ_e (by omega)).2 rfl), fun _ => ?_⟩
    rw [shP_y, e, ew, ea, eb, lJ_mul, lJ_mul]
    exact (lJ_c (by omega) (m216 ha hw)).2 (by omega)
  · have c0 : ¬ lg_cmp (gLy S T l (nI 0) n) 0 = nI 0 := by rw [e, lJ_e (by omega)]; exact p0
    have sw := shW_y (S := S) (T := T) (l := l) (m := n) (fun q => c0 (by rw [q]; decide))
    rcases I with ⟨z1, z2, z3⟩ | ⟨z1, z2, z3⟩
    · refine ⟨fun y => ?_, fun y => ?_⟩
      · rw [shP_y, e, ew, z2, z3, ← lJ_0, ← lJ_1, lJ_mul, lJ_mul, lJ_c (by omega) (by omega)] at y
        omega
      · rcases y with y | y
        · exact absurd y c0
        · exact absurd (Or.inl z1) y
    · rw [shP_y, sw, z2, z3]
      refine ⟨fun y => Or.inr (fun u => ?_), fun y => ?_⟩
      · rcases u with u | u
        · exact z1 u
        · exact u y
      · rcases y with y | y
        · exact absurd y c0
        · by_cases x : lg_cmp (gLy S T l (nI 0) n * gLy S T z (nI 1) n) (gLy S T z (nI 0) n * gLy S T l (nI 1) n) ≤ nI 0
          · exact x
          · exact absurd (Or.inr x) y
