/-! WHAT HOLDS OF A ROW, and stays so when two meet -/
set_option maxRecDepth 100000
theorem gSe_o (S : Nat → Int32) {p o i : Nat} (g : Int32) (h1 : i ≠ 172 + 10 * p + o) (h2 : i ≠ 272 + 10 * p + o) (h3 : i ≠ 92 + 8 * p + 1) (h5 : i ≠ 92 + 8 * p + 5) (h6 : i ≠ 92 + 8 * p + 6) (h7 : i ≠ 92 + 8 * p + 7) : gSe S p o g i = S i := by
  unfold gSe
  rw [pk_un h5, pk_un h6, pk_un h7]
  unfold seB
  split
  · rw [pk_un h3]; unfold seA; rw [pk_un h2, pk_un h1]
  · unfold seA; rw [pk_un h2, pk_un h1]
theorem gSe_own (S : Nat → Int32) {p o : Nat} (g : Int32) (hp : p < 10) : gSe S p o g (92 + 8 * p + 1) = S (92 + 8 * p + 1) ∨ gSe S p o g (92 + 8 * p + 1) = g := by
  unfold gSe
  rw [pk_un (by omega), pk_un (by omega), pk_un (by omega)]
  unfold seB
  split
  · rw [pk_us]; exact Or.inr rfl
  · unfold seA; rw [pk_un (by omega), pk_un (by omega)]; exact Or.inl rfl
theorem gSe_met (S : Nat → Int32) {p o : Nat} (g : Int32) (hp : p < 10) (ho : o < 10) : gSe S p o g (172 + 10 * p + o) = S (172 + 10 * p + o) + nI 1 := by
  unfold gSe
  rw [pk_un (by omega), pk_un (by omega), pk_un (by omega)]
  unfold seB
  split
  · rw [pk_un (by omega)]; unfold seA; rw [pk_un (by omega), pk_us]
  · unfold seA; rw [pk_un (by omega), pk_us]
theorem gSe_saw (S : Nat → Int32) {p o : Nat} (g : Int32) (hp : p < 10) (ho : o < 10) : gSe S p o g (272 + 10 * p + o) = g := by
  unfold gSe
  rw [pk_un (by omega), pk_un (by omega), pk_un (by omega)]
  unfold seB
  split
  · rw [pk_un (by omega)]; unfold seA; rw [pk_us]
  · unfold seA; rw [pk_us]
theorem gSe_had (S : Nat → Int32) {p o : Nat} (g : Int32) : gSe S p o g (92 + 8 * p + 5) = S (92 + 8 * p + 5) + nI 1 := by
  unfold gSe; rw [pk_us]
theorem caS_o (S : Nat → Int32) {p q i : Nat} (d0 d1 : Int32) (h1 : i ≠ 92 + 8 * p + 4) (h2 : i ≠ 92 + 8 * q + 4) : caS S p q d0 d1 i = S i := by
  unfold caS
  by_cases z : (S (92 + 8 * p + 4) = nI 1 ∨ S (92 + 8 * q + 4) = nI 1) ∧ ¬ d0 >>> nI 3 = nI 0 ∧ ¬ d1 >>> nI 3 = nI 0
  · rw [dI_t z, pk_un h2, pk_un h1]
  · rw [dI_f z]
theorem caS_c {S : Nat → Int32} {p q k : Nat} (d0 d1 : Int32) (h : S (92 + 8 * k + 4) = nI 0 ∨ S (92 + 8 * k + 4) = nI 1) : caS S p q d0 d1 (92 + 8 * k + 4) = nI 0 ∨ caS S p q d0 d1 (92 + 8 * k + 4) = nI 1 := by
  unfold caS
  by_cases z : (S (92 + 8 * p + 4) = nI 1 ∨ S (92 + 8 * q + 4) = nI 1) ∧ ¬ d0 >>> nI 3 = nI 0 ∧ ¬ d1 >>> nI 3 = nI 0
  · rw [dI_t z]
    by_cases e1 : k = q
    · subst e1; rw [pk_us]; exact Or.inr rfl
    · rw [pk_un (by omega)]
      by_cases e2 : k = p
      · subst e2; rw [pk_us]; exact Or.inr rfl
      · rw [pk_un (by omega)]; exact h
  · rw [dI_f z]; exact h
/-- what an end of a meeting leaves -/
theorem mE_o (S : Nat → Int32) {p q i : Nat} (b0 b1 d0 d1 c : Int32) (h8 : i ≠ 8) (h9 : i ≠ 9) (h11 : i ≠ 11) (h12 : i ≠ 12) (hl : i < 420 ∨ 900 ≤ i) : mE S p q b0 b1 d0 d1 c i = caS (gSe (gSe S p q d1) q p d0) p q d0 d1 i := by
  rw [mE_e]
  unfold tlS
  rw [pk_un h12, lgS_o hl, pk_un h9, pk_un h8, pk_un h11]
theorem mE_u (S : Nat → Int32) {p q i : Nat} (b0 b1 d0 d1 c : Int32) (hp : p < 10) (hq : q < 10) (h : (i < 92 ∧ i ≠ 8 ∧ i ≠ 9 ∧ i ≠ 11 ∧ i ≠ 12) ∨ (372 ≤ i ∧ i < 420) ∨ 900 ≤ i) : mE S p q b0 b1 d0 d1 c i = S i := by
  rw [mE_o _ _ _ _ _ _ (by omega) (by omega) (by omega) (by omega) (by omega), caS_o _ _ _ (by omega) (by omega), gSe_o _ _ (by omega) (by omega) (by omega) (by omega) (by omega) (by omega), gSe_o _ _ (by omega) (by omega) (by omega) (by omega) (by omega) (by omega)]
theorem mt_u (v : LV) (S : Nat → Int32) {p q i : Nat} (hp : p < 10) (hq : q < 10) (h : (i < 92 ∧ i ≠ 8 ∧ i ≠ 9 ∧ i ≠ 10 ∧ i ≠ 11 ∧ i ≠ 12 ∧ i ≠ 16) ∨ (372 ≤ i ∧ i < 420) ∨ 900 ≤ i) : mtS v S p q i = S i := by
  unfold mtS
  rw [mE_u _ _ _ _ _ _ hp hq (by omega), mS1_k _ _ _ _ (by omega) (by omega)]
/-- met is 0 of those who are not there -/
def Iz (S : Nat → Int32) : Prop := ∀ p q, p < 10 → q < 10 → nP S ≤ p ∨ nP S ≤ q → S (172 + 10 * p + q) = nI 0
/-- the log -/
def Ig (S : Nat → Int32) : Prop := (S 12 = nI (nG S) ∧ nG S ≤ 60) ∧ ∀ j, j < nG S → ∃ a b, a < b ∧ b < 10 ∧ S (420 + 8 * j + 1) = nI a ∧ S (420 + 8 * j + 2) = nI b ∧ cd (S (420 + 8 * j + 3)) ∧ cd (S (420 + 8 * j + 4))
/-- costs are of 0 to 99 -/
def Is (S : Nat → Int32) : Prop := ∀ k, 13 ≤ k → k ≤ 15 → ∃ j, j ≤ 99 ∧ S k = nI j
/-- weights are of 1 to 9 -/
def Iq (S : Nat → Int32) : Prop := ∀ k, k < nH S → ∃ j, 1 ≤ j ∧ j ≤ 9 ∧ S (20 + 3 * k + 2) = nI j
def Iv (S : Nat → Int32) : Prop := Ic S ∧ Io S ∧ Ib S ∧ Ih S ∧ It S ∧ Iw S ∧ Im S ∧ Iz S ∧ Ig S ∧ Is S ∧ Iq S
theorem cnt_e {S S' : Nat → Int32} (h3 : S' 3 = S 3) (h4 : S' 4 = S 4) (h5 : S' 5 = S 5) (h6 : S' 6 = S 6) : nL S' = nL S ∧ nH S' = nH S ∧ nP S' = nP S ∧ nT S' = nT S := by
  unfold nL nH nP nT; rw [h3, h4, h5, h6]; exact ⟨rfl, rfl, rfl, rfl⟩
theorem sm_1 {F G : Nat → Int32} {n q : Nat} (hq : q < n) (e : G q = F q + nI 1) (h : ∀ k, k < n → k ≠ q → G k = F k) : sm G n = sm F n + nI 1 := by
  have key : ∀ m, m ≤ n → sm G m = if q < m then sm F m + nI 1 else sm F m := by
    intro m
    induction m with
    | zero => intro _; rw [if_neg (by omega)]; rfl
    | succ m ih =>
      intro hm
      rw [sm_s, sm_s, ih (by omega)]
      by_cases e1 : m = q
      · subst e1
        rw [if_neg (by omega), if_pos (by omega), e, Int32.add_assoc]
      · rw [h m (by omega) e1]
        by_cases e2 : q < m
        · rw [if_pos e2, if_pos (by omega), Int32.add_assoc, Int32.add_assoc, Int32.add_comm (nI 1)]
        · rw [if_neg e2, if_neg (by omega)]
  rw [key n (Nat.le_refl _), if_pos hq]
theorem sm_c {F G : Nat → Int32} {n : Nat} (h : ∀ k, k < n → G k = F k) : sm G n = sm F n := by
  induction n with
  | zero => rfl
  | succ n ih => rw [sm_s, sm_s, ih (fun k hk => h k (by omega)), h n (by omega)]
