/-! CONTRACTS of the model: a meeting -/
set_option maxRecDepth 100000
theorem upd_cm {f : Nat → Int32} {j k : Nat} {x y : Int32} (h : j ≠ k) : upd (upd f j x) k y = upd (upd f k y) j x := va_cm f x y h
theorem gSe_u (S : Nat → Int32) {p o i : Nat} (g x : Int32) (h : i < 92) : gSe (upd S i x) p o g = upd (gSe S p o g) i x := by
  have e1 : seA (upd S i x) p o g = upd (seA S p o g) i x := by
    unfold seA
    rw [pk_un (by omega), upd_cm (show i ≠ 172 + 10 * p + o by omega), upd_cm (show i ≠ 272 + 10 * p + o by omega)]
  have e2 : seB (upd S i x) p o g = upd (seB S p o g) i x := by
    unfold seB
    rw [e1, pk_un (by omega), pk_un (by omega)]
    split
    · rw [upd_cm (by omega)]
    · rfl
  unfold gSe
  rw [e2, pk_un (by omega), pk_un (by omega), upd_cm (show i ≠ 92 + 8 * p + 7 by omega), upd_cm (show i ≠ 92 + 8 * p + 6 by omega), upd_cm (show i ≠ 92 + 8 * p + 5 by omega)]
theorem caS_u (S : Nat → Int32) {p q i : Nat} (d0 d1 x : Int32) (h : i < 92) : caS (upd S i x) p q d0 d1 = upd (caS S p q d0 d1) i x := by
  unfold caS
  rw [pk_un (by omega), pk_un (by omega)]
  by_cases z : (S (92 + 8 * p + 4) = nI 1 ∨ S (92 + 8 * q + 4) = nI 1) ∧ ¬ d0 >>> nI 3 = nI 0 ∧ ¬ d1 >>> nI 3 = nI 0
  · rw [dI_t z, dI_t z, upd_cm (show i ≠ 92 + 8 * p + 4 by omega), upd_cm (show i ≠ 92 + 8 * q + 4 by omega)]
  · rw [dI_f z, dI_f z]
/-- the row ahead of the count of those who yielded -/
noncomputable def yM (S : Nat → Int32) (a : Nat) : Nat → Int32 := dI (bnt S a) (dw S) (dw (dw S))
theorem yR_M (S : Nat → Int32) (a b : Nat) : yR S a b = upd (yM S a) 10 (yM S a 10 + bP (¬ yW S a b = 0)) := by
  have e1 : dw S 10 = S 10 := pk_un (by omega)
  have e2 : dw (dw S) 10 = S 10 := by unfold dw; rw [pk_un (by omega), pk_un (by omega)]
  unfold yR yM yW
  by_cases z1 : bnt S a
  · rw [dI_t z1, dI_t z1, dI_t z1, bP_t (by omega), e1]
  · rw [dI_f z1, dI_f z1, dI_f z1, e2]
    by_cases z2 : bnt (dw S) b
    · rw [dI_t z2, dI_t z2, bP_t (by omega)]
    · rw [dI_f z2, dI_f z2, bP_f (by omega), show S 10 + nI 0 = S 10 by rw [nI_0, Int32.add_zero], upd_eq e2]
/-- the model's way to what follows -/
noncomputable def mEm (S : Nat → Int32) (p q : Nat) (b0 b1 d0 d1 c y : Int32) : Nat → Int32 :=
  let A := caS (gSe (gSe S p q d1) q p d0) p q d0 d1
  tlS (upd (upd (upd (upd A 8 (A 8 + nI 1)) 9 (A 9 + c)) 10 (A 10 + y)) 11 (A 11 + if gCn d1 < gCn d0 then gCn d0 else gCn d1)) p q b0 b1 d0 d1 c
theorem mEm_e (S : Nat → Int32) {p q : Nat} (b0 b1 d0 d1 c y : Int32) : mEm S p q b0 b1 d0 d1 c y = mE (upd S 10 (S 10 + y)) p q b0 b1 d0 d1 c := by
  rw [mE_e]
  unfold mEm
  rw [gSe_u _ _ _ (by omega), gSe_u _ _ _ (by omega), caS_u _ _ _ _ (by omega)]
  have e10 : caS (gSe (gSe S p q d1) q p d0) p q d0 d1 10 = S 10 := by
    rw [caS_o _ _ _ (by omega) (by omega), gSe_o _ _ (by omega) (by omega) (by omega) (by omega) (by omega) (by omega), gSe_o _ _ (by omega) (by omega) (by omega) (by omega) (by omega) (by omega)]
  simp only [e10]
  generalize caS (gSe (gSe S p q d1) q p d0) p q d0 d1 = A
  rw [pk_un (show 11 ≠ 10 by omega), pk_un (show 8 ≠ 10 by omega), pk_un (show 9 ≠ 10 by omega), mxc (gCn d0) (gCn d1)]
  congr 1
  rw [upd_cm (show 10 ≠ 11 by omega), upd_cm (show 9 ≠ 11 by omega), upd_cm (show 8 ≠ 11 by omega), upd_cm (show 9 ≠ 10 by omega), upd_cm (show 8 ≠ 10 by omega), upd_cm (show 11 ≠ 10 by omega)]
/-- the log as it is moved, from its end -/
def lgK (D : Nat → Int32) (k : Nat) : Nat → Int32 := fun i => if 420 + k ≤ i ∧ i < 900 then D (i - 8) else D i
theorem lgK_s (D : Nat → Int32) {k : Nat} (h1 : 8 ≤ k) (h2 : k < 480) : upd (lgK D (k + 1)) (420 + k) (lgK D (k + 1) (420 + k - 8)) = lgK D k := by
  funext i
  by_cases e : i = 420 + k
  · subst e
    rw [pk_us]
    unfold lgK
    rw [if_neg (by omega), if_pos (by omega)]
  · rw [pk_un e]
    unfold lgK
    by_cases z : 420 + (k + 1) ≤ i ∧ i < 900
    · rw [if_pos z, if_pos (by omega)]
    · rw [if_neg z, if_neg (by omega)]
theorem lgK_0 (D : Nat → Int32) : lgK D 480 = D := by
  funext i
  unfold lgK
  rw [if_neg (by omega)]
theorem lgK_8 (D : Nat → Int32) (r : Nat → Int32) : upd (upd (upd (upd (upd (upd (upd (upd (lgK D 8) 420 (r 0)) 421 (r 1)) 422 (r 2)) 423 (r 3)) 424 (r 4)) 425 (r 5)) 426 (r 6)) 427 (r 7) = lgS D r := by
  funext i
  by_cases z : 420 ≤ i ∧ i < 428
  · have hz : i = 420 ∨ i = 421 ∨ i = 422 ∨ i = 423 ∨ i = 424 ∨ i = 425 ∨ i = 426 ∨ i = 427 := by omega
    rcases hz with rfl | rfl | rfl | rfl | rfl | rfl | rfl | rfl <;> rfl
  · rw [pk_un (by omega), pk_un (by omega), pk_un (by omega), pk_un (by omega), pk_un (by omega), pk_un (by omega), pk_un (by omega), pk_un (by omega)]
    unfold lgK lgS
    rw [if_neg z]
