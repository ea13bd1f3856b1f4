/-! CONTRACTS of the model: a greeting is read -/
set_option maxRecDepth 100000
section
variable {h : MH} {σ : Nat → Nat → Int32} {d : Nat}
/-- what a reading gives: where it is wrong, or a value and where it ends -/
def Pst (h : MH) (σ : Nat → Nat → Int32) (r : Nat ⊕ (Int32 × Nat)) : Outcome → MH → Prop := fun o h1 => match r with
  | .inl b => ∃ (a' : Nat) (v : Int32), a' ≤ 1000 ∧ o = .returned (some (.int v)) ∧ h1 = hI h (flt (pat σ a') (nI b))
  | .inr (v, a') => o = .returned (some (.int v)) ∧ h1 = hI h (pat σ a')
abbrev isT (T : Nat → Int32) (e b w : Nat) : Prop := isW T e b (tln w) (tch w)
noncomputable def dI {α : Type} (P : Prop) (x y : α) : α := @ite _ P (Classical.propDecidable P) x y
theorem dI_t {α : Type} {P : Prop} {x y : α} (h : P) : dI P x y = x := by unfold dI; rw [if_pos h]
theorem dI_f {α : Type} {P : Prop} {x y : α} (h : ¬ P) : dI P x y = y := by unfold dI; rw [if_neg h]
noncomputable def fgR (T : Nat → Int32) (e a : Nat) (lo hi : Int32) : Nat ⊕ (Int32 × Nat) := dI (fgBad T (sk T e a) (nDg T e 4 (sk T e a)) lo hi) (.inl (sk T e a)) (.inr (fgV T (sk T e a) (nDg T e 4 (sk T e a)), sk T e a + nDg T e 4 (sk T e a)))
noncomputable def kisR (T : Nat → Int32) (e : Nat) (v : Int32) (a : Nat) : Nat ⊕ (Int32 × Nat) := dI (isT T e (sk T e a) 32) (.inr (nI 14 + nI 2 * v + nI 1, sk T e a + 5)) (dI (isT T e (sk T e a) 30) (.inr (nI 14 + nI 2 * v + nI 0, sk T e a + 4)) (.inl (sk T e a)))
/-- one reading behind another -/
def pB (r : Nat ⊕ (Int32 × Nat)) (k : Int32 → Nat → Nat ⊕ (Int32 × Nat)) : Nat ⊕ (Int32 × Nat) := match r with
  | .inl b => .inl b
  | .inr (v, a) => k v a
noncomputable def greR (T : Nat → Int32) (e a : Nat) : Nat ⊕ (Int32 × Nat) := dI (isT T e (sk T e a) 76) (.inr (nI 0, sk T e a + 4)) (dI (isT T e (sk T e a) 78) (.inr (nI 8, sk T e a + 4)) (dI (isT T e (sk T e a) 82) (.inr (nI 24, sk T e a + 7)) (dI (isT T e (sk T e a) 80) (pB (fgR T e (sk T e a + 4) (nI 1) (nI 4)) (kisR T e)) (.inl (sk T e a)))))
theorem sk_sk {T : Nat → Int32} {e a : Nat} (ha : a ≤ e) : sk T e (sk T e a) = sk T e a := sk_f (sk_nb (e - a) a (by omega))
theorem isT_le {T : Nat → Int32} {e b w : Nat} (hb : b ≤ e) (t : isT T e b w) : b + tln w ≤ e := by
  have := wL_le (T := T) (e := e) (e - b) b (by omega)
  rw [t.1] at this
  exact this
theorem sX8_figures_r (hs : SM h) (hd : 3 ≤ d) {T : Nat → Int32} {e a : Nat} (t : Tx σ T e) (ha : a ≤ e) (h11 : σ 380 11 = nI a) (hf : σ 380 12 = N1) (lo hi : Int32) : WPm mX8_figures d [.ref 380, .int lo, .int hi] (hI h σ) (Pst h σ (fgR T e a lo hi)) := by
  refine (sX8_figures_1 hs hd t ha h11 hf lo hi).mono ?_
  rintro o h1 ⟨h2, h3, h4⟩
  have hl := sk_le (T := T) (e := e) (e - a) a (by omega)
  have hn := (nDg_le T e 4 (sk T e a)).2 hl.2
  have he := t.2.1
  unfold fgR
  by_cases hb : fgBad T (sk T e a) (nDg T e 4 (sk T e a)) lo hi
  · rw [dI_t hb]
    exact ⟨_, _, by omega, h2, h3 hb⟩
  · rw [dI_f hb]
    exact ⟨h2, h4 hb⟩
theorem fgR_le {T : Nat → Int32} {e a a2 : Nat} {lo hi v : Int32} (ha : a ≤ e) (h : fgR T e a lo hi = .inr (v, a2)) : a2 ≤ e ∧ a < a2 := by
  unfold fgR at h
  have hl := sk_le (T := T) (e := e) (e - a) a (by omega)
  by_cases hb : fgBad T (sk T e a) (nDg T e 4 (sk T e a)) lo hi
  · rw [dI_t hb] at h; cases h
  · rw [dI_f hb] at h
    cases h
    have hn := (nDg_le T e 4 (sk T e a)).2 hl.2
    have : ¬ nDg T e 4 (sk T e a) = 0 := fun z => hb (Or.inl z)
    omega
end
