/-! READING: what a law can say -/
set_option maxRecDepth 100000
def FcI (v : Fc → Int32) : Prop := ∀ φ ψ : Fc, (∀ k, k < 8 → φ k = ψ k) → v φ = v ψ
def FcP (v : Fc → Prop) : Prop := ∀ φ ψ : Fc, (∀ k, k < 8 → φ k = ψ k) → (v φ ↔ v ψ)
def LnG (l : Ln) : Prop := cd l.1 ∧ FcP l.2
/-- what holds of what is read -/
def prP {α : Type} (Q : α → Prop) (r : PR α) : Prop := match r with
  | .inl _ => True
  | .inr z => Q z.1
section
variable {α β : Type} {Q : α → Prop} {Q' : β → Prop}
theorem prX {r : PR α} {k : α → Nat → PR β} (h : prP Q r) (hk : ∀ x a, Q x → prP Q' (k x a)) : prP Q' (pX r k) := by
  cases r with
  | inl b => exact trivial
  | inr z => exact hk z.1 z.2 h
theorem prD {P : Prop} {x y : PR α} (h1 : P → prP Q x) (h2 : ¬ P → prP Q y) : prP Q (dI P x y) := by
  by_cases z : P
  · rw [dI_t z]; exact h1 z
  · rw [dI_f z]; exact h2 z
theorem prI {x : α} {a : Nat} (h : Q x) : prP Q (.inr (x, a) : PR α) := h
theorem prN {b : Nat} : prP Q (.inl b : PR α) := trivial
end
section
variable {T : Nat → Int32} {e : Nat}
theorem FcI_k {k : Nat} (hk : k < 8) : FcI (fun φ => φ k) := fun _ _ h => h k hk
theorem FcI_c (v : Int32) : FcI (fun _ => v) := fun _ _ _ => rfl
theorem FcI_a {v w : Fc → Int32} (hv : FcI v) (hw : FcI w) : FcI (fun φ => v φ + w φ) := fun φ ψ h => by show v φ + w φ = v ψ + w ψ; rw [hv φ ψ h, hw φ ψ h]
theorem FcP_l {v w : Fc → Int32} (hv : FcI v) (hw : FcI w) : FcP (fun φ => v φ < w φ) := fun φ ψ h => by show v φ < w φ ↔ v ψ < w ψ; rw [hv φ ψ h, hw φ ψ h]
theorem FcP_e {k : Nat} (hk : k < 8) (c : Int32) : FcP (fun φ => φ k = c) := fun φ ψ h => by show φ k = c ↔ ψ k = c; rw [h k hk]
theorem FcP_n {v : Fc → Prop} (hv : FcP v) : FcP (fun φ => ¬ v φ) := fun φ ψ h => not_congr (hv φ ψ h)
theorem FcP_and {v w : Fc → Prop} (hv : FcP v) (hw : FcP w) : FcP (fun φ => And (v φ) (w φ)) := fun φ ψ h => and_congr (hv φ ψ h) (hw φ ψ h)
theorem FcP_or {v w : Fc → Prop} (hv : FcP v) (hw : FcP w) : FcP (fun φ => Or (v φ) (w φ)) := fun φ ψ h => or_congr (hv φ ψ h) (hw φ ψ h)
theorem prT {α : Type} (r : PR α) : prP (fun _ => True) r := by
  cases r <;> exact trivial
theorem partR_f (a : Nat) : prP FcI (partR T e a) := by
  unfold partR
  exact prD (fun _ => prX (prT _) (fun x a _ => prI (FcI_c x))) (fun _ => prD (fun _ => FcI_k (by omega)) (fun _ => prD (fun _ => FcI_k (by omega)) (fun _ => prD (fun _ => FcI_k (by omega)) (fun _ => prD (fun _ => FcI_k (by omega)) (fun _ => prD (fun _ => FcI_k (by omega)) (fun _ => prD (fun _ => FcI_k (by omega)) (fun _ => prN)))))))
theorem sumL_f (f : Nat) : ∀ (v : Fc → Int32) (a : Nat), FcI v → prP FcI (sumL T e f v a) := by
  induction f with
  | zero => intro v a hv; exact hv
  | succ f ih =>
    intro v a hv
    rw [sumL_s]
    exact prD (fun _ => prX (partR_f _) (fun x a hx => ih _ _ (FcI_a hv hx))) (fun _ => hv)
theorem sumR_f (a : Nat) : prP FcI (sumR T e a) := prX (partR_f a) (fun x a hx => sumL_f _ x a hx)
theorem cmpR_f {v : Fc → Int32} (hv : FcI v) (a : Nat) : prP FcP (cmpR T e v a) := by
  unfold cmpR
  exact prD (fun _ => prX (sumR_f _) (fun x a hx => prI (FcP_l hv hx))) (fun _ => prD (fun _ => prX (sumR_f _) (fun x a hx => prI (FcP_l hx hv))) (fun _ => prN))
theorem plainR_f (a : Nat) : prP FcP (plainR T e a) := by
  unfold plainR
  exact prD (fun _ => FcP_e (by omega) _) (fun _ => prD (fun _ => FcP_e (by omega) _) (fun _ => prX (sumR_f _) (fun x a hx => cmpR_f hx a)))
theorem anyL_f {A : Nat → PR (Fc → Prop)} {w : Nat} {op : Prop → Prop → Prop} (hop : ∀ v u : Fc → Prop, FcP v → FcP u → FcP (fun φ => op (v φ) (u φ))) (hA : ∀ a, prP FcP (A a)) (f : Nat) : ∀ (v : Fc → Prop) (a : Nat), FcP v → prP FcP (anyL T e A w op f v a) := by
  induction f with
  | zero => intro v a hv; exact hv
  | succ f ih =>
    intro v a hv
    rw [anyL_s]
    exact prD (fun _ => prX (hA _) (fun x a hx => ih _ _ (hop _ _ hv hx))) (fun _ => hv)
theorem evR_f {A : Nat → PR (Fc → Prop)} (hA : ∀ a, prP FcP (A a)) (a : Nat) : prP FcP (evR T e A a) := prX (hA a) (fun x a hx => anyL_f (fun _ _ => FcP_and) hA _ x a hx)
theorem smR_f {A : Nat → PR (Fc → Prop)} (hA : ∀ a, prP FcP (A a)) (a : Nat) : prP FcP (smR T e A a) := prX (evR_f hA a) (fun x a hx => anyL_f (fun _ _ => FcP_or) (evR_f hA) _ x a hx)
theorem clsR_f {v : Fc → Prop} (hv : FcP v) (a : Nat) : prP FcP (clsR T e v a) := by
  unfold clsR
  exact prD (fun _ => hv) (fun _ => prN)
theorem atR_f (n : Nat) : ∀ a, prP FcP (atR T e n a) := by
  induction n with
  | zero =>
    intro a
    rw [atR_0]
    exact prD (fun _ => prN) (fun _ => prD (fun _ => prN) (fun _ => plainR_f _))
  | succ n ih =>
    intro a
    rw [atR_s]
    exact prD (fun _ => prX (ih _) (fun x a hx => prI (FcP_n hx))) (fun _ => prD (fun _ => prX (smR_f ih _) (fun x a hx => clsR_f hx a)) (fun _ => plainR_f _))
theorem fgR_f (a : Nat) (lo hi : Int32) : prP (fun v => lo ≤ v ∧ v ≤ hi) (fgR T e a lo hi) := by
  unfold fgR
  refine prD (fun _ => prN) (fun z => prI ?_)
  exact ⟨Int32.not_lt.mp (fun q => z (Or.inr (Or.inr (Or.inl q)))), Int32.not_lt.mp (fun q => z (Or.inr (Or.inr (Or.inr q))))⟩
theorem kis_cd {v : Int32} (h : nI 1 ≤ v ∧ v ≤ nI 4) : cd (nI 14 + nI 2 * v + nI 1) ∧ cd (nI 14 + nI 2 * v + nI 0) := by
  have h0 : ¬ v < 0 := by
    intro z
    have h1 := h.1
    have e1 : (nI 1).toInt = 1 := by decide
    have e0 : (0 : Int32).toInt = 0 := by decide
    (simp only [Int32.lt_iff_toInt_lt, Int32.le_iff_toInt_le] at *; omega)
  obtain ⟨j, hj, rfl⟩ := nI_of h0
  rw [nI_leI (by omega) (by omega), nI_leI (by omega) (by omega)] at h
  have : j = 1 ∨ j = 2 ∨ j = 3 ∨ j = 4 := by omega
  rcases this with rfl | rfl | rfl | rfl <;> (unfold cd; decide)
theorem greR_f (a : Nat) : prP cd (greR T e a) := by
  rw [greR_x]
  refine prD (fun _ => prI (cd_of (p := 0) (by omega))) (fun _ => prD (fun _ => prI (cd_of (p := 8) (by omega))) (fun _ => prD (fun _ => prI (cd_of (p := 24) (by omega))) (fun _ => prD (fun _ => prX (fgR_f _ _ _) (fun x a hx => ?_)) (fun _ => prN))))
  rw [kisR_x]
  exact prD (fun _ => prI (kis_cd hx).1) (fun _ => prD (fun _ => prI (kis_cd hx).2) (fun _ => prN))
theorem llR_f (a : Nat) : prP LnG (llR T e a) := prX (greR_f a) (fun g a1 hg => by
  unfold ifR
  exact prD (fun _ => prX (smR_f (atR_f 6) _) (fun x a hx => prI ⟨hg, hx⟩)) (fun _ => prI ⟨hg, fun _ _ _ => Iff.rfl⟩))
theorem rdL_f (f : Nat) : ∀ (n : Nat) (L : Nat → Ln) (a : Nat), n ≤ 12 → (∀ i, i < n → LnG (L i)) → prP (fun z => z.1 ≤ 12 ∧ ∀ i, i < z.1 → LnG (z.2 i)) (rdL T e f n L a) := by
  induction f with
  | zero => intro n L a hn hL; exact prN
  | succ f ih =>
    intro n L a hn hL
    rw [rdL_s]
    refine prD (fun _ => prN) (fun z => prX (llR_f a) (fun l a1 hl => ?_))
    have hL2 : ∀ i, i < n + 1 → LnG (va_up L n l i) := by
      intro i hi
      by_cases q : i = n
      · subst q; rw [vus]; exact hl
      · rw [vun _ _ q]; exact hL i (by omega)
    exact prD (fun _ => prI ⟨by show n + 1 ≤ 12; omega, hL2⟩) (fun _ => prD (fun _ => ih _ _ _ (by omega) hL2) (fun _ => prN))
theorem lawR_f : prP (fun z => z.1 ≤ 12 ∧ ∀ i, i < z.1 → LnG (z.2 i)) (lawR T e) := by
  unfold lawR
  exact prD (fun _ => rdL_f _ _ _ _ (by omega) (fun i hi => by omega)) (fun _ => prI ⟨by show 0 ≤ 12; omega, fun i hi => by have : i < 0 := hi; omega⟩)
/-- what lines say is well made -/
theorem fsy_g {L : Nat → Ln} {n : Nat} (hL : ∀ i, i < n → LnG (L i)) : LvG (fun φ => fsy φ L N1 n) := by
  induction n with
  | zero => exact ⟨fun _ _ _ => rfl, fun _ => Or.inl rfl⟩
  | succ n ih =>
    obtain ⟨i1, i2⟩ := ih (fun i hi => hL i (by omega))
    obtain ⟨l1, l2⟩ := hL n (by omega)
    refine ⟨fun φ ψ h => ?_, fun φ => ?_⟩
    · show sys φ (fsy φ L N1 n) (L n) = sys ψ (fsy ψ L N1 n) (L n)
      have e : fsy φ L N1 n = fsy ψ L N1 n := i1 φ ψ h
      rw [e]
      unfold sys
      rw [propext (l2 φ ψ h)]
    · show sys φ (fsy φ L N1 n) (L n) = N1 ∨ cd (sys φ (fsy φ L N1 n) (L n))
      by_cases z : (L n).2 φ ∧ fsy φ L N1 n = N1
      · rw [show sys φ (fsy φ L N1 n) (L n) = (L n).1 from cI_t z]
        exact Or.inr l1
      · rw [show sys φ (fsy φ L N1 n) (L n) = fsy φ L N1 n from cI_f z]
        exact i2 φ
end
