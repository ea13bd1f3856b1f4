/-! READING: the pure parser of the law -/
set_option maxRecDepth 100000
abbrev PR (α : Type) : Type := Nat ⊕ (α × Nat)
/-- one reading behind another -/
def pX {α β : Type} (r : PR α) (k : α → Nat → PR β) : PR β := match r with
  | .inl b => .inl b
  | .inr z => k z.1 z.2
theorem pX_l {α β : Type} (b : Nat) (k : α → Nat → PR β) : pX (.inl b) k = .inl b := rfl
theorem pX_r {α β : Type} (z : α × Nat) (k : α → Nat → PR β) : pX (.inr z) k = k z.1 z.2 := rfl
abbrev Fc : Type := Nat → Int32
def sgP (T : Nat → Int32) (e a c : Nat) : Prop := sk T e a < e ∧ T (sk T e a) = nI c
/-- where a reading may end: a fault within the text, or further on -/
def okR {α : Type} (e a : Nat) (r : PR α) : Prop := match r with
  | .inl b => b ≤ e
  | .inr z => a < z.2 ∧ z.2 ≤ e
def okW {α : Type} (e a : Nat) (r : PR α) : Prop := match r with
  | .inl b => b ≤ e
  | .inr z => a ≤ z.2 ∧ z.2 ≤ e
section
variable {α β : Type} {e a : Nat}
theorem okX {r : PR α} {k : α → Nat → PR β} (h : okR e a r) (hk : ∀ x a', a < a' → a' ≤ e → okW e a' (k x a')) : okR e a (pX r k) := by
  cases r with
  | inl b => exact h
  | inr z =>
    have h1 : a < z.2 ∧ z.2 ≤ e := h
    have := hk z.1 z.2 h1.1 h1.2
    show okR e a (k z.1 z.2)
    cases hz : k z.1 z.2 with
    | inl b => rw [hz] at this; exact this
    | inr y =>
      rw [hz] at this
      have h2 : z.2 ≤ y.2 ∧ y.2 ≤ e := this
      exact ⟨by omega, h2.2⟩
theorem okXW {r : PR α} {k : α → Nat → PR β} (h : okW e a r) (hk : ∀ x a', a ≤ a' → a' ≤ e → okW e a' (k x a')) : okW e a (pX r k) := by
  cases r with
  | inl b => exact h
  | inr z =>
    have h1 : a ≤ z.2 ∧ z.2 ≤ e := h
    have := hk z.1 z.2 h1.1 h1.2
    show okW e a (k z.1 z.2)
    cases hz : k z.1 z.2 with
    | inl b => rw [hz] at this; exact this
    | inr y =>
      rw [hz] at this
      have h2 : z.2 ≤ y.2 ∧ y.2 ≤ e := this
      exact ⟨by omega, h2.2⟩
theorem okR.W {r : PR α} (h : okR e a r) : okW e a r := by
  cases r with
  | inl b => exact h
  | inr z =>
    have h1 : a < z.2 ∧ z.2 ≤ e := h
    exact ⟨by omega, h1.2⟩
theorem okW.R {r : PR α} {b : Nat} (hab : a < b) (h : okW e b r) : okR e a r := by
  cases r with
  | inl b => exact h
  | inr z =>
    have h1 : b ≤ z.2 ∧ z.2 ≤ e := h
    exact ⟨by omega, h1.2⟩
theorem okW.up {r : PR α} {b : Nat} (hab : a ≤ b) (h : okW e b r) : okW e a r := by
  cases r with
  | inl b => exact h
  | inr z =>
    have h1 : b ≤ z.2 ∧ z.2 ≤ e := h
    exact ⟨by omega, h1.2⟩
theorem okR.up {r : PR α} {b : Nat} (hab : a ≤ b) (h : okR e b r) : okR e a r := by
  cases r with
  | inl b => exact h
  | inr z =>
    have h1 : b < z.2 ∧ z.2 ≤ e := h
    exact ⟨by omega, h1.2⟩
theorem okI {x : α} (h : a ≤ e) : okW e a (.inr (x, a) : PR α) := ⟨Nat.le_refl _, h⟩
theorem okD {P : Prop} {x y : PR α} (h1 : P → okR e a x) (h2 : ¬ P → okR e a y) : okR e a (dI P x y) := by
  by_cases z : P
  · rw [dI_t z]; exact h1 z
  · rw [dI_f z]; exact h2 z
theorem okDW {P : Prop} {x y : PR α} (h1 : P → okW e a x) (h2 : ¬ P → okW e a y) : okW e a (dI P x y) := by
  by_cases z : P
  · rw [dI_t z]; exact h1 z
  · rw [dI_f z]; exact h2 z
end
section
variable (T : Nat → Int32) (e : Nat)
noncomputable def partR (a : Nat) : PR (Fc → Int32) := dI (isD T e (sk T e a)) (pX (fgR T e (sk T e a) (nI 0) (nI 999)) (fun v a' => .inr (fun _ => v, a'))) (dI (isT T e (sk T e a) 66) (.inr (fun φ => φ 0, sk T e a + tln 66)) (dI (isT T e (sk T e a) 68) (.inr (fun φ => φ 1, sk T e a + tln 68)) (dI (isT T e (sk T e a) 36) (.inr (fun φ => φ 2, sk T e a + tln 36)) (dI (isT T e (sk T e a) 70) (.inr (fun φ => φ 3, sk T e a + tln 70)) (dI (isT T e (sk T e a) 72) (.inr (fun φ => φ 4, sk T e a + tln 72)) (dI (isT T e (sk T e a) 74) (.inr (fun φ => φ 5, sk T e a + tln 74)) (.inl (sk T e a))))))))
noncomputable def sumL : Nat → (Fc → Int32) → Nat → PR (Fc → Int32)
  | 0, v, a => .inr (v, a)
  | f + 1, v, a => dI (sgP T e a 43) (pX (partR T e (sk T e a + 1)) (fun w a2 => sumL f (fun φ => v φ + w φ) a2)) (.inr (v, sk T e a))
noncomputable def sumR (a : Nat) : PR (Fc → Int32) := pX (partR T e a) (fun v a1 => sumL T e (e + 1) v a1)
noncomputable def cmpR (v : Fc → Int32) (a1 : Nat) : PR (Fc → Prop) := dI (sgP T e a1 60) (pX (sumR T e (sk T e a1 + 1)) (fun w a2 => .inr (fun φ => v φ < w φ, a2))) (dI (sgP T e a1 62) (pX (sumR T e (sk T e a1 + 1)) (fun w a2 => .inr (fun φ => w φ < v φ, a2))) (.inl (sk T e a1)))
noncomputable def plainR (a : Nat) : PR (Fc → Prop) := dI (isT T e (sk T e a) 58) (.inr (fun φ => φ 6 = nI 1, sk T e a + tln 58)) (dI (isT T e (sk T e a) 46) (.inr (fun φ => φ 7 = nI 1, sk T e a + tln 46)) (pX (sumR T e (sk T e a)) (cmpR T e)))
noncomputable def anyL (A : Nat → PR (Fc → Prop)) (w : Nat) (op : Prop → Prop → Prop) : Nat → (Fc → Prop) → Nat → PR (Fc → Prop)
  | 0, v, a => .inr (v, a)
  | f + 1, v, a => dI (isT T e (sk T e a) w) (pX (A (sk T e a + tln w)) (fun u a2 => anyL A w op f (fun φ => op (v φ) (u φ)) a2)) (.inr (v, sk T e a))
noncomputable def evR (A : Nat → PR (Fc → Prop)) (a : Nat) : PR (Fc → Prop) := pX (A a) (fun v a1 => anyL T e A 60 And (e + 1) v a1)
noncomputable def smR (A : Nat → PR (Fc → Prop)) (a : Nat) : PR (Fc → Prop) := pX (evR T e A a) (fun v a1 => anyL T e (evR T e A) 62 Or (e + 1) v a1)
/-- a condition ahead of a closing sign -/
noncomputable def clsR (v : Fc → Prop) (a2 : Nat) : PR (Fc → Prop) := dI (sgP T e a2 41) (.inr (v, sk T e a2 + 1)) (.inl (sk T e a2))
/-- an atom; so many levels are left -/
noncomputable def atR : Nat → Nat → PR (Fc → Prop)
  | 0, a => dI (isT T e (sk T e a) 56) (.inl (sk T e a)) (dI (sgP T e (sk T e a) 40) (.inl (sk T e a)) (plainR T e (sk T e a)))
  | n + 1, a => dI (isT T e (sk T e a) 56) (pX (atR n (sk T e a + tln 56)) (fun v a2 => .inr (fun φ => ¬ v φ, a2))) (dI (sgP T e (sk T e a) 40) (pX (smR T e (atR n) (sk T e a + 1)) (clsR T e)) (plainR T e (sk T e a)))
abbrev Ln : Type := Int32 × (Fc → Prop)
/-- a line of the law -/
noncomputable def ifR (g : Int32) (a1 : Nat) : PR Ln := dI (isT T e (sk T e a1) 64) (pX (smR T e (atR T e 6) (sk T e a1 + tln 64)) (fun v a2 => .inr ((g, v), a2))) (.inr ((g, fun _ => True), sk T e a1))
noncomputable def llR (a : Nat) : PR Ln := pX (greR T e a) (ifR T e)
/-- the lines from one on -/
noncomputable def rdL : Nat → Nat → (Nat → Ln) → Nat → PR (Nat × (Nat → Ln))
  | 0, _, _, a => .inl (sk T e a)
  | f + 1, n, L, a => dI (n = 12) (.inl (sk T e a)) (pX (llR T e a) (fun l a1 => dI (sk T e a1 = e) (.inr ((n + 1, va_up L n l), sk T e a1)) (dI (sgP T e a1 59) (rdL f (n + 1) (va_up L n l) (sk T e a1 + 1)) (.inl (sk T e a1)))))
noncomputable def lawR : PR (Nat × (Nat → Ln)) := dI (sk T e 0 < e) (rdL T e 13 0 (fun _ => (nI 0, fun _ => True)) (sk T e 0)) (.inr ((0, fun _ => (nI 0, fun _ => True)), sk T e 0))
end
section
variable {T : Nat → Int32} {e : Nat}
theorem sumL_s (f : Nat) (v : Fc → Int32) (a : Nat) : sumL T e (f + 1) v a = dI (sgP T e a 43) (pX (partR T e (sk T e a + 1)) (fun w a2 => sumL T e f (fun φ => v φ + w φ) a2)) (.inr (v, sk T e a)) := rfl
theorem anyL_s (A : Nat → PR (Fc → Prop)) (w : Nat) (op : Prop → Prop → Prop) (f : Nat) (v : Fc → Prop) (a : Nat) : anyL T e A w op (f + 1) v a = dI (isT T e (sk T e a) w) (pX (A (sk T e a + tln w)) (fun u a2 => anyL T e A w op f (fun φ => op (v φ) (u φ)) a2)) (.inr (v, sk T e a)) := rfl
theorem rdL_s (f n : Nat) (L : Nat → Ln) (a : Nat) : rdL T e (f + 1) n L a = dI (n = 12) (.inl (sk T e a)) (pX (llR T e a) (fun l a1 => dI (sk T e a1 = e) (.inr ((n + 1, va_up L n l), sk T e a1)) (dI (sgP T e a1 59) (rdL T e f (n + 1) (va_up L n l) (sk T e a1 + 1)) (.inl (sk T e a1))))) := rfl
theorem atR_0 (a : Nat) : atR T e 0 a = dI (isT T e (sk T e a) 56) (.inl (sk T e a)) (dI (sgP T e (sk T e a) 40) (.inl (sk T e a)) (plainR T e (sk T e a))) := rfl
theorem atR_s (n a : Nat) : atR T e (n + 1) a = dI (isT T e (sk T e a) 56) (pX (atR T e n (sk T e a + tln 56)) (fun v a2 => .inr (fun φ => ¬ v φ, a2))) (dI (sgP T e (sk T e a) 40) (pX (smR T e (atR T e n) (sk T e a + 1)) (clsR T e)) (plainR T e (sk T e a))) := rfl
theorem skl {a : Nat} (ha : a ≤ e) : a ≤ sk T e a ∧ sk T e a ≤ e := sk_le (T := T) (e := e) (e - a) a (by omega)
theorem tln_p : ∀ i, i < 27 → 2 ≤ tln (30 + 2 * i) := by decide
theorem wd_ok {α : Type} {a w : Nat} (ha : a ≤ e) (hw : 0 < tln w) (z : isT T e (sk T e a) w) (x : α) : okR e a (.inr (x, sk T e a + tln w) : PR α) := by
  have h1 := skl (T := T) ha
  have h2 := isT_le h1.2 z
  exact ⟨by show a < sk T e a + tln w; omega, h2⟩
theorem fgR_ok {a : Nat} (ha : a ≤ e) (lo hi : Int32) : okR e a (fgR T e a lo hi) := by
  cases hr : fgR T e a lo hi with
  | inl b =>
    unfold fgR at hr
    by_cases hb : fgBad T (sk T e a) (nDg T e 4 (sk T e a)) lo hi
    · rw [dI_t hb] at hr; cases hr; exact (skl ha).2
    · rw [dI_f hb] at hr; cases hr
  | inr z =>
    obtain ⟨v, a2⟩ := z
    have := fgR_le ha hr
    exact ⟨this.2, this.1⟩
theorem greR_x (a : Nat) : greR T e a = dI (isT T e (sk T e a) 76) (.inr (nI 0, sk T e a + tln 76)) (dI (isT T e (sk T e a) 78) (.inr (nI 8, sk T e a + tln 78)) (dI (isT T e (sk T e a) 82) (.inr (nI 24, sk T e a + tln 82)) (dI (isT T e (sk T e a) 80) (pX (fgR T e (sk T e a + tln 80) (nI 1) (nI 4)) (kisR T e)) (.inl (sk T e a))))) := by
  have e1 : tln 76 = 4 := by decide
  have e2 : tln 78 = 4 := by decide
  have e3 : tln 82 = 7 := by decide
  have e4 : tln 80 = 4 := by decide
  rw [e1, e2, e3, e4]
  have : ∀ r : PR Int32, pB r (kisR T e) = pX r (kisR T e) := fun r => by cases r <;> rfl
  unfold greR
  rw [this]
theorem kisR_x (v : Int32) (a : Nat) : kisR T e v a = dI (isT T e (sk T e a) 32) (.inr (nI 14 + nI 2 * v + nI 1, sk T e a + tln 32)) (dI (isT T e (sk T e a) 30) (.inr (nI 14 + nI 2 * v + nI 0, sk T e a + tln 30)) (.inl (sk T e a))) := by
  have e1 : tln 32 = 5 := by decide
  have e2 : tln 30 = 4 := by decide
  rw [e1, e2]
  rfl
theorem kisR_ok {a : Nat} (ha : a ≤ e) (v : Int32) : okR e a (kisR T e v a) := by
  rw [kisR_x]
  exact okD (fun z => wd_ok ha (by decide) z _) (fun _ => okD (fun z => wd_ok ha (by decide) z _) (fun _ => (skl ha).2))
theorem greR_ok {a : Nat} (ha : a ≤ e) : okR e a (greR T e a) := by
  rw [greR_x]
  have hl := skl (T := T) ha
  refine okD (fun z => wd_ok ha (by decide) z _) (fun _ => okD (fun z => wd_ok ha (by decide) z _) (fun _ => okD (fun z => wd_ok ha (by decide) z _) (fun _ => okD (fun z => ?_) (fun _ => hl.2))))
  have hb := isT_le hl.2 z
  exact okR.up (by omega) (okX (fgR_ok hb _ _) (fun x a' h1 h2 => (kisR_ok h2 x).W))
theorem partR_ok {a : Nat} (ha : a ≤ e) : okR e a (partR T e a) := by
  have hl := skl (T := T) ha
  unfold partR
  refine okD (fun z => okR.up hl.1 (okX (fgR_ok hl.2 _ _) (fun x a' h1 h2 => okI h2))) (fun _ => okD (fun z => wd_ok ha (by decide) z _) (fun _ => okD (fun z => wd_ok ha (by decide) z _) (fun _ => okD (fun z => wd_ok ha (by decide) z _) (fun _ => okD (fun z => wd_ok ha (by decide) z _) (fun _ => okD (fun z => wd_ok ha (by decide) z _) (fun _ => okD (fun z => wd_ok ha (by decide) z _) (fun _ => hl.2)))))))
theorem sumL_ok (f : Nat) : ∀ (v : Fc → Int32) {a : Nat}, a ≤ e → okW e a (sumL T e f v a) := by
  induction f with
  | zero => intro v a ha; exact ⟨Nat.le_refl _, ha⟩
  | succ f ih =>
    intro v a ha
    have hl := skl (T := T) ha
    rw [sumL_s]
    refine okDW (fun z => ?_) (fun _ => ⟨hl.1, hl.2⟩)
    have h1 : sk T e a + 1 ≤ e := z.1
    exact okW.up (by omega) (okR.W (okX (partR_ok h1) (fun x a' _ h2 => ih _ h2)))
theorem sumR_ok {a : Nat} (ha : a ≤ e) : okR e a (sumR T e a) := okX (partR_ok ha) (fun x a' _ h2 => sumL_ok _ _ h2)
theorem cmpR_ok {a : Nat} (ha : a ≤ e) (v : Fc → Int32) : okR e a (cmpR T e v a) := by
  have hl := skl (T := T) ha
  unfold cmpR
  refine okD (fun z => ?_) (fun _ => okD (fun z => ?_) (fun _ => hl.2))
  · have h1 : sk T e a + 1 ≤ e := z.1
    exact okR.up (by omega) (okX (sumR_ok h1) (fun x a' _ h2 => okI h2))
  · have h1 : sk T e a + 1 ≤ e := z.1
    exact okR.up (by omega) (okX (sumR_ok h1) (fun x a' _ h2 => okI h2))
theorem plainR_ok {a : Nat} (ha : a ≤ e) : okR e a (plainR T e a) := by
  have hl := skl (T := T) ha
  unfold plainR
  exact okD (fun z => wd_ok ha (by decide) z _) (fun _ => okD (fun z => wd_ok ha (by decide) z _) (fun _ => okR.up hl.1 (okX (sumR_ok hl.2) (fun x a' _ h2 => (cmpR_ok h2 x).W))))
theorem anyL_ok {A : Nat → PR (Fc → Prop)} (hA : ∀ a, a ≤ e → okR e a (A a)) (w : Nat) (op : Prop → Prop → Prop) (f : Nat) : ∀ (v : Fc → Prop) {a : Nat}, a ≤ e → okW e a (anyL T e A w op f v a) := by
  induction f with
  | zero => intro v a ha; exact ⟨Nat.le_refl _, ha⟩
  | succ f ih =>
    intro v a ha
    have hl := skl (T := T) ha
    rw [anyL_s]
    refine okDW (fun z => ?_) (fun _ => ⟨hl.1, hl.2⟩)
    exact okW.up (by omega) (okR.W (okX (hA _ (isT_le hl.2 z)) (fun x a' _ h2 => ih _ h2)))
theorem evR_ok {A : Nat → PR (Fc → Prop)} (hA : ∀ a, a ≤ e → okR e a (A a)) {a : Nat} (ha : a ≤ e) : okR e a (evR T e A a) := okX (hA a ha) (fun x a' _ h2 => anyL_ok hA _ _ _ _ h2)
theorem smR_ok {A : Nat → PR (Fc → Prop)} (hA : ∀ a, a ≤ e → okR e a (A a)) {a : Nat} (ha : a ≤ e) : okR e a (smR T e A a) := okX (evR_ok hA ha) (fun x a' _ h2 => anyL_ok (fun a h => evR_ok hA h) _ _ _ _ h2)
theorem clsR_ok {a : Nat} (ha : a ≤ e) (v : Fc → Prop) : okR e a (clsR T e v a) := by
  have hl := skl (T := T) ha
  unfold clsR
  refine okD (fun z => ?_) (fun _ => hl.2)
  have h1 : sk T e a + 1 ≤ e := z.1
  exact ⟨by show a < sk T e a + 1; omega, h1⟩
theorem atR_ok (n : Nat) : ∀ a, a ≤ e → okR e a (atR T e n a) := by
  induction n with
  | zero =>
    intro a ha
    have hl := skl (T := T) ha
    rw [atR_0]
    exact okD (fun _ => hl.2) (fun _ => okD (fun _ => hl.2) (fun _ => (plainR_ok hl.2).up hl.1))
  | succ n ih =>
    intro a ha
    have hl := skl (T := T) ha
    rw [atR_s]
    refine okD (fun z => ?_) (fun _ => okD (fun z => ?_) (fun _ => (plainR_ok hl.2).up hl.1))
    · exact okR.up (by omega) (okX (ih _ (isT_le hl.2 z)) (fun x a' _ h2 => okI h2))
    · have h1 : sk T e a + 1 ≤ e := by have := z.1; rw [sk_sk ha] at this; exact this
      exact okR.up (by omega) (okX (smR_ok ih h1) (fun x a' _ h2 => (clsR_ok h2 x).W))
theorem ifR_ok {a : Nat} (ha : a ≤ e) (g : Int32) : okW e a (ifR T e g a) := by
  have hl := skl (T := T) ha
  unfold ifR
  refine okDW (fun z => ?_) (fun _ => ⟨hl.1, hl.2⟩)
  exact okW.up (by omega) (okR.W (okX (smR_ok (atR_ok 6) (isT_le hl.2 z)) (fun x a' _ h2 => okI h2)))
theorem llR_ok {a : Nat} (ha : a ≤ e) : okR e a (llR T e a) := okX (greR_ok ha) (fun x a' _ h2 => ifR_ok h2 x)
theorem rdL_ok (f : Nat) : ∀ (n : Nat) (L : Nat → Ln) {a : Nat}, a ≤ e → okR e a (rdL T e f n L a) := by
  induction f with
  | zero => intro n L a ha; exact (skl ha).2
  | succ f ih =>
    intro n L a ha
    have hl := skl (T := T) ha
    rw [rdL_s]
    refine okD (fun _ => hl.2) (fun _ => okX (llR_ok ha) (fun x a' _ h2 => ?_))
    have hl2 := skl (T := T) h2
    refine okDW (fun _ => ⟨hl2.1, hl2.2⟩) (fun _ => okDW (fun z => ?_) (fun _ => hl2.2))
    have h1 : sk T e a' + 1 ≤ e := z.1
    exact (ih _ _ h1).W.up (by omega)
end
