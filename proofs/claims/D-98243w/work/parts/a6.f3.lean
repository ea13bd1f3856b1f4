/-! THE COMPONENT WHOLE 3: its invariant -/
set_option maxRecDepth 100000
/-- the component's memory: row S, n acts with rows A, an image I (if im), a tape of t bytes T, a fault f; the law says v, the image's vI -/
def CI (h : MH) (S : Nat → Int32) (n : Nat) (A : Nat → Nat → Int32) (im : Prop) (I : Nat → Int32) (t : Nat) (T : Nat → Int32) (f : Int32) (v vI : LV) : Prop :=
  SH h ∧ WR (iI h) 301 S ∧ (∃ eD cap ws, KP h eD cap n ws A ∧ LwS (FZ (nn h) eD n ws) h (iR h 301 30) (S 1) v ∧ ((im ∧ iI h 300 3 = nI 1 ∧ WR (iI h) 333 I ∧ LwS (FZ (nn h) eD n ws) h (iR h 333 30) (I 1) vI) ∨ (¬ im ∧ iI h 300 3 = nI 0))) ∧ iI h 349 1 = nI t ∧ t ≤ 400 ∧ (∀ k, k < t → iI h 350 k = (T k).toInt8.toInt32) ∧ iI h 349 5 = f
/-- nothing that lasts was written -/
def Ag (h h1 : MH) : Prop := SF h h1 ∧ sU h ≤ sU h1 ∧ (∀ a, (396 ≤ a ∧ a < nn h) ∨ a = 352 → Same h h1 a) ∧ (∀ a, (300 ≤ a ∧ a ≤ 316) ∨ (333 ≤ a ∧ a ≤ 348) → iI h1 a = iI h a) ∧ iR h1 301 30 = iR h 301 30 ∧ iR h1 333 30 = iR h 333 30 ∧ (iI h1 349 1 = iI h 349 1 ∧ iI h1 349 5 = iI h 349 5 ∧ iI h1 350 = iI h 350)
theorem Ag.refl (h : MH) : Ag h h := ⟨SF.refl h, Nat.le_refl _, fun a _ => Same.refl h a, fun _ _ => rfl, rfl, rfl, rfl, rfl, rfl⟩
theorem Ag.trans {h h1 h2 : MH} (a : Ag h h1) (b : Ag h1 h2) : Ag h h2 := by
  obtain ⟨a1, a2, a3, a4, a5, a6, a7, a8, a9⟩ := a
  obtain ⟨b1, b2, b3, b4, b5, b6, b7, b8, b9⟩ := b
  have hn := a1.1
  exact ⟨a1.trans b1, Nat.le_trans a2 b2, fun x hx => (a3 x hx).trans (b3 x (by omega)), fun x hx => (b4 x hx).trans (a4 x hx), b5.trans a5, b6.trans a6, b7.trans a7, b8.trans a8, b9.trans a9⟩
theorem KP.ag {h h1 : MH} {eD cap n : Nat} {ws : Nat → Nat} {A : Nat → Nat → Int32} (k : KP h eD cap n ws A) (g : Ag h h1) (h3 : 396 ≤ nn h) : KP h1 eD cap n ws A := by
  obtain ⟨al, hn, he, kw, kd'⟩ := k
  obtain ⟨a1, a2, a3, a4, a5, a6, a7⟩ := g
  have hnn := a1.1
  have hkl : ∀ a, a < nn h → kd h1 a = kd h a ∧ ln h1 a = ln h a := fun a ha => by
    by_cases z : a < 396
    · exact a1.2.1 a z
    · exact ⟨(a3 a (by omega)).1, (a3 a (by omega)).2.1⟩
  have hs : ∀ i j, i < n → j ≤ 15 → Same h h1 (ws i + j) := fun i j hi hj => by
    obtain ⟨k1, k2, _⟩ := kw i hi
    exact a3 _ (by omega)
  have hee : eD < nn h := by
    obtain ⟨_, _, _, _, _, z, _⟩ := al
    omega
  refine ⟨al.cn hkl hnn (by rw [(a3 352 (by omega)).2.2.1]) (by rw [(a3 352 (by omega)).2.2.2]) (fun i hi => ?_) (by omega), hn, he, fun i hi => ?_, kd'⟩
  · rcases he with e | e
    · exact a1.2.2.1 eD i (by omega) (fun z => by have := z.2; unfold wB at this; omega) (by omega)
    · rw [(a3 eD (by omega)).2.2.2]
  · obtain ⟨k1, k2, k3, k4, k5, k6⟩ := kw i hi
    refine ⟨k1, by omega, k3, k4.sm (fun j hj => hs i j hi hj), k5.sm (fun j hj => hs i j hi hj), ?_⟩
    have := hs i 0 hi (by omega)
    rw [Nat.add_zero] at this
    rw [this.2.2.2, a5]; exact k6
theorem CI.ag {h h1 : MH} {S : Nat → Int32} {n : Nat} {A : Nat → Nat → Int32} {im : Prop} {I : Nat → Int32} {t : Nat} {T : Nat → Int32} {f : Int32} {v vI : LV} (c : CI h S n A im I t T f v vI) (g : Ag h h1) : CI h1 S n A im I t T f v vI := by
  obtain ⟨sh, wr, ⟨eD, cap, ws, kp, lw, li⟩, r1, r2, r3, r4⟩ := c
  have kp' := kp.ag g sh.1
  obtain ⟨a1, a2, a3, a4, a5, a6, a7, a8, a9⟩ := g
  have hF : ∀ a, FZ (nn h) eD n ws a → FZ (nn h1) eD n ws a := fun a ha => ⟨ha.1, Nat.lt_of_lt_of_le ha.2.1 a1.1, ha.2.2⟩
  have hs : ∀ a, (a < 300 ∨ FZ (nn h) eD n ws a) → Same h h1 a := fun a ha => by
    rcases ha with ha | ha
    · refine ⟨(a1.2.1 a (by omega)).1, (a1.2.1 a (by omega)).2, a1.2.2.2 a ha, ?_⟩
      funext k
      exact a1.2.2.1 a k (by omega) (fun z => by have := z.2; unfold wB at this; omega) (by omega)
    · exact a3 a (Or.inl ⟨ha.1, ha.2.1⟩)
  refine ⟨sh.sf a1, wr.of (fun j hj => a4 _ (by omega)), ⟨eD, cap, ws, kp', by rw [a5]; exact lw.of hF hs, ?_⟩, by rw [a7]; exact r1, r2, by rw [a9]; exact r3, by rw [a8]; exact r4⟩
  rcases li with ⟨l1, l2, l3, l4⟩ | ⟨l1, l2⟩
  · exact Or.inl ⟨l1, by rw [a4 300 (by omega)]; exact l2, l3.of (fun j hj => a4 _ (by omega)), by rw [a6]; exact l4.of hF hs⟩
  · exact Or.inr ⟨l1, by rw [a4 300 (by omega)]; exact l2⟩
/-- a cell is made -/
theorem Ag_alc {h : MH} (hn : 396 ≤ nn h) (k n u : Nat) (f : Nat → Int32) (g : Nat → Nat) (j : Nat → Int64) : Ag h (alc h k n u f g j) := by
  have e : ∀ a, a < nn h → Same h (alc h k n u f g j) a := fun a ha => ⟨va_up_ne _ _ (Nat.ne_of_lt ha), va_up_ne _ _ (Nat.ne_of_lt ha), va_up_ne _ _ (Nat.ne_of_lt ha), va_up_ne _ _ (Nat.ne_of_lt ha)⟩
  refine ⟨⟨Nat.le_succ _, fun a ha => ⟨(e a (by omega)).1, (e a (by omega)).2.1⟩, fun a k ha _ _ => by rw [(e a (by omega)).2.2.2], fun a ha => (e a (by omega)).2.2.1⟩, Nat.le_add_right _ _, fun a ha => e a (by omega), fun a ha => (e a (by omega)).2.2.1, by rw [(e 301 (by omega)).2.2.2], by rw [(e 333 (by omega)).2.2.2], by rw [(e 349 (by omega)).2.2.1], by rw [(e 349 (by omega)).2.2.1], (e 350 (by omega)).2.2.1⟩
theorem Ag_ex {h : MH} (hn : 396 ≤ nn h) (k : Nat) : Ag h (ex h k) := Ag_alc hn _ _ _ _ _ _
/-- ints that do not last are written -/
theorem Ag_hI {h : MH} {τ : Nat → Nat → Int32} (e : ∀ a, (a < 317 ∨ (333 ≤ a ∧ a ≤ 348) ∨ a = 350 ∨ a = 352 ∨ 396 ≤ a) → τ a = iI h a) (e1 : τ 349 1 = iI h 349 1) (e5 : τ 349 5 = iI h 349 5) : Ag h (hI h τ) :=
  ⟨⟨Nat.le_refl _, fun _ _ => ⟨rfl, rfl⟩, fun _ _ _ _ _ => rfl, fun a ha => e a (by omega)⟩, Nat.le_refl _, fun a ha => ⟨rfl, rfl, e a (by omega), rfl⟩, fun a ha => e a (by omega), rfl, rfl, e1, e5, e 350 (by omega)⟩
