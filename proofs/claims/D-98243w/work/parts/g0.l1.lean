/-! THE TOWN is read: the pure reading; the model's lines -/
set_option maxRecDepth 100000
/-- a word that must come -/
noncomputable def muR (T : Nat → Int32) (e w a : Nat) : PR Unit := dI (isT T e (sk T e a) w) (.inr ((), sk T e a + tln w)) (.inl (sk T e a))
def habS (S : Nat → Int32) (l g n : Int32) : Nat → Int32 := upd (upd (upd (upd S (20 + 3 * nH S) l) (20 + 3 * nH S + 1) g) (20 + 3 * nH S + 2) n) 4 (nI (nH S + 1))
noncomputable def habR (T : Nat → Int32) (e : Nat) (S : Nat → Int32) (b a : Nat) : PR (Nat → Int32) := dI (nH S = 24) (.inl b) (pX (fgR T e a (nI 0) (S 3 - nI 1)) (fun l a1 => pX (greR T e a1) (fun g a2 => pX (muR T e 34 a2) (fun _ a3 => pX (fgR T e a3 (nI 1) (nI 9)) (fun n a4 => .inr (habS S l g n, a4))))))
/-- what was seen and met of one who is new -/
def seeS (S : Nat → Int32) (p : Nat) : Nat → Nat → Int32 := fu (fun g o => upd (upd (upd (upd g (172 + 10 * p + o) (nI 0)) (272 + 10 * p + o) N1) (172 + 10 * o + p) (nI 0)) (272 + 10 * o + p) N1) S
def perA (S : Nat → Int32) (l g r b : Int32) : Nat → Int32 := upd (upd (upd (upd (upd (upd (upd (upd S (92 + 8 * nP S + 0) l) (92 + 8 * nP S + 1) g) (92 + 8 * nP S + 2) r) (92 + 8 * nP S + 3) b) (92 + 8 * nP S + 4) (nI 0)) (92 + 8 * nP S + 5) (nI 0)) (92 + 8 * nP S + 6) N1) (92 + 8 * nP S + 7) N1
def perS (S : Nat → Int32) (l g r b : Int32) : Nat → Int32 := upd (seeS (perA S l g r b) (nP S) 10) 5 (nI (nP S + 1))
noncomputable def perR (T : Nat → Int32) (e : Nat) (S : Nat → Int32) (b a : Nat) : PR (Nat → Int32) := dI (nP S = 10) (.inl b) (pX (fgR T e a (nI 0) (S 3 - nI 1)) (fun l a1 => pX (greR T e a1) (fun g a2 => pX (muR T e 36 a2) (fun _ a3 => pX (fgR T e a3 (nI 0) (nI 9)) (fun r a4 => pX (muR T e 38 a4) (fun _ a5 => pX (fgR T e a5 (nI 0) (nI 100)) (fun n a6 => .inr (perS S l g r n, a6))))))))
def tieS (S : Nat → Int32) (x y : Int32) : Nat → Int32 := upd (upd (upd S (372 + 2 * nT S) x) (372 + 2 * nT S + 1) y) 6 (nI (nT S + 1))
noncomputable def tieR (T : Nat → Int32) (e : Nat) (S : Nat → Int32) (b a : Nat) : PR (Nat → Int32) := dI (nT S = 24) (.inl b) (pX (fgR T e a (nI 0) (S 5 - nI 1)) (fun x a1 => pX (fgR T e a1 (nI 0) (S 5 - nI 1)) (fun y a2 => dI (x = y ∨ gTd S x y) (.inl (sk T e a1)) (.inr (tieS S x y, a2)))))
noncomputable def coldR (T : Nat → Int32) (e : Nat) (S : Nat → Int32) (a : Nat) : PR (Nat → Int32) := pX (fgR T e a (nI 0) (S 5 - nI 1)) (fun p a1 => .inr (upd S (92 + 8 * p.toNatClampNeg + 4) (nI 1), a1))
noncomputable def telR (T : Nat → Int32) (e : Nat) (S : Nat → Int32) (k a : Nat) : PR (Nat → Int32) := pX (fgR T e a (nI 0) (nI 99)) (fun n a1 => .inr (upd S k n, a1))
noncomputable def lanR (S : Nat → Int32) (b a : Nat) : PR (Nat → Int32) := dI (nL S = 6) (.inl b) (.inr (upd S 3 (nI (nL S + 1)), a))
/-- a line of the town -/
noncomputable def twR (T : Nat → Int32) (e : Nat) (S : Nat → Int32) (a : Nat) : PR (Nat → Int32) := dI (isT T e (sk T e a) 40) (lanR S (sk T e a) (sk T e a + tln 40)) (dI (isT T e (sk T e a) 42) (habR T e S (sk T e a) (sk T e a + tln 42)) (dI (isT T e (sk T e a) 44) (perR T e S (sk T e a) (sk T e a + tln 44)) (dI (isT T e (sk T e a) 46) (coldR T e S (sk T e a + tln 46)) (dI (isT T e (sk T e a) 48) (tieR T e S (sk T e a) (sk T e a + tln 48)) (dI (isT T e (sk T e a) 50) (telR T e S 13 (sk T e a + tln 50)) (dI (isT T e (sk T e a) 52) (telR T e S 14 (sk T e a + tln 52)) (dI (isT T e (sk T e a) 54) (telR T e S 15 (sk T e a + tln 54)) (.inl (sk T e a)))))))))
/-- lines from one on -/
noncomputable def tnL (T : Nat → Int32) (e : Nat) : Nat → Nat → (Nat → Int32) → Nat → PR (Nat → Int32)
  | 0, _, _, a => .inl (sk T e a)
  | f + 1, n, S, a => dI (n = 14) (.inl (sk T e a)) (pX (twR T e S a) (fun S1 a1 => dI (sk T e a1 = e) (.inr (S1, sk T e a1)) (dI (sgP T e a1 59) (tnL T e f (n + 1) S1 (sk T e a1 + 1)) (.inl (sk T e a1)))))
noncomputable def townR (T : Nat → Int32) (e : Nat) (S : Nat → Int32) : PR (Nat → Int32) := dI (sk T e 0 < e) (tnL T e 15 0 S (sk T e 0)) (.inr (S, sk T e 0))
theorem tnL_s (T : Nat → Int32) (e f n : Nat) (S : Nat → Int32) (a : Nat) : tnL T e (f + 1) n S a = dI (n = 14) (.inl (sk T e a)) (pX (twR T e S a) (fun S1 a1 => dI (sk T e a1 = e) (.inr (S1, sk T e a1)) (dI (sgP T e a1 59) (tnL T e f (n + 1) S1 (sk T e a1 + 1)) (.inl (sk T e a1))))) := rfl
/-- the model's row is written -/
def row (σ : Nat → Nat → Int32) (X : Nat → Int32) : Nat → Nat → Int32 := va_up σ 381 X
def PsT (h : MH) (σ : Nat → Nat → Int32) (r : PR (Nat → Int32)) : Outcome → MH → Prop := fun o h1 => match r with
  | .inl c => ∃ a', a' ≤ 1010 ∧ o = .returned none ∧ h1 = hI h (flt (pat σ a') (nI c))
  | .inr z => o = .returned none ∧ h1 = hI h (pat (row σ z.1) z.2)
section
variable {h : MH} {σ : Nat → Nat → Int32} {d : Nat} {T : Nat → Int32} {e : Nat} {φ : Fc} {a : Nat}
theorem row_e (X : Nat → Int32) (b : Nat) : va_up (pat σ b) 381 X = pat (row σ X) b := by
  unfold pat row
  rw [va_cm _ _ _ (by omega), vun _ _ (by omega)]
theorem row_id : row σ (σ 381) = σ := va_id _ _
theorem row_row (X Y : Nat → Int32) : row (row σ X) Y = row σ Y := vuu _ _ _ _
theorem row_a (X : Nat → Int32) : row σ X 381 = X := vus _ _ _
theorem row_m (X : Nat → Int32) {b : Nat} (h : b ≠ 381) : row σ X b = σ b := vun _ _ h
theorem Rs.row (R : Rs h σ T e φ) (h9 : σ 380 9 = N1) (X : Nat → Int32) : Rs h (row σ X) T e φ := by
  obtain ⟨t, c, f, hf⟩ := R
  refine ⟨?_, c.of (fun b hb => row_m X (by omega)), ?_, by rw [row_m _ (by omega)]; exact hf⟩
  · unfold Tx
    rw [row_m _ (by omega), row_m _ (by omega)]
    refine ⟨t.1, t.2.1, Or.inl ⟨h9, ?_⟩⟩
    rcases t.2.2 with q | q
    · exact q.2
    · rw [h9] at q; exact absurd q.1 (by decide)
  · unfold Fa
    rw [row_m _ (by omega), row_m _ (by omega)]
    exact f
theorem Rs.fgY (R : Rs h σ T e φ) (hs : SM h) (hd : 3 ≤ d) (ha : a ≤ e) {lo hi : Int32} {z : Int32 × Nat} (hF : fgR T e a lo hi = .inr z) : RT mX8_figures d [.ref 380, .int lo, .int hi] (hI h (pat σ a)) (some (.int z.1)) (hI h (pat σ z.2)) := by
  have := sX8_figures_r (σ := pat σ a) hs hd (R.1.pat a) ha (pat_a σ a) (R.f a) lo hi
  rw [hF] at this
  refine this.mono ?_
  rintro o h1 ⟨rfl, rfl⟩
  exact ⟨rfl, by rw [pat_pat]⟩
theorem Rs.fgN (R : Rs h σ T e φ) (hs : SM h) (hd : 3 ≤ d) (ha : a ≤ e) {lo hi : Int32} {b : Nat} (hF : fgR T e a lo hi = .inl b) : WPm mX8_figures d [.ref 380, .int lo, .int hi] (hI h (pat σ a)) (fun o h1 => ∃ (a' : Nat) (v : Int32), a' ≤ 1000 ∧ o = .returned (some (.int v)) ∧ h1 = hI h (flt (pat σ a') (nI b))) := by
  have := sX8_figures_r (σ := pat σ a) hs hd (R.1.pat a) ha (pat_a σ a) (R.f a) lo hi
  rw [hF] at this
  refine this.mono ?_
  rintro o h1 ⟨a', v, q, rfl, rfl⟩
  exact ⟨a', v, q, rfl, by rw [pat_pat]⟩
theorem Rs.grY (R : Rs h σ T e φ) (hs : SM h) (hd : 7 ≤ d) (ha : a ≤ e) {z : Int32 × Nat} (hF : greR T e a = .inr z) : RT mX8_greeting d [.ref 380] (hI h (pat σ a)) (some (.int z.1)) (hI h (pat σ z.2)) := by
  have := sX8_greeting_1 (σ := pat σ a) hs hd (R.1.pat a) ha (pat_a σ a) (R.f a) (R.2.1.pat a)
  rw [hF] at this
  refine this.mono ?_
  rintro o h1 ⟨rfl, rfl⟩
  exact ⟨rfl, by rw [pat_pat]⟩
theorem Rs.grN (R : Rs h σ T e φ) (hs : SM h) (hd : 7 ≤ d) (ha : a ≤ e) {b : Nat} (hF : greR T e a = .inl b) : WPm mX8_greeting d [.ref 380] (hI h (pat σ a)) (fun o h1 => ∃ (a' : Nat) (v : Int32), a' ≤ 1000 ∧ o = .returned (some (.int v)) ∧ h1 = hI h (flt (pat σ a') (nI b))) := by
  have := sX8_greeting_1 (σ := pat σ a) hs hd (R.1.pat a) ha (pat_a σ a) (R.f a) (R.2.1.pat a)
  rw [hF] at this
  refine this.mono ?_
  rintro o h1 ⟨a', v, q, rfl, rfl⟩
  exact ⟨a', v, q, rfl, by rw [pat_pat]⟩
theorem Rs.muY (R : Rs h σ T e φ) (hs : SM h) (hd : 6 ≤ d) (ha : a ≤ e) {w : Nat} (i : Nat) (hi : i < 27) (hw : w = 30 + 2 * i) (z : isT T e (sk T e a) w) : RT mX8_must d [.ref 380, .ref w] (hI h (pat σ a)) none (hI h (pat σ (sk T e a + tln w))) := by
  subst hw
  refine (sX8_must_1 (σ := pat σ a) hs hd (R.1.pat a) ha (pat_a σ a) (R.f a) ((R.2.1.pat a) i hi) (by omega)).mono ?_
  rintro o h1 ⟨rfl, q, _⟩
  exact ⟨rfl, by rw [q z, pat_pat]⟩
theorem Rs.muN (R : Rs h σ T e φ) (hs : SM h) (hd : 6 ≤ d) (ha : a ≤ e) {w : Nat} (i : Nat) (hi : i < 27) (hw : w = 30 + 2 * i) (z : ¬ isT T e (sk T e a) w) : RT mX8_must d [.ref 380, .ref w] (hI h (pat σ a)) none (hI h (flt (pat σ (sk T e a)) (nI (sk T e a)))) := by
  subst hw
  refine (sX8_must_1 (σ := pat σ a) hs hd (R.1.pat a) ha (pat_a σ a) (R.f a) ((R.2.1.pat a) i hi) (by omega)).mono ?_
  rintro o h1 ⟨rfl, _, q⟩
  exact ⟨rfl, by rw [q z, pat_pat]⟩
end
