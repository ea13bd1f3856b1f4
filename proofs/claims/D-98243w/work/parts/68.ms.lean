/-! CONSTANTS: the texts of the program -/
set_option maxRecDepth 100000
section
variable {h : MH} {σ : Nat → Nat → Int32} {d : Nat}
def txt (a : Nat) : List Nat := ((cx_txt.getD ((a - 30) / 2) []).map (fun x => x.toNatClampNeg))
def tln (a : Nat) : Nat := (txt a).length
def tch (a k : Nat) : Nat := (txt a).getD k 0
/-- all texts lie where they should -/
def CK (h : MH) (σ : Nat → Nat → Int32) : Prop := ∀ i, i < 27 → Str h σ (30 + 2 * i) (tln (30 + 2 * i)) (tch (30 + 2 * i))
theorem CK.of {τ : Nat → Nat → Int32} (c : CK h σ) (e : ∀ a, a < 300 → τ a = σ a) : CK h τ := by
  intro i hi
  have s := c i hi
  have hl := s.2.1 (by omega)
  unfold Str
  rw [e _ (by omega), e _ hl]
  exact s
theorem CK.pat (c : CK h σ) (a : Nat) : CK h (pat σ a) := c.of (fun b hb => pat_m _ _ (by omega))
theorem CK.flt (c : CK h σ) (f : Int32) : CK h (flt σ f) := c.of (fun b hb => flt_m _ _ (by omega))
end
