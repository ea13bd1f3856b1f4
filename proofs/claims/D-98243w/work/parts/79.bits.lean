/-! BITS of Int32 (the first rows began as rows of the kit's BITS.to-paste) -/
set_option maxRecDepth 100000
def bt (x : Int32) (i : Nat) : Bool := x.toBitVec.getLsbD i
theorem b_ext {x y : Int32} (h : ∀ i, i < 32 → bt x i = bt y i) : x = y := Int32.toBitVec_inj.mp (BitVec.eq_of_getLsbD_eq (fun i hi => h i hi))
theorem b_or (x y : Int32) (i : Nat) : bt (x ||| y) i = (bt x i || bt y i) := by unfold bt; rw [Int32.toBitVec_or, BitVec.getLsbD_or]
theorem b_and (x y : Int32) (i : Nat) : bt (x &&& y) i = (bt x i && bt y i) := by unfold bt; rw [Int32.toBitVec_and, BitVec.getLsbD_and]
theorem b_xor (x y : Int32) (i : Nat) : bt (x ^^^ y) i = (bt x i ^^ bt y i) := by unfold bt; rw [Int32.toBitVec_xor, BitVec.getLsbD_xor]
theorem b_0 (i : Nat) : bt (nI 0) i = false := BitVec.getLsbD_zero
theorem s_l : ∀ n, n < 32 → ((nI n &&& 31).toBitVec.smod 32).toNat = n := by decide +kernel
theorem b_sshr (n : Nat) (hn : n < 32) (x : Int32) {i : Nat} (hi : i < 32) : bt (x >>> (nI n &&& 31)) i = if n + i < 32 then bt x (n + i) else bt x 31 := by
  unfold bt
  rw [Int32.toBitVec_shiftRight]
  show (x.toBitVec.sshiftRight ((nI n &&& 31).toBitVec.smod 32).toNat).getLsbD i = _
  rw [s_l n hn, BitVec.getLsbD_sshiftRight, BitVec.msb_eq_getLsbD_last]
  simp [hi]
theorem bt1 : ∀ i, i < 32 → bt (nI 1) i = decide (i = 0) := by decide +kernel
theorem hasB_bt (s : Int32) {k : Nat} (hk : k < 32) : hasB s k ↔ bt s k = true := by
  have e : s >>> nI k = s >>> (nI k &&& 31) := by rw [show nI k &&& (31 : Int32) = nI k from m31 hk]
  unfold hasB
  rw [e]
  constructor
  · intro h
    have := congrArg (fun z => bt z 0) h
    simp only [b_and, bt1 0 (by omega), b_sshr k hk s (i := 0) (by omega), Nat.add_zero, if_pos hk] at this
    simpa using this
  · intro h
    apply b_ext
    intro i hi
    rw [b_and, bt1 i hi, b_sshr k hk s hi]
    by_cases e0 : i = 0
    · subst e0; rw [Nat.add_zero, if_pos hk, h]; rfl
    · rw [decide_eq_false e0, Bool.and_false]
theorem bt_sh {a i : Nat} (ha : a < 32) (hi : i < 32) : bt (nI 1 <<< nI a) i = decide (i = a) := by
  have : ∀ a : Fin 32, ∀ i : Fin 32, bt (nI 1 <<< nI a.val) i.val = decide (i.val = a.val) := by decide +kernel
  exact this ⟨a, ha⟩ ⟨i, hi⟩
theorem bt_all {n i : Nat} (hn : n ≤ 10) (hi : i < 32) : bt (nI 1 <<< nI n - nI 1) i = decide (i < n) := by
  have : ∀ n : Fin 11, ∀ i : Fin 32, bt (nI 1 <<< nI n.val - nI 1) i.val = decide (i.val < n.val) := by decide +kernel
  exact this ⟨n, by omega⟩ ⟨i, hi⟩
theorem bt_nI {s i : Nat} (hi : i < 32) : bt (nI s) i = s.testBit i := by
  unfold bt
  show (BitVec.ofNat 32 s).getLsbD i = _
  rw [BitVec.getLsbD_ofNat]
  simp [hi]
theorem and0 {x y : Int32} : x &&& y = nI 0 ↔ ∀ i, i < 32 → ¬ (bt x i = true ∧ bt y i = true) := by
  constructor
  · intro h i hi
    have := congrArg (fun z => bt z i) h
    simp only [b_and, b_0] at this
    rintro ⟨h1, h2⟩
    rw [h1, h2] at this
    cases this
  · intro h
    apply b_ext
    intro i hi
    rw [b_and, b_0]
    have := h i hi
    cases h1 : bt x i <;> cases h2 : bt y i <;> simp_all
theorem hasB_or (x y : Int32) {k : Nat} (hk : k < 32) : hasB (x ||| y) k ↔ hasB x k ∨ hasB y k := by
  rw [hasB_bt _ hk, hasB_bt _ hk, hasB_bt _ hk, b_or, Bool.or_eq_true]
theorem hasB_and (x y : Int32) {k : Nat} (hk : k < 32) : hasB (x &&& y) k ↔ hasB x k ∧ hasB y k := by
  rw [hasB_bt _ hk, hasB_bt _ hk, hasB_bt _ hk, b_and, Bool.and_eq_true]
theorem hasB_sh {a k : Nat} (ha : a < 32) (hk : k < 32) : hasB (nI 1 <<< nI a) k ↔ k = a := by
  rw [hasB_bt _ hk, bt_sh ha hk, decide_eq_true_iff]
theorem and0B {x y : Int32} : x &&& y = nI 0 ↔ ∀ i, i < 32 → ¬ (hasB x i ∧ hasB y i) := by
  rw [and0]
  exact ⟨fun h i hi z => h i hi ⟨(hasB_bt _ hi).mp z.1, (hasB_bt _ hi).mp z.2⟩, fun h i hi z => h i hi ⟨(hasB_bt _ hi).mpr z.1, (hasB_bt _ hi).mpr z.2⟩⟩
theorem hasB_ext {x y : Int32} (h : ∀ i, i < 32 → (hasB x i ↔ hasB y i)) : x = y := by
  apply b_ext
  intro i hi
  have := h i hi
  rw [hasB_bt _ hi, hasB_bt _ hi] at this
  cases h1 : bt x i <;> cases h2 : bt y i <;> simp_all
theorem hasB_all {n i : Nat} (hn : n ≤ 10) (hi : i < 32) : hasB (nI 1 <<< nI n - nI 1) i ↔ i < n := by
  rw [hasB_bt _ hi, bt_all hn hi, decide_eq_true_iff]
/-! ties -/
def ta (S : Nat → Int32) (k : Nat) : Nat := (S (372 + 2 * k)).toNatClampNeg
def tb (S : Nat → Int32) (k : Nat) : Nat := (S (372 + 2 * k + 1)).toNatClampNeg
/-- ties are of two people -/
def It (S : Nat → Int32) : Prop := ∀ k, k < nT S → (S (372 + 2 * k) = nI (ta S k) ∧ S (372 + 2 * k + 1) = nI (tb S k)) ∧ ta S k < nP S ∧ tb S k < nP S ∧ ¬ ta S k = tb S k
theorem bo_h {S : Nat → Int32} (hi : Ic S) (t : It S) {k : Nat} (hk : k < nT S) {i : Nat} (h32 : i < 32) : hasB (bo S k) i ↔ i = ta S k ∨ i = tb S k := by
  obtain ⟨⟨e1, e2⟩, h1, h2, _⟩ := t k hk
  have hP := hi.2.2.1.2
  unfold bo
  rw [e1, e2, m31 (by omega), m31 (by omega), hasB_or _ _ h32, hasB_sh (by omega) h32, hasB_sh (by omega) h32]
