/-! THE FLAT MEMORY and its relation to the machine's heap -/
set_option maxRecDepth 100000
abbrev MH : Type := (Nat → Nat) × (Nat → Nat) × Nat × (Nat → Nat → Int32) × (Nat → Nat → Nat) × (Nat → Nat → Int64) × Nat
def kd (h : MH) : Nat → Nat := h.1
def ln (h : MH) : Nat → Nat := h.2.1
def nn (h : MH) : Nat := h.2.2.1
def iI (h : MH) : Nat → Nat → Int32 := h.2.2.2.1
def iR (h : MH) : Nat → Nat → Nat := h.2.2.2.2.1
def iJ (h : MH) : Nat → Nat → Int64 := h.2.2.2.2.2.1
def sU (h : MH) : Nat := h.2.2.2.2.2.2
def stI (h : MH) (a : Nat) (f : Nat → Int32) : MH := (h.1, h.2.1, h.2.2.1, va_up h.2.2.2.1 a f, h.2.2.2.2)
def stR (h : MH) (a : Nat) (f : Nat → Nat) : MH := (h.1, h.2.1, h.2.2.1, h.2.2.2.1, va_up h.2.2.2.2.1 a f, h.2.2.2.2.2)
def stJ (h : MH) (a : Nat) (f : Nat → Int64) : MH := (h.1, h.2.1, h.2.2.1, h.2.2.2.1, h.2.2.2.2.1, va_up h.2.2.2.2.2.1 a f, h.2.2.2.2.2.2)
def alc (h : MH) (k n u : Nat) (f : Nat → Int32) (g : Nat → Nat) (j : Nat → Int64) : MH :=
  (va_up h.1 h.2.2.1 k, va_up h.2.1 h.2.2.1 n, h.2.2.1 + 1, va_up h.2.2.2.1 h.2.2.1 f, va_up h.2.2.2.2.1 h.2.2.1 g, va_up h.2.2.2.2.2.1 h.2.2.1 j, h.2.2.2.2.2.2 + u)
theorem kd_stI (h : MH) (a : Nat) (f : Nat → Int32) : kd (stI h a f) = kd h := rfl
theorem ln_stI (h : MH) (a : Nat) (f : Nat → Int32) : ln (stI h a f) = ln h := rfl
theorem nn_stI (h : MH) (a : Nat) (f : Nat → Int32) : nn (stI h a f) = nn h := rfl
theorem iI_stI (h : MH) (a : Nat) (f : Nat → Int32) : iI (stI h a f) = va_up (iI h) a f := rfl
theorem iR_stI (h : MH) (a : Nat) (f : Nat → Int32) : iR (stI h a f) = iR h := rfl
theorem iJ_stI (h : MH) (a : Nat) (f : Nat → Int32) : iJ (stI h a f) = iJ h := rfl
theorem sU_stI (h : MH) (a : Nat) (f : Nat → Int32) : sU (stI h a f) = sU h := rfl
theorem kd_stR (h : MH) (a : Nat) (f : Nat → Nat) : kd (stR h a f) = kd h := rfl
theorem ln_stR (h : MH) (a : Nat) (f : Nat → Nat) : ln (stR h a f) = ln h := rfl
theorem nn_stR (h : MH) (a : Nat) (f : Nat → Nat) : nn (stR h a f) = nn h := rfl
theorem iI_stR (h : MH) (a : Nat) (f : Nat → Nat) : iI (stR h a f) = iI h := rfl
theorem iR_stR (h : MH) (a : Nat) (f : Nat → Nat) : iR (stR h a f) = va_up (iR h) a f := rfl
theorem iJ_stR (h : MH) (a : Nat) (f : Nat → Nat) : iJ (stR h a f) = iJ h := rfl
theorem sU_stR (h : MH) (a : Nat) (f : Nat → Nat) : sU (stR h a f) = sU h := rfl
theorem kd_stJ (h : MH) (a : Nat) (f : Nat → Int64) : kd (stJ h a f) = kd h := rfl
theorem ln_stJ (h : MH) (a : Nat) (f : Nat → Int64) : ln (stJ h a f) = ln h := rfl
theorem nn_stJ (h : MH) (a : Nat) (f : Nat → Int64) : nn (stJ h a f) = nn h := rfl
theorem iI_stJ (h : MH) (a : Nat) (f : Nat → Int64) : iI (stJ h a f) = iI h := rfl
theorem iR_stJ (h : MH) (a : Nat) (f : Nat → Int64) : iR (stJ h a f) = iR h := rfl
theorem iJ_stJ (h : MH) (a : Nat) (f : Nat → Int64) : iJ (stJ h a f) = va_up (iJ h) a f := rfl
theorem sU_stJ (h : MH) (a : Nat) (f : Nat → Int64) : sU (stJ h a f) = sU h := rfl
theorem kd_alc (h : MH) (k n u : Nat) (f : Nat → Int32) (g : Nat → Nat) (j : Nat → Int64) : kd (alc h k n u f g j) = va_up (kd h) (nn h) k := rfl
theorem ln_alc (h : MH) (k n u : Nat) (f : Nat → Int32) (g : Nat → Nat) (j : Nat → Int64) : ln (alc h k n u f g j) = va_up (ln h) (nn h) n := rfl
theorem nn_alc (h : MH) (k n u : Nat) (f : Nat → Int32) (g : Nat → Nat) (j : Nat → Int64) : nn (alc h k n u f g j) = nn h + 1 := rfl
theorem iI_alc (h : MH) (k n u : Nat) (f : Nat → Int32) (g : Nat → Nat) (j : Nat → Int64) : iI (alc h k n u f g j) = va_up (iI h) (nn h) f := rfl
theorem iR_alc (h : MH) (k n u : Nat) (f : Nat → Int32) (g : Nat → Nat) (j : Nat → Int64) : iR (alc h k n u f g j) = va_up (iR h) (nn h) g := rfl
theorem iJ_alc (h : MH) (k n u : Nat) (f : Nat → Int32) (g : Nat → Nat) (j : Nat → Int64) : iJ (alc h k n u f g j) = va_up (iJ h) (nn h) j := rfl
theorem sU_alc (h : MH) (k n u : Nat) (f : Nat → Int32) (g : Nat → Nat) (j : Nat → Int64) : sU (alc h k n u f g j) = sU h + u := rfl
/-- the first address of what the run itself makes; below lie the constants -/
def cx_K0 : Nat := 300
/-- what is fixed in a run: slots of the classes, the array classes, the heap's size at the start, where the constants lie -/
abbrev cx_G : Type := va_G × (Nat → ClassId) × Nat × (Nat → Nat) × MH
def cx_A (G : cx_G) : Nat → Prop := fun q => G.2.2.1 ≤ q
def cx_tys (G : cx_G) : List (ClassId × FieldType) := (List.range 8).map (fun t => (G.2.1 t, cx_tk t))
def reV (ρ : Nat → Nat) (v : Value) : Value := match v with
  | .ref a => if a = 0 then .null else .ref (ρ a)
  | w => w
def rfO (ρ : Nat → Nat) (a : Nat) : Option Nat := if a = 0 then none else some (ρ a)
theorem reV_rfO (ρ : Nat → Nat) (a : Nat) : reV ρ (.ref a) = va_rf (rfO ρ a) := by
  unfold reV rfO
  by_cases h : a = 0 <;> simp [h, va_rf]
def fdV (ρ : Nat → Nat) (h : MH) (a ci k : Nat) : Value := match cx_rk (cx_ft ci k) with
  | 0 => .int (iI h a k)
  | 1 => .long (iJ h a k)
  | _ => reV ρ (.ref (iR h a k))
def arC (ρ : Nat → Nat) (h : MH) (a t : Nat) : (Nat → Int32) ⊕ (Nat → Int64) ⊕ (Nat → UInt32) ⊕ (Nat → UInt64) ⊕ (Nat → Option Nat) := match cx_rk (cx_tk t) with
  | 0 => .inl (iI h a)
  | 1 => .inr (.inl (iJ h a))
  | _ => .inr (.inr (.inr (.inr (fun i => rfO ρ (iR h a i)))))
def cx_N (ci : Nat) : Nat := (cx_cl.getD ci ("", cx_T0, 0)).2.2
def cnE (G : cx_G) (ρ : Nat → Nat) (h : MH) (a : Nat) : va_E :=
  if kd h a < 50 then .inr (kd h a, (List.range (cx_N (kd h a))).map (fdV ρ h a (kd h a))) else .inl (G.2.1 (kd h a - 50), ln h a, arC ρ h a (kd h a - 50))
def fitB (h : MH) (a : Nat) : Prop := (kd h a = 51 → ∀ i, fits .byte (.int (iI h a i)) = true) ∧ (kd h a = 52 → ∀ i, fits .boolean (.int (iI h a i)) = true)
/-- the constants are as at the start -/
def oldC (G : cx_G) (ρ : Nat → Nat) (h : MH) (a : Nat) : Prop := ρ a = G.2.2.2.1 a ∧ kd h a = kd G.2.2.2.2 a ∧ ln h a = ln G.2.2.2.2 a ∧ iI h a = iI G.2.2.2.2 a ∧ iR h a = iR G.2.2.2.2 a ∧ iJ h a = iJ G.2.2.2.2 a
/-- the heap holds the flat memory -/
def Cn (G : cx_G) (ρ : Nat → Nat) (h : MH) (H : Heap) : Prop :=
  (∀ a, cx_K0 ≤ a → kd h a ≠ 0 → kd h a < 58 ∧ va_at G.1 cx_cl (ρ a, cnE G ρ h a) H) ∧
  (∀ a b, kd h a ≠ 0 → kd h b ≠ 0 → ρ a = ρ b → a = b) ∧
  (∀ a, kd h a ≠ 0 → 0 < a ∧ a < nn h ∧ (a < cx_K0 → ρ a < G.2.2.1) ∧ (cx_K0 ≤ a → G.2.2.1 ≤ ρ a)) ∧
  (∀ a, cx_K0 ≤ a → a < nn h → kd h a ≠ 0) ∧ (∀ a i, iR h a i < nn h) ∧ (∀ a, fitB h a) ∧ cx_K0 ≤ nn h ∧ (∀ a, a < cx_K0 → oldC G ρ h a)
def wsL (G : cx_G) (ρ : Nat → Nat) (h : MH) : va_W := (List.range (nn h - cx_K0)).map (fun i => (ρ (cx_K0 + i), cnE G ρ h (cx_K0 + i)))
theorem wsL_get {G : cx_G} {ρ : Nat → Nat} {h : MH} {a : Nat} (h1 : cx_K0 ≤ a) (h2 : a < nn h) : (wsL G ρ h)[a - cx_K0]? = some (ρ a, cnE G ρ h a) := by
  unfold wsL
  rw [List.getElem?_map, List.getElem?_range (by omega)]
  simp only [Option.map_some]
  rw [show cx_K0 + (a - cx_K0) = a by omega]
theorem wsL_some {G : cx_G} {ρ : Nat → Nat} {h : MH} {k : Nat} {q : Nat × va_E} (e : (wsL G ρ h)[k]? = some q) : cx_K0 + k < nn h ∧ q = (ρ (cx_K0 + k), cnE G ρ h (cx_K0 + k)) := by
  unfold wsL at e
  rw [List.getElem?_map] at e
  by_cases hk : k < nn h - cx_K0
  · rw [List.getElem?_range hk] at e
    simp only [Option.map_some, Option.some.injEq] at e
    exact ⟨by omega, e.symm⟩
  · rw [List.getElem?_eq_none (by simp; omega)] at e
    simp at e
theorem wsL_len {G : cx_G} {ρ : Nat → Nat} {h : MH} : (wsL G ρ h).length = nn h - cx_K0 := by simp [wsL]
theorem Cn.at_ {G : cx_G} {ρ : Nat → Nat} {h : MH} {H : Heap} (C : Cn G ρ h H) {a : Nat} (ha : cx_K0 ≤ a) (hk : kd h a ≠ 0) : va_P G.1 cx_cl [(ρ a, cnE G ρ h a)] H := by
  intro k q e
  cases k with
  | zero => simp only [List.getElem?_cons_zero, Option.some.injEq] at e; rw [← e]; exact (C.1 a ha hk).2
  | succ k => simp at e
theorem Cn.P {G : cx_G} {ρ : Nat → Nat} {h : MH} {H : Heap} (C : Cn G ρ h H) : va_P G.1 cx_cl (wsL G ρ h) H := by
  intro k q e
  obtain ⟨h1, rfl⟩ := wsL_some e
  exact (C.1 _ (by omega) (C.2.2.2.1 _ (by omega) h1)).2
theorem Cn.D {G : cx_G} {ρ : Nat → Nat} {h : MH} {H : Heap} (C : Cn G ρ h H) : va_D (cx_A G) (wsL G ρ h) := by
  refine ⟨fun i j p q hi hj e => ?_, fun k q e => ?_⟩
  · obtain ⟨h1, rfl⟩ := wsL_some hi
    obtain ⟨h2, rfl⟩ := wsL_some hj
    have := C.2.1 _ _ (C.2.2.2.1 _ (by omega) h1) (C.2.2.2.1 _ (by omega) h2) e
    omega
  · obtain ⟨h1, rfl⟩ := wsL_some e
    exact (C.2.2.1 _ (C.2.2.2.1 _ (by omega) h1)).2.2.2 (by omega)
theorem reV_ext {ρ ρ' : Nat → Nat} {n : Nat} (hx : ∀ a, a < n → ρ' a = ρ a) {v : Value} (hv : ∀ a, v = .ref a → a < n) : reV ρ' v = reV ρ v := by
  unfold reV
  split
  · rename_i a
    rw [hx a (hv a rfl)]
  · rfl
theorem cnE_congr {G : cx_G} {ρ ρ' : Nat → Nat} {h h' : MH} {a : Nat} (hk : kd h' a = kd h a) (hl : ln h' a = ln h a) (hI : iI h' a = iI h a) (hJ : iJ h' a = iJ h a) (hR : iR h' a = iR h a) (hx : ∀ i, ρ' (iR h a i) = ρ (iR h a i)) : cnE G ρ' h' a = cnE G ρ h a := by
  have e1 : ∀ ci k, fdV ρ' h' a ci k = fdV ρ h a ci k := by
    intro ci k
    unfold fdV
    rw [hI, hJ, hR]
    unfold reV
    simp only [hx]
  have e2 : ∀ t, arC ρ' h' a t = arC ρ h a t := by
    intro t
    unfold arC
    rw [hI, hJ, hR]
    unfold rfO
    simp only [hx]
  unfold cnE
  rw [hk, hl, e2, show fdV ρ' h' a (kd h a) = fdV ρ h a (kd h a) from funext fun k => e1 _ k]
/-- one cell is written -/
theorem Cn.set {G : cx_G} {ρ : Nat → Nat} {h h1 : MH} {H H1 : Heap} (C : Cn G ρ h H) {a : Nat} (ha : cx_K0 ≤ a) (hka : kd h a ≠ 0)
    (hk : kd h1 = kd h) (hl : ln h1 = ln h) (hn : nn h1 = nn h) (hI : ∀ b, b ≠ a → iI h1 b = iI h b) (hJ : ∀ b, b ≠ a → iJ h1 b = iJ h b) (hR : ∀ b, b ≠ a → iR h1 b = iR h b)
    (hv : ∀ i, iR h1 a i < nn h) (hf : fitB h1 a) (hP : va_P G.1 cx_cl ((wsL G ρ h).set (a - cx_K0) (ρ a, cnE G ρ h1 a)) H1) : Cn G ρ h1 H1 := by
  have ce : ∀ b, b ≠ a → cnE G ρ h1 b = cnE G ρ h b := fun b hb => cnE_congr (by rw [hk]) (by rw [hl]) (hI b hb) (hJ b hb) (hR b hb) (fun _ => rfl)
  obtain ⟨c1, c2, c3, c4, c5, c6, c7, c8⟩ := C
  refine ⟨fun b hbK hb => ?_, fun b b' hb hb' => ?_, fun b hb => ?_, fun b hb hb' => ?_, fun b i => ?_, fun b => ?_, by rw [hn]; exact c7, fun b hb => ?_⟩
  · rw [hk] at hb
    obtain ⟨d3, d4⟩ := c1 b hbK hb
    have d2 := (c3 b hb).2.1
    refine ⟨by rw [hk]; exact d3, ?_⟩
    have hlen : b - cx_K0 < (wsL G ρ h).length := by rw [wsL_len]; omega
    by_cases hba : b = a
    · subst hba
      exact hP (b - cx_K0) _ (by rw [List.getElem?_set_self hlen])
    · refine hP (b - cx_K0) _ ?_
      rw [List.getElem?_set_ne (by omega), wsL_get hbK d2, ce b hba]
  · rw [hk] at hb hb'
    exact c2 b b' hb hb'
  · rw [hk] at hb
    rw [hn]
    exact c3 b hb
  · rw [hk]
    rw [hn] at hb'
    exact c4 b hb hb'
  · rw [hn]
    by_cases hba : b = a
    · subst hba; exact hv i
    · rw [hR b hba]; exact c5 b i
  · by_cases hba : b = a
    · subst hba; exact hf
    · unfold fitB
      rw [hk, hI b hba]
      exact c6 b
  · have hne : b ≠ a := by omega
    unfold oldC
    rw [hk, hl, hI b hne, hJ b hne, hR b hne]
    exact c8 b hb
/-- a cell is made -/
theorem Cn.push {G : cx_G} {ρ : Nat → Nat} {h : MH} {H H1 : Heap} {k n u q : Nat} {f : Nat → Int32} {g : Nat → Nat} {j : Nat → Int64} (C : Cn G ρ h H)
    (hk0 : k ≠ 0) (hk : k < 58) (hg : ∀ i, g i < nn h) (hf : fitB (alc h k n u f g j) (nn h)) {e : va_E} (he : e = cnE G ρ (alc h k n u f g j) (nn h))
    (hP : va_P G.1 cx_cl (wsL G ρ h ++ [(q, e)]) H1) (hD : va_D (cx_A G) (wsL G ρ h ++ [(q, e)])) : Cn G (va_up ρ (nn h) q) (alc h k n u f g j) H1 := by
  have hext : ∀ a, a < nn h → va_up ρ (nn h) q a = ρ a := fun a ha => va_up_ne _ _ (by omega)
  have hlt : ∀ a, kd h a ≠ 0 → a < nn h := fun a ha => (C.2.2.1 a ha).2.1
  have ekd : ∀ b, b ≠ nn h → kd (alc h k n u f g j) b = kd h b := fun b hb => va_up_ne _ _ hb
  have ekn : kd (alc h k n u f g j) (nn h) = k := va_up_self _ _ _
  have ce : ∀ b, b < nn h → cnE G (va_up ρ (nn h) q) (alc h k n u f g j) b = cnE G ρ h b := fun b hb =>
    cnE_congr (va_up_ne _ _ (Nat.ne_of_lt hb)) (va_up_ne _ _ (Nat.ne_of_lt hb)) (va_up_ne _ _ (Nat.ne_of_lt hb)) (va_up_ne _ _ (Nat.ne_of_lt hb)) (va_up_ne _ _ (Nat.ne_of_lt hb)) (fun i => hext _ (C.2.2.2.2.1 b i))
  have cn : cnE G (va_up ρ (nn h) q) (alc h k n u f g j) (nn h) = e := by
    rw [he]
    refine cnE_congr rfl rfl rfl rfl rfl (fun i => ?_)
    refine hext _ ?_
    show va_up (iR h) (nn h) g (nn h) i < nn h
    rw [va_up_self]
    exact hg i
  obtain ⟨c1, c2, c3, c4, c5, c6, c7, c8⟩ := C
  have hK : cx_K0 = 300 := rfl
  have hlen : (wsL G ρ h).length = nn h - cx_K0 := wsL_len
  have lastQ : (wsL G ρ h ++ [(q, e)])[nn h - cx_K0]? = some (q, e) := by rw [List.getElem?_append_right (by omega), hlen]; simp
  have oldQ : ∀ b, cx_K0 ≤ b → b < nn h → (wsL G ρ h ++ [(q, e)])[b - cx_K0]? = some (ρ b, cnE G ρ h b) := fun b h1 h2 => by
    rw [List.getElem?_append_left (by omega), wsL_get h1 h2]
  have hqA : G.2.2.1 ≤ q := hD.2 _ _ lastQ
  refine ⟨fun b hbK hb => ?_, fun b b' hb hb' hh => ?_, fun b hb => ?_, fun b hb hb' => ?_, fun b i => ?_, fun b => ?_, by rw [nn_alc]; omega, fun b hb => ?_⟩
  · by_cases hbn : b = nn h
    · subst hbn
      rw [ekn, cn, va_up_self]
      exact ⟨hk, hP _ _ lastQ⟩
    · rw [ekd b hbn] at hb ⊢
      obtain ⟨d3, d4⟩ := c1 b hbK hb
      refine ⟨d3, ?_⟩
      rw [ce b (hlt b hb), hext b (hlt b hb)]
      exact hP _ _ (oldQ b hbK (hlt b hb))
  · have key : ∀ x, kd h x ≠ 0 → x ≠ nn h → ρ x ≠ q := by
      intro x hx hxn hxq
      have hx2 := (c3 x hx).2.1
      by_cases hxo : x < cx_K0
      · have := (c3 x hx).2.2.1 hxo
        omega
      · have := hD.1 _ _ _ _ (oldQ x (by omega) hx2) lastQ hxq
        omega
    by_cases hbn : b = nn h
    · by_cases hbn' : b' = nn h
      · omega
      · subst hbn
        rw [ekd b' hbn'] at hb'
        rw [va_up_self, hext b' (hlt b' hb')] at hh
        exact absurd hh.symm (key b' hb' hbn')
    · rw [ekd b hbn] at hb
      by_cases hbn' : b' = nn h
      · subst hbn'
        rw [va_up_self, hext b (hlt b hb)] at hh
        exact absurd hh (key b hb hbn)
      · rw [ekd b' hbn'] at hb'
        rw [hext b (hlt b hb), hext b' (hlt b' hb')] at hh
        exact c2 b b' hb hb' hh
  · rw [nn_alc]
    by_cases hbn : b = nn h
    · subst hbn
      rw [va_up_self]
      exact ⟨by omega, by omega, fun h => absurd h (by omega), fun _ => hqA⟩
    · rw [ekd b hbn] at hb
      rw [hext b (hlt b hb)]
      have := c3 b hb
      exact ⟨this.1, by omega, this.2.2⟩
  · rw [nn_alc] at hb'
    by_cases hbn : b = nn h
    · subst hbn; rw [ekn]; exact hk0
    · rw [ekd b hbn]
      exact c4 b hb (by omega)
  · rw [nn_alc]
    show va_up (iR h) (nn h) g b i < nn h + 1
    by_cases hbn : b = nn h
    · subst hbn; rw [va_up_self]; have := hg i; omega
    · rw [va_up_ne _ _ hbn]; have := c5 b i; omega
  · by_cases hbn : b = nn h
    · subst hbn; exact hf
    · unfold fitB
      rw [ekd b hbn, show iI (alc h k n u f g j) b = iI h b from va_up_ne _ _ hbn]
      exact c6 b
  · have hb2 : b ≠ nn h := by omega
    have := c8 b hb
    unfold oldC at this ⊢
    rw [va_up_ne _ _ hb2, ekd b hb2, show ln (alc h k n u f g j) b = ln h b from va_up_ne _ _ hb2, show iI (alc h k n u f g j) b = iI h b from va_up_ne _ _ hb2, show iR (alc h k n u f g j) b = iR h b from va_up_ne _ _ hb2, show iJ (alc h k n u f g j) b = iJ h b from va_up_ne _ _ hb2]
    exact this
