/-! RULES 2: fields, arrays, new cells, returns -/
set_option maxRecDepth 100000
/-- a value that fits a field or an array of that type -/
def fOk (t : FieldType) (x : Int32) : Prop := match t with
  | .int => True
  | .boolean => x = 0 ∨ x = 1
  | .byte => x.toInt8.toInt32 = x
  | _ => False
theorem i8_fit (x : Int32) : fits .byte (.int x.toInt8.toInt32) = true := pk_fb x
theorem fOk_n {t : FieldType} {x : Int32} (h : fOk t x) : narrow t (.int x) = .int x ∧ fits t (.int x) = true := by
  cases t with
  | int => exact ⟨rfl, rfl⟩
  | boolean => rcases h with rfl | rfl <;> exact ⟨by decide +kernel, by decide +kernel⟩
  | byte =>
    have h : x.toInt8.toInt32 = x := h
    refine ⟨?_, ?_⟩
    · show Value.int x.toInt8.toInt32 = .int x
      rw [h]
    · rw [← h]; exact pk_fb x
  | _ => exact h.elim
theorem clE {ci : Nat} {q : vw_C} (hc : cx_cl[ci]? = some q) : cx_cl.getD ci ("", cx_T0, 0) = q := by
  rw [List.getD_eq_getElem?_getD, hc]
  rfl
theorem cl50 {ci : Nat} {q : vw_C} (hc : cx_cl[ci]? = some q) : ci < 50 := by
  have h := (List.getElem?_eq_some_iff.mp hc).1
  have e : cx_cl.length = 30 := rfl
  omega
theorem cnE_o {G : cx_G} {ρ : Nat → Nat} {h : MH} {a ci : Nat} {q : vw_C} (hk : kd h a = ci) (hc : cx_cl[ci]? = some q) : cnE G ρ h a = .inr (ci, (List.range q.2.2).map (fdV ρ h a ci)) := by
  unfold cnE cx_N
  rw [hk, if_pos (cl50 hc), clE hc]
theorem cnE_a {G : cx_G} {ρ : Nat → Nat} {h : MH} {a t : Nat} (hk : kd h a = 50 + t) : cnE G ρ h a = .inl (G.2.1 t, ln h a, arC ρ h a t) := by
  unfold cnE
  rw [hk, if_neg (by omega), show 50 + t - 50 = t by omega]
theorem rng_get {α : Type} {f : Nat → α} {n k : Nat} (hk : k < n) : ((List.range n).map f)[k]? = some (f k) := by
  rw [List.getElem?_map, List.getElem?_range hk]
  rfl
theorem fdV_0 {ρ : Nat → Nat} {h : MH} {a ci k : Nat} (e : cx_rk (cx_ft ci k) = 0) : fdV ρ h a ci k = .int (iI h a k) := by simp only [fdV, e]
theorem fdV_1 {ρ : Nat → Nat} {h : MH} {a ci k : Nat} (e : cx_rk (cx_ft ci k) = 1) : fdV ρ h a ci k = .long (iJ h a k) := by simp only [fdV, e]
theorem fdV_2 {ρ : Nat → Nat} {h : MH} {a ci k : Nat} (e : cx_rk (cx_ft ci k) = 2) : fdV ρ h a ci k = reV ρ (.ref (iR h a k)) := by simp only [fdV, e]
theorem er_ {ρ : Nat → Nat} {a : Nat} (h0 : 0 < a) : reV ρ (.ref a) = .ref (ρ a) := by
  unfold reV
  simp only
  rw [if_neg (Nat.pos_iff_ne_zero.mp h0)]
/-- the link words of a field: plain, or of a nest mate -/
def fLk (own : String) (i : Nat) (ref n dd : String) (args : Array Value) (s : State) : Prop := (Cond.fieldLink own i ref n dd).before args s = true ∨ (∃ host, (Cond.fieldLinkNest own i ref n dd host).before args s = true) ∨ ∃ r2, (Cond.fieldLink own i r2 n dd).before args s = true ∧ (Cond.sameField r2 ref n dd).before args s = true
/-- the same, as words of the tables -/
def fLw (own : String) (i : Nat) (ref n dd : String) : Prop := Cond.fieldLink own i ref n dd ∈ lw_all ∨ (∃ host, Cond.fieldLinkNest own i ref n dd host ∈ lw_tbl) ∨ ∃ r2, Cond.fieldLink own i r2 n dd ∈ lw_all ∧ Cond.sameField r2 ref n dd ∈ lw_all
theorem fLw.at_ {G : cx_G} {M : MD} {d : Nat} {p : Program} {l : Launch} {R : Room} {s : State} {m : MethodId} {args : Array Value} {meth : Method} {c : Code} (F : Fx G M d p l R s m args meth c) {own : String} {i : Nat} {ref n dd : String} (h : fLw own i ref n dd) : fLk own i ref n dd args s := by
  rcases h with h | ⟨host, h⟩ | ⟨r2, h, h2⟩
  · exact Or.inl (F.2.2.2.2.2.1 _ h)
  · exact Or.inr (Or.inl ⟨host, (F.2.2.2.2.2.2.2.2.2.2.1.2.1 _ h rfl).use rfl⟩)
  · exact Or.inr (Or.inr ⟨r2, F.2.2.2.2.2.1 _ h, F.2.2.2.2.2.1 _ h2⟩)
theorem oldOf {G : cx_G} {ρ : Nat → Nat} {h : MH} {Hp : Heap} (C : Cn G ρ h Hp) {a : Nat} (ha : a < cx_K0) : oldC G ρ h a := C.2.2.2.2.2.2.2 a ha
theorem oldFd {G : cx_G} {ρ : Nat → Nat} {h : MH} {Hp : Heap} (C : Cn G ρ h Hp) {a ci k : Nat} (ha : a < cx_K0) (hv : ∀ b, b < cx_K0 → ρ b = G.2.2.2.1 b) (hr : iR h a k < cx_K0) : fdV G.2.2.2.1 G.2.2.2.2 a ci k = fdV ρ h a ci k := by
  obtain ⟨_, _, _, o4, o5, o6⟩ := oldOf C ha
  unfold fdV
  rw [← o4, ← o5, ← o6]
  split
  · rfl
  · rfl
  · unfold reV; simp only; rw [hv _ hr]
/-- a field of a constant is read -/
theorem b_getO {M : MD} {d pc : Nat} {ls st : List Value} {h h' : MH} {o : Outcome} {a ci k i : Nat} {q : vw_C} {w : Value} (hd : decode M.2.1 pc = .ok (.getfield i, 3)) (ha : a < cx_K0) (hkd : kd h a = ci) (hci : ci ≠ 0) (hc : cx_cl[ci]? = some q) (hk : k < q.2.2) (hr : iR h a k < cx_K0)
    (hw : Cond.fieldLink M.1.cls i (q.2.1 k).1 (q.2.1 k).2.1 (q.2.1 k).2.2.1 ∈ lw_all) (hv : ∀ ρ, fdV ρ h a ci k = reV ρ w) (hok : (∀ a i, iR h a i < nn h) → vOk h w) (kk : Bx M d (pc + 3) ls (w :: st) h o h') : Bx M d pc ls (.ref a :: st) h o h' := by
  refine Bx.go (fun G p l ev R s m args below meth c Q ρ Hp locs cells slots lsA F C S L V => ⟨vC (hok C.2.2.2.2.1) (vT V), fun wk => ?_⟩) kk
  have hka : kd h a ≠ 0 := by rw [hkd]; exact hci
  have h0 := (C.2.2.1 a hka).1
  obtain ⟨o1, o2, o3, o4, o5, o6⟩ := oldOf C ha
  have hold := F.2.2.2.2.2.2.2.2.2.2.1.2.2.2.2.2.2.2.2.2.1 a ha (by rw [← o2]; exact hka)
  have e2 : kd G.2.2.2.2 a = ci := o2.symm.trans hkd
  rw [e2] at hold
  have hN : cx_N ci = q.2.2 := by unfold cx_N; rw [clE hc]
  have hT : cx_Tk ci k = q.2.1 k := by unfold cx_Tk; rw [clE hc]
  have hf := (hold.1 (cl50 hc)).2 k (by rw [hN]; exact hk)
  rw [hT, oldFd C ha (fun b hb => (oldOf C hb).1) hr, hv ρ, ← o1] at hf
  rw [List.map_cons, er_ h0]
  exact vk_getf F.1 F.2.1 hf S F.2.2.2.2.1 (F.2.2.2.2.2.1 _ hw) (fun _ z => z) hd wk
/-- a field is read -/
theorem b_get {M : MD} {d pc : Nat} {ls st : List Value} {h h' : MH} {o : Outcome} {a ci k i : Nat} {q : vw_C} {w : Value} (hd : decode M.2.1 pc = .ok (.getfield i, 3)) (hkd : kd h a = ci) (hci : ci ≠ 0) (hc : cx_cl[ci]? = some q) (hin : ∀ w ∈ u_ws q.1 q.2.1 q.2.2, w ∈ lw_all) (hk : k < q.2.2) (ha : cx_K0 ≤ a)
    (hw : fLw M.1.cls i (q.2.1 k).1 (q.2.1 k).2.1 (q.2.1 k).2.2.1) (hv : ∀ ρ, fdV ρ h a ci k = reV ρ w) (hok : (∀ a i, iR h a i < nn h) → vOk h w) (kk : Bx M d (pc + 3) ls (w :: st) h o h') : Bx M d pc ls (.ref a :: st) h o h' := by
  refine Bx.go (fun G p l ev R s m args below meth c Q ρ Hp locs cells slots lsA F C S L V => ⟨vC (hok C.2.2.2.2.1) (vT V), fun wk => ?_⟩) kk
  have hka : kd h a ≠ 0 := by rw [hkd]; exact hci
  have h0 := (C.2.2.1 a hka).1
  have hP := C.at_ ha hka
  rw [cnE_o hkd hc] at hP
  rw [List.map_cons, er_ h0]
  have hK := F.2.2.2.2.2.2.2.2.2.2.1.1
  rcases hw.at_ F with hl | ⟨host, hl⟩ | ⟨r2, hl, h2⟩
  · exact va_get (C := q.1) (T := q.2.1) (N := q.2.2) F.1 F.2.1 F.2.2.2.2.2.1 hin F.2.2.2.2.1 hK hP 0 rfl hc k hk hl (fun _ z => z) (by rw [rng_get hk, hv ρ]) hd wk
  · exact va_getN (C := q.1) (T := q.2.1) (N := q.2.2) F.1 F.2.1 F.2.2.2.2.2.1 hin F.2.2.2.2.1 hK hP 0 rfl hc k hk hl (fun _ z => z) (by rw [rng_get hk, hv ρ]) hd wk
  · exact va_get (C := q.1) (T := q.2.1) (N := q.2.2) F.1 F.2.1 F.2.2.2.2.2.1 hin F.2.2.2.2.1 hK hP 0 rfl hc k hk hl (fun x z => u_same h2 x z) (by rw [rng_get hk, hv ρ]) hd wk
def i_getI (ci k : Nat) (kk : KT) : KT := fun ls st h => match st with
  | .ref a :: r => (kd h a = ci ∧ cx_K0 ≤ a) ∧ kk ls (.int (iI h a k) :: r) h
  | _ => False
def i_getJ (ci k : Nat) (kk : KT) : KT := fun ls st h => match st with
  | .ref a :: r => (kd h a = ci ∧ cx_K0 ≤ a) ∧ kk ls (.long (iJ h a k) :: r) h
  | _ => False
def i_getR (ci k : Nat) (kk : KT) : KT := fun ls st h => match st with
  | .ref a :: r => (kd h a = ci ∧ cx_K0 ≤ a) ∧ kk ls (.ref (iR h a k) :: r) h
  | _ => False
/-- of a String both ways: a constant, or one that was made -/
def i_getSI (k : Nat) (kk : KT) : KT := fun ls st h => match st with
  | .ref a :: r => kd h a = 24 ∧ kk ls (.int (iI h a k) :: r) h
  | _ => False
def i_getSR (k : Nat) (kk : KT) : KT := fun ls st h => match st with
  | .ref a :: r => (kd h a = 24 ∧ (a < cx_K0 → iR h a k < cx_K0)) ∧ kk ls (.ref (iR h a k) :: r) h
  | _ => False
/-- of an enum's constant -/
def i_getEI (ci k : Nat) (kk : KT) : KT := fun ls st h => match st with
  | .ref a :: r => (kd h a = ci ∧ a < cx_K0 ∧ iR h a k < cx_K0) ∧ kk ls (.int (iI h a k) :: r) h
  | _ => False
def i_getER (ci k : Nat) (kk : KT) : KT := fun ls st h => match st with
  | .ref a :: r => (kd h a = ci ∧ a < cx_K0 ∧ iR h a k < cx_K0) ∧ kk ls (.ref (iR h a k) :: r) h
  | _ => False
section
variable {M : MD} {d pc : Nat} {Q : Outcome → MH → Prop} {kk : KT} {ci k i : Nat} {q : vw_C}
theorem r_getI (hd : decode M.2.1 pc = .ok (.getfield i, 3)) (hci : ci ≠ 0) (hc : cx_cl[ci]? = some q) (hin : ∀ w ∈ u_ws q.1 q.2.1 q.2.2, w ∈ lw_all) (hk : k < q.2.2) (hw : fLw M.1.cls i (q.2.1 k).1 (q.2.1 k).2.1 (q.2.1 k).2.2.1) (hrk : cx_rk (cx_ft ci k) = 0) (cc : ∀ ls st h, kk ls st h → WPb M d (pc + 3) ls st h Q) : ∀ ls st h, i_getI ci k kk ls st h → WPb M d pc ls st h Q := by
  intro ls st h H
  unfold i_getI at H
  split at H
  · exact WPb.lift (fun _ _ => b_get hd H.1.1 hci hc hin hk H.1.2 hw (w := .int _) (fun ρ => fdV_0 hrk) (fun _ => trivial)) (cc _ _ _ H.2)
  · exact H.elim
theorem r_getJ (hd : decode M.2.1 pc = .ok (.getfield i, 3)) (hci : ci ≠ 0) (hc : cx_cl[ci]? = some q) (hin : ∀ w ∈ u_ws q.1 q.2.1 q.2.2, w ∈ lw_all) (hk : k < q.2.2) (hw : fLw M.1.cls i (q.2.1 k).1 (q.2.1 k).2.1 (q.2.1 k).2.2.1) (hrk : cx_rk (cx_ft ci k) = 1) (cc : ∀ ls st h, kk ls st h → WPb M d (pc + 3) ls st h Q) : ∀ ls st h, i_getJ ci k kk ls st h → WPb M d pc ls st h Q := by
  intro ls st h H
  unfold i_getJ at H
  split at H
  · exact WPb.lift (fun _ _ => b_get hd H.1.1 hci hc hin hk H.1.2 hw (w := .long _) (fun ρ => fdV_1 hrk) (fun _ => trivial)) (cc _ _ _ H.2)
  · exact H.elim
theorem r_getR (hd : decode M.2.1 pc = .ok (.getfield i, 3)) (hci : ci ≠ 0) (hc : cx_cl[ci]? = some q) (hin : ∀ w ∈ u_ws q.1 q.2.1 q.2.2, w ∈ lw_all) (hk : k < q.2.2) (hw : fLw M.1.cls i (q.2.1 k).1 (q.2.1 k).2.1 (q.2.1 k).2.2.1) (hrk : cx_rk (cx_ft ci k) = 2) (cc : ∀ ls st h, kk ls st h → WPb M d (pc + 3) ls st h Q) : ∀ ls st h, i_getR ci k kk ls st h → WPb M d pc ls st h Q := by
  intro ls st h H
  unfold i_getR at H
  split at H
  · exact WPb.lift (fun _ _ => b_get hd H.1.1 hci hc hin hk H.1.2 hw (w := .ref _) (fun ρ => fdV_2 hrk) (fun z => z _ _)) (cc _ _ _ H.2)
  · exact H.elim
theorem r_getEI (hd : decode M.2.1 pc = .ok (.getfield i, 3)) (hci : ci ≠ 0) (hc : cx_cl[ci]? = some q) (hk : k < q.2.2) (hw : Cond.fieldLink M.1.cls i (q.2.1 k).1 (q.2.1 k).2.1 (q.2.1 k).2.2.1 ∈ lw_all) (hrk : cx_rk (cx_ft ci k) = 0) (cc : ∀ ls st h, kk ls st h → WPb M d (pc + 3) ls st h Q) : ∀ ls st h, i_getEI ci k kk ls st h → WPb M d pc ls st h Q := by
  intro ls st h H
  unfold i_getEI at H
  split at H
  · exact WPb.lift (fun _ _ => b_getO hd H.1.2.1 H.1.1 hci hc hk H.1.2.2 hw (w := .int _) (fun ρ => fdV_0 hrk) (fun _ => trivial)) (cc _ _ _ H.2)
  · exact H.elim
theorem r_getER (hd : decode M.2.1 pc = .ok (.getfield i, 3)) (hci : ci ≠ 0) (hc : cx_cl[ci]? = some q) (hk : k < q.2.2) (hw : Cond.fieldLink M.1.cls i (q.2.1 k).1 (q.2.1 k).2.1 (q.2.1 k).2.2.1 ∈ lw_all) (hrk : cx_rk (cx_ft ci k) = 2) (cc : ∀ ls st h, kk ls st h → WPb M d (pc + 3) ls st h Q) : ∀ ls st h, i_getER ci k kk ls st h → WPb M d pc ls st h Q := by
  intro ls st h H
  unfold i_getER at H
  split at H
  · exact WPb.lift (fun _ _ => b_getO hd H.1.2.1 H.1.1 hci hc hk H.1.2.2 hw (w := .ref _) (fun ρ => fdV_2 hrk) (fun z => z _ _)) (cc _ _ _ H.2)
  · exact H.elim
theorem r_getSI (hd : decode M.2.1 pc = .ok (.getfield i, 3)) (hk : k < 4) (hw : Cond.fieldLink M.1.cls i (TJ5 k).1 (TJ5 k).2.1 (TJ5 k).2.2.1 ∈ lw_all) (hrk : cx_rk (cx_ft 24 k) = 0) (hz : ∀ h a, a < cx_K0 → kd h a = 24 → iR h a k < cx_K0 ∨ True) (cc : ∀ ls st h, kk ls st h → WPb M d (pc + 3) ls st h Q) : ∀ ls st h, i_getSI k kk ls st h → WPb M d pc ls st h Q := by
  intro ls st h H
  unfold i_getSI at H
  split at H
  · rename_i a r
    by_cases ha : a < cx_K0
    · refine WPb.lift (fun _ _ kb => Bx.go (fun G p l ev R s m args below meth c Q ρ Hp locs cells slots lsA F C S L V => ⟨vI (vT V), fun wk => ?_⟩) kb) (cc _ _ _ H.2)
      have hka : kd h a ≠ 0 := by rw [H.1]; decide
      have h0 := (C.2.2.1 a hka).1
      obtain ⟨o1, o2, o3, o4, o5, o6⟩ := oldOf C ha
      have hold := F.2.2.2.2.2.2.2.2.2.2.1.2.2.2.2.2.2.2.2.2.1 a ha (by rw [← o2]; exact hka)
      have e2 : kd G.2.2.2.2 a = 24 := o2.symm.trans H.1
      rw [e2] at hold
      have hf := (hold.1 (by decide)).2 k hk
      rw [fdV_0 hrk, ← o4, ← o1] at hf
      rw [List.map_cons, er_ h0]
      exact vk_getf F.1 F.2.1 hf S F.2.2.2.2.1 (F.2.2.2.2.2.1 _ hw) (fun _ z => z) hd wk
    · exact WPb.lift (fun _ _ => b_get (q := (RJ5, TJ5, 4)) hd H.1 (by decide) rfl in_J5 hk (Nat.le_of_not_lt ha) (Or.inl hw) (w := .int _) (fun ρ => fdV_0 hrk) (fun _ => trivial)) (cc _ _ _ H.2)
  · exact H.elim
theorem r_getSR (hd : decode M.2.1 pc = .ok (.getfield i, 3)) (hk : k < 4) (hw : Cond.fieldLink M.1.cls i (TJ5 k).1 (TJ5 k).2.1 (TJ5 k).2.2.1 ∈ lw_all) (hrk : cx_rk (cx_ft 24 k) = 2) (cc : ∀ ls st h, kk ls st h → WPb M d (pc + 3) ls st h Q) : ∀ ls st h, i_getSR k kk ls st h → WPb M d pc ls st h Q := by
  intro ls st h H
  unfold i_getSR at H
  split at H
  · rename_i a r
    by_cases ha : a < cx_K0
    · exact WPb.lift (fun _ _ => b_getO (q := (RJ5, TJ5, 4)) hd ha H.1.1 (by decide) rfl hk (H.1.2 ha) hw (w := .ref _) (fun ρ => fdV_2 hrk) (fun z => z _ _)) (cc _ _ _ H.2)
    · exact WPb.lift (fun _ _ => b_get (q := (RJ5, TJ5, 4)) hd H.1.1 (by decide) rfl in_J5 hk (Nat.le_of_not_lt ha) (Or.inl hw) (w := .ref _) (fun ρ => fdV_2 hrk) (fun z => z _ _)) (cc _ _ _ H.2)
  · exact H.elim
end
/-- how a field may be written: not final; or final, in the class's own constructor -/
def pMd (M : MD) (i : Nat) (T : String × String × String × Bool) : Prop := (T.2.2.2 = false ∧ fLw M.1.cls i T.1 T.2.1 T.2.2.1) ∨ (T.2.2.2 = true ∧ M.1.name = "<init>" ∧ T.1 = M.1.cls ∧ Cond.fieldLink M.1.cls i T.1 T.2.1 T.2.2.1 ∈ lw_all)
/-- a field is written -/
theorem b_put {M : MD} {d pc : Nat} {ls st : List Value} {h h1 h' : MH} {o : Outcome} {a ci k i : Nat} {q : vw_C} {w : Value} {ty : FieldType} (ty0 : Nat → FieldType) (hty : ∀ k, k < q.2.2 → parseFieldDescriptor (q.2.1 k).2.2.1 = some (ty0 k)) (hnm : ∀ a, a < q.2.2 → ∀ b, b < q.2.2 → a ≠ b → (q.2.1 a).2.1 ≠ (q.2.1 b).2.1)
    (hd : decode M.2.1 pc = .ok (.putfield i, 3)) (hkd : kd h a = ci) (hci : ci ≠ 0) (hc : cx_cl[ci]? = some q) (hin : ∀ w ∈ u_ws q.1 q.2.1 q.2.2, w ∈ lw_all) (hk : k < q.2.2) (ha : cx_K0 ≤ a) (hp : pMd M i (q.2.1 k)) (ht : ty0 k = ty)
    (hn : ∀ ρ, narrow ty (reV ρ w) = reV ρ w) (hf : ∀ ρ, fits ty (reV ρ w) = true)
    (ek : kd h1 = kd h) (el : ln h1 = ln h) (en : nn h1 = nn h) (eu : sU h1 = sU h) (hI : ∀ b, b ≠ a → iI h1 b = iI h b) (hJ : ∀ b, b ≠ a → iJ h1 b = iJ h b) (hR : ∀ b, b ≠ a → iR h1 b = iR h b)
    (hv : (∀ a i, iR h a i < nn h) → vOk h w → ∀ i, iR h1 a i < nn h) (hs : ∀ ρ, fdV ρ h1 a ci k = reV ρ w) (hz : ∀ ρ j, j ≠ k → fdV ρ h1 a ci j = fdV ρ h a ci j)
    (kk : Bx M d (pc + 3) ls st h1 o h') : Bx M d pc ls (w :: .ref a :: st) h o h' := by
  refine Bx.wr en eu (fun G p l ev R s m args below meth c Q ρ Hp locs cells slots lsA F C S L V => ⟨vT (vT V), fun wk => ?_⟩) kk
  have hka : kd h a ≠ 0 := by rw [hkd]; exact hci
  have h0 := (C.2.2.1 a hka).1
  have han := (C.2.2.1 a hka).2.1
  rw [List.map_cons, List.map_cons, er_ h0]
  have hK := F.2.2.2.2.2.2.2.2.2.2.1.1
  have hq : (wsL G ρ h)[a - cx_K0]? = some (ρ a, .inr (ci, (List.range q.2.2).map (fdV ρ h a ci))) := by rw [wsL_get ha han, cnE_o hkd hc]
  have hset : ((List.range q.2.2).map (fdV ρ h a ci)).set k (reV ρ w) = (List.range q.2.2).map (fdV ρ h1 a ci) := by
    apply List.ext_getElem?
    intro j
    by_cases hjk : j = k
    · subst hjk
      rw [List.getElem?_set_self (by simp; exact hk), rng_get hk, hs]
    · rw [List.getElem?_set_ne (fun z => hjk z.symm), List.getElem?_map, List.getElem?_map]
      cases hr : (List.range q.2.2)[j]? with
      | none => rfl
      | some x =>
        have hx : x = j := by
          have := (List.getElem?_eq_some_iff.mp hr)
          obtain ⟨h1, h2⟩ := this
          rw [List.getElem_range] at h2
          exact h2.symm
        simp only [Option.map_some, hx, hz ρ j hjk]
  have fin : ∀ (H1 : Heap) (locs1 : List Loc), va_P G.1 cx_cl ((wsL G ρ h).set (a - cx_K0) (ρ a, .inr (ci, ((List.range q.2.2).map (fdV ρ h a ci)).set k (reV ρ w)))) H1 → va_D (cx_A G) ((wsL G ρ h).set (a - cx_K0) (ρ a, .inr (ci, ((List.range q.2.2).map (fdV ρ h a ci)).set k (reV ρ w)))) → va_S (cx_A G) s.heap H1 locs1 → W p l ev R s m args below meth c H1 locs1 cells slots Q (F0 m (pc + 3) lsA (st.map (reV ρ))) := by
    intro H1 locs1 P1 _ S1
    refine wk H1 locs1 (C.set ha hka ek el en hI hJ hR (hv C.2.2.2.2.1 (vH V)) ?_ ?_) S1
    · unfold fitB
      rw [ek, hkd]
      have := cl50 hc
      exact ⟨fun z => by omega, fun z => by omega⟩
    · rw [cnE_o (h := h1) (by rw [ek]; exact hkd) hc, ← hset]
      exact P1
  rcases hp with ⟨hfin, hw⟩ | ⟨hfin, hin2, hdecl, hw⟩
  · rcases hw.at_ F with hl | ⟨host, hl⟩ | ⟨r2, hl, h2⟩
    · exact va_put (C := q.1) (T := q.2.1) (N := q.2.2) F.1 F.2.1 F.2.2.2.2.2.1 hin ty0 hty hnm F.2.2.2.2.1 hK C.P C.D S (a - cx_K0) hq hc k hk hl (fun _ z => z) hfin (by rw [hty k hk, ht]) (hn ρ) (hf ρ) (by simp; exact hk) hd fin
    · exact va_putN (C := q.1) (T := q.2.1) (N := q.2.2) F.1 F.2.1 F.2.2.2.2.2.1 hin ty0 hty hnm F.2.2.2.2.1 hK C.P C.D S (a - cx_K0) hq hc k hk hl (fun _ z => z) hfin (by rw [hty k hk, ht]) (hn ρ) (hf ρ) (by simp; exact hk) hd fin
    · exact va_put (C := q.1) (T := q.2.1) (N := q.2.2) F.1 F.2.1 F.2.2.2.2.2.1 hin ty0 hty hnm F.2.2.2.2.1 hK C.P C.D S (a - cx_K0) hq hc k hk hl (fun x z => u_same h2 x z) hfin (by rw [hty k hk, ht]) (hn ρ) (hf ρ) (by simp; exact hk) hd fin
  · exact va_putF (C := q.1) (T := q.2.1) (N := q.2.2) F.1 F.2.1 F.2.2.2.2.2.1 hin ty0 hty hnm F.2.2.2.2.1 hK C.P C.D S (a - cx_K0) hq hc k hk (F.2.2.2.2.2.1 _ hw) (fun _ z => z) hfin (by rw [F.2.2.2.2.2.2.2.1]; exact hin2) hdecl (by rw [hty k hk, ht]) (hn ρ) (hf ρ) (by simp; exact hk) hd fin
