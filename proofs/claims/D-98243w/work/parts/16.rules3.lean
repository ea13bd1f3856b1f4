/-! RULES 3: fields written, arrays, new cells, returns -/
set_option maxRecDepth 100000
def i_putI (ci k : Nat) (t : FieldType) (kk : KT) : KT := fun ls st h => match st with
  | .int x :: .ref a :: r => (kd h a = ci ∧ cx_K0 ≤ a ∧ fOk t x) ∧ kk ls r (stI h a (upd (iI h a) k x))
  | _ => False
def i_putJ (ci k : Nat) (kk : KT) : KT := fun ls st h => match st with
  | .long x :: .ref a :: r => (kd h a = ci ∧ cx_K0 ≤ a) ∧ kk ls r (stJ h a (va_up (iJ h a) k x))
  | _ => False
def i_putR (ci k : Nat) (kk : KT) : KT := fun ls st h => match st with
  | .ref b :: .ref a :: r => (kd h a = ci ∧ cx_K0 ≤ a) ∧ kk ls r (stR h a (va_up (iR h a) k b))
  | _ => False
theorem upd_up (f : Nat → Int32) (k : Nat) (x : Int32) : upd f k x = va_up f k x := rfl
section
variable {M : MD} {d pc : Nat} {Q : Outcome → MH → Prop} {kk : KT} {ci k i : Nat} {q : vw_C}
theorem r_putI {t : FieldType} (ty0 : Nat → FieldType) (hty : ∀ k, k < q.2.2 → parseFieldDescriptor (q.2.1 k).2.2.1 = some (ty0 k)) (hnm : ∀ a, a < q.2.2 → ∀ b, b < q.2.2 → a ≠ b → (q.2.1 a).2.1 ≠ (q.2.1 b).2.1) (hd : decode M.2.1 pc = .ok (.putfield i, 3)) (hci : ci ≠ 0) (hc : cx_cl[ci]? = some q) (hin : ∀ w ∈ u_ws q.1 q.2.1 q.2.2, w ∈ lw_all) (hk : k < q.2.2) (hp : pMd M i (q.2.1 k)) (ht : ty0 k = t) (hrk : cx_rk (cx_ft ci k) = 0) (cc : ∀ ls st h, kk ls st h → WPb M d (pc + 3) ls st h Q) : ∀ ls st h, i_putI ci k t kk ls st h → WPb M d pc ls st h Q := by
  intro ls st h H
  unfold i_putI at H
  split at H
  · rename_i x a r
    have e : iI (stI h a (upd (iI h a) k x)) a = upd (iI h a) k x := va_up_self _ _ _
    refine WPb.lift (fun _ _ => b_put (w := .int x) (h1 := stI h a (upd (iI h a) k x)) ty0 hty hnm hd H.1.1 hci hc hin hk H.1.2.1 hp ht (fun _ => (fOk_n H.1.2.2).1) (fun _ => (fOk_n H.1.2.2).2) rfl rfl rfl rfl (fun b hb => va_up_ne _ _ hb) (fun _ _ => rfl) (fun _ _ => rfl) (fun z _ i => z a i) (fun ρ => ?_) (fun ρ j hj => ?_)) (cc _ _ _ H.2)
    · rw [fdV_0 hrk, e]; unfold upd; rw [if_pos rfl]; rfl
    · unfold fdV
      rw [e]
      unfold upd
      rw [if_neg hj]
      rfl
  · exact H.elim
theorem r_putJ (ty0 : Nat → FieldType) (hty : ∀ k, k < q.2.2 → parseFieldDescriptor (q.2.1 k).2.2.1 = some (ty0 k)) (hnm : ∀ a, a < q.2.2 → ∀ b, b < q.2.2 → a ≠ b → (q.2.1 a).2.1 ≠ (q.2.1 b).2.1) (hd : decode M.2.1 pc = .ok (.putfield i, 3)) (hci : ci ≠ 0) (hc : cx_cl[ci]? = some q) (hin : ∀ w ∈ u_ws q.1 q.2.1 q.2.2, w ∈ lw_all) (hk : k < q.2.2) (hp : pMd M i (q.2.1 k)) (ht : ty0 k = .long) (hrk : cx_rk (cx_ft ci k) = 1) (cc : ∀ ls st h, kk ls st h → WPb M d (pc + 3) ls st h Q) : ∀ ls st h, i_putJ ci k kk ls st h → WPb M d pc ls st h Q := by
  intro ls st h H
  unfold i_putJ at H
  split at H
  · rename_i x a r
    have e : iJ (stJ h a (va_up (iJ h a) k x)) a = va_up (iJ h a) k x := va_up_self _ _ _
    refine WPb.lift (fun _ _ => b_put (w := .long x) (h1 := stJ h a (va_up (iJ h a) k x)) ty0 hty hnm hd H.1.1 hci hc hin hk H.1.2 hp ht (fun _ => rfl) (fun _ => rfl) rfl rfl rfl rfl (fun _ _ => rfl) (fun b hb => va_up_ne _ _ hb) (fun _ _ => rfl) (fun z _ i => z a i) (fun ρ => ?_) (fun ρ j hj => ?_)) (cc _ _ _ H.2)
    · rw [fdV_1 hrk, e, va_up_self]; rfl
    · unfold fdV
      rw [e, va_up_ne _ _ hj]
      rfl
  · exact H.elim
theorem r_putR (ty0 : Nat → FieldType) (hty : ∀ k, k < q.2.2 → parseFieldDescriptor (q.2.1 k).2.2.1 = some (ty0 k)) (hnm : ∀ a, a < q.2.2 → ∀ b, b < q.2.2 → a ≠ b → (q.2.1 a).2.1 ≠ (q.2.1 b).2.1) (hd : decode M.2.1 pc = .ok (.putfield i, 3)) (hci : ci ≠ 0) (hc : cx_cl[ci]? = some q) (hin : ∀ w ∈ u_ws q.1 q.2.1 q.2.2, w ∈ lw_all) (hk : k < q.2.2) (hp : pMd M i (q.2.1 k)) (ht : cx_rk (ty0 k) = 2) (hrk : cx_rk (cx_ft ci k) = 2) (cc : ∀ ls st h, kk ls st h → WPb M d (pc + 3) ls st h Q) : ∀ ls st h, i_putR ci k kk ls st h → WPb M d pc ls st h Q := by
  intro ls st h H
  unfold i_putR at H
  split at H
  · rename_i b a r
    have e : iR (stR h a (va_up (iR h a) k b)) a = va_up (iR h a) k b := va_up_self _ _ _
    have hnf : ∀ ρ, narrow (ty0 k) (reV ρ (.ref b)) = reV ρ (.ref b) ∧ fits (ty0 k) (reV ρ (.ref b)) = true := by
      intro ρ
      cases hq : ty0 k <;> rw [hq] at ht <;> first | exact absurd ht (by decide) | (unfold reV; by_cases h0 : b = 0 <;> simp [h0, narrow, fits])
    refine WPb.lift (fun _ _ => b_put (w := .ref b) (h1 := stR h a (va_up (iR h a) k b)) ty0 hty hnm hd H.1.1 hci hc hin hk H.1.2 hp rfl (fun ρ => (hnf ρ).1) (fun ρ => (hnf ρ).2) rfl rfl rfl rfl (fun _ _ => rfl) (fun _ _ => rfl) (fun c hc => va_up_ne _ _ hc) (fun z hb i => ?_) (fun ρ => ?_) (fun ρ j hj => ?_)) (cc _ _ _ H.2)
    · rw [e]
      by_cases hik : i = k
      · subst hik; rw [va_up_self]; exact hb
      · rw [va_up_ne _ _ hik]; exact z a i
    · rw [fdV_2 hrk, e, va_up_self]
    · unfold fdV
      rw [e, va_up_ne _ _ hj]
      rfl
  · exact H.elim
end
/-! arrays -/
theorem tys_at {G : cx_G} {t : Nat} (ht : t < 8) : (cx_tys G)[t]? = some (G.2.1 t, cx_tk t) := rng_get ht
def i_iald (kk : KT) : KT := fun ls st h => match st with
  | .int i :: .ref a :: r => (kd h a = 50 ∧ vp_in i (ln h a)) ∧ kk ls (.int (iI h a i.toNatClampNeg) :: r) h
  | _ => False
def i_bald (kk : KT) : KT := fun ls st h => match st with
  | .int i :: .ref a :: r => (kd h a = 51 ∧ vp_in i (ln h a)) ∧ kk ls (.int (iI h a i.toNatClampNeg) :: r) h
  | _ => False
def i_zald (kk : KT) : KT := fun ls st h => match st with
  | .int i :: .ref a :: r => (kd h a = 52 ∧ cx_K0 ≤ a ∧ vp_in i (ln h a)) ∧ kk ls (.int (iI h a i.toNatClampNeg) :: r) h
  | _ => False
def i_lald (kk : KT) : KT := fun ls st h => match st with
  | .int i :: .ref a :: r => (kd h a = 53 ∧ cx_K0 ≤ a ∧ vp_in i (ln h a)) ∧ kk ls (.long (iJ h a i.toNatClampNeg) :: r) h
  | _ => False
def i_aald (t : Nat) (kk : KT) : KT := fun ls st h => match st with
  | .int i :: .ref a :: r => (kd h a = 50 + t ∧ vp_in i (ln h a) ∧ (a < cx_K0 → iR h a i.toNatClampNeg < cx_K0)) ∧ kk ls (.ref (iR h a i.toNatClampNeg) :: r) h
  | _ => False
/-- a constant array's cells -/
theorem oldArr {G : cx_G} {M : MD} {d : Nat} {p : Program} {l : Launch} {R : Room} {s : State} {m : MethodId} {args : Array Value} {meth : Method} {c : Code} (F : Fx G M d p l R s m args meth c) {ρ : Nat → Nat} {h : MH} {Hp : Heap} (C : Cn G ρ h Hp) {a t : Nat} (ha : a < cx_K0) (hk : kd h a = 50 + t) :
    va_T (cx_tk t) (ρ a) (ln h a) (elV G.2.2.2.1 h a t) (cx_A G) s s.heap := by
  obtain ⟨o1, o2, o3, o4, o5, o6⟩ := oldOf C ha
  have hold := F.2.2.2.2.2.2.2.2.2.2.1.2.2.2.2.2.2.2.2.2.1 a ha (by rw [← o2, hk]; omega)
  have e2 : kd G.2.2.2.2 a = 50 + t := o2.symm.trans hk
  rw [e2] at hold
  have hT := hold.2 (by omega)
  rw [show 50 + t - 50 = t by omega, ← o1, ← o3] at hT
  have : elV G.2.2.2.1 G.2.2.2.2 a t = elV G.2.2.2.1 h a t := by
    funext i
    unfold elV
    rw [o4, o5, o6]
  rw [this] at hT
  exact hT
section
variable {M : MD} {d pc : Nat} {Q : Outcome → MH → Prop} {kk : KT}
theorem r_iald (hd : decode M.2.1 pc = .ok (.iaload, 1)) (cc : ∀ ls st h, kk ls st h → WPb M d (pc + 1) ls st h Q) : ∀ ls st h, i_iald kk ls st h → WPb M d pc ls st h Q := by
  intro ls st h H
  unfold i_iald at H
  split at H
  · rename_i i a r
    refine WPb.lift (fun _ _ kb => Bx.go (fun G p l ev R s m args below meth c Q ρ Hp locs cells slots lsA F C S L V => ⟨vI (vT (vT V)), fun wk => ?_⟩) kb) (cc _ _ _ H.2)
    have hka : kd h a ≠ 0 := by rw [H.1.1]; decide
    rw [List.map_cons, List.map_cons, er_ (C.2.2.1 a hka).1]
    by_cases ha : a < cx_K0
    · exact va_ti F.1 F.2.1 (oldArr (t := 0) F C ha H.1.1) S H.1.2 rfl hd wk
    · have hP := C.at_ (Nat.le_of_not_lt ha) hka
      rw [cnE_a (t := 0) H.1.1] at hP
      exact va_iald F.1 F.2.1 F.2.2.2.2.2.2.2.2.2.2.1.1 hP 0 0 rfl (tys_at (by decide)) H.1.2 hd wk
  · exact H.elim
theorem r_bald (hd : decode M.2.1 pc = .ok (.baload, 1)) (cc : ∀ ls st h, kk ls st h → WPb M d (pc + 1) ls st h Q) : ∀ ls st h, i_bald kk ls st h → WPb M d pc ls st h Q := by
  intro ls st h H
  unfold i_bald at H
  split at H
  · rename_i i a r
    refine WPb.lift (fun _ _ kb => Bx.go (fun G p l ev R s m args below meth c Q ρ Hp locs cells slots lsA F C S L V => ⟨vI (vT (vT V)), fun wk => ?_⟩) kb) (cc _ _ _ H.2)
    have hka : kd h a ≠ 0 := by rw [H.1.1]; decide
    rw [List.map_cons, List.map_cons, er_ (C.2.2.1 a hka).1]
    by_cases ha : a < cx_K0
    · exact va_tb F.1 F.2.1 (oldArr (t := 1) F C ha H.1.1) S H.1.2 rfl hd wk
    · have hP := C.at_ (Nat.le_of_not_lt ha) hka
      rw [cnE_a (t := 1) H.1.1] at hP
      exact va_bald F.1 F.2.1 F.2.2.2.2.2.2.2.2.2.2.1.1 hP 0 1 rfl (tys_at (by decide)) H.1.2 hd wk
  · exact H.elim
theorem r_zald (hd : decode M.2.1 pc = .ok (.baload, 1)) (cc : ∀ ls st h, kk ls st h → WPb M d (pc + 1) ls st h Q) : ∀ ls st h, i_zald kk ls st h → WPb M d pc ls st h Q := by
  intro ls st h H
  unfold i_zald at H
  split at H
  · rename_i i a r
    refine WPb.lift (fun _ _ kb => Bx.go (fun G p l ev R s m args below meth c Q ρ Hp locs cells slots lsA F C S L V => ⟨vI (vT (vT V)), fun wk => ?_⟩) kb) (cc _ _ _ H.2)
    have hka : kd h a ≠ 0 := by rw [H.1.1]; decide
    rw [List.map_cons, List.map_cons, er_ (C.2.2.1 a hka).1]
    have hP := C.at_ H.1.2.1 hka
    rw [cnE_a (t := 2) H.1.1] at hP
    exact va_zald F.1 F.2.1 F.2.2.2.2.2.2.2.2.2.2.1.1 hP 0 2 rfl (tys_at (by decide)) H.1.2.2 hd wk
  · exact H.elim
theorem r_lald (hd : decode M.2.1 pc = .ok (.laload, 1)) (cc : ∀ ls st h, kk ls st h → WPb M d (pc + 1) ls st h Q) : ∀ ls st h, i_lald kk ls st h → WPb M d pc ls st h Q := by
  intro ls st h H
  unfold i_lald at H
  split at H
  · rename_i i a r
    refine WPb.lift (fun _ _ kb => Bx.go (fun G p l ev R s m args below meth c Q ρ Hp locs cells slots lsA F C S L V => ⟨vL (vT (vT V)), fun wk => ?_⟩) kb) (cc _ _ _ H.2)
    have hka : kd h a ≠ 0 := by rw [H.1.1]; decide
    rw [List.map_cons, List.map_cons, er_ (C.2.2.1 a hka).1]
    have hP := C.at_ H.1.2.1 hka
    rw [cnE_a (t := 3) H.1.1] at hP
    exact va_lald F.1 F.2.1 F.2.2.2.2.2.2.2.2.2.2.1.1 hP 0 3 rfl (tys_at (by decide)) H.1.2.2 hd wk
  · exact H.elim
theorem r_aald {t : Nat} {E : String} (ht : t < 8) (hE : cx_tk t = .object E) (hd : decode M.2.1 pc = .ok (.aaload, 1)) (cc : ∀ ls st h, kk ls st h → WPb M d (pc + 1) ls st h Q) : ∀ ls st h, i_aald t kk ls st h → WPb M d pc ls st h Q := by
  intro ls st h H
  unfold i_aald at H
  split at H
  · rename_i i a r
    refine WPb.lift (fun _ _ kb => Bx.go (fun G p l ev R s m args below meth c Q ρ Hp locs cells slots lsA F C S L V => ⟨vC (w := .ref _) (C.2.2.2.2.1 _ _) (vT (vT V)), fun wk => ?_⟩) kb) (cc _ _ _ H.2)
    have hka : kd h a ≠ 0 := by rw [H.1.1]; omega
    rw [List.map_cons, List.map_cons, er_ (C.2.2.1 a hka).1]
    by_cases ha : a < cx_K0
    · have hT := oldArr F C ha H.1.1
      rw [hE] at hT
      refine vb_tq F.1 F.2.1 hT S H.1.2.1 ?_ hd wk
      have hr := H.1.2.2 ha
      unfold elV
      rw [hE]
      show reV G.2.2.2.1 (.ref (iR h a i.toNatClampNeg)) = reV ρ (.ref (iR h a i.toNatClampNeg))
      unfold reV
      simp only
      rw [(oldOf C hr).1]
    · have hP := C.at_ (Nat.le_of_not_lt ha) hka
      rw [cnE_a H.1.1, show arC ρ h a t = .inr (.inr (.inr (.inr (fun i => rfO ρ (iR h a i))))) by unfold arC; rw [hE]; rfl] at hP
      have hty : (cx_tys G)[t]? = some (G.2.1 t, .object E) := by rw [tys_at ht, hE]
      rw [List.map_cons, reV_rfO] at wk
      exact va_aldq F.1 F.2.1 F.2.2.2.2.2.2.2.2.2.2.1.1 hP 0 t rfl hty H.1.2.1 hd wk
  · exact H.elim
end
def i_alen (kk : KT) : KT := fun ls st h => match st with
  | .ref a :: r => (50 ≤ kd h a ∧ kd h a < 58) ∧ kk ls (.int (nI (ln h a)) :: r) h
  | _ => False
def i_iast (kk : KT) : KT := fun ls st h => match st with
  | .int x :: .int i :: .ref a :: r => (kd h a = 50 ∧ cx_K0 ≤ a ∧ vp_in i (ln h a)) ∧ kk ls r (stI h a (upd (iI h a) i.toNatClampNeg x))
  | _ => False
def i_bast (kk : KT) : KT := fun ls st h => match st with
  | .int x :: .int i :: .ref a :: r => (kd h a = 51 ∧ cx_K0 ≤ a ∧ vp_in i (ln h a)) ∧ kk ls r (stI h a (upd (iI h a) i.toNatClampNeg x.toInt8.toInt32))
  | _ => False
def i_zast (kk : KT) : KT := fun ls st h => match st with
  | .int x :: .int i :: .ref a :: r => (kd h a = 52 ∧ cx_K0 ≤ a ∧ vp_in i (ln h a) ∧ (x = 0 ∨ x = 1)) ∧ kk ls r (stI h a (upd (iI h a) i.toNatClampNeg x))
  | _ => False
def i_last (kk : KT) : KT := fun ls st h => match st with
  | .long x :: .int i :: .ref a :: r => (kd h a = 53 ∧ cx_K0 ≤ a ∧ vp_in i (ln h a)) ∧ kk ls r (stJ h a (va_up (iJ h a) i.toNatClampNeg x))
  | _ => False
section
variable {M : MD} {d pc : Nat} {Q : Outcome → MH → Prop} {kk : KT}
theorem r_alen (hd : decode M.2.1 pc = .ok (.arraylength, 1)) (cc : ∀ ls st h, kk ls st h → WPb M d (pc + 1) ls st h Q) : ∀ ls st h, i_alen kk ls st h → WPb M d pc ls st h Q := by
  intro ls st h H
  unfold i_alen at H
  split at H
  · rename_i a r
    refine WPb.lift (fun _ _ kb => Bx.go (fun G p l ev R s m args below meth c Q ρ Hp locs cells slots lsA F C S L V => ⟨vI (vT V), fun wk => ?_⟩) kb) (cc _ _ _ H.2)
    have hka : kd h a ≠ 0 := by have := H.1.1; omega
    obtain ⟨t, ht, hk⟩ : ∃ t, t < 8 ∧ kd h a = 50 + t := ⟨kd h a - 50, by have := H.1.2; omega, by have := H.1.1; omega⟩
    rw [List.map_cons, er_ (C.2.2.1 a hka).1]
    by_cases ha : a < cx_K0
    · exact va_tlen F.1 F.2.1 (oldArr F C ha hk) S rfl hd wk
    · have hP := C.at_ (Nat.le_of_not_lt ha) hka
      rw [cnE_a hk] at hP
      exact va_alen F.1 F.2.1 F.2.2.2.2.2.2.2.2.2.2.1.1 hP 0 t rfl (tys_at ht) rfl hd wk
  · exact H.elim
/-- an int array's cell (int, byte, boolean) is written -/
theorem arrSet {G : cx_G} {ρ : Nat → Nat} {h : MH} {Hp H1 : Heap} (C : Cn G ρ h Hp) {a t : Nat} {f : Nat → Int32} (ha : cx_K0 ≤ a) (hk : kd h a = 50 + t) (hr : cx_rk (cx_tk t) = 0) (hf : fitB (stI h a f) a) (hP : va_P G.1 cx_cl ((wsL G ρ h).set (a - cx_K0) (ρ a, .inl (G.2.1 t, ln h a, .inl f))) H1) : Cn G ρ (stI h a f) H1 := by
  refine C.set ha (by rw [hk]; omega) rfl rfl rfl (fun b hb => va_up_ne _ _ hb) (fun _ _ => rfl) (fun _ _ => rfl) (fun i => C.2.2.2.2.1 a i) hf ?_
  rw [cnE_a (h := stI h a f) hk, show arC ρ (stI h a f) a t = .inl f by unfold arC; rw [hr]; show Sum.inl (va_up (iI h) a f a) = _; rw [va_up_self]]
  exact hP
theorem r_iast (hd : decode M.2.1 pc = .ok (.iastore, 1)) (cc : ∀ ls st h, kk ls st h → WPb M d (pc + 1) ls st h Q) : ∀ ls st h, i_iast kk ls st h → WPb M d pc ls st h Q := by
  intro ls st h H
  unfold i_iast at H
  split at H
  · rename_i x i a r
    refine WPb.lift (fun _ _ kb => Bx.wr (h1 := stI h a (upd (iI h a) i.toNatClampNeg x)) rfl rfl (fun G p l ev R s m args below meth c Q ρ Hp locs cells slots lsA F C S L V => ⟨vT (vT (vT V)), fun wk => ?_⟩) kb) (cc _ _ _ H.2)
    have hka : kd h a ≠ 0 := by rw [H.1.1]; decide
    rw [List.map_cons, List.map_cons, List.map_cons, er_ (C.2.2.1 a hka).1]
    refine va_iast F.1 F.2.1 F.2.2.2.2.2.2.2.2.2.2.1.1 C.P C.D S (a - cx_K0) 0 (by rw [wsL_get H.1.2.1 (C.2.2.1 a hka).2.1, cnE_a (t := 0) H.1.1]; rfl) (tys_at (by decide)) H.1.2.2 hd (fun H1 locs1 P1 _ S1 => wk H1 locs1 (arrSet C H.1.2.1 (t := 0) H.1.1 rfl ?_ P1) S1)
    unfold fitB
    rw [kd_stI, H.1.1]
    exact ⟨fun z => absurd z (by decide), fun z => absurd z (by decide)⟩
  · exact H.elim
theorem r_bast (hd : decode M.2.1 pc = .ok (.bastore, 1)) (cc : ∀ ls st h, kk ls st h → WPb M d (pc + 1) ls st h Q) : ∀ ls st h, i_bast kk ls st h → WPb M d pc ls st h Q := by
  intro ls st h H
  unfold i_bast at H
  split at H
  · rename_i x i a r
    refine WPb.lift (fun _ _ kb => Bx.wr (h1 := stI h a (upd (iI h a) i.toNatClampNeg x.toInt8.toInt32)) rfl rfl (fun G p l ev R s m args below meth c Q ρ Hp locs cells slots lsA F C S L V => ⟨vT (vT (vT V)), fun wk => ?_⟩) kb) (cc _ _ _ H.2)
    have hka : kd h a ≠ 0 := by rw [H.1.1]; decide
    rw [List.map_cons, List.map_cons, List.map_cons, er_ (C.2.2.1 a hka).1]
    refine va_bast F.1 F.2.1 F.2.2.2.2.2.2.2.2.2.2.1.1 C.P C.D S (a - cx_K0) 1 (by rw [wsL_get H.1.2.1 (C.2.2.1 a hka).2.1, cnE_a (t := 1) H.1.1]; rfl) (tys_at (by decide)) H.1.2.2 hd (fun H1 locs1 P1 _ S1 => wk H1 locs1 (arrSet C H.1.2.1 (t := 1) H.1.1 rfl ?_ P1) S1)
    unfold fitB
    rw [kd_stI, H.1.1, iI_stI, va_up_self]
    refine ⟨fun _ j => ?_, fun z => absurd z (by decide)⟩
    unfold upd
    split
    · exact pk_fb x
    · exact (C.2.2.2.2.2.1 a).1 H.1.1 j
  · exact H.elim
theorem r_zast (hd : decode M.2.1 pc = .ok (.bastore, 1)) (cc : ∀ ls st h, kk ls st h → WPb M d (pc + 1) ls st h Q) : ∀ ls st h, i_zast kk ls st h → WPb M d pc ls st h Q := by
  intro ls st h H
  unfold i_zast at H
  split at H
  · rename_i x i a r
    refine WPb.lift (fun _ _ kb => Bx.wr (h1 := stI h a (upd (iI h a) i.toNatClampNeg x)) rfl rfl (fun G p l ev R s m args below meth c Q ρ Hp locs cells slots lsA F C S L V => ⟨vT (vT (vT V)), fun wk => ?_⟩) kb) (cc _ _ _ H.2)
    have hka : kd h a ≠ 0 := by rw [H.1.1]; decide
    have hx : vp_nar .boolean x = x := by rcases H.1.2.2.2 with e | e <;> rw [e] <;> decide +kernel
    rw [List.map_cons, List.map_cons, List.map_cons, er_ (C.2.2.1 a hka).1]
    refine va_zast F.1 F.2.1 F.2.2.2.2.2.2.2.2.2.2.1.1 C.P C.D S (a - cx_K0) 2 (by rw [wsL_get H.1.2.1 (C.2.2.1 a hka).2.1, cnE_a (t := 2) H.1.1]; rfl) (tys_at (by decide)) H.1.2.2.1 hd (fun H1 locs1 P1 _ S1 => wk H1 locs1 (arrSet C H.1.2.1 (t := 2) H.1.1 rfl ?_ (by rw [hx] at P1; exact P1)) S1)
    unfold fitB
    rw [kd_stI, H.1.1, iI_stI, va_up_self]
    refine ⟨fun z => absurd z (by decide), fun _ j => ?_⟩
    unfold upd
    split
    · rcases H.1.2.2.2 with e | e <;> rw [e] <;> decide +kernel
    · exact (C.2.2.2.2.2.1 a).2 H.1.1 j
  · exact H.elim
theorem r_last (hd : decode M.2.1 pc = .ok (.lastore, 1)) (cc : ∀ ls st h, kk ls st h → WPb M d (pc + 1) ls st h Q) : ∀ ls st h, i_last kk ls st h → WPb M d pc ls st h Q := by
  intro ls st h H
  unfold i_last at H
  split at H
  · rename_i x i a r
    refine WPb.lift (fun _ _ kb => Bx.wr (h1 := stJ h a (va_up (iJ h a) i.toNatClampNeg x)) rfl rfl (fun G p l ev R s m args below meth c Q ρ Hp locs cells slots lsA F C S L V => ⟨vT (vT (vT V)), fun wk => ?_⟩) kb) (cc _ _ _ H.2)
    have hka : kd h a ≠ 0 := by rw [H.1.1]; decide
    rw [List.map_cons, List.map_cons, List.map_cons, er_ (C.2.2.1 a hka).1]
    refine va_last F.1 F.2.1 F.2.2.2.2.2.2.2.2.2.2.1.1 C.P C.D S (a - cx_K0) 3 (by rw [wsL_get H.1.2.1 (C.2.2.1 a hka).2.1, cnE_a (t := 3) H.1.1]; rfl) (tys_at (by decide)) H.1.2.2 hd (fun H1 locs1 P1 _ S1 => wk H1 locs1 (C.set H.1.2.1 hka rfl rfl rfl (fun _ _ => rfl) (fun b hb => va_up_ne _ _ hb) (fun _ _ => rfl) (fun i => C.2.2.2.2.1 a i) ?_ ?_) S1)
    · unfold fitB
      rw [kd_stJ, H.1.1]
      exact ⟨fun z => absurd z (by decide), fun z => absurd z (by decide)⟩
    · rw [cnE_a (t := 3) (h := stJ h a _) H.1.1, show arC ρ (stJ h a (va_up (iJ h a) i.toNatClampNeg x)) a 3 = .inr (.inl (va_up (iJ h a) i.toNatClampNeg x)) by show Sum.inr (Sum.inl (va_up (iJ h) a _ a)) = _; rw [va_up_self]]
      exact P1
  · exact H.elim
end
