/-! A METHOD's CONTRACT, and calls -/
set_option maxRecDepth 100000
def wsM (M : MD) : List Cond := match M.2.2.2.2 with
  | [] => ws_ M.1 M.2.1 M.2.2.1 M.2.2.2.1
  | _ => wsW_ M.1 M.2.1 M.2.2.1 M.2.2.2.1 M.2.2.2.2
def Pcx (G : cx_G) (ρ : Nat → Nat) (as : List Value) (h : MH) : Array Value → State → Prop := fun v U => v = (as.map (reV ρ)).toArray ∧ Sx G U ∧ Cn G ρ h U.heap
def Qcx (G : cx_G) (ρ : Nat → Nat) (o : Outcome) (h h' : MH) : Array Value → State → Outcome → State → Prop := fun _ st oc t => ∃ (ρ' : Nat → Nat) (v : Option Value), o = .returned v ∧ oc = .returned (v.map (reV ρ')) ∧ (∀ a, a < nn h → ρ' a = ρ a) ∧ Cn G ρ' h' t.heap ∧ va_F (cx_A G) st t ∧ (∀ w, v = some w → vOk h' w)
def XCx (G : cx_G) (ρ : Nat → Nat) (o : Outcome) (h h' : MH) : String → State → State → Prop := fun E st t => ∃ (ρ' : Nat → Nat) (k : Nat), o = .threw k ∧ E = cx_nm k ∧ (∀ a, a < nn h → ρ' a = ρ a) ∧ Cn G ρ' h' t.heap ∧ va_F (cx_A G) st t
def rmX (d mc ms : Nat) : Room := { frames := d, cells := mc, slots := ms, locals := 64 * d }
/-- the method M, called with these values in this memory, ends so -/
def FMx (M : MD) (d : Nat) (as : List Value) (h : MH) (o : Outcome) (h' : MH) : Prop :=
  nn h ≤ nn h' ∧ sU h ≤ sU h' ∧ ∀ (G : cx_G) (l : Launch) (ρ : Nat → Nat), l.stackTraces = false → (∀ v ∈ as, vOk h v) →
    vx_Met l M.1 (wsM M) (rmX d (nn h' - nn h) (sU h' - sU h)) (Pcx G ρ as h) (Qcx G ρ o h h') (XCx G ρ o h h') (nn h' - nn h) (sU h' - sU h) (cx_A G)
def WPm (M : MD) (d : Nat) (as : List Value) (h : MH) (Q : Outcome → MH → Prop) : Prop := ∃ (o : Outcome) (h' : MH), FMx M d as h o h' ∧ Q o h'
theorem WPm.mono {M : MD} {d : Nat} {as : List Value} {h : MH} {Q Q' : Outcome → MH → Prop} (k : WPm M d as h Q) (hq : ∀ o h', Q o h' → Q' o h') : WPm M d as h Q' := by
  obtain ⟨o, h', b, q⟩ := k
  exact ⟨o, h', b, hq o h' q⟩
/-- values as locals -/
def lay : List Value → List Value
  | [] => []
  | .long x :: r => .long x :: jk :: lay r
  | v :: r => v :: lay r
def ls0 (nL : Nat) (as : List Value) : List Value := lay as ++ List.replicate (nL - (lay as).length) jk
theorem lay_sl {h : MH} {ρ : Nat → Nat} : ∀ (as : List Value), (∀ v ∈ as, vOk h v) → (lay as).length = (lg_sl (as.map (reV ρ))).length ∧ ∀ (i : Nat) (v : Value), (lay as)[i]? = some v → v ≠ jk → vOk h v ∧ (lg_sl (as.map (reV ρ)))[i]? = some (.val (reV ρ v)) := by
  intro as
  induction as with
  | nil => intro _; exact ⟨rfl, fun i v hi => by simp [lay] at hi⟩
  | cons a r ih =>
    intro V
    obtain ⟨ih1, ih2⟩ := ih (vT V)
    have ha := vH V
    have hcons : lg_sl ((a :: r).map (reV ρ)) = (if (reV ρ a).category = 2 then [Slot.val (reV ρ a), Slot.second] else [Slot.val (reV ρ a)]) ++ lg_sl (r.map (reV ρ)) := rfl
    rw [hcons, catOk ha]
    have one : ∀ w : Value, w.category = 1 → w = a → lay (a :: r) = a :: lay r → (lay (a :: r)).length = ((if a.category = 2 then [Slot.val (reV ρ a), Slot.second] else [Slot.val (reV ρ a)]) ++ lg_sl (r.map (reV ρ))).length ∧ ∀ (i : Nat) (v : Value), (lay (a :: r))[i]? = some v → v ≠ jk → vOk h v ∧ ((if a.category = 2 then [Slot.val (reV ρ a), Slot.second] else [Slot.val (reV ρ a)]) ++ lg_sl (r.map (reV ρ)))[i]? = some (.val (reV ρ v)) := by
      intro w hw e hl
      subst e
      rw [hl, if_neg (by rw [hw]; decide)]
      refine ⟨by simp [ih1], fun i v hi hv => ?_⟩
      cases i with
      | zero => cases hi; exact ⟨ha, rfl⟩
      | succ i => exact ih2 i v hi hv
    cases a with
    | long x =>
      refine ⟨by simp [lay, Value.category, ih1], fun i v hi hv => ?_⟩
      rcases i with _ | _ | i
      · cases hi; exact ⟨ha, rfl⟩
      · cases hi; exact absurd rfl hv
      · exact ih2 i v hi hv
    | int x => exact one _ rfl rfl rfl
    | ref x => exact one _ rfl rfl rfl
    | _ => exact ha.elim
theorem LVr.entry {h : MH} {ρ : Nat → Nat} {as : List Value} {nL : Nat} (V : ∀ v ∈ as, vOk h v) (hn : (lay as).length ≤ nL) : LVr ρ h ((lg_sl (as.map (reV ρ)) ++ List.replicate (nL - (lg_sl (as.map (reV ρ))).length) Slot.unset).toArray) nL (ls0 nL as) := by
  obtain ⟨e1, e2⟩ := lay_sl (ρ := ρ) as V
  have hl := lv_entry (as.map (reV ρ)) (n := nL) (by rw [← e1]; exact hn)
  refine ⟨by unfold ls0; simp; omega, hl.1, hl.2.1, fun i v hi hv => ?_⟩
  unfold ls0 at hi
  by_cases hlt : i < (lay as).length
  · rw [List.getElem?_append_left hlt] at hi
    obtain ⟨w1, w2⟩ := e2 i v hi hv
    refine ⟨w1, ?_⟩
    rw [List.getElem?_toArray, List.getElem?_append_left (by rw [← e1]; exact hlt)]
    exact w2
  · rw [List.getElem?_append_right (by omega)] at hi
    have := List.eq_of_mem_replicate (List.mem_of_getElem? hi)
    exact absurd this hv
theorem endOf {M : MD} {o : Outcome} {G : cx_G} {ρ ρ' : Nat → Nat} {h h' : MH} {d : Nat} {p : Program} {l : Launch} {e : Env} {R : Room} {s : State} {m : MethodId} {args : Array Value} {below : List Frame} {meth : Method} {c : Code} {H' : Heap} {locs' : List Loc} {lsA' : Array Slot} {pc' mc ms : Nat}
    (F : Fx G M d p l R s m args meth c) (hx : ∀ a, a < nn h → ρ' a = ρ a) (C' : Cn G ρ' h' H') (S' : va_S (cx_A G) s.heap H' locs') : En M o ρ' h' p l e R s m args below meth c H' locs' mc ms (vx_MQ below (Qcx G ρ o h h') (XCx G ρ o h h') args s mc ms (cx_A G)) pc' lsA' := by
  obtain ⟨f1, f2, f3, f4, f5, f6, f7, f8, f9, f10, f11, f12, f13⟩ := F
  have hq : ∀ (v : Option Value), o = .returned v → (∀ w, v = some w → vOk h' w) → ∀ t : State, t.heap = H' → s.WarmedH t.vm → Qcx G ρ o h h' args s (.returned (v.map (reV ρ'))) t := fun v ho hw t ht _ => ⟨ρ', v, ho, rfl, hx, by rw [ht]; exact C', S'.F ht, hw⟩
  cases ho : o with
  | returned v =>
    rw [ho] at hq
    cases v with
    | none =>
      intro hr hd
      exact vx_ret (W.vret f1 f2 (f3.trans hr) (hq none rfl (fun w z => by cases z)) S'.2.2 hd (hlocks := f7))
    | some v =>
      intro hv hr hd
      have q1 := hq (some v) rfl (fun w z => by cases z; exact hv)
      refine vx_ret ?_
      generalize hrt : M.2.2.2.1 = rt at hr
      rw [hrt] at f3
      cases v with
      | int x =>
        have hd : decode M.2.1 pc' = .ok (.ireturn, 1) := hd
        cases rt with
        | none => exact hr.elim
        | some ty =>
          refine W.zret f1 f2 f3 ?_ q1 S'.2.2 hd (hlocks := f7)
          cases ty <;> first | exact hr.elim | rfl | (rcases hr with e | e <;> rw [e] <;> decide +kernel) | (show Value.int _ = Value.int x; exact congrArg Value.int hr)
      | long x =>
        have hd : decode M.2.1 pc' = .ok (.lreturn, 1) := hd
        cases rt with
        | none => exact hr.elim
        | some ty => cases ty <;> first | exact hr.elim | exact W.lret f1 f2 f3 q1 S'.2.2 hd (hlocks := f7)
      | ref x =>
        have hd : decode M.2.1 pc' = .ok (.areturn, 1) := hd
        have hvr : reV ρ' (.ref x) = .null ∨ ∃ a, reV ρ' (.ref x) = .ref a := by
          unfold reV
          by_cases h0 : x = 0
          · simp [h0]
          · simp [h0]
        cases rt with
        | none => exact hr.elim
        | some ty => cases ty <;> first | exact hr.elim | exact W.aret f1 f2 f3 (Or.inl ⟨_, rfl⟩) hvr q1 S'.2.2 hd (hlocks := f7) | exact W.aret f1 f2 f3 (Or.inr ⟨_, rfl⟩) hvr q1 S'.2.2 hd (hlocks := f7)
      | _ => exact hv.elim
  | threw k =>
    intro hout q ce st' hce hcv hcl
    exact vx_out (by rw [f10]; exact hout) f7 hce hcv hcl (fun t ht _ => ⟨ρ', k, rfl, rfl, hx, by rw [ht]; exact C', S'.F ht⟩) S'.2.2 (Nat.le_refl _) (Nat.le_refl _)
/-- a body gives the contract -/
theorem FMx.ofB {M : MD} {d : Nat} {as : List Value} {h h' : MH} {o : Outcome} (hp : plainName M.1.cls = true) (hn : (lay as).length ≤ M.2.2.1) (k : Bx M d 0 (ls0 M.2.2.1 as) [] h o h') : FMx M d as h o h' := by
  refine ⟨k.1, k.2.1, fun G l ρ hl V => ?_⟩
  have body : ∀ (p : Program) (e : Env) (s : State) (m : MethodId) (args : Array Value) (below : List Frame) (meth : Method) (c : Code) (s₁ : State), BodyLoose p l M.1 (headSpec (wsM M) (rmX d (nn h' - nn h) (sU h' - sU h))) M.2.1 M.2.2.1 M.2.2.2.1 e s m args below meth c s₁ → c.maxLocals = M.2.2.1 → c.exceptionTable.toList = tableOf M.2.2.2.2 → (∀ w ∈ lw_all, w.before args s = true) → Pcx G ρ as h args s →
      W p l e (headSpec (wsM M) (rmX d (nn h' - nn h) (sU h' - sU h))).room s m args below meth c s.heap [] 0 0 (vx_MQ below (Qcx G ρ o h h') (XCx G ρ o h h') args s (nn h' - nn h) (sU h' - sU h) (cx_A G)) (entryFrame m args M.2.2.1) := by
    intro p e s m args below meth c s₁ B hml hex hts hP
    obtain ⟨rfl, hS, hC⟩ := hP
    rw [lg_entry_eq]
    have F : Fx G M d p l (rmX d (nn h' - nn h) (sU h' - sU h)) s m (as.map (reV ρ)).toArray meth c := ⟨B.exec, B.bytes, B.returns, hml, findClass_of_methodNamed B.named, hts, B.notSynchronized, (name_of_methodNamed B.named B.method).1, hl, hex, hS, Nat.le_refl _, Nat.le_refl _⟩
    refine k.2.2 G p l e _ s m _ below meth c _ ρ s.heap [] 0 0 _ F hC va_S.rf (LVr.entry V hn) (fun v hv => by cases hv) (by rw [Nat.zero_add]; exact Nat.le_refl _) (by rw [Nat.zero_add]; exact Nat.le_refl _) ?_
    intro ρ' H' locs' lsA' pc' hx C' S' _
    rw [Nat.zero_add, Nat.zero_add]
    exact endOf F hx C' S'
  unfold wsM at body ⊢
  generalize hhh : M.2.2.2.2 = hh at body ⊢
  cases hh with
  | nil =>
    refine vx_ofW hp rfl (fun p e s m args below meth c s₁ B hml hex hP => body p e s m args below meth c s₁ B hml ?_ ?_ hP)
    · cases hq : c.exceptionTable.toList with
      | nil => rfl
      | cons x r => exact (hex x (by rw [hq]; exact List.mem_cons_self)).elim
    · have hts := atoms_spec (ws := ws_ M.1 M.2.1 M.2.2.1 M.2.2.2.1) B.pre
      exact fun w hw => hts w (List.mem_cons_of_mem _ hw)
  | cons x r =>
    refine vx_ofWH hp rfl (fun p e s m args below meth c s₁ B hml hP => ?_)
    have hts := atoms_spec (ws := wsW_ M.1 M.2.1 M.2.2.1 M.2.2.2.1 (x :: r)) B.pre
    exact body p e s m args below meth c s₁ B hml (vx_table (x := M.1) B (hts _ List.mem_cons_self)) (fun w hw => hts w (List.mem_cons_of_mem _ hw)) hP
theorem WPm.of {M : MD} {d : Nat} {as : List Value} {h : MH} {Q : Outcome → MH → Prop} (hp : plainName M.1.cls = true) (hn : (lay as).length ≤ M.2.2.1) (k : WPb M d 0 (ls0 M.2.2.1 as) [] h Q) : WPm M d as h Q := by
  obtain ⟨o, h', b, q⟩ := k
  exact ⟨o, h', FMx.ofB hp hn b, q⟩
