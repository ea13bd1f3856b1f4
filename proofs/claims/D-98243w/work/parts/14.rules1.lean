/-! RULES 1: constants, locals, arithmetic, stack, branches. i_..: what an instruction asks and does (Prop combinators); r_..: the combinator at its instruction gives the frame's run -/
set_option maxRecDepth 100000
abbrev KT : Type := List Value → List Value → MH → Prop
def WPb (M : MD) (d pc : Nat) (ls st : List Value) (h : MH) (Q : Outcome → MH → Prop) : Prop := ∃ (o : Outcome) (h' : MH), Bx M d pc ls st h o h' ∧ Q o h'
theorem WPb.lift {M : MD} {d pc pc' : Nat} {ls ls' st st' : List Value} {h h1 : MH} {Q : Outcome → MH → Prop} (hb : ∀ o h', Bx M d pc' ls' st' h1 o h' → Bx M d pc ls st h o h') (k : WPb M d pc' ls' st' h1 Q) : WPb M d pc ls st h Q := by
  obtain ⟨o, h', b, q⟩ := k
  exact ⟨o, h', hb o h' b, q⟩
theorem WPb.mono {M : MD} {d pc : Nat} {ls st : List Value} {h : MH} {Q Q' : Outcome → MH → Prop} (k : WPb M d pc ls st h Q) (hq : ∀ o h', Q o h' → Q' o h') : WPb M d pc ls st h Q' := by
  obtain ⟨o, h', b, q⟩ := k
  exact ⟨o, h', b, hq o h' q⟩
theorem vT {h : MH} {w : Value} {st : List Value} (V : ∀ v ∈ w :: st, vOk h v) : ∀ v ∈ st, vOk h v := fun v hv => V v (List.mem_cons_of_mem _ hv)
theorem vH {h : MH} {w : Value} {st : List Value} (V : ∀ v ∈ w :: st, vOk h v) : vOk h w := V w List.mem_cons_self
theorem vC {h : MH} {w : Value} {st : List Value} (hw : vOk h w) (V : ∀ v ∈ st, vOk h v) : ∀ v ∈ w :: st, vOk h v := by
  intro v hv
  rcases List.mem_cons.mp hv with e | e
  · rw [e]; exact hw
  · exact V v e
theorem vI {h : MH} {x : Int32} {st : List Value} (V : ∀ v ∈ st, vOk h v) : ∀ v ∈ Value.int x :: st, vOk h v := vC trivial V
theorem vL {h : MH} {x : Int64} {st : List Value} (V : ∀ v ∈ st, vOk h v) : ∀ v ∈ Value.long x :: st, vOk h v := vC trivial V
theorem catOk {h : MH} {ρ : Nat → Nat} {v : Value} (hv : vOk h v) : (reV ρ v).category = v.category := by
  cases v with
  | ref a => unfold reV; by_cases e : a = 0 <;> simp [e, Value.category]
  | _ => rfl
def lg (ls : List Value) (k : Nat) : Value := ls.getD k jk
theorem lg_0 (v : Value) (ls : List Value) : lg (v :: ls) 0 = v := rfl
theorem lg_s (v : Value) (ls : List Value) (k : Nat) : lg (v :: ls) (k + 1) = lg ls k := rfl
theorem lg_at {ls : List Value} {k : Nat} {v : Value} (h : lg ls k = v) (hj : v ≠ jk) : ls[k]? = some v := by
  unfold lg at h
  rw [List.getD_eq_getElem?_getD] at h
  cases e : ls[k]? with
  | none => rw [e] at h; exact absurd h.symm hj
  | some w => rw [e] at h; rw [show w = v from h]
theorem LVr.get {ρ : Nat → Nat} {h : MH} {lsA : Array Slot} {nL : Nat} {ls : List Value} (L : LVr ρ h lsA nL ls) {k : Nat} {v : Value} (hl : lg ls k = v) (hj : v ≠ jk) : vOk h v ∧ lsA[k]? = some (.val (reV ρ v)) := L.2.2.2 k v (lg_at hl hj) hj

def i_const (v : Int32) (kk : KT) : KT := fun ls st h => kk ls (.int v :: st) h
theorem b_iconst {M : MD} {d pc : Nat} {ls st : List Value} {h h' : MH} {o : Outcome} {n : Int} {v : Int32} (hd : decode M.2.1 pc = .ok (.iconst n, 1)) (hv : Int32.ofInt n = v) (k : Bx M d (pc + 1) ls (.int v :: st) h o h') : Bx M d pc ls st h o h' :=
  Bx.go (fun G p l ev R s m args below meth c Q ρ Hp locs cells slots lsA F C S L V => ⟨vI V, fun w => lv_iconst F.1 F.2.1 hd hv w⟩) k
theorem r_iconst {M : MD} {d pc : Nat} {Q : Outcome → MH → Prop} {kk : KT} {n : Int} {v : Int32} (hd : decode M.2.1 pc = .ok (.iconst n, 1)) (hv : Int32.ofInt n = v) (hc : ∀ ls st h, kk ls st h → WPb M d (pc + 1) ls st h Q) : ∀ ls st h, i_const v kk ls st h → WPb M d pc ls st h Q :=
  fun _ _ _ H => WPb.lift (fun _ _ => b_iconst hd hv) (hc _ _ _ H)
theorem b_bipush {M : MD} {d pc : Nat} {ls st : List Value} {h h' : MH} {o : Outcome} {n : Int} {v : Int32} (hd : decode M.2.1 pc = .ok (.bipush n, 2)) (hv : (Int8.ofInt n).toInt32 = v) (k : Bx M d (pc + 2) ls (.int v :: st) h o h') : Bx M d pc ls st h o h' :=
  Bx.go (fun G p l ev R s m args below meth c Q ρ Hp locs cells slots lsA F C S L V => ⟨vI V, fun w => lv_bipush F.1 F.2.1 hd hv w⟩) k
theorem r_bipush {M : MD} {d pc : Nat} {Q : Outcome → MH → Prop} {kk : KT} {n : Int} {v : Int32} (hd : decode M.2.1 pc = .ok (.bipush n, 2)) (hv : (Int8.ofInt n).toInt32 = v) (hc : ∀ ls st h, kk ls st h → WPb M d (pc + 2) ls st h Q) : ∀ ls st h, i_const v kk ls st h → WPb M d pc ls st h Q :=
  fun _ _ _ H => WPb.lift (fun _ _ => b_bipush hd hv) (hc _ _ _ H)
theorem b_sipush {M : MD} {d pc : Nat} {ls st : List Value} {h h' : MH} {o : Outcome} {n : Int} {v : Int32} (hd : decode M.2.1 pc = .ok (.sipush n, 3)) (hv : (Int16.ofInt n).toInt32 = v) (k : Bx M d (pc + 3) ls (.int v :: st) h o h') : Bx M d pc ls st h o h' :=
  Bx.go (fun G p l ev R s m args below meth c Q ρ Hp locs cells slots lsA F C S L V => ⟨vI V, fun w => lv_sipush F.1 F.2.1 hd hv w⟩) k
theorem r_sipush {M : MD} {d pc : Nat} {Q : Outcome → MH → Prop} {kk : KT} {n : Int} {v : Int32} (hd : decode M.2.1 pc = .ok (.sipush n, 3)) (hv : (Int16.ofInt n).toInt32 = v) (hc : ∀ ls st h, kk ls st h → WPb M d (pc + 3) ls st h Q) : ∀ ls st h, i_const v kk ls st h → WPb M d pc ls st h Q :=
  fun _ _ _ H => WPb.lift (fun _ _ => b_sipush hd hv) (hc _ _ _ H)
theorem b_ldc {M : MD} {d pc : Nat} {ls st : List Value} {h h' : MH} {o : Outcome} {i : Nat} {v : Int32} (hd : decode M.2.1 pc = .ok (.ldc i, 2)) (hw : Cond.constant M.1.cls i v ∈ lw_all) (k : Bx M d (pc + 2) ls (.int v :: st) h o h') : Bx M d pc ls st h o h' :=
  Bx.go (fun G p l ev R s m args below meth c Q ρ Hp locs cells slots lsA F C S L V => ⟨vI V, fun w => lv_ldc F.1 F.2.1 F.2.2.2.2.1 (F.2.2.2.2.2.1 _ hw) hd w⟩) k
theorem r_ldc {M : MD} {d pc : Nat} {Q : Outcome → MH → Prop} {kk : KT} {i : Nat} {v : Int32} (hd : decode M.2.1 pc = .ok (.ldc i, 2)) (hw : Cond.constant M.1.cls i v ∈ lw_all) (hc : ∀ ls st h, kk ls st h → WPb M d (pc + 2) ls st h Q) : ∀ ls st h, i_const v kk ls st h → WPb M d pc ls st h Q :=
  fun _ _ _ H => WPb.lift (fun _ _ => b_ldc hd hw) (hc _ _ _ H)
theorem b_ldcw {M : MD} {d pc : Nat} {ls st : List Value} {h h' : MH} {o : Outcome} {i : Nat} {v : Int32} (hd : decode M.2.1 pc = .ok (.ldc_w i, 3)) (hw : Cond.constant M.1.cls i v ∈ lw_all) (k : Bx M d (pc + 3) ls (.int v :: st) h o h') : Bx M d pc ls st h o h' :=
  Bx.go (fun G p l ev R s m args below meth c Q ρ Hp locs cells slots lsA F C S L V => ⟨vI V, fun w => lv_ldcw F.1 F.2.1 F.2.2.2.2.1 (F.2.2.2.2.2.1 _ hw) hd w⟩) k
theorem r_ldcw {M : MD} {d pc : Nat} {Q : Outcome → MH → Prop} {kk : KT} {i : Nat} {v : Int32} (hd : decode M.2.1 pc = .ok (.ldc_w i, 3)) (hw : Cond.constant M.1.cls i v ∈ lw_all) (hc : ∀ ls st h, kk ls st h → WPb M d (pc + 3) ls st h Q) : ∀ ls st h, i_const v kk ls st h → WPb M d pc ls st h Q :=
  fun _ _ _ H => WPb.lift (fun _ _ => b_ldcw hd hw) (hc _ _ _ H)
def i_lconst (v : Int64) (kk : KT) : KT := fun ls st h => kk ls (.long v :: st) h
theorem r_lconst {M : MD} {d pc : Nat} {Q : Outcome → MH → Prop} {kk : KT} {n : Fin 2} {v : Int64} (hd : decode M.2.1 pc = .ok (.lconst n, 1)) (hv : Int64.ofNat (n : Nat) = v) (hc : ∀ ls st h, kk ls st h → WPb M d (pc + 1) ls st h Q) : ∀ ls st h, i_lconst v kk ls st h → WPb M d pc ls st h Q :=
  fun _ _ _ H => WPb.lift (fun _ _ => Bx.go (fun G p l ev R s m args below meth c Q ρ Hp locs cells slots lsA F C S L V => ⟨vL V, fun w => lv_lconst F.1 F.2.1 hd hv w⟩)) (hc _ _ _ H)
def i_null (kk : KT) : KT := fun ls st h => kk ls (.ref 0 :: st) h
theorem r_null {M : MD} {d pc : Nat} {Q : Outcome → MH → Prop} {kk : KT} (hd : decode M.2.1 pc = .ok (.aconst_null, 1)) (hc : ∀ ls st h, kk ls st h → WPb M d (pc + 1) ls st h Q) : ∀ ls st h, i_null kk ls st h → WPb M d pc ls st h Q :=
  fun _ _ _ H => WPb.lift (fun _ _ => Bx.go (fun G p l ev R s m args below meth c Q ρ Hp locs cells slots lsA F C S L V => ⟨vC (w := .ref 0) (Nat.lt_of_lt_of_le (show 0 < cx_K0 by decide) C.2.2.2.2.2.2.1) V, fun w => lv_null F.1 F.2.1 hd w⟩)) (hc _ _ _ H)
def i_iload (k : Nat) (kk : KT) : KT := fun ls st h => match lg ls k with
  | .int x => kk ls (.int x :: st) h
  | _ => False
theorem r_iload_n {M : MD} {d pc : Nat} {Q : Outcome → MH → Prop} {kk : KT} {kf : Fin 4} {k : Nat} (hd : decode M.2.1 pc = .ok (.iload_n kf, 1)) (hk : (kf : Nat) = k) (hc : ∀ ls st h, kk ls st h → WPb M d (pc + 1) ls st h Q) : ∀ ls st h, i_iload k kk ls st h → WPb M d pc ls st h Q := by
  intro ls st h H
  unfold i_iload at H
  split at H
  · rename_i x e
    exact WPb.lift (fun _ _ => Bx.go (fun G p l ev R s m args below meth c Q ρ Hp locs cells slots lsA F C S L V => ⟨vC (w := .int x) trivial V, fun w => lv_iload_n F.1 F.2.1 hd hk (L.get e (fun q => by cases q)).2 w⟩)) (hc _ _ _ H)
  · exact H.elim
theorem r_iload {M : MD} {d pc : Nat} {Q : Outcome → MH → Prop} {kk : KT} {k : Nat} (hd : decode M.2.1 pc = .ok (.iload k, 2)) (hc : ∀ ls st h, kk ls st h → WPb M d (pc + 2) ls st h Q) : ∀ ls st h, i_iload k kk ls st h → WPb M d pc ls st h Q := by
  intro ls st h H
  unfold i_iload at H
  split at H
  · rename_i x e
    exact WPb.lift (fun _ _ => Bx.go (fun G p l ev R s m args below meth c Q ρ Hp locs cells slots lsA F C S L V => ⟨vC (w := .int x) trivial V, fun w => lv_iload F.1 F.2.1 hd (L.get e (fun q => by cases q)).2 w⟩)) (hc _ _ _ H)
  · exact H.elim
def i_lload (k : Nat) (kk : KT) : KT := fun ls st h => match lg ls k with
  | .long x => kk ls (.long x :: st) h
  | _ => False
theorem r_lload_n {M : MD} {d pc : Nat} {Q : Outcome → MH → Prop} {kk : KT} {kf : Fin 4} {k : Nat} (hd : decode M.2.1 pc = .ok (.lload_n kf, 1)) (hk : (kf : Nat) = k) (hc : ∀ ls st h, kk ls st h → WPb M d (pc + 1) ls st h Q) : ∀ ls st h, i_lload k kk ls st h → WPb M d pc ls st h Q := by
  intro ls st h H
  unfold i_lload at H
  split at H
  · rename_i x e
    exact WPb.lift (fun _ _ => Bx.go (fun G p l ev R s m args below meth c Q ρ Hp locs cells slots lsA F C S L V => ⟨vC (w := .long x) trivial V, fun w => lv_lload_n F.1 F.2.1 hd hk (L.get e (fun q => by cases q)).2 w⟩)) (hc _ _ _ H)
  · exact H.elim
theorem r_lload {M : MD} {d pc : Nat} {Q : Outcome → MH → Prop} {kk : KT} {k : Nat} (hd : decode M.2.1 pc = .ok (.lload k, 2)) (hc : ∀ ls st h, kk ls st h → WPb M d (pc + 2) ls st h Q) : ∀ ls st h, i_lload k kk ls st h → WPb M d pc ls st h Q := by
  intro ls st h H
  unfold i_lload at H
  split at H
  · rename_i x e
    exact WPb.lift (fun _ _ => Bx.go (fun G p l ev R s m args below meth c Q ρ Hp locs cells slots lsA F C S L V => ⟨vC (w := .long x) trivial V, fun w => lv_lload F.1 F.2.1 hd (L.get e (fun q => by cases q)).2 w⟩)) (hc _ _ _ H)
  · exact H.elim
def i_aload (k : Nat) (kk : KT) : KT := fun ls st h => match lg ls k with
  | .ref a => kk ls (.ref a :: st) h
  | _ => False
theorem r_aload_n {M : MD} {d pc : Nat} {Q : Outcome → MH → Prop} {kk : KT} {kf : Fin 4} {k : Nat} (hd : decode M.2.1 pc = .ok (.aload_n kf, 1)) (hk : (kf : Nat) = k) (hc : ∀ ls st h, kk ls st h → WPb M d (pc + 1) ls st h Q) : ∀ ls st h, i_aload k kk ls st h → WPb M d pc ls st h Q := by
  intro ls st h H
  unfold i_aload at H
  split at H
  · rename_i a e
    refine WPb.lift (fun _ _ => Bx.go (pc' := pc + 1) (st' := .ref a :: st) (fun G p l ev R s m args below meth c Q ρ Hp locs cells slots lsA F C S L V => ?_)) (hc _ _ _ H)
    obtain ⟨ha, hl⟩ := L.get e (fun q => by cases q)
    refine ⟨vC ha V, fun w => ?_⟩
    by_cases h0 : a = 0
    · subst h0; exact lv_aload_nN F.1 F.2.1 hd hk hl w
    · have er : reV ρ (.ref a) = .ref (ρ a) := by simp [reV, h0]
      rw [er] at hl
      rw [List.map_cons, er] at w
      exact lv_aload_n F.1 F.2.1 hd hk hl w
  · exact H.elim
theorem r_aload {M : MD} {d pc : Nat} {Q : Outcome → MH → Prop} {kk : KT} {k : Nat} (hd : decode M.2.1 pc = .ok (.aload k, 2)) (hc : ∀ ls st h, kk ls st h → WPb M d (pc + 2) ls st h Q) : ∀ ls st h, i_aload k kk ls st h → WPb M d pc ls st h Q := by
  intro ls st h H
  unfold i_aload at H
  split at H
  · rename_i a e
    refine WPb.lift (fun _ _ => Bx.go (pc' := pc + 2) (st' := .ref a :: st) (fun G p l ev R s m args below meth c Q ρ Hp locs cells slots lsA F C S L V => ?_)) (hc _ _ _ H)
    obtain ⟨ha, hl⟩ := L.get e (fun q => by cases q)
    refine ⟨vC ha V, fun w => ?_⟩
    by_cases h0 : a = 0
    · subst h0; exact lv_aloadN F.1 F.2.1 hd hl w
    · have er : reV ρ (.ref a) = .ref (ρ a) := by simp [reV, h0]
      rw [er] at hl
      rw [List.map_cons, er] at w
      exact lv_aload F.1 F.2.1 hd hl w
  · exact H.elim
/-- a local is written: a long that reaches into it is lost -/
def lp (ls : List Value) (k : Nat) : List Value := match k with
  | 0 => ls
  | j + 1 => match lg ls j with
    | .long _ => ls.set j jk
    | _ => ls
def ps (ls : List Value) (k : Nat) (v : Value) : List Value := (lp ls k).set k v
theorem lp_len (ls : List Value) (k : Nat) : (lp ls k).length = ls.length := by
  unfold lp
  split
  · rfl
  · split <;> simp
def prs (ρ : Nat → Nat) (ls : List Value) : List (Nat × Value) := (List.range ls.length).filterMap (fun i => match ls[i]? with
  | some v => if v = jk then none else some (i, reV ρ v)
  | none => none)
theorem prs_mem {ρ : Nat → Nat} {ls : List Value} {q : Nat × Value} : q ∈ prs ρ ls ↔ ∃ v, ls[q.1]? = some v ∧ v ≠ jk ∧ q.2 = reV ρ v := by
  unfold prs
  rw [List.mem_filterMap]
  constructor
  · rintro ⟨i, hi, e⟩
    split at e
    · rename_i v hv
      split at e
      · cases e
      · rename_i hj
        cases e
        exact ⟨v, hv, hj, rfl⟩
    · cases e
  · rintro ⟨v, hv, hj, e⟩
    refine ⟨q.1, List.mem_range.mpr (List.getElem?_eq_some_iff.mp hv).1, ?_⟩
    rw [hv]
    simp only [hj, if_false]
    rw [← e]
theorem LVr.has {ρ : Nat → Nat} {h : MH} {lsA : Array Slot} {nL : Nat} {ls : List Value} (L : LVr ρ h lsA nL ls) : lv_has lsA nL (prs ρ ls) := ⟨L.2.1, L.2.2.1, fun q hq => by
  obtain ⟨v, hv, hj, e⟩ := prs_mem.mp hq
  rw [e]
  exact (L.2.2.2 _ v hv hj).2⟩
theorem LVr.put {ρ : Nat → Nat} {h : MH} {lsA ls' : Array Slot} {nL : Nat} {ls : List Value} {k : Nat} {v : Value} {lv : List (Nat × Value)} (L : LVr ρ h lsA nL ls) (hv : v = jk ∨ vOk h v) (hlv : lv_has ls' nL lv) (hm : v = jk ∨ (k, reV ρ v) ∈ lv)
    (hr : ∀ (i : Nat) (w : Value), (i, w) ∈ prs ρ ls → i ≠ k → (i + 1 = k → w.category ≠ 2) → (i, w) ∈ lv) : LVr ρ h ls' nL (ps ls k v) := by
  refine ⟨by unfold ps; rw [List.length_set, lp_len]; exact L.1, hlv.1, hlv.2.1, fun i w hi hj => ?_⟩
  unfold ps at hi
  by_cases hik : i = k
  · subst hik
    have hlt : i < (lp ls i).length := by
      have := (List.getElem?_eq_some_iff.mp hi).1
      rwa [List.length_set] at this
    rw [List.getElem?_set_self hlt] at hi
    cases hi
    rcases hv with e | hv
    · exact absurd e hj
    · rcases hm with e | hm
      · exact absurd e hj
      · exact ⟨hv, hlv.2.2 _ hm⟩
  · rw [List.getElem?_set_ne (fun q => hik q.symm)] at hi
    have key : ls[i]? = some w ∧ (i + 1 = k → w.category ≠ 2) := by
      unfold lp at hi
      split at hi
      · exact ⟨hi, fun q => by omega⟩
      · rename_i j
        split at hi
        · rename_i x e
          by_cases hij : i = j
          · subst hij
            have hlt : i < ls.length := by
              have := (List.getElem?_eq_some_iff.mp hi).1
              rwa [List.length_set] at this
            rw [List.getElem?_set_self hlt] at hi
            cases hi
            exact absurd rfl hj
          · rw [List.getElem?_set_ne (fun q => hij q.symm)] at hi
            exact ⟨hi, fun q => absurd (by omega) hij⟩
        · rename_i e
          refine ⟨hi, fun q => ?_⟩
          have hij : i = j := by omega
          subst hij
          have hw : lg ls i = w := by
            unfold lg
            rw [List.getD_eq_getElem?_getD, hi]
            rfl
          intro hc
          have hok := (L.2.2.2 i w hi hj).1
          cases w with
          | long x => exact e x hw
          | int x => cases hc
          | ref x => cases hc
          | _ => exact hok.elim
    obtain ⟨h1, h2⟩ := key
    obtain ⟨w1, w2⟩ := L.2.2.2 i w h1 hj
    refine ⟨w1, hlv.2.2 (i, reV ρ w) (hr i _ (prs_mem.mpr ⟨w, h1, hj, rfl⟩) hik (fun q => by rw [catOk w1]; exact h2 q))⟩
theorem flt_mem {k : Nat} {lv : List (Nat × Value)} {v : Value} {i : Nat} {w : Value} (h : (i, w) ∈ lv) (h1 : i ≠ k) (h2 : i + 1 = k → w.category ≠ 2) : (i, w) ∈ (k, v) :: lv.filter (fun q => !(q.1 == k) && !(q.1 + 1 == k && q.2.category == 2)) := by
  refine List.mem_cons_of_mem _ (List.mem_filter.mpr ⟨h, ?_⟩)
  simp only [Bool.and_eq_true, Bool.not_eq_true', beq_eq_false_iff_ne, ne_eq, Bool.and_eq_false_imp, beq_iff_eq]
  exact ⟨h1, h2⟩
theorem flt_memL {k : Nat} {lv : List (Nat × Value)} {v : Value} {i : Nat} {w : Value} (h : (i, w) ∈ lv) (h1 : i ≠ k) (h3 : i ≠ k + 1) (h2 : i + 1 = k → w.category ≠ 2) : (i, w) ∈ (k, v) :: lv.filter (fun q => !(q.1 == k) && (!(q.1 == k + 1) && !(q.1 + 1 == k && q.2.category == 2))) := by
  refine List.mem_cons_of_mem _ (List.mem_filter.mpr ⟨h, ?_⟩)
  simp only [Bool.and_eq_true, Bool.not_eq_true', beq_eq_false_iff_ne, ne_eq, Bool.and_eq_false_imp, beq_iff_eq]
  exact ⟨h1, h3, h2⟩
/-- a step that writes a local -/
theorem Bx.lo {M : MD} {d pc pc' : Nat} {ls ls' st st' : List Value} {h h' : MH} {o : Outcome}
    (hW : ∀ (G : cx_G) (p : Program) (l : Launch) (e : Env) (R : Room) (s : State) (m : MethodId) (args : Array Value) (below : List Frame) (meth : Method) (c : Code) (Q : State → Prop) (ρ : Nat → Nat) (H : Heap) (locs : List Loc) (cells slots : Nat) (lsA : Array Slot), Fx G M d p l R s m args meth c → LVr ρ h lsA M.2.2.1 ls → (∀ v ∈ st, vOk h v) →
      (∀ v ∈ st', vOk h v) ∧ ((∀ lsB : Array Slot, LVr ρ h lsB M.2.2.1 ls' → W p l e R s m args below meth c H locs cells slots Q (F0 m pc' lsB (st'.map (reV ρ)))) → W p l e R s m args below meth c H locs cells slots Q (F0 m pc lsA (st.map (reV ρ)))))
    (k : Bx M d pc' ls' st' h o h') : Bx M d pc ls st h o h' := by
  refine ⟨k.1, k.2.1, ?_⟩
  intro G p l e R s m args below meth c Q ρ H locs cells slots lsA F C S L V hc hs fin
  obtain ⟨V', hw⟩ := hW G p l e R s m args below meth c Q ρ H locs cells slots lsA F L V
  exact hw (fun lsB LB => k.2.2 G p l e R s m args below meth c Q ρ H locs cells slots lsB F C S LB V' hc hs fin)

def i_istore (k : Nat) (kk : KT) : KT := fun ls st h => match st with
  | .int x :: r => k < ls.length ∧ kk (ps ls k (.int x)) r h
  | _ => False
theorem r_istore_n {M : MD} {d pc : Nat} {Q : Outcome → MH → Prop} {kk : KT} {kf : Fin 4} {k : Nat} (hd : decode M.2.1 pc = .ok (.istore_n kf, 1)) (hk : (kf : Nat) = k) (hc : ∀ ls st h, kk ls st h → WPb M d (pc + 1) ls st h Q) : ∀ ls st h, i_istore k kk ls st h → WPb M d pc ls st h Q := by
  intro ls st h H
  unfold i_istore at H
  split at H
  · rename_i x r
    exact WPb.lift (fun _ _ => Bx.lo (fun G p l ev R s m args below meth c Q ρ Hp locs cells slots lsA F L V => ⟨vT V, fun w => lv_istore_n F.1 F.2.1 hd hk L.has (by have := L.1; omega) rfl (fun ls' hl' => w ls' (L.put (v := .int x) (Or.inr trivial) hl' (Or.inr List.mem_cons_self) (fun i w hm h1 h2 => flt_mem hm h1 h2)))⟩)) (hc _ _ _ H.2)
  · exact H.elim
theorem r_istore {M : MD} {d pc : Nat} {Q : Outcome → MH → Prop} {kk : KT} {k : Nat} (hd : decode M.2.1 pc = .ok (.istore k, 2)) (hc : ∀ ls st h, kk ls st h → WPb M d (pc + 2) ls st h Q) : ∀ ls st h, i_istore k kk ls st h → WPb M d pc ls st h Q := by
  intro ls st h H
  unfold i_istore at H
  split at H
  · rename_i x r
    exact WPb.lift (fun _ _ => Bx.lo (fun G p l ev R s m args below meth c Q ρ Hp locs cells slots lsA F L V => ⟨vT V, fun w => lv_istore F.1 F.2.1 hd L.has (by have := L.1; omega) rfl (fun ls' hl' => w ls' (L.put (v := .int x) (Or.inr trivial) hl' (Or.inr List.mem_cons_self) (fun i w hm h1 h2 => flt_mem hm h1 h2)))⟩)) (hc _ _ _ H.2)
  · exact H.elim
def i_astore (k : Nat) (kk : KT) : KT := fun ls st h => match st with
  | .ref a :: r => k < ls.length ∧ kk (ps ls k (.ref a)) r h
  | _ => False
theorem r_astore_n {M : MD} {d pc : Nat} {Q : Outcome → MH → Prop} {kk : KT} {kf : Fin 4} {k : Nat} (hd : decode M.2.1 pc = .ok (.astore_n kf, 1)) (hk : (kf : Nat) = k) (hc : ∀ ls st h, kk ls st h → WPb M d (pc + 1) ls st h Q) : ∀ ls st h, i_astore k kk ls st h → WPb M d pc ls st h Q := by
  intro ls st h H
  unfold i_astore at H
  split at H
  · rename_i a r
    refine WPb.lift (fun _ _ => Bx.lo (pc' := pc + 1) (ls' := ps ls k (.ref a)) (st' := r) (fun G p l ev R s m args below meth c Q ρ Hp locs cells slots lsA F L V => ⟨vT V, fun w => ?_⟩)) (hc _ _ _ H.2)
    have hn : k < M.2.2.1 := by have := L.1; omega
    by_cases h0 : a = 0
    · subst h0
      exact lv_astore_nN F.1 F.2.1 hd hk L.has hn rfl (fun ls' hl' => w ls' (L.put (v := .ref 0) (Or.inr (vH V)) hl' (Or.inr List.mem_cons_self) (fun i w hm h1 h2 => flt_mem hm h1 h2)))
    · have er : reV ρ (.ref a) = .ref (ρ a) := by simp [reV, h0]
      rw [List.map_cons, er]
      exact lv_astore_n F.1 F.2.1 hd hk L.has hn rfl (fun ls' hl' => w ls' (L.put (v := .ref a) (Or.inr (vH V)) hl' (Or.inr (by rw [er]; exact List.mem_cons_self)) (fun i w hm h1 h2 => flt_mem hm h1 h2)))
  · exact H.elim
theorem r_astore {M : MD} {d pc : Nat} {Q : Outcome → MH → Prop} {kk : KT} {k : Nat} (hd : decode M.2.1 pc = .ok (.astore k, 2)) (hc : ∀ ls st h, kk ls st h → WPb M d (pc + 2) ls st h Q) : ∀ ls st h, i_astore k kk ls st h → WPb M d pc ls st h Q := by
  intro ls st h H
  unfold i_astore at H
  split at H
  · rename_i a r
    refine WPb.lift (fun _ _ => Bx.lo (pc' := pc + 2) (ls' := ps ls k (.ref a)) (st' := r) (fun G p l ev R s m args below meth c Q ρ Hp locs cells slots lsA F L V => ⟨vT V, fun w => ?_⟩)) (hc _ _ _ H.2)
    have hn : k < M.2.2.1 := by have := L.1; omega
    by_cases h0 : a = 0
    · subst h0
      exact lv_astoreN F.1 F.2.1 hd L.has hn rfl (fun ls' hl' => w ls' (L.put (v := .ref 0) (Or.inr (vH V)) hl' (Or.inr List.mem_cons_self) (fun i w hm h1 h2 => flt_mem hm h1 h2)))
    · have er : reV ρ (.ref a) = .ref (ρ a) := by simp [reV, h0]
      rw [List.map_cons, er]
      exact lv_astore F.1 F.2.1 hd L.has hn rfl (fun ls' hl' => w ls' (L.put (v := .ref a) (Or.inr (vH V)) hl' (Or.inr (by rw [er]; exact List.mem_cons_self)) (fun i w hm h1 h2 => flt_mem hm h1 h2)))
  · exact H.elim
theorem LVr.put2 {ρ : Nat → Nat} {h : MH} {lsA ls' : Array Slot} {nL : Nat} {ls : List Value} {k : Nat} {x : Int64} (L : LVr ρ h lsA nL ls) (hlv : lv_has ls' nL ((k, Value.long x) :: (prs ρ ls).filter (fun q => !(q.1 == k) && (!(q.1 == k + 1) && !(q.1 + 1 == k && q.2.category == 2))))) : LVr ρ h ls' nL ((ps ls k (.long x)).set (k + 1) jk) := by
  have key : ps ls k (.long x) = ps ls k (.long x) := rfl
  refine ⟨by rw [List.length_set]; unfold ps; rw [List.length_set, lp_len]; exact L.1, hlv.1, hlv.2.1, fun i w hi hj => ?_⟩
  by_cases hik : i = k + 1
  · subst hik
    have hlt : k + 1 < (ps ls k (.long x)).length := by
      have := (List.getElem?_eq_some_iff.mp hi).1
      rwa [List.length_set] at this
    rw [List.getElem?_set_self hlt] at hi
    cases hi
    exact absurd rfl hj
  · rw [List.getElem?_set_ne (fun q => hik q.symm)] at hi
    -- as for one place, with the second place left out
    have LL : LVr ρ h lsA nL (ls.set (k + 1) jk) := ⟨by rw [List.length_set]; exact L.1, L.2.1, L.2.2.1, fun i v hi hv => by
      by_cases hq : i = k + 1
      · subst hq
        have hlt : k + 1 < ls.length := by
          have := (List.getElem?_eq_some_iff.mp hi).1
          rwa [List.length_set] at this
        rw [List.getElem?_set_self hlt] at hi
        cases hi
        exact absurd rfl hv
      · rw [List.getElem?_set_ne (fun q => hq q.symm)] at hi
        exact L.2.2.2 i v hi hv⟩
    have P := LL.put (k := k) (v := .long x) (Or.inr trivial) hlv (Or.inr List.mem_cons_self) (fun i w hm h1 h2 => by
      obtain ⟨v, hv, hvj, e⟩ := prs_mem.mp hm
      have hne : i ≠ k + 1 := by
        intro q
        subst q
        have hlt : k + 1 < ls.length := by
          have := (List.getElem?_eq_some_iff.mp hv).1
          rwa [List.length_set] at this
        rw [List.getElem?_set_self hlt] at hv
        cases hv
        exact absurd rfl hvj
      rw [List.getElem?_set_ne (fun q => hne q.symm)] at hv
      exact flt_memL (prs_mem.mpr ⟨v, hv, hvj, e⟩) h1 hne h2)
    refine P.2.2.2 i w ?_ hj
    have hps : (ps (ls.set (k + 1) jk) k (.long x))[i]? = (ps ls k (.long x))[i]? := by
      unfold ps
      by_cases hk : i = k
      · subst hk
        simp [List.getElem?_set, lp_len]
      · rw [List.getElem?_set_ne (fun q => hk q.symm), List.getElem?_set_ne (fun q => hk q.symm)]
        unfold lp
        cases k with
        | zero => exact List.getElem?_set_ne (fun q => hik q.symm)
        | succ j =>
          have e : lg (ls.set (j + 1 + 1) jk) j = lg ls j := by
            unfold lg
            rw [List.getD_eq_getElem?_getD, List.getD_eq_getElem?_getD, List.getElem?_set_ne (by omega)]
          simp only [e]
          split
          · by_cases hij : i = j
            · subst hij
              simp [List.getElem?_set]
            · rw [List.getElem?_set_ne (fun q => hij q.symm), List.getElem?_set_ne (fun q => hij q.symm), List.getElem?_set_ne (fun q => hik q.symm)]
          · exact List.getElem?_set_ne (fun q => hik q.symm)
    rw [hps]
    exact hi
def i_lstore (k : Nat) (kk : KT) : KT := fun ls st h => match st with
  | .long x :: r => k + 1 < ls.length ∧ kk ((ps ls k (.long x)).set (k + 1) jk) r h
  | _ => False
theorem r_lstore_n {M : MD} {d pc : Nat} {Q : Outcome → MH → Prop} {kk : KT} {kf : Fin 4} {k : Nat} (hd : decode M.2.1 pc = .ok (.lstore_n kf, 1)) (hk : (kf : Nat) = k) (hc : ∀ ls st h, kk ls st h → WPb M d (pc + 1) ls st h Q) : ∀ ls st h, i_lstore k kk ls st h → WPb M d pc ls st h Q := by
  intro ls st h H
  unfold i_lstore at H
  split at H
  · rename_i x r
    exact WPb.lift (fun _ _ => Bx.lo (fun G p l ev R s m args below meth c Q ρ Hp locs cells slots lsA F L V => ⟨vT V, fun w => lv_lstore_n F.1 F.2.1 hd hk L.has (by have := L.1; omega) rfl (fun ls' hl' => w ls' (L.put2 hl'))⟩)) (hc _ _ _ H.2)
  · exact H.elim
theorem r_lstore {M : MD} {d pc : Nat} {Q : Outcome → MH → Prop} {kk : KT} {k : Nat} (hd : decode M.2.1 pc = .ok (.lstore k, 2)) (hc : ∀ ls st h, kk ls st h → WPb M d (pc + 2) ls st h Q) : ∀ ls st h, i_lstore k kk ls st h → WPb M d pc ls st h Q := by
  intro ls st h H
  unfold i_lstore at H
  split at H
  · rename_i x r
    exact WPb.lift (fun _ _ => Bx.lo (fun G p l ev R s m args below meth c Q ρ Hp locs cells slots lsA F L V => ⟨vT V, fun w => lv_lstore F.1 F.2.1 hd L.has (by have := L.1; omega) rfl (fun ls' hl' => w ls' (L.put2 hl'))⟩)) (hc _ _ _ H.2)
  · exact H.elim
def i_iinc (k : Nat) (n : Int32) (kk : KT) : KT := fun ls st h => match lg ls k with
  | .int x => kk (ps ls k (.int (x + n))) st h
  | _ => False
theorem r_iinc {M : MD} {d pc : Nat} {Q : Outcome → MH → Prop} {kk : KT} {k : Nat} {n : Int} {v : Int32} (hd : decode M.2.1 pc = .ok (.iinc k n, 3)) (hv : Int32.ofInt n = v) (hc : ∀ ls st h, kk ls st h → WPb M d (pc + 3) ls st h Q) : ∀ ls st h, i_iinc k v kk ls st h → WPb M d pc ls st h Q := by
  intro ls st h H
  unfold i_iinc at H
  split at H
  · rename_i x e
    refine WPb.lift (fun _ _ => Bx.lo (pc' := pc + 3) (ls' := ps ls k (.int (x + v))) (st' := st) (fun G p l ev R s m args below meth c Q ρ Hp locs cells slots lsA F L V => ⟨V, fun w => ?_⟩)) (hc _ _ _ H)
    have hg := lg_at e (fun q => by cases q)
    have hm : (k, Value.int x) ∈ prs ρ ls := prs_mem.mpr ⟨.int x, hg, (fun q => by cases q), rfl⟩
    obtain ⟨j, hj⟩ := List.getElem?_of_mem hm
    exact lv_iinc F.1 F.2.1 hd L.has hj (by rw [hv]) (by have := L.1; have := (List.getElem?_eq_some_iff.mp hg).1; omega) rfl (fun ls' hl' => w ls' (L.put (v := .int (x + v)) (Or.inr trivial) hl' (Or.inr List.mem_cons_self) (fun i w hm h1 h2 => flt_mem hm h1 h2)))
  · exact H.elim
def i_iadd (kk : KT) : KT := fun ls st h => match st with
  | .int y :: .int x :: r => kk ls (.int (x + y) :: r) h
  | _ => False
theorem r_iadd {M : MD} {d pc : Nat} {Q : Outcome → MH → Prop} {kk : KT} (hd : decode M.2.1 pc = .ok (.iadd, 1)) (hc : ∀ ls st h, kk ls st h → WPb M d (pc + 1) ls st h Q) : ∀ ls st h, i_iadd kk ls st h → WPb M d pc ls st h Q := by
  intro ls st h H
  unfold i_iadd at H
  split at H
  · exact WPb.lift (fun _ _ => Bx.go (fun G p l ev R s m args below meth c Q ρ Hp locs cells slots lsA F C S L V => ⟨vI (vT (vT V)), fun w => lv_iadd F.1 F.2.1 hd w⟩)) (hc _ _ _ H)
  · exact H.elim
def i_isub (kk : KT) : KT := fun ls st h => match st with
  | .int y :: .int x :: r => kk ls (.int (x - y) :: r) h
  | _ => False
theorem r_isub {M : MD} {d pc : Nat} {Q : Outcome → MH → Prop} {kk : KT} (hd : decode M.2.1 pc = .ok (.isub, 1)) (hc : ∀ ls st h, kk ls st h → WPb M d (pc + 1) ls st h Q) : ∀ ls st h, i_isub kk ls st h → WPb M d pc ls st h Q := by
  intro ls st h H
  unfold i_isub at H
  split at H
  · exact WPb.lift (fun _ _ => Bx.go (fun G p l ev R s m args below meth c Q ρ Hp locs cells slots lsA F C S L V => ⟨vI (vT (vT V)), fun w => lv_isub F.1 F.2.1 hd w⟩)) (hc _ _ _ H)
  · exact H.elim
def i_imul (kk : KT) : KT := fun ls st h => match st with
  | .int y :: .int x :: r => kk ls (.int (x * y) :: r) h
  | _ => False
theorem r_imul {M : MD} {d pc : Nat} {Q : Outcome → MH → Prop} {kk : KT} (hd : decode M.2.1 pc = .ok (.imul, 1)) (hc : ∀ ls st h, kk ls st h → WPb M d (pc + 1) ls st h Q) : ∀ ls st h, i_imul kk ls st h → WPb M d pc ls st h Q := by
  intro ls st h H
  unfold i_imul at H
  split at H
  · exact WPb.lift (fun _ _ => Bx.go (fun G p l ev R s m args below meth c Q ρ Hp locs cells slots lsA F C S L V => ⟨vI (vT (vT V)), fun w => lv_imul F.1 F.2.1 hd w⟩)) (hc _ _ _ H)
  · exact H.elim
def i_iand (kk : KT) : KT := fun ls st h => match st with
  | .int y :: .int x :: r => kk ls (.int (x &&& y) :: r) h
  | _ => False
theorem r_iand {M : MD} {d pc : Nat} {Q : Outcome → MH → Prop} {kk : KT} (hd : decode M.2.1 pc = .ok (.iand, 1)) (hc : ∀ ls st h, kk ls st h → WPb M d (pc + 1) ls st h Q) : ∀ ls st h, i_iand kk ls st h → WPb M d pc ls st h Q := by
  intro ls st h H
  unfold i_iand at H
  split at H
  · exact WPb.lift (fun _ _ => Bx.go (fun G p l ev R s m args below meth c Q ρ Hp locs cells slots lsA F C S L V => ⟨vI (vT (vT V)), fun w => lv_iand F.1 F.2.1 hd w⟩)) (hc _ _ _ H)
  · exact H.elim
def i_ior (kk : KT) : KT := fun ls st h => match st with
  | .int y :: .int x :: r => kk ls (.int (x ||| y) :: r) h
  | _ => False
theorem r_ior {M : MD} {d pc : Nat} {Q : Outcome → MH → Prop} {kk : KT} (hd : decode M.2.1 pc = .ok (.ior, 1)) (hc : ∀ ls st h, kk ls st h → WPb M d (pc + 1) ls st h Q) : ∀ ls st h, i_ior kk ls st h → WPb M d pc ls st h Q := by
  intro ls st h H
  unfold i_ior at H
  split at H
  · exact WPb.lift (fun _ _ => Bx.go (fun G p l ev R s m args below meth c Q ρ Hp locs cells slots lsA F C S L V => ⟨vI (vT (vT V)), fun w => lv_ior F.1 F.2.1 hd w⟩)) (hc _ _ _ H)
  · exact H.elim
def i_ixor (kk : KT) : KT := fun ls st h => match st with
  | .int y :: .int x :: r => kk ls (.int (x ^^^ y) :: r) h
  | _ => False
theorem r_ixor {M : MD} {d pc : Nat} {Q : Outcome → MH → Prop} {kk : KT} (hd : decode M.2.1 pc = .ok (.ixor, 1)) (hc : ∀ ls st h, kk ls st h → WPb M d (pc + 1) ls st h Q) : ∀ ls st h, i_ixor kk ls st h → WPb M d pc ls st h Q := by
  intro ls st h H
  unfold i_ixor at H
  split at H
  · exact WPb.lift (fun _ _ => Bx.go (fun G p l ev R s m args below meth c Q ρ Hp locs cells slots lsA F C S L V => ⟨vI (vT (vT V)), fun w => lv_ixor F.1 F.2.1 hd w⟩)) (hc _ _ _ H)
  · exact H.elim
def i_ishl (kk : KT) : KT := fun ls st h => match st with
  | .int y :: .int x :: r => kk ls (.int (x <<< (y &&& 31)) :: r) h
  | _ => False
theorem r_ishl {M : MD} {d pc : Nat} {Q : Outcome → MH → Prop} {kk : KT} (hd : decode M.2.1 pc = .ok (.ishl, 1)) (hc : ∀ ls st h, kk ls st h → WPb M d (pc + 1) ls st h Q) : ∀ ls st h, i_ishl kk ls st h → WPb M d pc ls st h Q := by
  intro ls st h H
  unfold i_ishl at H
  split at H
  · exact WPb.lift (fun _ _ => Bx.go (fun G p l ev R s m args below meth c Q ρ Hp locs cells slots lsA F C S L V => ⟨vI (vT (vT V)), fun w => lv_ishl F.1 F.2.1 hd w⟩)) (hc _ _ _ H)
  · exact H.elim
def i_ishr (kk : KT) : KT := fun ls st h => match st with
  | .int y :: .int x :: r => kk ls (.int (x >>> (y &&& 31)) :: r) h
  | _ => False
theorem r_ishr {M : MD} {d pc : Nat} {Q : Outcome → MH → Prop} {kk : KT} (hd : decode M.2.1 pc = .ok (.ishr, 1)) (hc : ∀ ls st h, kk ls st h → WPb M d (pc + 1) ls st h Q) : ∀ ls st h, i_ishr kk ls st h → WPb M d pc ls st h Q := by
  intro ls st h H
  unfold i_ishr at H
  split at H
  · exact WPb.lift (fun _ _ => Bx.go (fun G p l ev R s m args below meth c Q ρ Hp locs cells slots lsA F C S L V => ⟨vI (vT (vT V)), fun w => lv_ishr F.1 F.2.1 hd w⟩)) (hc _ _ _ H)
  · exact H.elim
def i_iushr (kk : KT) : KT := fun ls st h => match st with
  | .int y :: .int x :: r => kk ls (.int ((x.toUInt32 >>> (y.toUInt32 &&& Int32.toUInt32 31)).toInt32) :: r) h
  | _ => False
theorem r_iushr {M : MD} {d pc : Nat} {Q : Outcome → MH → Prop} {kk : KT} (hd : decode M.2.1 pc = .ok (.iushr, 1)) (hc : ∀ ls st h, kk ls st h → WPb M d (pc + 1) ls st h Q) : ∀ ls st h, i_iushr kk ls st h → WPb M d pc ls st h Q := by
  intro ls st h H
  unfold i_iushr at H
  split at H
  · exact WPb.lift (fun _ _ => Bx.go (fun G p l ev R s m args below meth c Q ρ Hp locs cells slots lsA F C S L V => ⟨vI (vT (vT V)), fun w => lv_iushr F.1 F.2.1 hd rfl w⟩)) (hc _ _ _ H)
  · exact H.elim
def i_idiv (kk : KT) : KT := fun ls st h => match st with
  | .int y :: .int x :: r => ¬ y = 0 ∧ kk ls (.int (x / y) :: r) h
  | _ => False
theorem r_idiv {M : MD} {d pc : Nat} {Q : Outcome → MH → Prop} {kk : KT} (hd : decode M.2.1 pc = .ok (.idiv, 1)) (hc : ∀ ls st h, kk ls st h → WPb M d (pc + 1) ls st h Q) : ∀ ls st h, i_idiv kk ls st h → WPb M d pc ls st h Q := by
  intro ls st h H
  unfold i_idiv at H
  split at H
  · exact WPb.lift (fun _ _ => Bx.go (fun G p l ev R s m args below meth c Q ρ Hp locs cells slots lsA F C S L V => ⟨vI (vT (vT V)), fun w => lv_idiv F.1 F.2.1 hd H.1 w⟩)) (hc _ _ _ H.2)
  · exact H.elim
def i_irem (kk : KT) : KT := fun ls st h => match st with
  | .int y :: .int x :: r => ¬ y = 0 ∧ kk ls (.int (x - x / y * y) :: r) h
  | _ => False
theorem r_irem {M : MD} {d pc : Nat} {Q : Outcome → MH → Prop} {kk : KT} (hd : decode M.2.1 pc = .ok (.irem, 1)) (hc : ∀ ls st h, kk ls st h → WPb M d (pc + 1) ls st h Q) : ∀ ls st h, i_irem kk ls st h → WPb M d pc ls st h Q := by
  intro ls st h H
  unfold i_irem at H
  split at H
  · exact WPb.lift (fun _ _ => Bx.go (fun G p l ev R s m args below meth c Q ρ Hp locs cells slots lsA F C S L V => ⟨vI (vT (vT V)), fun w => lv_irem F.1 F.2.1 hd H.1 w⟩)) (hc _ _ _ H.2)
  · exact H.elim
def i_ineg (kk : KT) : KT := fun ls st h => match st with
  | .int x :: r => kk ls (.int (-x) :: r) h
  | _ => False
theorem r_ineg {M : MD} {d pc : Nat} {Q : Outcome → MH → Prop} {kk : KT} (hd : decode M.2.1 pc = .ok (.ineg, 1)) (hc : ∀ ls st h, kk ls st h → WPb M d (pc + 1) ls st h Q) : ∀ ls st h, i_ineg kk ls st h → WPb M d pc ls st h Q := by
  intro ls st h H
  unfold i_ineg at H
  split at H
  · exact WPb.lift (fun _ _ => Bx.go (fun G p l ev R s m args below meth c Q ρ Hp locs cells slots lsA F C S L V => ⟨vI (vT V), fun w => lv_ineg F.1 F.2.1 hd w⟩)) (hc _ _ _ H)
  · exact H.elim
def i_i2l (kk : KT) : KT := fun ls st h => match st with
  | .int x :: r => kk ls (.long (x.toInt64) :: r) h
  | _ => False
theorem r_i2l {M : MD} {d pc : Nat} {Q : Outcome → MH → Prop} {kk : KT} (hd : decode M.2.1 pc = .ok (.i2l, 1)) (hc : ∀ ls st h, kk ls st h → WPb M d (pc + 1) ls st h Q) : ∀ ls st h, i_i2l kk ls st h → WPb M d pc ls st h Q := by
  intro ls st h H
  unfold i_i2l at H
  split at H
  · exact WPb.lift (fun _ _ => Bx.go (fun G p l ev R s m args below meth c Q ρ Hp locs cells slots lsA F C S L V => ⟨vL (vT V), fun w => lv_i2l F.1 F.2.1 hd rfl w⟩)) (hc _ _ _ H)
  · exact H.elim
def i_i2b (kk : KT) : KT := fun ls st h => match st with
  | .int x :: r => kk ls (.int (x.toInt8.toInt32) :: r) h
  | _ => False
theorem r_i2b {M : MD} {d pc : Nat} {Q : Outcome → MH → Prop} {kk : KT} (hd : decode M.2.1 pc = .ok (.i2b, 1)) (hc : ∀ ls st h, kk ls st h → WPb M d (pc + 1) ls st h Q) : ∀ ls st h, i_i2b kk ls st h → WPb M d pc ls st h Q := by
  intro ls st h H
  unfold i_i2b at H
  split at H
  · exact WPb.lift (fun _ _ => Bx.go (fun G p l ev R s m args below meth c Q ρ Hp locs cells slots lsA F C S L V => ⟨vI (vT V), fun w => lv_i2b F.1 F.2.1 hd rfl w⟩)) (hc _ _ _ H)
  · exact H.elim
def i_i2c (kk : KT) : KT := fun ls st h => match st with
  | .int x :: r => kk ls (.int ((x.toUInt32 % 65536).toInt32) :: r) h
  | _ => False
theorem r_i2c {M : MD} {d pc : Nat} {Q : Outcome → MH → Prop} {kk : KT} (hd : decode M.2.1 pc = .ok (.i2c, 1)) (hc : ∀ ls st h, kk ls st h → WPb M d (pc + 1) ls st h Q) : ∀ ls st h, i_i2c kk ls st h → WPb M d pc ls st h Q := by
  intro ls st h H
  unfold i_i2c at H
  split at H
  · exact WPb.lift (fun _ _ => Bx.go (fun G p l ev R s m args below meth c Q ρ Hp locs cells slots lsA F C S L V => ⟨vI (vT V), fun w => lv_i2c F.1 F.2.1 hd rfl w⟩)) (hc _ _ _ H)
  · exact H.elim
def i_lmul (kk : KT) : KT := fun ls st h => match st with
  | .long y :: .long x :: r => kk ls (.long (x * y) :: r) h
  | _ => False
theorem r_lmul {M : MD} {d pc : Nat} {Q : Outcome → MH → Prop} {kk : KT} (hd : decode M.2.1 pc = .ok (.lmul, 1)) (hc : ∀ ls st h, kk ls st h → WPb M d (pc + 1) ls st h Q) : ∀ ls st h, i_lmul kk ls st h → WPb M d pc ls st h Q := by
  intro ls st h H
  unfold i_lmul at H
  split at H
  · exact WPb.lift (fun _ _ => Bx.go (fun G p l ev R s m args below meth c Q ρ Hp locs cells slots lsA F C S L V => ⟨vL (vT (vT V)), fun w => lv_lmul F.1 F.2.1 hd w⟩)) (hc _ _ _ H)
  · exact H.elim
def i_lcmp (kk : KT) : KT := fun ls st h => match st with
  | .long y :: .long x :: r => kk ls (.int (lg_cmp x y) :: r) h
  | _ => False
theorem r_lcmp {M : MD} {d pc : Nat} {Q : Outcome → MH → Prop} {kk : KT} (hd : decode M.2.1 pc = .ok (.lcmp, 1)) (hc : ∀ ls st h, kk ls st h → WPb M d (pc + 1) ls st h Q) : ∀ ls st h, i_lcmp kk ls st h → WPb M d pc ls st h Q := by
  intro ls st h H
  unfold i_lcmp at H
  split at H
  · exact WPb.lift (fun _ _ => Bx.go (fun G p l ev R s m args below meth c Q ρ Hp locs cells slots lsA F C S L V => ⟨vI (vT (vT V)), fun w => W.lcmp F.1 F.2.1 hd w⟩)) (hc _ _ _ H)
  · exact H.elim
def c1 (v : Value) : Prop := match v with
  | .long _ => False
  | .double _ => False
  | _ => True
theorem c1_cat {h : MH} {ρ : Nat → Nat} {v : Value} (hv : vOk h v) (hc : c1 v) : (reV ρ v).category = 1 := by
  rw [catOk hv]
  cases v <;> first | rfl | exact hc.elim
def i_dup (kk : KT) : KT := fun ls st h => match st with
  | x :: r => (c1 x) ∧ kk ls (x :: x :: r) h
  | _ => False
theorem r_dup {M : MD} {d pc : Nat} {Q : Outcome → MH → Prop} {kk : KT} (hd : decode M.2.1 pc = .ok (.dup, 1)) (hc : ∀ ls st h, kk ls st h → WPb M d (pc + 1) ls st h Q) : ∀ ls st h, i_dup kk ls st h → WPb M d pc ls st h Q := by
  intro ls st h H
  unfold i_dup at H
  split at H
  · exact WPb.lift (fun _ _ => Bx.go (fun G p l ev R s m args below meth c Q ρ Hp locs cells slots lsA F C S L V => ⟨vC (vH V) V, fun w => lv_dup F.1 F.2.1 hd (c1_cat (vH V) H.1) w⟩)) (hc _ _ _ H.2)
  · exact H.elim
def i_pop (kk : KT) : KT := fun ls st h => match st with
  | x :: r => (c1 x) ∧ kk ls (r) h
  | _ => False
theorem r_pop {M : MD} {d pc : Nat} {Q : Outcome → MH → Prop} {kk : KT} (hd : decode M.2.1 pc = .ok (.pop, 1)) (hc : ∀ ls st h, kk ls st h → WPb M d (pc + 1) ls st h Q) : ∀ ls st h, i_pop kk ls st h → WPb M d pc ls st h Q := by
  intro ls st h H
  unfold i_pop at H
  split at H
  · exact WPb.lift (fun _ _ => Bx.go (fun G p l ev R s m args below meth c Q ρ Hp locs cells slots lsA F C S L V => ⟨vT V, fun w => lv_pop F.1 F.2.1 hd (c1_cat (vH V) H.1) w⟩)) (hc _ _ _ H.2)
  · exact H.elim
def i_dup_x1 (kk : KT) : KT := fun ls st h => match st with
  | x :: y :: r => (c1 x ∧ c1 y) ∧ kk ls (x :: y :: x :: r) h
  | _ => False
theorem r_dup_x1 {M : MD} {d pc : Nat} {Q : Outcome → MH → Prop} {kk : KT} (hd : decode M.2.1 pc = .ok (.dup_x1, 1)) (hc : ∀ ls st h, kk ls st h → WPb M d (pc + 1) ls st h Q) : ∀ ls st h, i_dup_x1 kk ls st h → WPb M d pc ls st h Q := by
  intro ls st h H
  unfold i_dup_x1 at H
  split at H
  · exact WPb.lift (fun _ _ => Bx.go (fun G p l ev R s m args below meth c Q ρ Hp locs cells slots lsA F C S L V => ⟨vC (vH V) (vC (vH (vT V)) (vC (vH V) (vT (vT V)))), fun w => lv_dup_x1 F.1 F.2.1 hd (c1_cat (vH V) H.1.1) (c1_cat (vH (vT V)) H.1.2) w⟩)) (hc _ _ _ H.2)
  · exact H.elim
def i_dup2 (kk : KT) : KT := fun ls st h => match st with
  | x :: y :: r => (c1 x ∧ c1 y) ∧ kk ls (x :: y :: x :: y :: r) h
  | _ => False
theorem r_dup2 {M : MD} {d pc : Nat} {Q : Outcome → MH → Prop} {kk : KT} (hd : decode M.2.1 pc = .ok (.dup2, 1)) (hc : ∀ ls st h, kk ls st h → WPb M d (pc + 1) ls st h Q) : ∀ ls st h, i_dup2 kk ls st h → WPb M d pc ls st h Q := by
  intro ls st h H
  unfold i_dup2 at H
  split at H
  · exact WPb.lift (fun _ _ => Bx.go (fun G p l ev R s m args below meth c Q ρ Hp locs cells slots lsA F C S L V => ⟨vC (vH V) (vC (vH (vT V)) V), fun w => lv_dup2_11 F.1 F.2.1 hd (c1_cat (vH V) H.1.1) (c1_cat (vH (vT V)) H.1.2) w⟩)) (hc _ _ _ H.2)
  · exact H.elim
/-- a branch: both ways -/
theorem Bx.br {M : MD} {d pc pt pf : Nat} {ls st st' : List Value} {h : MH} {Q : Outcome → MH → Prop} {c0 : Prop} (hdec : c0 ∨ ¬ c0)
    (hW : ∀ (G : cx_G) (p : Program) (l : Launch) (e : Env) (R : Room) (s : State) (m : MethodId) (args : Array Value) (below : List Frame) (meth : Method) (c : Code) (Q : State → Prop) (ρ : Nat → Nat) (H : Heap) (locs : List Loc) (cells slots : Nat) (lsA : Array Slot), Fx G M d p l R s m args meth c → Cn G ρ h H → (∀ v ∈ st, vOk h v) →
      (∀ v ∈ st', vOk h v) ∧ ((c0 → W p l e R s m args below meth c H locs cells slots Q (F0 m pt lsA (st'.map (reV ρ)))) → (¬ c0 → W p l e R s m args below meth c H locs cells slots Q (F0 m pf lsA (st'.map (reV ρ)))) → W p l e R s m args below meth c H locs cells slots Q (F0 m pc lsA (st.map (reV ρ)))))
    (kt : c0 → WPb M d pt ls st' h Q) (kf : ¬ c0 → WPb M d pf ls st' h Q) : WPb M d pc ls st h Q := by
  rcases hdec with h0 | h0
  · refine WPb.lift (fun o h' => Bx.go (pc' := pt) (st' := st') (fun G p l e R s m args below meth c Q ρ H locs cells slots lsA F C S L V => ?_)) (kt h0)
    obtain ⟨V', w⟩ := hW G p l e R s m args below meth c Q ρ H locs cells slots lsA F C V
    exact ⟨V', fun k => w (fun _ => k) (fun n => absurd h0 n)⟩
  · refine WPb.lift (fun o h' => Bx.go (pc' := pf) (st' := st') (fun G p l e R s m args below meth c Q ρ H locs cells slots lsA F C S L V => ?_)) (kf h0)
    obtain ⟨V', w⟩ := hW G p l e R s m args below meth c Q ρ H locs cells slots lsA F C V
    exact ⟨V', fun k => w (fun n => absurd n h0) (fun _ => k)⟩
def i_if_eq (kt kf : KT) : KT := fun ls st h => match st with
  | .int x :: r => (x = 0 → kt ls r h) ∧ (¬ x = 0 → kf ls r h)
  | _ => False
theorem r_if_eq {M : MD} {d pc pt : Nat} {Q : Outcome → MH → Prop} {kt kf : KT} {off : Int} (hd : decode M.2.1 pc = .ok (.ifCond .eq off, 3)) (ht : (pc : Int) + off = (pt : Int)) (ct : ∀ ls st h, kt ls st h → WPb M d pt ls st h Q) (cf : ∀ ls st h, kf ls st h → WPb M d (pc + 3) ls st h Q) : ∀ ls st h, i_if_eq kt kf ls st h → WPb M d pc ls st h Q := by
  intro ls st h H
  unfold i_if_eq at H
  split at H
  · exact Bx.br (Classical.em _) (fun G p l ev R s m args below meth c Q ρ Hp locs cells slots lsA F C V => ⟨vT V, fun a b => lv_if_eq F.1 F.2.1 hd ht a b⟩) (fun h0 => ct _ _ _ (H.1 h0)) (fun h0 => cf _ _ _ (H.2 h0))
  · exact H.elim
def i_icmp_eq (kt kf : KT) : KT := fun ls st h => match st with
  | .int y :: .int x :: r => (x = y → kt ls r h) ∧ (¬ x = y → kf ls r h)
  | _ => False
theorem r_icmp_eq {M : MD} {d pc pt : Nat} {Q : Outcome → MH → Prop} {kt kf : KT} {off : Int} (hd : decode M.2.1 pc = .ok (.if_icmp .eq off, 3)) (ht : (pc : Int) + off = (pt : Int)) (ct : ∀ ls st h, kt ls st h → WPb M d pt ls st h Q) (cf : ∀ ls st h, kf ls st h → WPb M d (pc + 3) ls st h Q) : ∀ ls st h, i_icmp_eq kt kf ls st h → WPb M d pc ls st h Q := by
  intro ls st h H
  unfold i_icmp_eq at H
  split at H
  · exact Bx.br (Classical.em _) (fun G p l ev R s m args below meth c Q ρ Hp locs cells slots lsA F C V => ⟨vT (vT V), fun a b => lv_icmp_eq F.1 F.2.1 hd ht a b⟩) (fun h0 => ct _ _ _ (H.1 h0)) (fun h0 => cf _ _ _ (H.2 h0))
  · exact H.elim
def i_if_ne (kt kf : KT) : KT := fun ls st h => match st with
  | .int x :: r => (¬ x = 0 → kt ls r h) ∧ (x = 0 → kf ls r h)
  | _ => False
theorem r_if_ne {M : MD} {d pc pt : Nat} {Q : Outcome → MH → Prop} {kt kf : KT} {off : Int} (hd : decode M.2.1 pc = .ok (.ifCond .ne off, 3)) (ht : (pc : Int) + off = (pt : Int)) (ct : ∀ ls st h, kt ls st h → WPb M d pt ls st h Q) (cf : ∀ ls st h, kf ls st h → WPb M d (pc + 3) ls st h Q) : ∀ ls st h, i_if_ne kt kf ls st h → WPb M d pc ls st h Q := by
  intro ls st h H
  unfold i_if_ne at H
  split at H
  · exact Bx.br (Classical.em _) (fun G p l ev R s m args below meth c Q ρ Hp locs cells slots lsA F C V => ⟨vT V, fun a b => lv_if_ne F.1 F.2.1 hd ht a (fun q => b (fun n => n q))⟩) (fun h0 => ct _ _ _ (H.1 h0)) (fun h0 => cf _ _ _ (H.2 (Classical.not_not.mp h0)))
  · exact H.elim
def i_icmp_ne (kt kf : KT) : KT := fun ls st h => match st with
  | .int y :: .int x :: r => (¬ x = y → kt ls r h) ∧ (x = y → kf ls r h)
  | _ => False
theorem r_icmp_ne {M : MD} {d pc pt : Nat} {Q : Outcome → MH → Prop} {kt kf : KT} {off : Int} (hd : decode M.2.1 pc = .ok (.if_icmp .ne off, 3)) (ht : (pc : Int) + off = (pt : Int)) (ct : ∀ ls st h, kt ls st h → WPb M d pt ls st h Q) (cf : ∀ ls st h, kf ls st h → WPb M d (pc + 3) ls st h Q) : ∀ ls st h, i_icmp_ne kt kf ls st h → WPb M d pc ls st h Q := by
  intro ls st h H
  unfold i_icmp_ne at H
  split at H
  · exact Bx.br (Classical.em _) (fun G p l ev R s m args below meth c Q ρ Hp locs cells slots lsA F C V => ⟨vT (vT V), fun a b => lv_icmp_ne F.1 F.2.1 hd ht a (fun q => b (fun n => n q))⟩) (fun h0 => ct _ _ _ (H.1 h0)) (fun h0 => cf _ _ _ (H.2 (Classical.not_not.mp h0)))
  · exact H.elim
def i_if_lt (kt kf : KT) : KT := fun ls st h => match st with
  | .int x :: r => (x < 0 → kt ls r h) ∧ (¬ x < 0 → kf ls r h)
  | _ => False
theorem r_if_lt {M : MD} {d pc pt : Nat} {Q : Outcome → MH → Prop} {kt kf : KT} {off : Int} (hd : decode M.2.1 pc = .ok (.ifCond .lt off, 3)) (ht : (pc : Int) + off = (pt : Int)) (ct : ∀ ls st h, kt ls st h → WPb M d pt ls st h Q) (cf : ∀ ls st h, kf ls st h → WPb M d (pc + 3) ls st h Q) : ∀ ls st h, i_if_lt kt kf ls st h → WPb M d pc ls st h Q := by
  intro ls st h H
  unfold i_if_lt at H
  split at H
  · exact Bx.br (Classical.em _) (fun G p l ev R s m args below meth c Q ρ Hp locs cells slots lsA F C V => ⟨vT V, fun a b => lv_if_lt F.1 F.2.1 hd ht a b⟩) (fun h0 => ct _ _ _ (H.1 h0)) (fun h0 => cf _ _ _ (H.2 h0))
  · exact H.elim
def i_icmp_lt (kt kf : KT) : KT := fun ls st h => match st with
  | .int y :: .int x :: r => (x < y → kt ls r h) ∧ (¬ x < y → kf ls r h)
  | _ => False
theorem r_icmp_lt {M : MD} {d pc pt : Nat} {Q : Outcome → MH → Prop} {kt kf : KT} {off : Int} (hd : decode M.2.1 pc = .ok (.if_icmp .lt off, 3)) (ht : (pc : Int) + off = (pt : Int)) (ct : ∀ ls st h, kt ls st h → WPb M d pt ls st h Q) (cf : ∀ ls st h, kf ls st h → WPb M d (pc + 3) ls st h Q) : ∀ ls st h, i_icmp_lt kt kf ls st h → WPb M d pc ls st h Q := by
  intro ls st h H
  unfold i_icmp_lt at H
  split at H
  · exact Bx.br (Classical.em _) (fun G p l ev R s m args below meth c Q ρ Hp locs cells slots lsA F C V => ⟨vT (vT V), fun a b => lv_icmp_lt F.1 F.2.1 hd ht a b⟩) (fun h0 => ct _ _ _ (H.1 h0)) (fun h0 => cf _ _ _ (H.2 h0))
  · exact H.elim
def i_if_ge (kt kf : KT) : KT := fun ls st h => match st with
  | .int x :: r => (0 ≤ x → kt ls r h) ∧ (¬ 0 ≤ x → kf ls r h)
  | _ => False
theorem r_if_ge {M : MD} {d pc pt : Nat} {Q : Outcome → MH → Prop} {kt kf : KT} {off : Int} (hd : decode M.2.1 pc = .ok (.ifCond .ge off, 3)) (ht : (pc : Int) + off = (pt : Int)) (ct : ∀ ls st h, kt ls st h → WPb M d pt ls st h Q) (cf : ∀ ls st h, kf ls st h → WPb M d (pc + 3) ls st h Q) : ∀ ls st h, i_if_ge kt kf ls st h → WPb M d pc ls st h Q := by
  intro ls st h H
  unfold i_if_ge at H
  split at H
  · exact Bx.br (Classical.em _) (fun G p l ev R s m args below meth c Q ρ Hp locs cells slots lsA F C V => ⟨vT V, fun a b => lv_if_ge F.1 F.2.1 hd ht a b⟩) (fun h0 => ct _ _ _ (H.1 h0)) (fun h0 => cf _ _ _ (H.2 h0))
  · exact H.elim
def i_icmp_ge (kt kf : KT) : KT := fun ls st h => match st with
  | .int y :: .int x :: r => (y ≤ x → kt ls r h) ∧ (¬ y ≤ x → kf ls r h)
  | _ => False
theorem r_icmp_ge {M : MD} {d pc pt : Nat} {Q : Outcome → MH → Prop} {kt kf : KT} {off : Int} (hd : decode M.2.1 pc = .ok (.if_icmp .ge off, 3)) (ht : (pc : Int) + off = (pt : Int)) (ct : ∀ ls st h, kt ls st h → WPb M d pt ls st h Q) (cf : ∀ ls st h, kf ls st h → WPb M d (pc + 3) ls st h Q) : ∀ ls st h, i_icmp_ge kt kf ls st h → WPb M d pc ls st h Q := by
  intro ls st h H
  unfold i_icmp_ge at H
  split at H
  · exact Bx.br (Classical.em _) (fun G p l ev R s m args below meth c Q ρ Hp locs cells slots lsA F C V => ⟨vT (vT V), fun a b => lv_icmp_ge F.1 F.2.1 hd ht a b⟩) (fun h0 => ct _ _ _ (H.1 h0)) (fun h0 => cf _ _ _ (H.2 h0))
  · exact H.elim
def i_if_gt (kt kf : KT) : KT := fun ls st h => match st with
  | .int x :: r => (0 < x → kt ls r h) ∧ (¬ 0 < x → kf ls r h)
  | _ => False
theorem r_if_gt {M : MD} {d pc pt : Nat} {Q : Outcome → MH → Prop} {kt kf : KT} {off : Int} (hd : decode M.2.1 pc = .ok (.ifCond .gt off, 3)) (ht : (pc : Int) + off = (pt : Int)) (ct : ∀ ls st h, kt ls st h → WPb M d pt ls st h Q) (cf : ∀ ls st h, kf ls st h → WPb M d (pc + 3) ls st h Q) : ∀ ls st h, i_if_gt kt kf ls st h → WPb M d pc ls st h Q := by
  intro ls st h H
  unfold i_if_gt at H
  split at H
  · exact Bx.br (Classical.em _) (fun G p l ev R s m args below meth c Q ρ Hp locs cells slots lsA F C V => ⟨vT V, fun a b => lv_if_gt F.1 F.2.1 hd ht a b⟩) (fun h0 => ct _ _ _ (H.1 h0)) (fun h0 => cf _ _ _ (H.2 h0))
  · exact H.elim
def i_icmp_gt (kt kf : KT) : KT := fun ls st h => match st with
  | .int y :: .int x :: r => (y < x → kt ls r h) ∧ (¬ y < x → kf ls r h)
  | _ => False
theorem r_icmp_gt {M : MD} {d pc pt : Nat} {Q : Outcome → MH → Prop} {kt kf : KT} {off : Int} (hd : decode M.2.1 pc = .ok (.if_icmp .gt off, 3)) (ht : (pc : Int) + off = (pt : Int)) (ct : ∀ ls st h, kt ls st h → WPb M d pt ls st h Q) (cf : ∀ ls st h, kf ls st h → WPb M d (pc + 3) ls st h Q) : ∀ ls st h, i_icmp_gt kt kf ls st h → WPb M d pc ls st h Q := by
  intro ls st h H
  unfold i_icmp_gt at H
  split at H
  · exact Bx.br (Classical.em _) (fun G p l ev R s m args below meth c Q ρ Hp locs cells slots lsA F C V => ⟨vT (vT V), fun a b => lv_icmp_gt F.1 F.2.1 hd ht a b⟩) (fun h0 => ct _ _ _ (H.1 h0)) (fun h0 => cf _ _ _ (H.2 h0))
  · exact H.elim
def i_if_le (kt kf : KT) : KT := fun ls st h => match st with
  | .int x :: r => (x ≤ 0 → kt ls r h) ∧ (¬ x ≤ 0 → kf ls r h)
  | _ => False
theorem r_if_le {M : MD} {d pc pt : Nat} {Q : Outcome → MH → Prop} {kt kf : KT} {off : Int} (hd : decode M.2.1 pc = .ok (.ifCond .le off, 3)) (ht : (pc : Int) + off = (pt : Int)) (ct : ∀ ls st h, kt ls st h → WPb M d pt ls st h Q) (cf : ∀ ls st h, kf ls st h → WPb M d (pc + 3) ls st h Q) : ∀ ls st h, i_if_le kt kf ls st h → WPb M d pc ls st h Q := by
  intro ls st h H
  unfold i_if_le at H
  split at H
  · exact Bx.br (Classical.em _) (fun G p l ev R s m args below meth c Q ρ Hp locs cells slots lsA F C V => ⟨vT V, fun a b => lv_if_le F.1 F.2.1 hd ht a b⟩) (fun h0 => ct _ _ _ (H.1 h0)) (fun h0 => cf _ _ _ (H.2 h0))
  · exact H.elim
def i_icmp_le (kt kf : KT) : KT := fun ls st h => match st with
  | .int y :: .int x :: r => (x ≤ y → kt ls r h) ∧ (¬ x ≤ y → kf ls r h)
  | _ => False
theorem r_icmp_le {M : MD} {d pc pt : Nat} {Q : Outcome → MH → Prop} {kt kf : KT} {off : Int} (hd : decode M.2.1 pc = .ok (.if_icmp .le off, 3)) (ht : (pc : Int) + off = (pt : Int)) (ct : ∀ ls st h, kt ls st h → WPb M d pt ls st h Q) (cf : ∀ ls st h, kf ls st h → WPb M d (pc + 3) ls st h Q) : ∀ ls st h, i_icmp_le kt kf ls st h → WPb M d pc ls st h Q := by
  intro ls st h H
  unfold i_icmp_le at H
  split at H
  · exact Bx.br (Classical.em _) (fun G p l ev R s m args below meth c Q ρ Hp locs cells slots lsA F C V => ⟨vT (vT V), fun a b => lv_icmp_le F.1 F.2.1 hd ht a b⟩) (fun h0 => ct _ _ _ (H.1 h0)) (fun h0 => cf _ _ _ (H.2 h0))
  · exact H.elim
theorem r_goto {M : MD} {d pc : Nat} {Q : Outcome → MH → Prop} {kk : KT} {pt : Nat} {off : Int} (hd : decode M.2.1 pc = .ok (.goto off, 3)) (ht : (pc : Int) + off = (pt : Int)) (hc : ∀ ls st h, kk ls st h → WPb M d pt ls st h Q) : ∀ ls st h, kk ls st h → WPb M d pc ls st h Q :=
  fun _ _ _ H => WPb.lift (fun _ _ => Bx.go (fun G p l ev R s m args below meth c Q ρ Hp locs cells slots lsA F C S L V => ⟨V, fun w => lv_goto F.1 F.2.1 hd ht w⟩)) (hc _ _ _ H)
def i_ifnull (kt kf : KT) : KT := fun ls st h => match st with
  | .ref a :: r => (a = 0 → kt ls r h) ∧ (¬ a = 0 → kf ls r h)
  | _ => False
theorem r_ifnull {M : MD} {d pc pt : Nat} {Q : Outcome → MH → Prop} {kt kf : KT} {off : Int} (hd : decode M.2.1 pc = .ok (.ifnull off, 3)) (ht : (pc : Int) + off = (pt : Int)) (ct : ∀ ls st h, kt ls st h → WPb M d pt ls st h Q) (cf : ∀ ls st h, kf ls st h → WPb M d (pc + 3) ls st h Q) : ∀ ls st h, i_ifnull kt kf ls st h → WPb M d pc ls st h Q := by
  intro ls st h H
  unfold i_ifnull at H
  split at H
  · rename_i a0 r
    refine Bx.br (c0 := a0 = 0) (Classical.em _) (fun G p l ev R s m args below meth c Q ρ Hp locs cells slots lsA F C V => ⟨vT V, fun a b => ?_⟩) (fun h0 => ct _ _ _ (H.1 h0)) (fun h0 => cf _ _ _ (H.2 h0))
    by_cases h0 : a0 = 0
    · subst h0; exact lv_ifnullN F.1 F.2.1 hd ht (a rfl)
    · have er : reV ρ (.ref a0) = .ref (ρ a0) := by simp [reV, h0]
      rw [List.map_cons, er]
      exact lv_ifnull F.1 F.2.1 hd (b h0)
  · exact H.elim
def i_ifnonnull (kt kf : KT) : KT := fun ls st h => match st with
  | .ref a :: r => (¬ a = 0 → kt ls r h) ∧ (a = 0 → kf ls r h)
  | _ => False
theorem r_ifnonnull {M : MD} {d pc pt : Nat} {Q : Outcome → MH → Prop} {kt kf : KT} {off : Int} (hd : decode M.2.1 pc = .ok (.ifnonnull off, 3)) (ht : (pc : Int) + off = (pt : Int)) (ct : ∀ ls st h, kt ls st h → WPb M d pt ls st h Q) (cf : ∀ ls st h, kf ls st h → WPb M d (pc + 3) ls st h Q) : ∀ ls st h, i_ifnonnull kt kf ls st h → WPb M d pc ls st h Q := by
  intro ls st h H
  unfold i_ifnonnull at H
  split at H
  · rename_i a0 r
    refine Bx.br (c0 := ¬ a0 = 0) (Classical.em _) (fun G p l ev R s m args below meth c Q ρ Hp locs cells slots lsA F C V => ⟨vT V, fun a b => ?_⟩) (fun h0 => ct _ _ _ (H.1 h0)) (fun h0 => cf _ _ _ (H.2 (Classical.not_not.mp h0)))
    by_cases h0 : a0 = 0
    · subst h0; exact lv_ifnonnullN F.1 F.2.1 hd (b (fun n => n rfl))
    · have er : reV ρ (.ref a0) = .ref (ρ a0) := by simp [reV, h0]
      rw [List.map_cons, er]
      exact lv_ifnonnull F.1 F.2.1 hd ht (a h0)
  · exact H.elim
/-- two references are compared: both are null or cells that are known -/
def rKn (h : MH) (a : Nat) : Prop := a = 0 ∨ kd h a ≠ 0
theorem rfO_eq {G : cx_G} {ρ : Nat → Nat} {h : MH} {H : Heap} (C : Cn G ρ h H) {a b : Nat} (hab : a = b ∨ (rKn h a ∧ rKn h b)) : rfO ρ a = rfO ρ b ↔ a = b := by
  rcases hab with e | ⟨ha, hb⟩
  · rw [e]; exact ⟨fun _ => rfl, fun _ => rfl⟩
  unfold rfO
  constructor
  · intro e
    by_cases h1 : a = 0
    · by_cases h2 : b = 0
      · omega
      · simp [h1, h2] at e
    · by_cases h2 : b = 0
      · simp [h1, h2] at e
      · simp only [h1, h2, if_false, Option.some.injEq] at e
        exact C.2.1 a b (ha.resolve_left h1) (hb.resolve_left h2) e
  · intro e
    rw [e]
def i_acmp_eq (kt kf : KT) : KT := fun ls st h => match st with
  | .ref b :: .ref a :: r => (a = b ∨ (rKn h a ∧ rKn h b)) ∧ (a = b → kt ls r h) ∧ (¬ a = b → kf ls r h)
  | _ => False
theorem r_acmp_eq {M : MD} {d pc pt : Nat} {Q : Outcome → MH → Prop} {kt kf : KT} {off : Int} (hd : decode M.2.1 pc = .ok (.if_acmp .eq off, 3)) (ht : (pc : Int) + off = (pt : Int)) (ct : ∀ ls st h, kt ls st h → WPb M d pt ls st h Q) (cf : ∀ ls st h, kf ls st h → WPb M d (pc + 3) ls st h Q) : ∀ ls st h, i_acmp_eq kt kf ls st h → WPb M d pc ls st h Q := by
  intro ls st h H
  unfold i_acmp_eq at H
  split at H
  · rename_i b a r
    obtain ⟨kab, H1, H2⟩ := H
    refine Bx.br (c0 := a = b) (Classical.em _) (fun G p l e R s m args below meth c Q ρ H locs cells slots lsA F C V => ⟨vT (vT V), fun wa wb => ?_⟩) (fun h0 => ct _ _ _ (H1 h0)) (fun h0 => cf _ _ _ (H2 h0))
    rw [List.map_cons, List.map_cons, reV_rfO, reV_rfO]
    exact lv_acmp_eq F.1 F.2.1 hd ht (fun q => wa ((rfO_eq C kab).mp q)) (fun q => wb (fun z => q ((rfO_eq C kab).mpr z)))
  · exact H.elim
def i_acmp_ne (kt kf : KT) : KT := fun ls st h => match st with
  | .ref b :: .ref a :: r => (a = b ∨ (rKn h a ∧ rKn h b)) ∧ (¬ a = b → kt ls r h) ∧ (a = b → kf ls r h)
  | _ => False
theorem r_acmp_ne {M : MD} {d pc pt : Nat} {Q : Outcome → MH → Prop} {kt kf : KT} {off : Int} (hd : decode M.2.1 pc = .ok (.if_acmp .ne off, 3)) (ht : (pc : Int) + off = (pt : Int)) (ct : ∀ ls st h, kt ls st h → WPb M d pt ls st h Q) (cf : ∀ ls st h, kf ls st h → WPb M d (pc + 3) ls st h Q) : ∀ ls st h, i_acmp_ne kt kf ls st h → WPb M d pc ls st h Q := by
  intro ls st h H
  unfold i_acmp_ne at H
  split at H
  · rename_i b a r
    obtain ⟨kab, H1, H2⟩ := H
    refine Bx.br (c0 := ¬ a = b) (Classical.em _) (fun G p l e R s m args below meth c Q ρ H locs cells slots lsA F C V => ⟨vT (vT V), fun wa wb => ?_⟩) (fun h0 => ct _ _ _ (H1 h0)) (fun h0 => cf _ _ _ (H2 (Classical.not_not.mp h0)))
    rw [List.map_cons, List.map_cons, reV_rfO, reV_rfO]
    exact lv_acmp_ne F.1 F.2.1 hd ht (fun q => wa (fun z => q ((rfO_eq C kab).mpr z))) (fun q => wb (fun z => z ((rfO_eq C kab).mp q)))
  · exact H.elim
