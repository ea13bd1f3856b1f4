/-! RULES 5: constants of the pool, statics, throws -/
set_option maxRecDepth 100000
def i_ldcS (a : Nat) (kk : KT) : KT := fun ls st h => kk ls (.ref a :: st) h
def i_sref (a : Nat) (kk : KT) : KT := fun ls st h => kk ls (.ref a :: st) h
section
variable {M : MD} {d pc : Nat} {Q : Outcome → MH → Prop} {kk : KT}
theorem vOld {G : cx_G} {ρ : Nat → Nat} {h : MH} {Hp : Heap} (C : Cn G ρ h Hp) {a : Nat} (ha : a < cx_K0) : vOk h (.ref a) := Nat.lt_of_lt_of_le ha C.2.2.2.2.2.2.1
theorem r_ldcS {a i : Nat} {tx : String} (hd : decode M.2.1 pc = .ok (.ldc i, 2)) (hm : (M.1.cls, i, tx, a) ∈ cx_str) (ha : 0 < a ∧ a < cx_K0) (hc : ∀ ls st h, kk ls st h → WPb M d (pc + 2) ls st h Q) : ∀ ls st h, i_ldcS a kk ls st h → WPb M d pc ls st h Q := by
  intro ls st h H
  refine WPb.lift (fun _ _ kb => Bx.go (fun G p l ev R s m args below meth c Q ρ Hp locs cells slots lsA F C S L V => ⟨vC (vOld C ha.2) V, fun wk => ?_⟩) kb) (hc _ _ _ H)
  have hk := F.2.2.2.2.2.2.2.2.2.2.1.2.2.2.2.2.2.2.1 _ hm
  rw [← (oldOf C ha.2).1] at hk
  rw [List.map_cons, er_ ha.1] at wk
  exact va_ldcS F.1 F.2.1 F.2.2.2.2.1 hk hd wk
theorem r_getsI {i : Nat} {x : Int32} {T : String × String × String} (hm : (T.1, T.2.1, T.2.2, Value.int x) ∈ cx_sta) (hw : Cond.fieldLink M.1.cls i T.1 T.2.1 T.2.2 ∈ lw_all) (hd : decode M.2.1 pc = .ok (.getstatic i, 3)) (hc : ∀ ls st h, kk ls st h → WPb M d (pc + 3) ls st h Q) : ∀ ls st h, i_const x kk ls st h → WPb M d pc ls st h Q := by
  intro ls st h H
  refine WPb.lift (fun _ _ kb => Bx.go (fun G p l ev R s m args below meth c Q ρ Hp locs cells slots lsA F C S L V => ⟨vI V, fun wk => ?_⟩) kb) (hc _ _ _ H)
  exact va_gets F.1 F.2.1 (F.2.2.2.2.2.2.2.2.2.2.1.2.2.1 _ hm) S F.2.2.2.2.1 (F.2.2.2.2.2.1 _ hw) (fun _ z => z) hd wk
theorem r_getsR {a i : Nat} {T : String × String × String} (hm : (T.1, T.2.1, T.2.2, Value.ref a) ∈ cx_sta) (ha : 0 < a ∧ a < cx_K0) (hw : Cond.fieldLink M.1.cls i T.1 T.2.1 T.2.2 ∈ lw_all) (hd : decode M.2.1 pc = .ok (.getstatic i, 3)) (hc : ∀ ls st h, kk ls st h → WPb M d (pc + 3) ls st h Q) : ∀ ls st h, i_sref a kk ls st h → WPb M d pc ls st h Q := by
  intro ls st h H
  refine WPb.lift (fun _ _ kb => Bx.go (fun G p l ev R s m args below meth c Q ρ Hp locs cells slots lsA F C S L V => ⟨vC (vOld C ha.2) V, fun wk => ?_⟩) kb) (hc _ _ _ H)
  have hz := F.2.2.2.2.2.2.2.2.2.2.1.2.2.1 _ hm
  rw [show reV G.2.2.2.1 (Value.ref a) = .ref (ρ a) by rw [er_ ha.1, (oldOf C ha.2).1]] at hz
  rw [List.map_cons, er_ ha.1] at wk
  exact va_gets F.1 F.2.1 hz S F.2.2.2.2.1 (F.2.2.2.2.2.1 _ hw) (fun _ z => z) hd wk
end
