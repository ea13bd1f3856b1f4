/-! RULES 6: wide constants, unknown statics, casts, copies, clones, switches -/
set_option maxRecDepth 100000
section
variable {M : MD} {d pc : Nat} {Q : Outcome → MH → Prop} {kk : KT}
theorem va_ldcwS {p : Program} {l : Launch} {e : Env} {R : Room} {s : State} {m : MethodId} {args : Array Value} {below : List Frame} {meth : Method} {c : Code} {H : Heap} {locs : List Loc} {cells slots : Nat} {Q : State → Prop} {cc : ByteArray} {pc : Nat} {ls : Array Slot} {rest : List Value}
    (hexec : p.tables.exec = Jvm.exec) (hb : c.code = cc) {own tx : String} {index q : Nat} (hown : s.vm.findClass own = some m.cls) (hZ : vk_R own index tx q s) (hdg : decode cc pc = .ok (.ldc_w index, 3))
    (k : W p l e R s m args below meth c H locs cells slots Q (F0 m (pc + 3) ls (.ref q :: rest))) : W p l e R s m args below meth c H locs cells slots Q (F0 m pc ls rest) := by
  intro T hT X
  obtain ⟨t, a1, b1⟩ := k T hT X
  obtain ⟨k9, cf, i, a', hk, hcf, hcp, -, hr, hev'⟩ := Cond.stringRef_spec (args := #[]) hown hZ.1
  cases hZ.2.symm.trans hev'
  obtain ⟨k', hk', he⟩ := X.warmed.alike.2.2 _ _ hk
  have hr' : k'.resolved[index]? = some (some (.string q)) := by
    rcases X.warmed.entry hk hk' index with h | ⟨h, -⟩
    · rw [h]; exact hr
    · rw [hr] at h; cases h
  refine ⟨t, ?_, b1⟩
  have hdg' : decode c.code pc = .ok (.ldc_w index, 3) := by rw [hb]; exact hdg
  jvm_step X.here [hexec, hdg', ldc_w.wp_string (e := e) (s := T) (f := F0 m pc ls rest) X.here.top hk' (by rw [he]; exact hcf) hcp hr']
  exact a1
theorem r_ldcwS {a i : Nat} {tx : String} (hd : decode M.2.1 pc = .ok (.ldc_w i, 3)) (hm : (M.1.cls, i, tx, a) ∈ cx_str) (ha : 0 < a ∧ a < cx_K0) (hc : ∀ ls st h, kk ls st h → WPb M d (pc + 3) ls st h Q) : ∀ ls st h, i_ldcS a kk ls st h → WPb M d pc ls st h Q := by
  intro ls st h H
  refine WPb.lift (fun _ _ kb => Bx.go (fun G p l ev R s m args below meth c Q ρ Hp locs cells slots lsA F C S L V => ⟨vC (vOld C ha.2) V, fun wk => ?_⟩) kb) (hc _ _ _ H)
  have hk := F.2.2.2.2.2.2.2.2.2.2.1.2.2.2.2.2.2.2.1 _ hm
  rw [← (oldOf C ha.2).1] at hk
  rw [List.map_cons, er_ ha.1] at wk
  exact va_ldcwS F.1 F.2.1 F.2.2.2.2.1 hk hd wk
/-- a static of which only this is known: a reference or null -/
def i_stq (j : Nat) (kk : KT) : KT := fun ls st h => iR h 0 j < cx_K0 ∧ kk ls (.ref (iR h 0 j) :: st) h
theorem r_getsQ {i j : Nat} {T : String × String × String} (hm : (T.1, T.2.1, T.2.2, j) ∈ cx_stq) (hw : Cond.fieldLink M.1.cls i T.1 T.2.1 T.2.2 ∈ lw_all) (hd : decode M.2.1 pc = .ok (.getstatic i, 3)) (hc : ∀ ls st h, kk ls st h → WPb M d (pc + 3) ls st h Q) : ∀ ls st h, i_stq j kk ls st h → WPb M d pc ls st h Q := by
  intro ls st h H
  refine WPb.lift (fun _ _ kb => Bx.go (fun G p l ev R s m args below meth c Q ρ Hp locs cells slots lsA F C S L V => ⟨vC (vOld C H.1) V, fun wk => ?_⟩) kb) (hc _ _ _ H.2)
  have hz := F.2.2.2.2.2.2.2.2.2.2.1.2.2.2.1 _ hm
  have e0 := (oldOf C (show 0 < cx_K0 by decide)).2.2.2.2.1
  have e1 : reV G.2.2.2.1 (Value.ref (iR G.2.2.2.2 0 j)) = reV ρ (.ref (iR h 0 j)) := by
    rw [← e0]
    unfold reV
    simp only
    rw [(oldOf C H.1).1]
  rw [e1] at hz
  exact va_gets F.1 F.2.1 hz S F.2.2.2.2.1 (F.2.2.2.2.2.1 _ hw) (fun _ z => z) hd wk
/-! casts -/
def i_cast (ci : Nat) (kk : KT) : KT := fun ls st h => match st with
  | .ref a :: r => (a = 0 ∨ kd h a = ci) ∧ kk ls (.ref a :: r) h
  | _ => False
theorem r_cast {ci i : Nat} {q : vw_C} (hci : ci ≠ 0) (hcl : cx_cl[ci]? = some q) (hw : Cond.classLink M.1.cls i q.1 ∈ lw_all) (hd : decode M.2.1 pc = .ok (.checkcast i, 3)) (hc : ∀ ls st h, kk ls st h → WPb M d (pc + 3) ls st h Q) : ∀ ls st h, i_cast ci kk ls st h → WPb M d pc ls st h Q := by
  intro ls st h H
  unfold i_cast at H
  split at H
  · rename_i a r
    refine WPb.lift (fun _ _ kb => Bx.go (fun G p l ev R s m args below meth c Q ρ Hp locs cells slots lsA F C S L V => ⟨V, fun wk => ?_⟩) kb) (hc _ _ _ H.2)
    by_cases h0 : a = 0
    · subst h0; exact lv_castN F.1 F.2.1 hd wk
    · have hk := H.1.resolve_left h0
      rw [List.map_cons, er_ (Nat.pos_of_ne_zero h0)] at wk ⊢
      have hat := (F.2.2.2.2.2.2.2.2.2.2.1.1.1 ci q hcl).2
      exact va_castS F.1 F.2.1 F.2.2.2.2.1 (F.2.2.2.2.2.1 _ hw) hat (recvOf F C S hk hci hcl) hd wk
  · exact H.elim
/-- to an interface or a class above: cs, the classes that may come -/
def i_castY (cs : List Nat) (kk : KT) : KT := fun ls st h => match st with
  | .ref a :: r => (a = 0 ∨ kd h a ∈ cs) ∧ kk ls (.ref a :: r) h
  | _ => False
theorem r_castY {i : Nat} {cs : List Nat} {nm : String} (hcs : ∀ ci ∈ cs, ci ≠ 0 ∧ ci < 30 ∧ Cond.castable (cx_nm ci) nm ∈ lw_tbl) (hw : Cond.classLink M.1.cls i nm ∈ lw_all) (hd : decode M.2.1 pc = .ok (.checkcast i, 3)) (hc : ∀ ls st h, kk ls st h → WPb M d (pc + 3) ls st h Q) : ∀ ls st h, i_castY cs kk ls st h → WPb M d pc ls st h Q := by
  intro ls st h H
  unfold i_castY at H
  split at H
  · rename_i a r
    refine WPb.lift (fun _ _ kb => Bx.go (fun G p l ev R s m args below meth c Q ρ Hp locs cells slots lsA F C S L V => ⟨V, fun wk => ?_⟩) kb) (hc _ _ _ H.2)
    by_cases h0 : a = 0
    · subst h0; exact lv_castN F.1 F.2.1 hd wk
    · obtain ⟨c1, c2, c3⟩ := hcs _ (H.1.resolve_left h0)
      rw [List.map_cons, er_ (Nat.pos_of_ne_zero h0)] at wk ⊢
      have hlen : cx_cl.length = 30 := rfl
      have hcl : cx_cl[kd h a]? = some (cx_cl[kd h a]'(by rw [hlen]; exact c2)) := List.getElem?_eq_getElem _
      have hr := recvOf F C S rfl c1 hcl
      rw [show (cx_cl[kd h a]'(by rw [hlen]; exact c2)).1 = cx_nm (kd h a) by unfold cx_nm; rw [clE hcl]] at hr
      exact va_castY F.1 F.2.1 F.2.2.2.2.1 (F.2.2.2.2.2.1 _ hw) (F.2.2.2.2.2.2.2.2.2.2.1.2.1 _ c3 rfl) hr hd wk
  · exact H.elim
/-- to an array's own class -/
def i_castA (t : Nat) (kk : KT) : KT := fun ls st h => match st with
  | .ref a :: r => (kd h a = 50 + t ∧ cx_K0 ≤ a) ∧ kk ls (.ref a :: r) h
  | _ => False
theorem r_castA {i t : Nat} {nm : String} (ht : t < 8) (hnm : nm = "[" ++ (cx_tk t).toString) (hw : Cond.classLink M.1.cls i nm ∈ lw_all) (hd : decode M.2.1 pc = .ok (.checkcast i, 3)) (hc : ∀ ls st h, kk ls st h → WPb M d (pc + 3) ls st h Q) : ∀ ls st h, i_castA t kk ls st h → WPb M d pc ls st h Q := by
  intro ls st h H
  unfold i_castA at H
  split at H
  · rename_i a r
    refine WPb.lift (fun _ _ kb => Bx.go (fun G p l ev R s m args below meth c Q ρ Hp locs cells slots lsA F C S L V => ⟨V, fun wk => ?_⟩) kb) (hc _ _ _ H.2)
    have hka : kd h a ≠ 0 := by rw [H.1.1]; omega
    rw [List.map_cons, er_ (C.2.2.1 a hka).1] at wk ⊢
    have hP := C.at_ H.1.2 hka
    rw [cnE_a H.1.1] at hP
    have hn : s.vm.findClass nm = some (G.2.1 t) := by rw [hnm]; exact RA_cls (F.2.2.2.2.2.2.2.2.2.2.1.1.2 t _ (tys_at ht)).2
    exact va_castA F.1 F.2.1 F.2.2.2.2.1 (F.2.2.2.2.2.1 _ hw) hP 0 rfl hn hd wk
  · exact H.elim
/-- instanceof String -/
def i_instS (kk : KT) : KT := fun ls st h => match st with
  | .ref a :: r => kd h a = 24 ∧ kk ls (.int 1 :: r) h
  | _ => False
theorem r_instS {i : Nat} (hw : Cond.classLink M.1.cls i "java/lang/String" ∈ lw_all) (hd : decode M.2.1 pc = .ok (.instanceof i, 3)) (hc : ∀ ls st h, kk ls st h → WPb M d (pc + 3) ls st h Q) : ∀ ls st h, i_instS kk ls st h → WPb M d pc ls st h Q := by
  intro ls st h H
  unfold i_instS at H
  split at H
  · rename_i a r
    refine WPb.lift (fun _ _ kb => Bx.go (fun G p l ev R s m args below meth c Q ρ Hp locs cells slots lsA F C S L V => ⟨vI (vT V), fun wk => ?_⟩) kb) (hc _ _ _ H.2)
    have hka : kd h a ≠ 0 := by rw [H.1]; decide
    rw [List.map_cons, er_ (C.2.2.1 a hka).1]
    have hat := (F.2.2.2.2.2.2.2.2.2.2.1.1.1 24 _ rfl).2
    exact va_instS F.1 F.2.1 F.2.2.2.2.1 (F.2.2.2.2.2.1 _ hw) hat (recvOf F C S H.1 (by decide) (q := (RJ5, TJ5, 4)) rfl) hd wk
  · exact H.elim
/-! copies -/
def cpOk (sp dp n : Int32) (n0 n1 : Nat) : Prop := ¬ sp < 0 ∧ ¬ dp < 0 ∧ ¬ n < 0 ∧ sp.toNatClampNeg + n.toNatClampNeg ≤ n0 ∧ dp.toNatClampNeg + n.toNatClampNeg ≤ n1
def i_cpy (t d : Nat) (kk : KT) : KT := fun ls st h => match st with
  | .int n :: .int dp :: .ref a :: .int sp :: .ref b :: r => ((kd h a = 50 + t ∧ cx_K0 ≤ a ∧ kd h b = 50 + t ∧ cx_K0 ≤ b) ∧ cpOk sp dp n (ln h b) (ln h a) ∧ 1 ≤ d ∧ (r.map fun v => v.category).sum ≤ 8) ∧ kk ls r (stI h a (va_cpy (iI h b) (iI h a) sp.toNatClampNeg dp.toNatClampNeg n.toNatClampNeg))
  | _ => False
theorem r_cpy {i t : Nat} {ty : FieldType} (ht : t < 3) (hty : cx_tk t = ty) (hw : Cond.methodLink M.1.cls i arraycopyName ∈ lw_all) (h1 : Cond.native arraycopyName ∈ lw_all) (h2 : Cond.static arraycopyName ∈ lw_all) (h3 : Cond.initialized "java/lang/System" ∈ lw_all) (hd : decode M.2.1 pc = .ok (.invokestatic i, 3)) (hc : ∀ ls st h, kk ls st h → WPb M d (pc + 3) ls st h Q) : ∀ ls st h, i_cpy t d kk ls st h → WPb M d pc ls st h Q := by
  intro ls st h H
  unfold i_cpy at H
  split at H
  · rename_i n dp a sp b r
    obtain ⟨⟨⟨ka, ha, kb, hb⟩, ⟨c1, c2, c3, c4, c5⟩, hd1, hcat⟩, H2⟩ := H
    refine WPb.lift (fun _ _ kb9 => Bx.wr (h1 := stI h a (va_cpy (iI h b) (iI h a) sp.toNatClampNeg dp.toNatClampNeg n.toNatClampNeg)) rfl rfl (fun G p l ev R s m args below meth c Q ρ Hp locs cells slots lsA F C S L V => ⟨vT (vT (vT (vT (vT V)))), fun wk => ?_⟩) kb9) (hc _ _ _ H2)
    have hka : kd h a ≠ 0 := by rw [ka]; omega
    have hkb : kd h b ≠ 0 := by rw [kb]; omega
    have hrk : cx_rk (cx_tk t) = 0 := by rcases t with _ | _ | _ | t <;> first | rfl | omega
    have f1 := F.2.2.2.2.2.2.2.2.2.2.2.1
    have f2 := F.2.2.2.2.2.2.2.2.2.2.2.2
    have ar : ∀ x, arC ρ h x t = .inl (iI h x) := fun x => by simp only [arC, hrk]
    have hft : ∀ (x j : Nat), kd h x = 50 + t → fits ty (.int (iI h x j)) = true := by
      intro x j hx
      subst hty
      rcases t with _ | _ | _ | t
      · rfl
      · exact (C.2.2.2.2.2.1 x).1 hx j
      · exact (C.2.2.2.2.2.1 x).2 hx j
      · omega
    rw [List.map_cons, List.map_cons, List.map_cons, List.map_cons, List.map_cons, er_ (C.2.2.1 a hka).1, er_ (C.2.2.1 b hkb).1]
    refine va_copyi F.1 F.2.1 (F.2.2.2.1.trans L.2.1.symm) F.2.2.2.2.1 (F.2.2.2.2.2.1 _ hw) (F.2.2.2.2.2.1 _ h1) (F.2.2.2.2.2.1 _ h2) (F.2.2.2.2.2.1 _ h3) F.2.2.2.2.2.2.2.2.2.2.1.1 C.P C.D S (b - cx_K0) (a - cx_K0) t t (by rw [wsL_get hb (C.2.2.1 b hkb).2.1, cnE_a kb, ar]) (by rw [wsL_get ha (C.2.2.1 a hka).2.1, cnE_a ka, ar]) (by rw [tys_at (t := t) (by omega), hty]) (by rw [tys_at (t := t) (by omega), hty]) ?_ c1 c2 c3 c4 c5 (fun j hj => hft b _ kb) (by omega) ?_ hd (fun H1 locs1 P1 _ S1 => wk H1 locs1 (arrSet C ha ka hrk ?_ P1) S1)
    · subst hty; rcases t with _ | _ | _ | t <;> first | rfl | omega
    · rw [catR (vT (vT (vT (vT (vT V)))))]
      have : nativeFrameWords "java/lang/System" "arraycopy" 5 ≤ 40 := by decide +kernel
      omega
    · unfold fitB
      rw [kd_stI, iI_stI, va_up_self]
      refine ⟨fun z j => ?_, fun z j => ?_⟩
      · unfold va_cpy
        split
        · exact (C.2.2.2.2.2.1 b).1 (by rw [kb, ← ka]; exact z) _
        · exact (C.2.2.2.2.2.1 a).1 z j
      · unfold va_cpy
        split
        · exact (C.2.2.2.2.2.1 b).2 (by rw [kb, ← ka]; exact z) _
        · exact (C.2.2.2.2.2.1 a).2 z j
  · exact H.elim
end
