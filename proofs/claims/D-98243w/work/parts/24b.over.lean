/-! CALLS of an overriding method; a byte array is cloned -/
set_option maxRecDepth 100000
section
variable {M Z : MD} {d pc i n : Nat} {ls st as rest : List Value} {h h1 : MH} {o1 : Outcome}
theorem lw_O {own : String} {idx : Nat} {C owner : String} {x y : MethodName} {b : ByteArray} {L : Nat} {r : Option FieldType} (h1 : Cond.methodLink own idx x ∈ lw_all) (h2 : Cond.sameMethod x.cls owner x.name x.desc ∈ lw_all) (h0 : Cond.instanceMethod ⟨owner, x.name, x.desc⟩ ∈ lw_all) (h3 : Cond.selects C x y ∈ lw_all) (h4 : Cond.instanceMethod y ∈ lw_all) (h5 : Cond.initialized y.cls ∈ lw_all) (h6 : Cond.code y b L r ∈ lw_all) : GoodIn lw_all (va_wsO own idx C owner x y (ws_ y b L r)) := by
  refine lw_app ?_ (lw_meth h6)
  intro w hw
  simp only [List.mem_cons, List.not_mem_nil, or_false] at hw
  rcases hw with e | e | e | e | e | e
  · rw [e]; exact h1
  · rw [e]; exact h2
  · rw [e]; exact h0
  · rw [e]; exact h3
  · rw [e]; exact h4
  · rw [e]; exact h5
theorem run_O {a ci : Nat} {as' : List Value} {q : vw_C} {x : MethodName} {owner : String} {b0 : ByteArray} {m0 : Nat} {r0 : Option FieldType} (hd : decode M.2.1 pc = .ok (.invokevirtual i, 3)) (e : st = as.reverse ++ rest) (ea : as = .ref a :: as') (ho : cOk Z d (n + 1) as rest) (hz : Z.2.2.2.2 = []) (hpar : (parseMethodDescriptor x.desc).map (fun d => d.parameters.length) = some n) (hcls : okCls owner) (hk : kd h a = ci) (hci : ci ≠ 0) (hc : cx_cl[ci]? = some q)
    (w1 : Cond.methodLink M.1.cls i x ∈ lw_all) (w2 : Cond.sameMethod x.cls owner x.name x.desc ∈ lw_all) (w0 : Cond.instanceMethod ⟨owner, x.name, x.desc⟩ ∈ lw_all) (w7 : Cond.code ⟨owner, x.name, x.desc⟩ b0 m0 r0 ∈ lw_all) (w3 : Cond.selects q.1 x Z.1 ∈ lw_all) (w4 : Cond.instanceMethod Z.1 ∈ lw_all) (w5 : Cond.initialized Z.1.cls ∈ lw_all) (w6 : Cond.code Z.1 Z.2.1 Z.2.2.1 Z.2.2.2.1 ∈ lw_all) (hF : FMx Z (d - 1) as h o1 h1) : RunX M d pc ls st rest h o1 h1 := by
  refine ⟨hF.1, hF.2.1, (memL e).1, fun G p l ev R s m args below meth c ρ H locs cells slots lsA F C S hsz V hc0 hs => ?_⟩
  have hM := hF.2.2 G l ρ F.2.2.2.2.2.2.2.2.1 (fun v hv => V v ((memL e).2 v hv))
  rw [wsM0 hz] at hM
  have h0 : 0 < a := (C.2.2.1 a (by rw [hk]; exact hci)).1
  have hl : as'.length = n := by have := ho.1; rw [ea] at this; simpa using this
  subst ea
  exact ⟨_, vx_runU (As := as'.map (reV ρ)) ⟨F.1, F.2.1, F.2.2.2.1, F.2.2.2.2.1, F.2.2.2.2.2.1⟩ hM (va_cwO (owner := owner) n F.2.2.2.2.2.1 (lw_O w1 w2 w0 w3 w4 w5 w6) rfl rfl rfl w7 ⟨hcls.1, hcls.2, hpar⟩ (roomL ho F.2.2.2.2.2.2.2.2.2.2.2.1 F.2.2.2.2.2.2.2.2.2.2.2.2)) (preV F C S hk hci hc) rfl (by rw [List.length_map]; exact hl) hsz (stkV h0 e rfl) (catL ho (fun v hv => V v ((memL e).1 v hv))) hd ⟨hc0, hs⟩⟩
end
section
variable {M Z : MD} {d pc i n : Nat} {X : Nat → List Value → MH → Prop} {Q : Outcome → MH → Prop} {kk : KT} {ci : Nat} {q : vw_C}
theorem r_cO {x : MethodName} {owner : String} {b0 : ByteArray} {m0 : Nat} {r0 : Option FieldType} (hd : decode M.2.1 pc = .ok (.invokevirtual i, 3)) (hz : Z.2.2.2.2 = []) (hpar : (parseMethodDescriptor x.desc).map (fun d => d.parameters.length) = some n) (hcls : okCls owner) (hci : ci ≠ 0) (hcl : cx_cl[ci]? = some q) (w1 : Cond.methodLink M.1.cls i x ∈ lw_all) (w2 : Cond.sameMethod x.cls owner x.name x.desc ∈ lw_all) (w0 : Cond.instanceMethod ⟨owner, x.name, x.desc⟩ ∈ lw_all) (w7 : Cond.code ⟨owner, x.name, x.desc⟩ b0 m0 r0 ∈ lw_all) (w3 : Cond.selects q.1 x Z.1 ∈ lw_all) (w4 : Cond.instanceMethod Z.1 ∈ lw_all) (w5 : Cond.initialized Z.1.cls ∈ lw_all) (w6 : Cond.code Z.1 Z.2.1 Z.2.2.1 Z.2.2.2.1 ∈ lw_all) (hX : XS M d pc Q X) (hc : ∀ ls st h, kk ls st h → WPb M d (pc + 3) ls st h Q) : ∀ ls st h, i_call Z d (n + 1) (pV ci) X kk ls st h → WPb M d pc ls st h Q :=
  r_call (fun _ _ _ _ _ _ _ e ho p hF => by obtain ⟨a, as', ea, hk⟩ := p.of; exact run_O hd e ea ho hz hpar hcls hk hci hcl w1 w2 w0 w7 w3 w4 w5 w6 hF) hX hc
/-- a byte array is cloned -/
def i_clB (d : Nat) (kk : KT) : KT := fun ls st h => match st with
  | .ref a :: r => ((kd h a = 51 ∧ cx_K0 ≤ a) ∧ 1 ≤ d ∧ (r.map fun v => v.category).sum ≤ 8) ∧ kk ls (.ref (nn h) :: r) (alc h 51 (ln h a) (ln h a) (iI h a) zN z64)
  | _ => False
theorem bArr : ("[" ++ FieldType.byte.toString : String) = "[B" := by decide +kernel
theorem r_clB {i : Nat} (w1 : Cond.methodLink M.1.cls i ⟨"[B", "clone", "()Ljava/lang/Object;"⟩ ∈ lw_all) (w2 : Cond.sameMethod "[B" "java/lang/Object" "clone" "()Ljava/lang/Object;" ∈ lw_all) (w3 : Cond.native ⟨"java/lang/Object", "clone", "()Ljava/lang/Object;"⟩ ∈ lw_all) (w4 : Cond.instanceMethod ⟨"java/lang/Object", "clone", "()Ljava/lang/Object;"⟩ ∈ lw_all) (w5 : Cond.selects "[B" ⟨"[B", "clone", "()Ljava/lang/Object;"⟩ ⟨"java/lang/Object", "clone", "()Ljava/lang/Object;"⟩ ∈ lw_all) (w6 : Cond.castable "[B" "java/lang/Cloneable" ∈ lw_tbl) (hd : decode M.2.1 pc = .ok (.invokevirtual i, 3)) (hc : ∀ ls st h, kk ls st h → WPb M d (pc + 3) ls st h Q) : ∀ ls st h, i_clB d kk ls st h → WPb M d pc ls st h Q := by
  intro ls st h H
  unfold i_clB at H
  split at H
  · rename_i a r
    obtain ⟨⟨⟨ka, ha⟩, hd1, hcat⟩, H2⟩ := H
    refine WPb.lift (fun _ _ kb9 => Bx.mk (fun G p l ev R s m args below meth c Q ρ Hp locs cells slots lsA F C S L V h1 h2 => ⟨vMk (vT V), fun wk => ?_⟩) kb9) (hc _ _ _ H2)
    have hn0 : 0 < nn h := Nat.lt_of_lt_of_le (by decide) C.2.2.2.2.2.2.1
    have hka : kd h a ≠ 0 := by rw [ka]; decide
    have hS := F.2.2.2.2.2.2.2.2.2.2.1
    have f1 := F.2.2.2.2.2.2.2.2.2.2.2.1
    have f2 := F.2.2.2.2.2.2.2.2.2.2.2.2
    have hts := F.2.2.2.2.2.1
    have hlt : a < nn h := (C.2.2.1 a hka).2.1
    have hRA := RA_cls (hS.1.2 1 _ (tys_at (t := 1) (by decide))).2
    rw [show cx_tk 1 = .byte from rfl, bArr] at hRA
    rw [List.map_cons, er_ (C.2.2.1 a hka).1]
    have hws := wsL_get (G := G) (ρ := ρ) (h := h) ha hlt
    rw [cnE_a (t := 1) ka] at hws
    have hfit := (C.2.2.2.2.2.1 a).1 ka
    refine va_clone F.1 F.2.1 (F.2.2.2.1.trans L.2.1.symm) F.2.2.2.2.1 (hts _ w1) (hts _ w2) (hts _ w3) (hts _ w4) (hts _ w5) (hS.2.1 _ w6 rfl) hS.1 C.P C.D S (fun q hq => Nat.le_trans hS.2.2.2.2.2.2.2.2.2.2.2 hq) (a - cx_K0) 1 (x := (ln h a, .inl (iI h a))) hws (tys_at (t := 1) (by decide)) hRA (fun j v hv => ?_) (by omega) (by rw [catR (vT V)]; omega) h1 h2 hd (fun q H1 K1 P1 D1 S1 => ?_)
    · have hj : j < ln h a := by
        have := (Array.getElem?_eq_some_iff.mp hv).1
        rw [show (vp_cell (G.2.1 1) (ln h a, .inl (iI h a))).slots.size = ln h a from arrV_size _ _ _] at this
        exact this
      have : v = .int (iI h a j) := by
        have e := hv
        rw [show (vp_cell (G.2.1 1) (ln h a, .inl (iI h a))).slots = Array.ofFn (n := ln h a) (fun j : Fin (ln h a) => Value.int (iI h a j.val)) from rfl, Array.getElem?_ofFn, dif_pos hj] at e
        exact (Option.some.inj e).symm
      rw [this]
      exact hfit j
    · have w1 := wk q H1 locs (C.push (by omega) (by omega) (fun _ => hn0) (by
        unfold fitB
        rw [iI_alc, va_up_self]
        exact ⟨fun _ j => hfit j, fun z => by rw [kd_alc, va_up_self] at z; omega⟩) (e := .inl (G.2.1 1, (ln h a, .inl (iI h a)))) (by
        rw [cnE_a (t := 1) (kd_alc _ _ _ _ _ _ _ ▸ va_up_self _ _ _), ln_alc, va_up_self]
        unfold arC
        rw [iI_alc, va_up_self]
        rfl) P1 D1) S1
      rw [mapMk hn0 (vT V)] at w1
      exact w1
  · exact H.elim
theorem kO_10 : ∀ ls st h, (i_aload 0 <| i_getEI 10 0 <| i_ret Q (some .int)) ls st h → WPb mJ17_ordinal d 0 ls st h Q :=
  r_aload_n (k := 0) dJ17_ordinal_0 rfl <|
  r_getEI (ci := 10) (q := (RX10, cx_TK, 2)) (k := 0) dJ17_ordinal_1 (by decide) rfl (by decide) q2783 rfl <|
  r_ret rfl (Or.inl ⟨dJ17_ordinal_4, Or.inl rfl⟩)
theorem kO_18 : ∀ ls st h, (i_aload 0 <| i_getEI 18 0 <| i_ret Q (some .int)) ls st h → WPb mJ17_ordinal d 0 ls st h Q :=
  r_aload_n (k := 0) dJ17_ordinal_0 rfl <|
  r_getEI (ci := 18) (q := (RX18, cx_TF, 2)) (k := 0) dJ17_ordinal_1 (by decide) rfl (by decide) q2783 rfl <|
  r_ret rfl (Or.inl ⟨dJ17_ordinal_4, Or.inl rfl⟩)
theorem kO_21 : ∀ ls st h, (i_aload 0 <| i_getEI 21 0 <| i_ret Q (some .int)) ls st h → WPb mJ17_ordinal d 0 ls st h Q :=
  r_aload_n (k := 0) dJ17_ordinal_0 rfl <|
  r_getEI (ci := 21) (q := (RX21, cx_TR, 1)) (k := 0) dJ17_ordinal_1 (by decide) rfl (by decide) q2783 rfl <|
  r_ret rfl (Or.inl ⟨dJ17_ordinal_4, Or.inl rfl⟩)
end
