/-! RULES 8: arrays of references, clones, class objects, calls through an interface -/
set_option maxRecDepth 100000
/-- kinds whose objects lie in lists -/
def cx_co (ci : Nat) : Bool := [2, 12, 13, 14, 15, 17, 19].contains ci
theorem cx_co_ok {ci : Nat} (hc : cx_co ci = true) : ci ≠ 0 ∧ ci < 30 ∧ Cond.castable (cx_nm ci) "java/lang/Object" ∈ lw_tbl := by
  unfold cx_co at hc
  simp only [List.contains_eq_mem, List.mem_cons, List.not_mem_nil, or_false, decide_eq_true_eq] at hc
  rcases hc with rfl | rfl | rfl | rfl | rfl | rfl | rfl
  · exact ⟨by decide, by decide, q2741⟩
  · exact ⟨by decide, by decide, q2756⟩
  · exact ⟨by decide, by decide, q2757⟩
  · exact ⟨by decide, by decide, q2758⟩
  · exact ⟨by decide, by decide, q2759⟩
  · exact ⟨by decide, by decide, q2761⟩
  · exact ⟨by decide, by decide, q2762⟩
section
variable {M : MD} {d pc : Nat} {Q : Outcome → MH → Prop} {kk : KT}
theorem anyOf {G : cx_G} {M : MD} {d : Nat} {p : Program} {l : Launch} {R : Room} {s : State} {m : MethodId} {args : Array Value} {meth : Method} {c : Code} (F : Fx G M d p l R s m args meth c) {ρ : Nat → Nat} {h : MH} {Hp : Heap} (C : Cn G ρ h Hp) {b : Nat} (hb : cx_K0 ≤ b) (hco : cx_co (kd h b) = true) : va_Any "java/lang/Object" s Hp (ρ b) := by
  obtain ⟨c1, c2, c3⟩ := cx_co_ok hco
  have hP := C.at_ hb c1
  have hlen : cx_cl.length = 30 := rfl
  have hcl : cx_cl[kd h b]? = some (cx_cl[kd h b]'(by rw [hlen]; exact c2)) := List.getElem?_eq_getElem _
  rw [cnE_o rfl hcl] at hP
  have hS := F.2.2.2.2.2.2.2.2.2.2.1
  refine va_rAny hS.1 hP (q0 := 0) rfl hcl (fun comp c0 e1 e2 => ?_)
  obtain ⟨c', t', f1, f2, f3⟩ := Cond.castable_spec ((hS.2.1 _ c3 rfl).use (A := #[]) rfl)
  rw [show (cx_cl[kd h b]'(by rw [hlen]; exact c2)).1 = cx_nm (kd h b) by unfold cx_nm; rw [clE hcl]] at e2
  cases f1.symm.trans e2
  cases f2.symm.trans e1
  exact f3
theorem arR {ρ : Nat → Nat} {h : MH} {a : Nat} : arC ρ h a 4 = .inr (.inr (.inr (.inr (fun i => rfO ρ (iR h a i))))) := rfl
/-- an array of references is written -/
theorem arrSetR {G : cx_G} {ρ : Nat → Nat} {h : MH} {Hp H1 : Heap} (C : Cn G ρ h Hp) {a : Nat} {f : Nat → Nat} {F9 : Nat → Option Nat} (ha : cx_K0 ≤ a) (hk : kd h a = 54) (hf : ∀ i, f i < nn h) (hF : F9 = fun i => rfO ρ (f i)) (hP : va_P G.1 cx_cl ((wsL G ρ h).set (a - cx_K0) (ρ a, .inl (G.2.1 4, ln h a, .inr (.inr (.inr (.inr F9)))))) H1) : Cn G ρ (stR h a f) H1 := by
  have er : iR (stR h a f) a = f := va_up_self _ _ _
  refine C.set ha (by rw [hk]; decide) rfl rfl rfl (fun _ _ => rfl) (fun _ _ => rfl) (fun b hb => va_up_ne _ _ hb) (fun i => by rw [er]; exact hf i) ?_ ?_
  · unfold fitB
    rw [kd_stR, hk]
    exact ⟨fun z => absurd z (by decide), fun z => absurd z (by decide)⟩
  · rw [cnE_a (t := 4) (h := stR h a f) hk, arR, er, ← hF]
    exact hP
def i_aast (kk : KT) : KT := fun ls st h => match st with
  | .ref b :: .int i :: .ref a :: r => (kd h a = 54 ∧ cx_K0 ≤ a ∧ vp_in i (ln h a) ∧ (b = 0 ∨ (cx_co (kd h b) = true ∧ cx_K0 ≤ b))) ∧ kk ls r (stR h a (va_up (iR h a) i.toNatClampNeg b))
  | _ => False
theorem r_aast (hd : decode M.2.1 pc = .ok (.aastore, 1)) (cc : ∀ ls st h, kk ls st h → WPb M d (pc + 1) ls st h Q) : ∀ ls st h, i_aast kk ls st h → WPb M d pc ls st h Q := by
  intro ls st h H
  unfold i_aast at H
  split at H
  · rename_i b i a r
    obtain ⟨⟨ka, ha, hin, hb⟩, H2⟩ := H
    refine WPb.lift (fun _ _ kb9 => Bx.wr (h1 := stR h a (va_up (iR h a) i.toNatClampNeg b)) rfl rfl (fun G p l ev R s m args below meth c Q ρ Hp locs cells slots lsA F C S L V => ⟨vT (vT (vT V)), fun wk => ?_⟩) kb9) (cc _ _ _ H2)
    have hka : kd h a ≠ 0 := by rw [ka]; decide
    have hq : (wsL G ρ h)[a - cx_K0]? = some (ρ a, .inl (G.2.1 4, ln h a, .inr (.inr (.inr (.inr (fun i => rfO ρ (iR h a i))))))) := by rw [wsL_get ha (C.2.2.1 a hka).2.1, cnE_a (t := 4) ka]; rfl
    have hv : ∀ j, va_up (iR h a) i.toNatClampNeg b j < nn h := by
      intro j
      by_cases hj : j = i.toNatClampNeg
      · rw [hj, va_up_self]; exact vH V
      · rw [va_up_ne _ _ hj]; exact C.2.2.2.2.1 a j
    have hup : ∀ w, rfO ρ b = w → va_up (fun i => rfO ρ (iR h a i)) i.toNatClampNeg w = fun j => rfO ρ (va_up (iR h a) i.toNatClampNeg b j) := by
      intro w hw
      funext j
      by_cases hj : j = i.toNatClampNeg
      · rw [hj, va_up_self, va_up_self, hw]
      · rw [va_up_ne _ _ hj, va_up_ne _ _ hj]
    rw [List.map_cons, List.map_cons, List.map_cons, er_ (C.2.2.1 a hka).1]
    by_cases h0 : b = 0
    · subst h0
      exact va_astqN F.1 F.2.1 F.2.2.2.2.2.2.2.2.2.2.1.1 C.P C.D S (a - cx_K0) 4 hq (tys_at (t := 4) (by decide)) hin hd (fun H1 locs1 P1 _ S1 => wk H1 locs1 (arrSetR C ha ka hv (hup none rfl) P1) S1)
    · obtain ⟨hco, hbK⟩ := hb.resolve_left h0
      rw [er_ (Nat.pos_of_ne_zero h0)]
      exact va_astqM F.1 F.2.1 F.2.2.2.2.2.2.2.2.2.2.1.1 C.P C.D S (a - cx_K0) 4 hq (tys_at (t := 4) (by decide)) (anyOf F C hbK hco) hin hd (fun H1 locs1 P1 _ S1 => wk H1 locs1 (arrSetR C ha ka hv (hup (some (ρ b)) (by unfold rfO; rw [if_neg h0])) P1) S1)
  · exact H.elim
def i_cpyR (d : Nat) (kk : KT) : KT := fun ls st h => match st with
  | .int n :: .int dp :: .ref a :: .int sp :: .ref b :: r => ((kd h a = 54 ∧ cx_K0 ≤ a ∧ kd h b = 54 ∧ cx_K0 ≤ b) ∧ cpOk sp dp n (ln h b) (ln h a) ∧ (∀ i, i < n.toNatClampNeg → iR h b (sp.toNatClampNeg + i) = 0 ∨ (cx_co (kd h (iR h b (sp.toNatClampNeg + i))) = true ∧ cx_K0 ≤ iR h b (sp.toNatClampNeg + i))) ∧ 1 ≤ d ∧ (r.map fun v => v.category).sum ≤ 8) ∧ kk ls r (stR h a (va_cpy (iR h b) (iR h a) sp.toNatClampNeg dp.toNatClampNeg n.toNatClampNeg))
  | _ => False
theorem r_cpyR {i : Nat} (hw : Cond.methodLink M.1.cls i arraycopyName ∈ lw_all) (h1 : Cond.native arraycopyName ∈ lw_all) (h2 : Cond.static arraycopyName ∈ lw_all) (h3 : Cond.initialized "java/lang/System" ∈ lw_all) (hd : decode M.2.1 pc = .ok (.invokestatic i, 3)) (hc : ∀ ls st h, kk ls st h → WPb M d (pc + 3) ls st h Q) : ∀ ls st h, i_cpyR d kk ls st h → WPb M d pc ls st h Q := by
  intro ls st h H
  unfold i_cpyR at H
  split at H
  · rename_i n dp a sp b r
    obtain ⟨⟨⟨ka, ha, kb, hb⟩, ⟨c1, c2, c3, c4, c5⟩, hel, hd1, hcat⟩, H2⟩ := H
    refine WPb.lift (fun _ _ kb9 => Bx.wr (h1 := stR h a (va_cpy (iR h b) (iR h a) sp.toNatClampNeg dp.toNatClampNeg n.toNatClampNeg)) rfl rfl (fun G p l ev R s m args below meth c Q ρ Hp locs cells slots lsA F C S L V => ⟨vT (vT (vT (vT (vT V)))), fun wk => ?_⟩) kb9) (hc _ _ _ H2)
    have hka : kd h a ≠ 0 := by rw [ka]; decide
    have hkb : kd h b ≠ 0 := by rw [kb]; decide
    have f1 := F.2.2.2.2.2.2.2.2.2.2.2.1
    have f2 := F.2.2.2.2.2.2.2.2.2.2.2.2
    rw [List.map_cons, List.map_cons, List.map_cons, List.map_cons, List.map_cons, er_ (C.2.2.1 a hka).1, er_ (C.2.2.1 b hkb).1]
    refine va_copyM F.1 F.2.1 (F.2.2.2.1.trans L.2.1.symm) F.2.2.2.2.1 (F.2.2.2.2.2.1 _ hw) (F.2.2.2.2.2.1 _ h1) (F.2.2.2.2.2.1 _ h2) (F.2.2.2.2.2.1 _ h3) F.2.2.2.2.2.2.2.2.2.2.1.1 C.P C.D S (b - cx_K0) (a - cx_K0) 4 4 (by rw [wsL_get hb (C.2.2.1 b hkb).2.1, cnE_a (t := 4) kb, arR]) (by rw [wsL_get ha (C.2.2.1 a hka).2.1, cnE_a (t := 4) ka, arR]) (tys_at (t := 4) (by decide)) (tys_at (t := 4) (by decide)) c1 c2 c3 c4 c5 (fun j hj y hy => ?_) (by omega) ?_ hd (fun H1 locs1 P1 _ S1 => wk H1 locs1 (arrSetR C ha ka (fun j => ?_) ?_ P1) S1)
    · rcases hel j hj with e | ⟨e1, e2⟩
      · simp only [rfO, e, if_true] at hy
        cases hy
      · have hne : iR h b (sp.toNatClampNeg + j) ≠ 0 := by have : cx_K0 = 300 := rfl; omega
        simp only [rfO, hne, if_false, Option.some.injEq] at hy
        rw [← hy]
        exact anyOf F C e2 e1
    · rw [catR (vT (vT (vT (vT (vT V)))))]
      have : nativeFrameWords "java/lang/System" "arraycopy" 5 ≤ 40 := by decide +kernel
      omega
    · unfold va_cpy
      split
      · exact C.2.2.2.2.1 b _
      · exact C.2.2.2.2.1 a _
    · funext j
      unfold va_cpy
      split <;> rfl
  · exact H.elim
/-- a cell is pushed -/
theorem Cn.pushC {G : cx_G} {ρ : Nat → Nat} {h : MH} {H : Heap} {cell : Cell} {k n u : Nat} {f : Nat → Int32} {g : Nat → Nat} {j : Nat → Int64} (C : Cn G ρ h H) (hsz : G.2.2.1 ≤ H.size) (hk0 : k ≠ 0) (hk : k < 58) (hg : ∀ i, g i < nn h) (hf : fitB (alc h k n u f g j) (nn h)) (he : va_at G.1 cx_cl (H.size, cnE G ρ (alc h k n u f g j) (nn h)) (H.push cell)) : Cn G (va_up ρ (nn h) H.size) (alc h k n u f g j) (H.push cell) := by
  refine C.push hk0 hk hg hf rfl ((C.P.kept (fun k y hy => ?_)).app (fun k y hy => ?_)) (C.D.push C.P rfl hsz)
  · have := (C.P k y hy).lt
    rw [Array.getElem?_push, if_neg (by omega)]
  · have hz : k < 1 := (List.getElem?_eq_some_iff.mp hy).1
    rw [show k = 0 by omega] at hy
    cases hy
    exact he
/-- an enum's array is cloned -/
def i_cln (d t : Nat) (kk : KT) : KT := fun ls st h => match st with
  | .ref a :: r => ((a = 10 + t ∧ 5 ≤ t ∧ t ≤ 7 ∧ kd h a = 50 + t ∧ (∀ i, iR h a i < cx_K0)) ∧ 1 ≤ d ∧ (r.map fun v => v.category).sum ≤ 8) ∧ kk ls (.ref (nn h) :: r) (alc h (50 + t) (ln h a) (ln h a) z32 (iR h a) z64)
  | _ => False
theorem r_cln {i t : Nat} {ad E : String} (hE : cx_tk t = .object E) (had : ad = "[" ++ (FieldType.object E).toString) (w1 : Cond.methodLink M.1.cls i ⟨ad, "clone", "()Ljava/lang/Object;"⟩ ∈ lw_all) (w2 : Cond.sameMethod ad "java/lang/Object" "clone" "()Ljava/lang/Object;" ∈ lw_all) (w3 : Cond.native ⟨"java/lang/Object", "clone", "()Ljava/lang/Object;"⟩ ∈ lw_all) (w4 : Cond.instanceMethod ⟨"java/lang/Object", "clone", "()Ljava/lang/Object;"⟩ ∈ lw_all) (w5 : Cond.selects ad ⟨ad, "clone", "()Ljava/lang/Object;"⟩ ⟨"java/lang/Object", "clone", "()Ljava/lang/Object;"⟩ ∈ lw_all) (w6 : Cond.castable ad "java/lang/Cloneable" ∈ lw_tbl) (hd : decode M.2.1 pc = .ok (.invokevirtual i, 3)) (hc : ∀ ls st h, kk ls st h → WPb M d (pc + 3) ls st h Q) : ∀ ls st h, i_cln d t kk ls st h → WPb M d pc ls st h Q := by
  intro ls st h H
  unfold i_cln at H
  split at H
  · rename_i a r
    obtain ⟨⟨⟨ea, t5, t7, hk, hold⟩, hd1, hcat⟩, H2⟩ := H
    have ea : @Eq Nat a (10 + t) := ea
    refine WPb.lift (fun _ _ kb9 => Bx.mk (fun G p l ev R s m args below meth c Q ρ Hp locs cells slots lsA F C S L V h1 h2 => ⟨vMk (vT V), fun wk => ?_⟩) kb9) (hc _ _ _ H2)
    have hn0 : 0 < nn h := Nat.lt_of_lt_of_le (by decide) C.2.2.2.2.2.2.1
    have hS := F.2.2.2.2.2.2.2.2.2.2.1
    have f1 := F.2.2.2.2.2.2.2.2.2.2.2.1
    have f2 := F.2.2.2.2.2.2.2.2.2.2.2.2
    have haK : @LT.lt Nat _ a cx_K0 := by have : cx_K0 = 300 := rfl; omega
    have hka : kd h a ≠ 0 := by rw [hk]; omega
    obtain ⟨o1, o2, o3, o4, o5, o6⟩ := oldOf C haK
    obtain ⟨cell, e1, e2, e3, e4, e5, e6⟩ := hS.2.2.2.2.2.2.2.2.2.2.1.2 a (by omega) (by omega)
    have hT := oldArr F C haK hk
    obtain ⟨cell', g1, -, -, -, -, g6, -⟩ := hT
    rw [o1, e1] at g1
    cases g1
    rw [← o1] at e1 e6
    rw [← o3] at e2
    have hH : Hp[ρ a]? = some cell := by rw [S.2.1 _ (Array.getElem?_eq_some_iff.mp e1).1 e6]; exact e1
    have e10 : @HSub.hSub Nat Nat Nat _ a 10 = t := by omega
    have e3 : cell.cls = G.2.1 t := e3.trans (congrArg G.2.1 e10)
    have hslots : cell.slots = Array.ofFn (n := ln h a) (fun j : Fin (ln h a) => va_rf (rfO ρ (iR h a j.val))) := by
      apply Array.ext
      · rw [e2, Array.size_ofFn]
      · intro j hj1 hj2
        have hj : j < ln h a := by rw [← e2]; exact hj1
        have := g6 j hj
        rw [Array.getElem?_eq_getElem hj1] at this
        rw [Array.getElem_ofFn, Option.some.inj this]
        unfold elV
        rw [hE]
        show reV G.2.2.2.1 (.ref (iR h a j)) = _
        rw [reV_rfO]
        unfold rfO
        rw [(oldOf C (hold j)).1]
    have hcellE : ({ cls := cell.cls, slots := cell.slots } : Cell) = vp_cell (G.2.1 t) (ln h a, .inr (.inr (.inr (.inr (fun j => rfO ρ (iR h a j)))))) := by
      rw [e3, hslots]
      rfl
    have hRA := RA_cls (hS.1.2 t _ (tys_at (by omega))).2
    rw [hE] at hRA
    rw [← had] at hRA
    obtain ⟨c0, t0', q1, q2, q3⟩ := Cond.castable_spec ((hS.2.1 _ w6 rfl).use (A := args) rfl)
    cases hRA.symm.trans q1
    rw [List.map_cons, er_ (C.2.2.1 a hka).1]
    intro T hTT X
    obtain ⟨-, kA, hkA, comp, hkind⟩ := State.isArrayOf_alike X.warmed.alike ((hS.1.2 t _ (tys_at (by omega))).1 0 (fun _ => .null))
    obtain ⟨-, kS, hkS, compS, hkindS⟩ := (hS.1.2 t _ (tys_at (by omega))).1 0 (fun _ => .null)
    have hts := F.2.2.2.2.2.1
    obtain ⟨vm', X', st9⟩ := X.cloneArray F.1 F.2.2.2.2.1 (hts _ w1) (hts _ w2) (hts _ w3) (hts _ w4) (hts _ w5) (a := ρ a) (cell := cell) (by rw [hTT]; exact hH) (fun k z => by rw [z] at e4; cases e4) e5 (by rw [e3]; exact hRA) q2 (by rw [e3]; exact q3)
      (fun i9 v9 hv9 => by
        rw [e3]
        have hk' : T.vm.classes[G.2.1 t]? = some kA := hkA
        have hlt : i9 < ln h a := by rw [← e2]; exact (Array.getElem?_eq_some_iff.mp hv9).1
        have hvv := g6 i9 hlt
        rw [hv9] at hvv
        have hfit : fits (cx_tk t) v9 = true := by
          rw [Option.some.inj hvv]
          unfold elV
          rw [hE]
          show fits (.object E) (reV G.2.2.2.1 (.ref (iR h a i9))) = true
          unfold reV
          by_cases hz : iR h a i9 = 0 <;> simp [hz, fits]
        simpa [State.fitsSlot, State.slotType?, hk', hkind] using hfit)
      (g := F0 m pc lsA (.ref (ρ a) :: r.map (reV ρ))) rfl (L.2.1.trans F.2.2.2.1.symm) rfl (by rw [F.2.1]; exact hd) (by omega) (by show 2 * 0 + _ + 14 ≤ _; rw [catR (vT V)]; omega) h1 (by rw [e2]; exact h2) (hloader := by rw [e3]; exact Vm.clonesLoader_of_array hkS hkindS)
    rw [hcellE, e2] at X'
    have C1 := C.pushC (k := 50 + t) (n := ln h a) (u := ln h a) (f := z32) (g := iR h a) (j := z64) (cell := vp_cell (G.2.1 t) (ln h a, .inr (.inr (.inr (.inr (fun j => rfO ρ (iR h a j))))))) (Nat.le_trans hS.2.2.2.2.2.2.2.2.2.2.2 S.1) (by omega) (by omega) (fun i => C.2.2.2.2.1 a i) fit0 (by
      have hk9 : kd (alc h (50 + t) (ln h a) (ln h a) z32 (iR h a) z64) (nn h) = 50 + t := va_up_self _ _ _
      rw [cnE_a hk9, ln_alc, va_up_self, show arC ρ (alc h (50 + t) (ln h a) (ln h a) z32 (iR h a) z64) (nn h) t = .inr (.inr (.inr (.inr (fun j => rfO ρ (iR h a j))))) by unfold arC; rw [hE, show iR (alc h (50 + t) (ln h a) (ln h a) z32 (iR h a) z64) (nn h) = iR h a from va_up_self _ _ _]; rfl]
      exact Array.getElem?_push_size)
    have S1 : va_S (cx_A G) s.heap (Hp.push (vp_cell (G.2.1 t) (ln h a, .inr (.inr (.inr (.inr (fun j => rfO ρ (iR h a j)))))))) locs := by
      refine ⟨Nat.le_trans S.1 (by rw [Array.size_push]; omega), fun y y1 y2 => ?_, S.2.2⟩
      rw [Array.getElem?_push, if_neg (by have := S.1; omega)]
      exact S.2.1 y y1 y2
    have w9 := wk Hp.size _ locs C1 S1
    rw [mapMk hn0 (vT V)] at w9
    obtain ⟨t9, b1, b2⟩ := w9 ((T.setVm vm').pushCell (vp_cell (G.2.1 t) (ln h a, .inr (.inr (.inr (.inr (fun j => rfO ρ (iR h a j)))))))) (by rw [← hTT]; rfl) X'
    refine ⟨t9, st9 t9 ?_, b2⟩
    rw [hcellE, hTT]
    exact b1
  · exact H.elim
/-- the class of an array of objects -/
def i_gcl (d : Nat) (kk : KT) : KT := fun ls st h => match st with
  | .ref a :: r => ((kd h a = 54 ∧ cx_K0 ≤ a) ∧ 1 ≤ d ∧ (r.map fun v => v.category).sum ≤ 8) ∧ kk ls (.ref 19 :: r) h
  | _ => False
theorem oArr : ("[" ++ (FieldType.object "java/lang/Object").toString : String) = "[Ljava/lang/Object;" := by decide +kernel
theorem r_gcl {i : Nat} (w1 : Cond.methodLink M.1.cls i ⟨"java/lang/Object", "getClass", "()Ljava/lang/Class;"⟩ ∈ lw_all) (w2 : Cond.declares ⟨"java/lang/Object", "getClass", "()Ljava/lang/Class;"⟩ ∈ lw_tbl) (w3 : Cond.selects "[Ljava/lang/Object;" ⟨"java/lang/Object", "getClass", "()Ljava/lang/Class;"⟩ ⟨"java/lang/Object", "getClass", "()Ljava/lang/Class;"⟩ ∈ lw_all) (w4 : Cond.instanceMethod ⟨"java/lang/Object", "getClass", "()Ljava/lang/Class;"⟩ ∈ lw_all) (w5 : Cond.native ⟨"java/lang/Object", "getClass", "()Ljava/lang/Class;"⟩ ∈ lw_all) (hd : decode M.2.1 pc = .ok (.invokevirtual i, 3)) (hc : ∀ ls st h, kk ls st h → WPb M d (pc + 3) ls st h Q) : ∀ ls st h, i_gcl d kk ls st h → WPb M d pc ls st h Q := by
  intro ls st h H
  unfold i_gcl at H
  split at H
  · rename_i a r
    obtain ⟨⟨⟨ka, ha⟩, hd1, hcat⟩, H2⟩ := H
    refine WPb.lift (fun _ _ kb9 => Bx.go (fun G p l ev R s m args below meth c Q ρ Hp locs cells slots lsA F C S L V => ⟨vC (vOld C (show 19 < cx_K0 by decide)) (vT V), fun wk => ?_⟩) kb9) (hc _ _ _ H2)
    have hka : kd h a ≠ 0 := by rw [ka]; decide
    have hS := F.2.2.2.2.2.2.2.2.2.2.1
    have f1 := F.2.2.2.2.2.2.2.2.2.2.2.1
    have f2 := F.2.2.2.2.2.2.2.2.2.2.2.2
    have hts := F.2.2.2.2.2.1
    have hat := (C.1 a ha hka).2
    rw [cnE_a (t := 4) ka, arR] at hat
    have hRA := RA_cls (hS.1.2 4 _ (tys_at (t := 4) (by decide))).2
    rw [show cx_tk 4 = .object "java/lang/Object" from rfl, oArr] at hRA
    rw [List.map_cons, er_ (C.2.2.1 a hka).1]
    rw [List.map_cons, er_ (by decide), (oldOf C (show 19 < cx_K0 by decide)).1] at wk
    exact va_getC F.1 F.2.1 (F.2.2.2.1.trans L.2.1.symm) F.2.2.2.2.1 (hts _ w1) ((hS.2.1 _ w2 rfl).use rfl) (hts _ w3) (hts _ w4) (hts _ w5) hS.2.2.2.2.2.2.2.2.2.2.1.1 ⟨_, hat, rfl, hRA⟩ (by omega) (by rw [catR (vT V)]; omega) hd wk
  · exact H.elim
def i_ldcM (kk : KT) : KT := fun ls st h => kk ls (.ref 19 :: st) h
theorem r_ldcM {i : Nat} (w1 : Cond.classLink M.1.cls i "[Ljava/lang/Object;" ∈ lw_all) (hd : decode M.2.1 pc = .ok (.ldc i, 2)) (hc : ∀ ls st h, kk ls st h → WPb M d (pc + 2) ls st h Q) : ∀ ls st h, i_ldcM kk ls st h → WPb M d pc ls st h Q := by
  intro ls st h H
  refine WPb.lift (fun _ _ kb9 => Bx.go (fun G p l ev R s m args below meth c Q ρ Hp locs cells slots lsA F C S L V => ⟨vC (vOld C (show 19 < cx_K0 by decide)) V, fun wk => ?_⟩) kb9) (hc _ _ _ H)
  have hS := F.2.2.2.2.2.2.2.2.2.2.1
  rw [List.map_cons, er_ (by decide), (oldOf C (show 19 < cx_K0 by decide)).1] at wk
  exact va_ldcM F.1 F.2.1 F.2.2.2.2.1 (F.2.2.2.2.2.1 _ w1) hS.2.2.2.2.2.2.2.2.2.2.1.1 hd wk
end
