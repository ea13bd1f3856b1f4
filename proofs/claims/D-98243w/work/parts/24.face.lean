/-! CALLS through the interface Cond -/
set_option maxRecDepth 100000
def RunX5 (M : MD) (d pc : Nat) (st rest : List Value) (h : MH) (o1 : Outcome) (h1 : MH) : Prop :=
  nn h ≤ nn h1 ∧ sU h ≤ sU h1 ∧ (∀ v ∈ rest, v ∈ st) ∧
  ∀ (G : cx_G) (p : Program) (l : Launch) (e : Env) (R : Room) (s : State) (m : MethodId) (args : Array Value) (below : List Frame) (meth : Method) (c : Code) (ρ : Nat → Nat) (H : Heap) (locs : List Loc) (cells slots : Nat) (lsA : Array Slot),
    Fx G M d p l R s m args meth c → Cn G ρ h H → va_S (cx_A G) s.heap H locs → lsA.size = M.2.2.1 → (∀ v ∈ st, vOk h v) → cells + (nn h1 - nn h) ≤ R.cells → slots + (sU h1 - sU h) ≤ R.slots →
    ∃ arr, vx_Run5 p l e R s m args below meth c H locs cells slots (nn h1 - nn h) (sU h1 - sU h) (F0 m pc lsA (st.map (reV ρ))) (rest.map (reV ρ)) (Qcx G ρ o1 h h1 arr) (XCx G ρ o1 h h1) (cx_A G)
theorem Bx.ret5 {M : MD} {d pc : Nat} {ls st rest : List Value} {h h1 h' : MH} {v : Option Value} {o : Outcome} (r : RunX5 M d pc st rest h (.returned v) h1) (k : Bx M d (pc + 5) ls (v.toList ++ rest) h1 o h') : Bx M d pc ls st h o h' := by
  obtain ⟨k1, k2, k3⟩ := k
  obtain ⟨r1, r2, r3, r4⟩ := r
  refine ⟨by omega, by omega, ?_⟩
  intro G p l e R s m args below meth c Q ρ H locs cells slots lsA F C S L V hc hs fin
  obtain ⟨arr, hrun⟩ := r4 G p l e R s m args below meth c ρ H locs cells slots lsA F C S L.2.1 V (by omega) (by omega)
  intro T hT X
  rcases hrun T hT X with ⟨v', st₀, t, T', Lo, h0, X', hL, e1, e2, ⟨ρ', v2, ho, hv', hx, C1, hF, hok⟩, go⟩ | ⟨q, st₀, t, T', Lo, E, ce, h0, X', hL, e1, e2, ⟨ρ', k', ho, _⟩, _⟩
  · cases ho
    cases hv'
    obtain ⟨_, _, S'⟩ := vx_keep h0 e1 S (fun _ _ z => z) (fun _ z => z) hL hF
    rw [← e1] at C1
    have Vr : ∀ w ∈ rest, vOk h w := fun w hw => V w (r3 w hw)
    have V' : ∀ w ∈ v.toList ++ rest, vOk h1 w := by
      intro w hw
      rcases List.mem_append.mp hw with z | z
      · exact hok w (Option.mem_toList.mp z)
      · exact (Vr w z).mono r1
    have W1 := k3 G p l e R s m args below meth c Q ρ' T'.heap (locs ++ Lo) (cells + (nn h1 - nn h)) (slots + (sU h1 - sU h)) lsA F C1 S' (L.ext r1 hx) V' (by omega) (by omega) (by
      intro ρ2 H2 locs2 lsA2 pc2 hx2 C2 S2 hz
      have := fin ρ2 H2 locs2 lsA2 pc2 (fun a ha => (hx2 a (by omega)).trans (hx a ha)) C2 S2 hz
      rw [show cells + (nn h1 - nn h) + (nn h' - nn h1) = cells + (nn h' - nn h) by omega, show slots + (sU h1 - sU h) + (sU h' - sU h1) = slots + (sU h' - sU h) by omega]
      exact this)
    obtain ⟨t2, a1, b1⟩ := W1 T' rfl X'
    refine ⟨t2, go t2 ?_, b1⟩
    have es : (v.map (reV ρ')).toList ++ rest.map (reV ρ) = (v.toList ++ rest).map (reV ρ') := by
      rw [List.map_append, map_ext hx Vr]
      cases v <;> rfl
    rw [es]
    exact a1
  · cases ho
theorem lw_F {own : String} {idx : Nat} {C : String} {x y : MethodName} {b : ByteArray} {L : Nat} {r : Option FieldType} (h1 : Cond.methodLink own idx x ∈ lw_all) (h2 : Cond.selects C x y ∈ lw_all) (h3 : Cond.instanceMethod y ∈ lw_all) (h4 : Cond.initialized y.cls ∈ lw_all) (h5 : Cond.code y b L r ∈ lw_all) : GoodIn lw_all (va_wsF own idx C x y (ws_ y b L r)) := by
  refine lw_app ?_ (lw_meth h5)
  intro w hw
  simp only [List.mem_cons, List.not_mem_nil, or_false] at hw
  rcases hw with e | e | e | e
  · rw [e]; exact h1
  · rw [e]; exact h2
  · rw [e]; exact h3
  · rw [e]; exact h4
theorem run_F {M Z : MD} {d pc i n a ci count : Nat} {st as as' rest : List Value} {h h1 : MH} {o1 : Outcome} {q : vw_C} {x : MethodName} (hd : decode M.2.1 pc = .ok (.invokeinterface i count, 5)) (e : st = as.reverse ++ rest) (ea : as = .ref a :: as') (ho : cOk Z d (n + 1) as rest) (hz : Z.2.2.2.2 = []) (hpar : (parseMethodDescriptor x.desc).map (fun d => d.parameters.length) = some n) (hcls : okCls x.cls) (hk : kd h a = ci) (hci : ci ≠ 0) (hc : cx_cl[ci]? = some q)
    (w1 : Cond.methodLink M.1.cls i x ∈ lw_all) (w2 : Cond.selects q.1 x Z.1 ∈ lw_all) (w3 : Cond.instanceMethod Z.1 ∈ lw_all) (w4 : Cond.initialized Z.1.cls ∈ lw_all) (w5 : Cond.code Z.1 Z.2.1 Z.2.2.1 Z.2.2.2.1 ∈ lw_all) (wf : (q.1, x, Z.1) ∈ cx_fw) (hF : FMx Z (d - 1) as h o1 h1) : RunX5 M d pc st rest h o1 h1 := by
  refine ⟨hF.1, hF.2.1, (memL e).1, fun G p l ev R s m args below meth c ρ H locs cells slots lsA F C S hsz V hc0 hs => ?_⟩
  have hM := hF.2.2 G l ρ F.2.2.2.2.2.2.2.2.1 (fun v hv => V v ((memL e).2 v hv))
  rw [wsM0 hz] at hM
  have h0 : 0 < a := (C.2.2.1 a (by rw [hk]; exact hci)).1
  have hl : as'.length = n := by have := ho.1; rw [ea] at this; simpa using this
  have S0 := F.2.2.2.2.2.2.2.2.2.2.1
  have hat := (S0.1.1 ci q hc).2
  subst ea
  exact ⟨_, vx_runF hat (As := as'.map (reV ρ)) ⟨F.1, F.2.1, F.2.2.2.1, F.2.2.2.2.1, F.2.2.2.2.2.1⟩ hM (va_cwF n F.2.2.2.2.2.1 (lw_F w1 w2 w3 w4 w5) rfl rfl rfl (S0.2.2.2.2.2.2.2.2.1 _ wf) ⟨hcls.1, hcls.2, hpar⟩ (roomL ho F.2.2.2.2.2.2.2.2.2.2.2.1 F.2.2.2.2.2.2.2.2.2.2.2.2)) (preV F C S hk hci hc) rfl (by rw [List.length_map]; exact hl) hsz (stkV h0 e rfl) (catL ho (fun v hv => V v ((memL e).1 v hv))) hd ⟨hc0, hs⟩⟩
/-- the method that a condition's kind has -/
def zF (ci : Nat) : MD := if ci = 13 then mX13_holds else if ci = 14 then mX14_holds else if ci = 15 then mX15_holds else mX19_holds
def i_cF (d : Nat) (kk : KT) : KT := fun ls st h => match st with
  | v :: .ref a :: r => ((kd h a = 13 ∨ kd h a = 14 ∨ kd h a = 15 ∨ kd h a = 19) ∧ cOk (zF (kd h a)) d 2 [.ref a, v] r) ∧ WPm (zF (kd h a)) (d - 1) [.ref a, v] h (fun o h1 => match o with
    | .returned w => kk ls (w.toList ++ r) h1
    | .threw _ => False)
  | _ => False
theorem r_cF {M : MD} {d pc i count : Nat} {Q : Outcome → MH → Prop} {kk : KT} (w1 : Cond.methodLink M.1.cls i cx_hl ∈ lw_all) (hd : decode M.2.1 pc = .ok (.invokeinterface i count, 5)) (hc : ∀ ls st h, kk ls st h → WPb M d (pc + 5) ls st h Q) : ∀ ls st h, i_cF d kk ls st h → WPb M d pc ls st h Q := by
  intro ls st h H
  unfold i_cF at H
  split at H
  · rename_i v a r
    obtain ⟨⟨hk, ho⟩, o1, h1, hF, hq⟩ := H
    have run : RunX5 M d pc (v :: .ref a :: r) r h o1 h1 := by
      rcases hk with e | e | e | e
      · rw [e] at hF ho
        exact run_F (Z := mX13_holds) (n := 1) (as := [.ref a, v]) (as' := [v]) (q := (RX13, TX13, 2)) hd rfl rfl ho rfl (by decide +kernel) ⟨by decide, by decide⟩ e (by decide) rfl w1 q1790 q1792 q150 q1794 (by decide +kernel) hF
      · rw [e] at hF ho
        exact run_F (Z := mX14_holds) (n := 1) (as := [.ref a, v]) (as' := [v]) (q := (RX14, TX14, 1)) hd rfl rfl ho rfl (by decide +kernel) ⟨by decide, by decide⟩ e (by decide) rfl w1 q1782 q1784 q151 q1786 (by decide +kernel) hF
      · rw [e] at hF ho
        exact run_F (Z := mX15_holds) (n := 1) (as := [.ref a, v]) (as' := [v]) (q := (RX15, TX15, 1)) hd rfl rfl ho rfl (by decide +kernel) ⟨by decide, by decide⟩ e (by decide) rfl w1 q1801 q1803 q152 q1805 (by decide +kernel) hF
      · rw [e] at hF ho
        exact run_F (Z := mX19_holds) (n := 1) (as := [.ref a, v]) (as' := [v]) (q := (RX19, TX19, 2)) hd rfl rfl ho rfl (by decide +kernel) ⟨by decide, by decide⟩ e (by decide) rfl w1 q1758 q1760 q156 q1762 (by decide +kernel) hF
    cases o1 with
    | returned w => exact WPb.lift (fun _ _ b => Bx.ret5 run b) (hc _ _ _ hq)
    | threw k => exact hq.elim
  · exact H.elim
def xNone : Nat → List Value → MH → Prop := fun _ _ _ => False
theorem XS.none {M : MD} {d pc : Nat} {Q : Outcome → MH → Prop} : XS M d pc Q xNone := fun _ _ _ _ _ _ _ z => z.elim
/-- code that no run comes to -/
def i_bad : KT := fun _ _ _ => False
theorem r_bad {M : MD} {d pc : Nat} {Q : Outcome → MH → Prop} : ∀ ls st h, i_bad ls st h → WPb M d pc ls st h Q := fun _ _ _ z => z.elim
theorem cond_cs : ∀ ci ∈ [13, 14, 15, 19], ci ≠ 0 ∧ ci < 30 ∧ Cond.castable (cx_nm ci) "CheekTown$Cond" ∈ lw_tbl := by
  intro ci hc
  simp only [List.mem_cons, List.not_mem_nil, or_false] at hc
  rcases hc with rfl | rfl | rfl | rfl
  · exact ⟨by decide, by decide, q1789⟩
  · exact ⟨by decide, by decide, q1781⟩
  · exact ⟨by decide, by decide, q1800⟩
  · exact ⟨by decide, by decide, q1757⟩
