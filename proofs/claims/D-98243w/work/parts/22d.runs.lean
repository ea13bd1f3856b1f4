/-! CALLS: inherited, of a superclass, private there, through an interface -/
set_option maxRecDepth 100000
section
variable {M Z : MD} {d pc i n : Nat} {ls st as rest : List Value} {h h1 : MH} {o1 : Outcome}
theorem lw_U {own : String} {idx : Nat} {C owner : String} {x y : MethodName} {b : ByteArray} {L : Nat} {r : Option FieldType} (h1 : Cond.methodLink own idx x ∈ lw_all) (h2 : Cond.sameMethod x.cls owner x.name x.desc ∈ lw_all) (h3 : Cond.selects C x y ∈ lw_all) (h4 : Cond.instanceMethod y ∈ lw_all) (h5 : Cond.initialized y.cls ∈ lw_all) (h6 : Cond.code y b L r ∈ lw_all) : GoodIn lw_all (va_wsU own idx C owner x y (ws_ y b L r)) := by
  refine lw_app ?_ (lw_meth h6)
  intro w hw
  simp only [List.mem_cons, List.not_mem_nil, or_false] at hw
  rcases hw with e | e | e | e | e
  · rw [e]; exact h1
  · rw [e]; exact h2
  · rw [e]; exact h3
  · rw [e]; exact h4
  · rw [e]; exact h5
theorem lw_SU {own : String} {idx : Nat} {y : MethodName} {b : ByteArray} {L : Nat} {r : Option FieldType} (h1 : Cond.methodLink own idx y ∈ lw_all) (h2 : Cond.sameMethod y.cls y.cls y.name y.desc ∈ lw_all) (h3 : Cond.superclass own y.cls ∈ lw_all) (h4 : Cond.instanceMethod y ∈ lw_all) (h5 : Cond.initialized y.cls ∈ lw_all) (h6 : Cond.code y b L r ∈ lw_all) : GoodIn lw_all (va_wsSU own idx y (ws_ y b L r)) := by
  refine lw_app ?_ (lw_meth h6)
  intro w hw
  simp only [List.mem_cons, List.not_mem_nil, or_false] at hw
  rcases hw with e | e | e | e | e
  · rw [e]; exact h1
  · rw [e]; exact h2
  · rw [e]; exact h3
  · rw [e]; exact h4
  · rw [e]; exact h5
/-- an inherited method: x as it is named, Z the one that is found -/
theorem run_U {a ci : Nat} {as' : List Value} {q : vw_C} {x : MethodName} {owner : String} (hd : decode M.2.1 pc = .ok (.invokevirtual i, 3)) (e : st = as.reverse ++ rest) (ea : as = .ref a :: as') (ho : cOk Z d (n + 1) as rest) (hz : Z.2.2.2.2 = []) (hpar : (parseMethodDescriptor x.desc).map (fun d => d.parameters.length) = some n) (hcls : okCls owner) (hk : kd h a = ci) (hci : ci ≠ 0) (hc : cx_cl[ci]? = some q) (hyx : Z.1 = ⟨owner, x.name, x.desc⟩)
    (w1 : Cond.methodLink M.1.cls i x ∈ lw_all) (w2 : Cond.sameMethod x.cls owner x.name x.desc ∈ lw_all) (w3 : Cond.selects q.1 x Z.1 ∈ lw_all) (w4 : Cond.instanceMethod Z.1 ∈ lw_all) (w5 : Cond.initialized Z.1.cls ∈ lw_all) (w6 : Cond.code Z.1 Z.2.1 Z.2.2.1 Z.2.2.2.1 ∈ lw_all) (hF : FMx Z (d - 1) as h o1 h1) : RunX M d pc ls st rest h o1 h1 := by
  refine ⟨hF.1, hF.2.1, (memL e).1, fun G p l ev R s m args below meth c ρ H locs cells slots lsA F C S hsz V hc0 hs => ?_⟩
  have hM := hF.2.2 G l ρ F.2.2.2.2.2.2.2.2.1 (fun v hv => V v ((memL e).2 v hv))
  rw [wsM0 hz] at hM
  have h0 : 0 < a := (C.2.2.1 a (by rw [hk]; exact hci)).1
  have hl : as'.length = n := by have := ho.1; rw [ea] at this; simpa using this
  subst ea
  exact ⟨_, vx_runU (As := as'.map (reV ρ)) ⟨F.1, F.2.1, F.2.2.2.1, F.2.2.2.2.1, F.2.2.2.2.2.1⟩ hM (va_cwU (owner := owner) n F.2.2.2.2.2.1 (lw_U w1 w2 w3 w4 w5 w6) rfl rfl rfl hyx ⟨hcls.1, hcls.2, hpar⟩ (roomL ho F.2.2.2.2.2.2.2.2.2.2.2.1 F.2.2.2.2.2.2.2.2.2.2.2.2)) (preV F C S hk hci hc) rfl (by rw [List.length_map]; exact hl) hsz (stkV h0 e rfl) (catL ho (fun v hv => V v ((memL e).1 v hv))) hd ⟨hc0, hs⟩⟩
/-- super.m(..) -/
theorem run_SU {a ci : Nat} {as' : List Value} {q : vw_C} (hd : decode M.2.1 pc = .ok (.invokespecial i, 3)) (e : st = as.reverse ++ rest) (ea : as = .ref a :: as') (ho : cOk Z d (n + 1) as rest) (hz : Z.2.2.2.2 = []) (hpar : (parseMethodDescriptor Z.1.desc).map (fun d => d.parameters.length) = some n) (hnm : Z.1.name ≠ "<init>") (hk : kd h a = ci) (hci : ci ≠ 0) (hc : cx_cl[ci]? = some q)
    (w1 : Cond.methodLink M.1.cls i Z.1 ∈ lw_all) (w2 : Cond.sameMethod Z.1.cls Z.1.cls Z.1.name Z.1.desc ∈ lw_all) (w3 : Cond.superclass M.1.cls Z.1.cls ∈ lw_all) (w4 : Cond.instanceMethod Z.1 ∈ lw_all) (w5 : Cond.initialized Z.1.cls ∈ lw_all) (w6 : Cond.code Z.1 Z.2.1 Z.2.2.1 Z.2.2.2.1 ∈ lw_all) (hF : FMx Z (d - 1) as h o1 h1) : RunX M d pc ls st rest h o1 h1 := by
  refine ⟨hF.1, hF.2.1, (memL e).1, fun G p l ev R s m args below meth c ρ H locs cells slots lsA F C S hsz V hc0 hs => ?_⟩
  have hM := hF.2.2 G l ρ F.2.2.2.2.2.2.2.2.1 (fun v hv => V v ((memL e).2 v hv))
  rw [wsM0 hz] at hM
  have h0 : 0 < a := (C.2.2.1 a (by rw [hk]; exact hci)).1
  have hl : as'.length = n := by have := ho.1; rw [ea] at this; simpa using this
  have hat := (F.2.2.2.2.2.2.2.2.2.2.1.1.1 ci q hc).2
  subst ea
  exact ⟨_, vx_runSU hat (As := as'.map (reV ρ)) ⟨F.1, F.2.1, F.2.2.2.1, F.2.2.2.2.1, F.2.2.2.2.2.1⟩ hM (va_cwSU n F.2.2.2.2.2.1 (lw_SU w1 w2 w3 w4 w5 w6) rfl rfl rfl ⟨hnm, hpar⟩ (roomL ho F.2.2.2.2.2.2.2.2.2.2.2.1 F.2.2.2.2.2.2.2.2.2.2.2.2)) (preV F C S hk hci hc) rfl (by rw [List.length_map]; exact hl) hsz (stkV h0 e rfl) (catL ho (fun v hv => V v ((memL e).1 v hv))) hd ⟨hc0, hs⟩⟩
/-- a private method is selected whatever the object's class is (that its class is none of the interfaces: out of another row of that class) -/
theorem selPriv {C : String} {y0 y : MethodName} {s : State} {args : Array Value} (hcl : y0.cls = y.cls) (hy : okCls y.cls) (hsel : (Cond.selects C y0 y0).before args s = true) (hpriv : (Cond.privateMethod y).before args s = true) (hinst : (Cond.instanceMethod y).before args s = true) : (Cond.selects C y y).before args s = true := by
  obtain ⟨c2, r2, m2, q1, q2, q3, q4, kP, hkP, hkPi⟩ := Cond.selects_spec hsel
  obtain ⟨mk, methM, hnamed, hmethM, -, -⟩ := Cond.instanceMethod_spec hinst
  have hfound : s.methodFound? y.cls y.name y.desc = some mk := State.methodFound?_of_named hnamed hy
  have hcls : mk.cls = m2.cls := Option.some.inj ((findClass_of_methodNamed hnamed).symm.trans (by rw [← hcl]; exact findClass_of_methodNamed q3))
  have hs2 : selectMethod {} s.vm c2 mk = .method mk := selectMethod_private hmethM (Cond.privateMethod_at hpriv mk methM hnamed hmethM)
  simp only [Cond.before, Cond.holds, Cond.value, q1, hfound, hnamed, hs2, hcls, hkP]
  simp; exact hkPi
theorem run_VP {a ci : Nat} {as' : List Value} {q : vw_C} {y0 : MethodName} (hd : decode M.2.1 pc = .ok (.invokevirtual i, 3)) (e : st = as.reverse ++ rest) (ea : as = .ref a :: as') (ho : cOk Z d (n + 1) as rest) (hz : Z.2.2.2.2 = []) (hpar : (parseMethodDescriptor Z.1.desc).map (fun d => d.parameters.length) = some n) (hcls : okCls Z.1.cls) (hk : kd h a = ci) (hci : ci ≠ 0) (hc : cx_cl[ci]? = some q) (hy0 : y0.cls = Z.1.cls)
    (w1 : Cond.methodLink M.1.cls i Z.1 ∈ lw_all) (w2 : Cond.instanceMethod Z.1 ∈ lw_all) (w3 : Cond.selects q.1 y0 y0 ∈ lw_all) (w3' : Cond.privateMethod Z.1 ∈ lw_tbl) (w4 : Cond.initialized Z.1.cls ∈ lw_all) (w5 : Cond.code Z.1 Z.2.1 Z.2.2.1 Z.2.2.2.1 ∈ lw_all) (hF : FMx Z (d - 1) as h o1 h1) : RunX M d pc ls st rest h o1 h1 := by
  refine ⟨hF.1, hF.2.1, (memL e).1, fun G p l ev R s m args below meth c ρ H locs cells slots lsA F C S hsz V hc0 hs => ?_⟩
  have hM := hF.2.2 G l ρ F.2.2.2.2.2.2.2.2.1 (fun v hv => V v ((memL e).2 v hv))
  rw [wsM0 hz] at hM
  have h0 : 0 < a := (C.2.2.1 a (by rw [hk]; exact hci)).1
  have hl : as'.length = n := by have := ho.1; rw [ea] at this; simpa using this
  have hts := F.2.2.2.2.2.1
  have hR := roomL (R := R) (mc := nn h1 - nn h) (ms := sU h1 - sU h) ho F.2.2.2.2.2.2.2.2.2.2.2.1 F.2.2.2.2.2.2.2.2.2.2.2.2
  have hselP := selPriv hy0 hcls (hts _ w3) ((F.2.2.2.2.2.2.2.2.2.2.1.2.1 _ w3' rfl).use rfl) (hts _ w2)
  subst ea
  refine ⟨_, vx_runV (As := as'.map (reV ρ)) ⟨F.1, F.2.1, F.2.2.2.1, F.2.2.2.2.1, F.2.2.2.2.2.1⟩ hM (C := q.1) (n := n) ⟨⟨rfl, rfl, hR.1, hR.2, pay_in hts (lw_meth w5), List.mem_cons_self, hts _ w5, hts _ w4, hcls, ?_, hts _ w1⟩, hts _ w2, hselP⟩ (preV F C S hk hci hc) rfl (by rw [List.length_map]; exact hl) hsz (stkV h0 e rfl) (catL ho (fun v hv => V v ((memL e).1 v hv))) hd ⟨hc0, hs⟩⟩
  intro sig hsig
  rw [hsig] at hpar
  exact (Option.some.inj hpar).symm
end
section
variable {M Z : MD} {d pc i n : Nat} {X : Nat → List Value → MH → Prop} {Q : Outcome → MH → Prop} {kk : KT} {ci : Nat} {q : vw_C}
theorem r_cU {x : MethodName} {owner : String} (hd : decode M.2.1 pc = .ok (.invokevirtual i, 3)) (hz : Z.2.2.2.2 = []) (hpar : (parseMethodDescriptor x.desc).map (fun d => d.parameters.length) = some n) (hcls : okCls owner) (hci : ci ≠ 0) (hcl : cx_cl[ci]? = some q) (hyx : Z.1 = ⟨owner, x.name, x.desc⟩) (w1 : Cond.methodLink M.1.cls i x ∈ lw_all) (w2 : Cond.sameMethod x.cls owner x.name x.desc ∈ lw_all) (w3 : Cond.selects q.1 x Z.1 ∈ lw_all) (w4 : Cond.instanceMethod Z.1 ∈ lw_all) (w5 : Cond.initialized Z.1.cls ∈ lw_all) (w6 : Cond.code Z.1 Z.2.1 Z.2.2.1 Z.2.2.2.1 ∈ lw_all) (hX : XS M d pc Q X) (hc : ∀ ls st h, kk ls st h → WPb M d (pc + 3) ls st h Q) : ∀ ls st h, i_call Z d (n + 1) (pV ci) X kk ls st h → WPb M d pc ls st h Q :=
  r_call (fun _ _ _ _ _ _ _ e ho p hF => by obtain ⟨a, as', ea, hk⟩ := p.of; exact run_U hd e ea ho hz hpar hcls hk hci hcl hyx w1 w2 w3 w4 w5 w6 hF) hX hc
theorem r_cSU (hd : decode M.2.1 pc = .ok (.invokespecial i, 3)) (hz : Z.2.2.2.2 = []) (hpar : (parseMethodDescriptor Z.1.desc).map (fun d => d.parameters.length) = some n) (hnm : Z.1.name ≠ "<init>") (hci : ci ≠ 0) (hcl : cx_cl[ci]? = some q) (w1 : Cond.methodLink M.1.cls i Z.1 ∈ lw_all) (w2 : Cond.sameMethod Z.1.cls Z.1.cls Z.1.name Z.1.desc ∈ lw_all) (w3 : Cond.superclass M.1.cls Z.1.cls ∈ lw_all) (w4 : Cond.instanceMethod Z.1 ∈ lw_all) (w5 : Cond.initialized Z.1.cls ∈ lw_all) (w6 : Cond.code Z.1 Z.2.1 Z.2.2.1 Z.2.2.2.1 ∈ lw_all) (hX : XS M d pc Q X) (hc : ∀ ls st h, kk ls st h → WPb M d (pc + 3) ls st h Q) : ∀ ls st h, i_call Z d (n + 1) (pV ci) X kk ls st h → WPb M d pc ls st h Q :=
  r_call (fun _ _ _ _ _ _ _ e ho p hF => by obtain ⟨a, as', ea, hk⟩ := p.of; exact run_SU hd e ea ho hz hpar hnm hk hci hcl w1 w2 w3 w4 w5 w6 hF) hX hc
theorem r_cVP {y0 : MethodName} (hd : decode M.2.1 pc = .ok (.invokevirtual i, 3)) (hz : Z.2.2.2.2 = []) (hpar : (parseMethodDescriptor Z.1.desc).map (fun d => d.parameters.length) = some n) (hcls : okCls Z.1.cls) (hci : ci ≠ 0) (hcl : cx_cl[ci]? = some q) (hy0 : y0.cls = Z.1.cls) (w1 : Cond.methodLink M.1.cls i Z.1 ∈ lw_all) (w2 : Cond.instanceMethod Z.1 ∈ lw_all) (w3 : Cond.selects q.1 y0 y0 ∈ lw_all) (w3' : Cond.privateMethod Z.1 ∈ lw_tbl) (w4 : Cond.initialized Z.1.cls ∈ lw_all) (w5 : Cond.code Z.1 Z.2.1 Z.2.2.1 Z.2.2.2.1 ∈ lw_all) (hX : XS M d pc Q X) (hc : ∀ ls st h, kk ls st h → WPb M d (pc + 3) ls st h Q) : ∀ ls st h, i_call Z d (n + 1) (pV ci) X kk ls st h → WPb M d pc ls st h Q :=
  r_call (fun _ _ _ _ _ _ _ e ho p hF => by obtain ⟨a, as', ea, hk⟩ := p.of; exact run_VP hd e ea ho hz hpar hcls hk hci hcl hy0 w1 w2 w3 w3' w4 w5 hF) hX hc
end
/-! switches -/
def swc (x : Int32) (ls r : List Value) (h : MH) (kd : KT) : List (Int32 × KT) → Prop
  | [] => kd ls r h
  | (c, k) :: cs => (x = c → k ls r h) ∧ (¬ x = c → swc x ls r h kd cs)
def i_sw (cs : List (Int32 × KT)) (kd : KT) : KT := fun ls st h => match st with
  | .int x :: r => swc x ls r h kd cs
  | _ => False
def tgt (x : Int32) (td : Nat) : List (Int32 × Nat) → Nat
  | [] => td
  | (c, t) :: r => if x = c then t else tgt x td r
def SwR (M : MD) (d : Nat) (Q : Outcome → MH → Prop) (kd : KT) (td : Nat) (cs : List (Int32 × KT)) (tl : List (Int32 × Nat)) : Prop := ∀ (x : Int32) (ls r : List Value) (h : MH), swc x ls r h kd cs → WPb M d (tgt x td tl) ls r h Q
theorem sw_nil {M : MD} {d td : Nat} {Q : Outcome → MH → Prop} {kd : KT} (hk : ∀ ls st h, kd ls st h → WPb M d td ls st h Q) : SwR M d Q kd td [] [] := fun _ _ _ _ H => hk _ _ _ H
theorem sw_cons {M : MD} {d td t : Nat} {Q : Outcome → MH → Prop} {kd k : KT} {c : Int32} {cs : List (Int32 × KT)} {tl : List (Int32 × Nat)} (hk : ∀ ls st h, k ls st h → WPb M d t ls st h Q) (hr : SwR M d Q kd td cs tl) : SwR M d Q kd td ((c, k) :: cs) ((c, t) :: tl) := by
  intro x ls r h H
  unfold tgt
  by_cases hx : x = c
  · rw [if_pos hx]; exact hk _ _ _ (H.1 hx)
  · rw [if_neg hx]; exact hr x ls r h (H.2 hx)
theorem tgt_out {x : Int32} {td : Nat} : ∀ {tl : List (Int32 × Nat)}, (∀ q ∈ tl, x ≠ q.1) → tgt x td tl = td := by
  intro tl
  induction tl with
  | nil => intro _; rfl
  | cons q r ih =>
    intro H
    obtain ⟨c, t⟩ := q
    unfold tgt
    rw [if_neg (H _ List.mem_cons_self)]
    exact ih (fun q hq => H q (List.mem_cons_of_mem _ hq))
theorem r_tsw {M : MD} {d pc td len : Nat} {Q : Outcome → MH → Prop} {kd : KT} {cs : List (Int32 × KT)} {tl : List (Int32 × Nat)} {dflt lo hi : Int} {offs : Array Int} (hd : decode M.2.1 pc = .ok (.tableswitch dflt lo hi offs, len))
    (hin : ∀ j, j < offs.size → offs[j]?.map (fun o => (pc : Int) + o) = some (tgt (Int32.ofInt (lo + j)) td tl : Int)) (hn : hi + 1 = lo + offs.size) (hout : ∀ q ∈ tl, lo ≤ q.1.toInt ∧ q.1.toInt ≤ hi) (hdt : (pc : Int) + dflt = td) (hr : SwR M d Q kd td cs tl) : ∀ ls st h, i_sw cs kd ls st h → WPb M d pc ls st h Q := by
  intro ls st h H
  unfold i_sw at H
  split at H
  · rename_i x r
    refine WPb.lift (fun _ _ kb => Bx.go (fun G p l ev R s m args below meth c Q ρ Hp locs cells slots lsA F C S L V => ⟨vT V, fun wk => ?_⟩) kb) (hr x ls r h H)
    by_cases h1 : x.toInt < lo ∨ hi < x.toInt
    · rw [tgt_out (fun q hq e => by have := hout q hq; rw [← e] at this; omega)] at wk
      exact lv_tableOut F.1 F.2.1 hd h1 hdt wk
    · have h2 : ¬ x.toInt < lo := fun z => h1 (Or.inl z)
      have h3 : ¬ hi < x.toInt := fun z => h1 (Or.inr z)
      have hj := hin (x.toInt - lo).toNat (by omega)
      rw [show lo + ((x.toInt - lo).toNat : Int) = x.toInt by omega, Int32.ofInt_toInt] at hj
      cases ho : offs[(x.toInt - lo).toNat]? with
      | none => rw [ho] at hj; cases hj
      | some off =>
        rw [ho] at hj
        exact lv_tableIn F.1 F.2.1 hd h2 h3 ho (Option.some.inj hj) wk
  · exact H.elim
def lkB (pc : Nat) : List (Int × Int) → List (Int32 × Nat) → Bool
  | [], [] => true
  | (a, o) :: L, (c, t) :: tl => decide (c.toInt = a) && decide ((pc : Int) + o = (t : Int)) && lkB pc L tl
  | _, _ => false
theorem lk_tgt {pc td : Nat} {dflt : Int} (hdt : (pc : Int) + dflt = td) {x : Int32} : ∀ {L : List (Int × Int)} {tl : List (Int32 × Nat)}, lkB pc L tl = true → (pc : Int) + Op.lookupswitch.offset L dflt x.toInt = (tgt x td tl : Int) := by
  intro L
  induction L with
  | nil =>
    intro tl H
    cases tl with
    | nil => exact hdt
    | cons _ _ => cases H
  | cons q L ih =>
    intro tl H
    obtain ⟨a, o⟩ := q
    cases tl with
    | nil => cases H
    | cons q2 tl =>
      obtain ⟨c, t⟩ := q2
      unfold lkB at H
      simp only [Bool.and_eq_true, decide_eq_true_eq] at H
      obtain ⟨⟨h1, h2⟩, h3⟩ := H
      unfold tgt
      by_cases hx : x = c
      · rw [if_pos hx, ← h2, hx, h1]
        unfold Op.lookupswitch.offset
        simp
      · rw [if_neg hx, lv_osw hx h1]
        exact ih h3
theorem r_lsw {M : MD} {d pc td len : Nat} {Q : Outcome → MH → Prop} {kd : KT} {cs : List (Int32 × KT)} {tl : List (Int32 × Nat)} {dflt : Int} {ps : Array (Int × Int)} (hd : decode M.2.1 pc = .ok (.lookupswitch dflt ps, len)) (hp : (ps.toList.zip (ps.toList.drop 1)).all (fun (a, next) => a.1 < next.1) = true) (hl : lkB pc ps.toList tl = true) (hdt : (pc : Int) + dflt = td) (hr : SwR M d Q kd td cs tl) : ∀ ls st h, i_sw cs kd ls st h → WPb M d pc ls st h Q := by
  intro ls st h H
  unfold i_sw at H
  split at H
  · rename_i x r
    refine WPb.lift (fun _ _ kb => Bx.go (fun G p l ev R s m args below meth c Q ρ Hp locs cells slots lsA F C S L V => ⟨vT V, fun wk => ?_⟩) kb) (hr x ls r h H)
    exact lv_lookup F.1 F.2.1 hd hp rfl (lk_tgt hdt hl) wk
  · exact H.elim
