/-! CALLS as combinators; throws -/
set_option maxRecDepth 100000
def popn : Nat → List Value → List Value → List Value × List Value
  | 0, st, acc => (acc, st)
  | n + 1, v :: st, acc => popn n st (v :: acc)
  | _ + 1, [], acc => (acc, [])
theorem popn_eq : ∀ (n : Nat) (st acc as r : List Value), popn n st acc = (as, r) → acc.reverse ++ st = as.reverse ++ r := by
  intro n
  induction n with
  | zero => intro st acc as r h; cases h; rfl
  | succ n ih =>
    intro st acc as r h
    cases st with
    | nil => cases h; rfl
    | cons v st =>
      have := ih st (v :: acc) as r h
      rw [← this, List.reverse_cons, List.append_assoc]
      rfl
/-- what is done with what a callee throws -/
def XS (M : MD) (d pc : Nat) (Q : Outcome → MH → Prop) (X : Nat → List Value → MH → Prop) : Prop := ∀ (k : Nat) (ls st rest : List Value) (h h1 : MH), RunX M d pc ls st rest h (.threw k) h1 → X k ls h1 → WPb M d pc ls st h Q
def xOut (Q : Outcome → MH → Prop) : Nat → List Value → MH → Prop := fun k _ h1 => Q (.threw k) h1
def xCat (k0 j : Nat) (kk : KT) (X : Nat → List Value → MH → Prop) : Nat → List Value → MH → Prop := fun k ls h1 => if k = k0 then j < ls.length ∧ kk (ps ls j jk) [] h1 else X k ls h1
theorem XS.out {M : MD} {d pc : Nat} {Q : Outcome → MH → Prop} (hout : ∀ x ∈ tableOf M.2.2.2.2, covers x pc = false) : XS M d pc Q (xOut Q) := fun k _ _ _ _ h1 r hq => ⟨.threw k, h1, Bx.thr hout r, hq⟩
theorem XS.cat {M : MD} {d pc k0 hpc len j : Nat} {Q : Outcome → MH → Prop} {kk : KT} {X : Nat → List Value → MH → Prop} {pre suf : List ExceptionTableEntry} {x : ExceptionTableEntry} {name : String} (hsplit : tableOf M.2.2.2.2 = pre ++ x :: suf)
    (hpass : ∀ z ∈ pre, covers z pc = false ∨ (z.catchType ≠ 0 ∧ ∃ nm : String, Cond.classLink M.1.cls z.catchType nm ∈ lw_all ∧ (cx_nm k0, nm) ∈ cx_nc)) (hx0 : covers x pc = true) (h0 : x.catchType ≠ 0) (hlink : Cond.classLink M.1.cls x.catchType name ∈ lw_all) (hcast : Cond.castable (cx_nm k0) name ∈ lw_tbl) (hh : x.handlerPc = hpc)
    (hd : (∃ kf : Fin 4, (kf : Nat) = j ∧ decode M.2.1 hpc = .ok (.astore_n kf, 1) ∧ len = 1) ∨ (decode M.2.1 hpc = .ok (.astore j, 2) ∧ len = 2)) (hc : ∀ ls st h, kk ls st h → WPb M d (hpc + len) ls st h Q) (hX : XS M d pc Q X) : XS M d pc Q (xCat k0 j kk X) := by
  intro k ls st rest h h1 r hq
  unfold xCat at hq
  by_cases hk : k = k0
  · subst hk
    rw [if_pos rfl] at hq
    obtain ⟨o, h', b, q⟩ := hc _ _ _ hq.2
    exact ⟨o, h', Bx.cat hsplit hpass hx0 h0 hlink hcast hh hd hq.1 r b, q⟩
  · rw [if_neg hk] at hq
    exact hX k ls st rest h h1 r hq
def i_call (Z : MD) (d n : Nat) (pre : List Value → MH → Prop) (X : Nat → List Value → MH → Prop) (kk : KT) : KT := fun ls st h => match popn n st [] with
  | (as, r) => cOk Z d n as r ∧ pre as h ∧ WPm Z (d - 1) as h (fun o h1 => match o with
    | .returned v => kk ls (v.toList ++ r) h1
    | .threw k => X k ls h1)
theorem r_call {M Z : MD} {d pc n : Nat} {pre : List Value → MH → Prop} {X : Nat → List Value → MH → Prop} {Q : Outcome → MH → Prop} {kk : KT}
    (hrun : ∀ (ls st as rest : List Value) (h h1 : MH) (o1 : Outcome), st = as.reverse ++ rest → cOk Z d n as rest → pre as h → FMx Z (d - 1) as h o1 h1 → RunX M d pc ls st rest h o1 h1) (hX : XS M d pc Q X) (hc : ∀ ls st h, kk ls st h → WPb M d (pc + 3) ls st h Q) : ∀ ls st h, i_call Z d n pre X kk ls st h → WPb M d pc ls st h Q := by
  intro ls st h H
  unfold i_call at H
  generalize hp : popn n st [] = z at H
  obtain ⟨as, r⟩ := z
  obtain ⟨ho, hpre, o1, h1, hF, hq⟩ := H
  have e := popn_eq n st [] as r hp
  have run := hrun ls st as r h h1 o1 e ho hpre hF
  cases o1 with
  | returned v => exact WPb.lift (fun _ _ b => Bx.ret_ run b) (hc _ _ _ hq)
  | threw k => exact hX k ls st r h h1 run hq
def pS : List Value → MH → Prop := fun _ _ => True
def pV (ci : Nat) : List Value → MH → Prop := fun as h => match as with
  | .ref a :: _ => kd h a = ci
  | _ => False
def pI : List Value → MH → Prop := fun as _ => match as with
  | .ref a :: _ => 0 < a
  | _ => False
theorem pV.of {ci : Nat} {as : List Value} {h : MH} (p : pV ci as h) : ∃ a as', as = .ref a :: as' ∧ kd h a = ci := by
  unfold pV at p
  split at p
  · exact ⟨_, _, rfl, p⟩
  · exact p.elim
theorem pI.of {as : List Value} {h : MH} (p : pI as h) : ∃ a as', as = .ref a :: as' ∧ 0 < a := by
  unfold pI at p
  split at p
  · exact ⟨_, _, rfl, p⟩
  · exact p.elim
theorem r_cS {M Z : MD} {d pc i n : Nat} {X : Nat → List Value → MH → Prop} {Q : Outcome → MH → Prop} {kk : KT} (hd : decode M.2.1 pc = .ok (.invokestatic i, 3)) (hz : Z.2.2.2.2 = []) (hpar : (parseMethodDescriptor Z.1.desc).map (fun d => d.parameters.length) = some n) (hcls : okCls Z.1.cls) (w1 : Cond.methodLink M.1.cls i Z.1 ∈ lw_all) (w2 : Cond.static Z.1 ∈ lw_all) (w3 : Cond.initialized Z.1.cls ∈ lw_all) (w4 : Cond.code Z.1 Z.2.1 Z.2.2.1 Z.2.2.2.1 ∈ lw_all) (hX : XS M d pc Q X) (hc : ∀ ls st h, kk ls st h → WPb M d (pc + 3) ls st h Q) : ∀ ls st h, i_call Z d n pS X kk ls st h → WPb M d pc ls st h Q :=
  r_call (fun _ _ _ _ _ _ _ e ho _ hF => run_S hd e ho hz hpar hcls w1 w2 w3 w4 hF) hX hc
theorem r_cSN {M Z : MD} {d pc i n : Nat} {X : Nat → List Value → MH → Prop} {Q : Outcome → MH → Prop} {kk : KT} {host : String} (hd : decode M.2.1 pc = .ok (.invokestatic i, 3)) (hz : Z.2.2.2.2 = []) (hpar : (parseMethodDescriptor Z.1.desc).map (fun d => d.parameters.length) = some n) (hcls : okCls Z.1.cls) (w1 : Cond.methodLinkNest M.1.cls i Z.1 host ∈ lw_tbl) (w2 : Cond.static Z.1 ∈ lw_all) (w3 : Cond.initialized Z.1.cls ∈ lw_all) (w4 : Cond.code Z.1 Z.2.1 Z.2.2.1 Z.2.2.2.1 ∈ lw_all) (hX : XS M d pc Q X) (hc : ∀ ls st h, kk ls st h → WPb M d (pc + 3) ls st h Q) : ∀ ls st h, i_call Z d n pS X kk ls st h → WPb M d pc ls st h Q :=
  r_call (fun _ _ _ _ _ _ _ e ho _ hF => run_SN hd e ho hz hpar hcls w1 w2 w3 w4 hF) hX hc
theorem r_cSX {M Z : MD} {d pc i n : Nat} {X : Nat → List Value → MH → Prop} {Q : Outcome → MH → Prop} {kk : KT} {x : Nat × Nat × Nat × Nat} {r : List (Nat × Nat × Nat × Nat)} (hd : decode M.2.1 pc = .ok (.invokestatic i, 3)) (hz : Z.2.2.2.2 = x :: r) (hpar : (parseMethodDescriptor Z.1.desc).map (fun d => d.parameters.length) = some n) (hcls : okCls Z.1.cls) (w1 : Cond.methodLink M.1.cls i Z.1 ∈ lw_all) (w2 : Cond.static Z.1 ∈ lw_all) (w3 : Cond.initialized Z.1.cls ∈ lw_all) (w4 : Cond.codeWith Z.1 Z.2.1 Z.2.2.1 Z.2.2.2.1 (x :: r) ∈ lw_all) (hX : XS M d pc Q X) (hc : ∀ ls st h, kk ls st h → WPb M d (pc + 3) ls st h Q) : ∀ ls st h, i_call Z d n pS X kk ls st h → WPb M d pc ls st h Q :=
  r_call (fun _ _ _ _ _ _ _ e ho _ hF => run_SX hd e ho hz hpar hcls w1 w2 w3 w4 hF) hX hc
theorem r_cV {M Z : MD} {d pc i n : Nat} {X : Nat → List Value → MH → Prop} {Q : Outcome → MH → Prop} {kk : KT} {ci : Nat} {q : vw_C} (hd : decode M.2.1 pc = .ok (.invokevirtual i, 3)) (hz : Z.2.2.2.2 = []) (hpar : (parseMethodDescriptor Z.1.desc).map (fun d => d.parameters.length) = some n) (hcls : okCls Z.1.cls) (hci : ci ≠ 0) (hcl : cx_cl[ci]? = some q) (hq : Z.1.cls = q.1) (w1 : Cond.methodLink M.1.cls i Z.1 ∈ lw_all) (w2 : Cond.instanceMethod Z.1 ∈ lw_all) (w3 : Cond.selects q.1 Z.1 Z.1 ∈ lw_all) (w4 : Cond.initialized q.1 ∈ lw_all) (w5 : Cond.code Z.1 Z.2.1 Z.2.2.1 Z.2.2.2.1 ∈ lw_all) (hX : XS M d pc Q X) (hc : ∀ ls st h, kk ls st h → WPb M d (pc + 3) ls st h Q) : ∀ ls st h, i_call Z d (n + 1) (pV ci) X kk ls st h → WPb M d pc ls st h Q :=
  r_call (fun _ _ _ _ _ _ _ e ho p hF => by obtain ⟨a, as', ea, hk⟩ := p.of; exact run_V hd e ea ho hz hpar hcls hk hci hcl hq w1 w2 w3 w4 w5 hF) hX hc
theorem r_cVX {M Z : MD} {d pc i n : Nat} {X : Nat → List Value → MH → Prop} {Q : Outcome → MH → Prop} {kk : KT} {ci : Nat} {q : vw_C} {x : Nat × Nat × Nat × Nat} {r : List (Nat × Nat × Nat × Nat)} (hd : decode M.2.1 pc = .ok (.invokevirtual i, 3)) (hz : Z.2.2.2.2 = x :: r) (hpar : (parseMethodDescriptor Z.1.desc).map (fun d => d.parameters.length) = some n) (hcls : okCls Z.1.cls) (hci : ci ≠ 0) (hcl : cx_cl[ci]? = some q) (hq : Z.1.cls = q.1) (w1 : Cond.methodLink M.1.cls i Z.1 ∈ lw_all) (w2 : Cond.instanceMethod Z.1 ∈ lw_all) (w3 : Cond.selects q.1 Z.1 Z.1 ∈ lw_all) (w4 : Cond.initialized q.1 ∈ lw_all) (w5 : Cond.codeWith Z.1 Z.2.1 Z.2.2.1 Z.2.2.2.1 (x :: r) ∈ lw_all) (hX : XS M d pc Q X) (hc : ∀ ls st h, kk ls st h → WPb M d (pc + 3) ls st h Q) : ∀ ls st h, i_call Z d (n + 1) (pV ci) X kk ls st h → WPb M d pc ls st h Q :=
  r_call (fun _ _ _ _ _ _ _ e ho p hF => by obtain ⟨a, as', ea, hk⟩ := p.of; exact run_VX hd e ea ho hz hpar hcls hk hci hcl hq w1 w2 w3 w4 w5 hF) hX hc
theorem r_cVN {M Z : MD} {d pc i n : Nat} {X : Nat → List Value → MH → Prop} {Q : Outcome → MH → Prop} {kk : KT} {ci : Nat} {q : vw_C} {host : String} (hd : decode M.2.1 pc = .ok (.invokevirtual i, 3)) (hz : Z.2.2.2.2 = []) (hpar : (parseMethodDescriptor Z.1.desc).map (fun d => d.parameters.length) = some n) (hcls : okCls Z.1.cls) (hci : ci ≠ 0) (hcl : cx_cl[ci]? = some q) (w1 : Cond.methodLinkNest M.1.cls i Z.1 host ∈ lw_tbl) (w2 : Cond.instanceMethod Z.1 ∈ lw_all) (w3 : Cond.selects q.1 Z.1 Z.1 ∈ lw_all) (w4 : Cond.initialized Z.1.cls ∈ lw_all) (w5 : Cond.code Z.1 Z.2.1 Z.2.2.1 Z.2.2.2.1 ∈ lw_all) (hX : XS M d pc Q X) (hc : ∀ ls st h, kk ls st h → WPb M d (pc + 3) ls st h Q) : ∀ ls st h, i_call Z d (n + 1) (pV ci) X kk ls st h → WPb M d pc ls st h Q :=
  r_call (fun _ _ _ _ _ _ _ e ho p hF => by obtain ⟨a, as', ea, hk⟩ := p.of; exact run_VN hd e ea ho hz hpar hcls hk hci hcl w1 w2 w3 w4 w5 hF) hX hc
theorem r_cI {M Z : MD} {d pc i n : Nat} {X : Nat → List Value → MH → Prop} {Q : Outcome → MH → Prop} {kk : KT} (hd : decode M.2.1 pc = .ok (.invokespecial i, 3)) (hz : Z.2.2.2.2 = []) (hr : Z.2.2.2.1 = none) (hin : Z.1.name = "<init>") (hpar : (parseMethodDescriptor Z.1.desc).map (fun d => d.parameters.length) = some n) (hcls : okCls Z.1.cls) (w1 : Cond.methodLink M.1.cls i Z.1 ∈ lw_all) (w2 : Cond.instanceMethod Z.1 ∈ lw_all) (w4 : Cond.initialized Z.1.cls ∈ lw_all) (w5 : Cond.code Z.1 Z.2.1 Z.2.2.1 none ∈ lw_all) (hX : XS M d pc Q X) (hc : ∀ ls st h, kk ls st h → WPb M d (pc + 3) ls st h Q) : ∀ ls st h, i_call Z d (n + 1) pI X kk ls st h → WPb M d pc ls st h Q :=
  r_call (fun _ _ _ _ _ _ _ e ho p hF => by obtain ⟨a, as', ea, h0⟩ := p.of; exact run_I hd e ea h0 ho hz hr hin hpar hcls w1 w2 w4 w5 hF) hX hc
theorem r_cIN {M Z : MD} {d pc i n : Nat} {X : Nat → List Value → MH → Prop} {Q : Outcome → MH → Prop} {kk : KT} {host : String} (hd : decode M.2.1 pc = .ok (.invokespecial i, 3)) (hz : Z.2.2.2.2 = []) (hr : Z.2.2.2.1 = none) (hin : Z.1.name = "<init>") (hpar : (parseMethodDescriptor Z.1.desc).map (fun d => d.parameters.length) = some n) (hcls : okCls Z.1.cls) (w1 : Cond.methodLinkNest M.1.cls i Z.1 host ∈ lw_tbl) (w2 : Cond.instanceMethod Z.1 ∈ lw_all) (w4 : Cond.initialized Z.1.cls ∈ lw_all) (w5 : Cond.code Z.1 Z.2.1 Z.2.2.1 none ∈ lw_all) (hX : XS M d pc Q X) (hc : ∀ ls st h, kk ls st h → WPb M d (pc + 3) ls st h Q) : ∀ ls st h, i_call Z d (n + 1) pI X kk ls st h → WPb M d pc ls st h Q :=
  r_call (fun _ _ _ _ _ _ _ e ho p hF => by obtain ⟨a, as', ea, h0⟩ := p.of; exact run_IN hd e ea h0 ho hz hr hin hpar hcls w1 w2 w4 w5 hF) hX hc
/-! what the machine's library does in one row -/
def i_obj (d : Nat) (kk : KT) : KT := fun ls st h => match st with
  | .ref a :: r => (0 < a ∧ 1 ≤ d ∧ (r.map fun v => v.category).sum ≤ 8) ∧ kk ls r h
  | _ => False
theorem r_obj {M : MD} {d pc i : Nat} {Q : Outcome → MH → Prop} {kk : KT} (hd : decode M.2.1 pc = .ok (.invokespecial i, 3)) (w1 : Cond.methodLink M.1.cls i Lib.objectInit ∈ lw_all) (w2 : Cond.instanceMethod Lib.objectInit ∈ lw_all) (w3 : Cond.code Lib.objectInit ⟨#[0xb1]⟩ 1 none ∈ lw_all) (hc : ∀ ls st h, kk ls st h → WPb M d (pc + 3) ls st h Q) : ∀ ls st h, i_obj d kk ls st h → WPb M d pc ls st h Q := by
  intro ls st h H
  unfold i_obj at H
  split at H
  · rename_i a r
    refine WPb.lift (fun _ _ kb => Bx.go (fun G p l ev R s m args below meth c Q ρ Hp locs cells slots lsA F C S L V => ⟨vT V, fun wk => ?_⟩) kb) (hc _ _ _ H.2)
    have f1 := F.2.2.2.2.2.2.2.2.2.2.2.1
    have f2 := F.2.2.2.2.2.2.2.2.2.2.2.2
    have h3 := H.1.2
    rw [List.map_cons, er_ H.1.1]
    refine W.objInit F.1 F.2.1 F.2.2.2.2.1 (F.2.2.2.2.2.1 _ w1) (F.2.2.2.2.2.1 _ w2) (F.2.2.2.2.2.1 _ w3) rfl (L.2.1.trans F.2.2.2.1.symm) rfl hd (by omega) ?_ wk
    rw [catR (vT V)]
    show 2 * 0 + _ + 12 ≤ _
    omega
  · exact H.elim
def i_mmax (d : Nat) (kk : KT) : KT := fun ls st h => match st with
  | .int y :: .int x :: r => (1 ≤ d ∧ (r.map fun v => v.category).sum ≤ 8) ∧ kk ls (.int (if x < y then y else x) :: r) h
  | _ => False
theorem r_mmax {M : MD} {d pc i : Nat} {Q : Outcome → MH → Prop} {kk : KT} (hd : decode M.2.1 pc = .ok (.invokestatic i, 3)) (w1 : Cond.methodLink M.1.cls i Lib.Math.max.name ∈ lw_all) (w2 : Cond.static Lib.Math.max.name ∈ lw_all) (w3 : Cond.initialized "java/lang/Math" ∈ lw_all) (w4 : Cond.code Lib.Math.max.name Lib.Math.max.code 2 (some .int) ∈ lw_all) (hc : ∀ ls st h, kk ls st h → WPb M d (pc + 3) ls st h Q) : ∀ ls st h, i_mmax d kk ls st h → WPb M d pc ls st h Q := by
  intro ls st h H
  unfold i_mmax at H
  split at H
  · obtain ⟨o, h', kb, hq⟩ := hc _ _ _ H.2
    have k1 := kb.1
    have k2 := kb.2.1
    refine ⟨o, h', ⟨k1, k2, fun G p l ev R s m args below meth c Q ρ Hp locs cells slots lsA F C S L V hc hs fin => ?_⟩, hq⟩
    have f1 := F.2.2.2.2.2.2.2.2.2.2.2.1
    have f2 := F.2.2.2.2.2.2.2.2.2.2.2.2
    have h3 := H.1
    refine va_mmax F.1 F.2.1 (F.2.2.2.1.trans L.2.1.symm) F.2.2.2.2.1 (F.2.2.2.2.2.1 _ w1) (F.2.2.2.2.2.1 _ w2) (F.2.2.2.2.2.1 _ w3) (F.2.2.2.2.2.1 _ w4) (by omega) (by rw [catR (vT (vT V))]; omega) (by omega) (by omega) hd ?_
    exact kb.2.2 G p l ev R s m args below meth c Q ρ Hp locs cells slots lsA F C S L (vI (vT (vT V))) hc hs fin
  · exact H.elim
def i_mmin (d : Nat) (kk : KT) : KT := fun ls st h => match st with
  | .int y :: .int x :: r => (1 ≤ d ∧ (r.map fun v => v.category).sum ≤ 8) ∧ kk ls (.int (if y < x then y else x) :: r) h
  | _ => False
theorem r_mmin {M : MD} {d pc i : Nat} {Q : Outcome → MH → Prop} {kk : KT} (hd : decode M.2.1 pc = .ok (.invokestatic i, 3)) (w1 : Cond.methodLink M.1.cls i Lib.Math.min.name ∈ lw_all) (w2 : Cond.static Lib.Math.min.name ∈ lw_all) (w3 : Cond.initialized "java/lang/Math" ∈ lw_all) (w4 : Cond.code Lib.Math.min.name Lib.Math.min.code 2 (some .int) ∈ lw_all) (hc : ∀ ls st h, kk ls st h → WPb M d (pc + 3) ls st h Q) : ∀ ls st h, i_mmin d kk ls st h → WPb M d pc ls st h Q := by
  intro ls st h H
  unfold i_mmin at H
  split at H
  · obtain ⟨o, h', kb, hq⟩ := hc _ _ _ H.2
    have k1 := kb.1
    have k2 := kb.2.1
    refine ⟨o, h', ⟨k1, k2, fun G p l ev R s m args below meth c Q ρ Hp locs cells slots lsA F C S L V hc hs fin => ?_⟩, hq⟩
    have f1 := F.2.2.2.2.2.2.2.2.2.2.2.1
    have f2 := F.2.2.2.2.2.2.2.2.2.2.2.2
    have h3 := H.1
    refine va_mmin F.1 F.2.1 (F.2.2.2.1.trans L.2.1.symm) F.2.2.2.2.1 (F.2.2.2.2.2.1 _ w1) (F.2.2.2.2.2.1 _ w2) (F.2.2.2.2.2.1 _ w3) (F.2.2.2.2.2.1 _ w4) (by omega) (by rw [catR (vT (vT V))]; omega) (by omega) (by omega) hd ?_
    exact kb.2.2 G p l ev R s m args below meth c Q ρ Hp locs cells slots lsA F C S L (vI (vT (vT V))) hc hs fin
  · exact H.elim
def i_mabs (d : Nat) (kk : KT) : KT := fun ls st h => match st with
  | .int x :: r => (1 ≤ d ∧ (r.map fun v => v.category).sum ≤ 8) ∧ kk ls (.int (if 0 ≤ x then x else 0 - x) :: r) h
  | _ => False
theorem r_mabs {M : MD} {d pc i : Nat} {Q : Outcome → MH → Prop} {kk : KT} (hd : decode M.2.1 pc = .ok (.invokestatic i, 3)) (w1 : Cond.methodLink M.1.cls i Lib.Math.abs.name ∈ lw_all) (w2 : Cond.static Lib.Math.abs.name ∈ lw_all) (w3 : Cond.initialized "java/lang/Math" ∈ lw_all) (w4 : Cond.code Lib.Math.abs.name Lib.Math.abs.code 1 (some .int) ∈ lw_all) (hc : ∀ ls st h, kk ls st h → WPb M d (pc + 3) ls st h Q) : ∀ ls st h, i_mabs d kk ls st h → WPb M d pc ls st h Q := by
  intro ls st h H
  unfold i_mabs at H
  split at H
  · obtain ⟨o, h', kb, hq⟩ := hc _ _ _ H.2
    have k1 := kb.1
    have k2 := kb.2.1
    refine ⟨o, h', ⟨k1, k2, fun G p l ev R s m args below meth c Q ρ Hp locs cells slots lsA F C S L V hc hs fin => ?_⟩, hq⟩
    have f1 := F.2.2.2.2.2.2.2.2.2.2.2.1
    have f2 := F.2.2.2.2.2.2.2.2.2.2.2.2
    have h3 := H.1
    refine va_mabs F.1 F.2.1 (F.2.2.2.1.trans L.2.1.symm) F.2.2.2.2.1 (F.2.2.2.2.2.1 _ w1) (F.2.2.2.2.2.1 _ w2) (F.2.2.2.2.2.1 _ w3) (F.2.2.2.2.2.1 _ w4) (by omega) (by rw [catR (vT V)]; omega) (by omega) (by omega) hd ?_
    exact kb.2.2 G p l ev R s m args below meth c Q ρ Hp locs cells slots lsA F C S L (vI (vT V)) hc hs fin
  · exact H.elim
