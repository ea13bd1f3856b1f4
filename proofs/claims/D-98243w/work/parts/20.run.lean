/-! CALLS by their kinds -/
set_option maxRecDepth 100000
def okCls (s : String) : Prop := s ≠ "java/lang/invoke/MethodHandle" ∧ s ≠ "java/lang/invoke/VarHandle"
theorem wsM0 {Z : MD} (hz : Z.2.2.2.2 = []) : wsM Z = ws_ Z.1 Z.2.1 Z.2.2.1 Z.2.2.2.1 := by
  unfold wsM
  rw [hz]
theorem wsM1 {Z : MD} {x : Nat × Nat × Nat × Nat} {r : List (Nat × Nat × Nat × Nat)} (hz : Z.2.2.2.2 = x :: r) : wsM Z = wsW_ Z.1 Z.2.1 Z.2.2.1 Z.2.2.2.1 (x :: r) := by
  unfold wsM
  rw [hz]
/-- what every call asks of the callee and of the stack -/
def cOk (Z : MD) (d n : Nat) (as rest : List Value) : Prop := as.length = n ∧ (rest.map fun v => v.category).sum ≤ 8 ∧ 1 ≤ d ∧ Z.2.2.1 ≤ 45
section
variable {M Z : MD} {d pc i n : Nat} {ls st as rest : List Value} {h h1 : MH} {o1 : Outcome}
theorem memL (e : st = as.reverse ++ rest) : (∀ v ∈ rest, v ∈ st) ∧ ∀ v ∈ as, v ∈ st := by
  subst e
  exact ⟨fun v hv => List.mem_append_right _ hv, fun v hv => List.mem_append_left _ (List.mem_reverse.mpr hv)⟩
theorem roomL {R : Room} {mc ms : Nat} (ho : cOk Z d n as rest) (h1 : d ≤ R.frames) (h2 : 64 * d ≤ R.locals) : (rmX (d - 1) mc ms).frames + 1 ≤ R.frames ∧ 8 + (Z.2.2.1 + 11) + (rmX (d - 1) mc ms).locals ≤ R.locals := by
  obtain ⟨_, _, h3, h4⟩ := ho
  refine ⟨?_, ?_⟩
  · show d - 1 + 1 ≤ _; omega
  · show _ + 64 * (d - 1) ≤ _; omega
theorem catL {m : MethodId} {lsA : Array Slot} {stk : List Value} {ρ : Nat → Nat} (ho : cOk Z d n as rest) (V : ∀ v ∈ rest, vOk h v) : 2 * (F0 m pc lsA stk).monitorRoom + (((rest.map (reV ρ))).map fun v => v.category).sum ≤ 8 := by
  rw [catR V]
  have := ho.2.1
  show 2 * 0 + _ ≤ 8
  omega
theorem preS {G : cx_G} {s : State} {ρ : Nat → Nat} {H : Heap} {locs : List Loc} (hS : Sx G s) (C : Cn G ρ h H) (S : va_S (cx_A G) s.heap H locs) : PreS s H (Pcx G ρ as h) (as.map (reV ρ)) :=
  ⟨PcxBlind G ρ as h, fun U hU hW => ⟨rfl, hS.moved S hU hW, by rw [hU]; exact C⟩⟩
/-- a static method -/
theorem run_S (hd : decode M.2.1 pc = .ok (.invokestatic i, 3)) (e : st = as.reverse ++ rest) (ho : cOk Z d n as rest) (hz : Z.2.2.2.2 = []) (hpar : (parseMethodDescriptor Z.1.desc).map (fun d => d.parameters.length) = some n) (hcls : okCls Z.1.cls)
    (w1 : Cond.methodLink M.1.cls i Z.1 ∈ lw_all) (w2 : Cond.static Z.1 ∈ lw_all) (w3 : Cond.initialized Z.1.cls ∈ lw_all) (w4 : Cond.code Z.1 Z.2.1 Z.2.2.1 Z.2.2.2.1 ∈ lw_all) (hF : FMx Z (d - 1) as h o1 h1) : RunX M d pc ls st rest h o1 h1 := by
  refine ⟨hF.1, hF.2.1, (memL e).1, fun G p l ev R s m args below meth c ρ H locs cells slots lsA F C S hsz V hc hs => ?_⟩
  have hM := hF.2.2 G l ρ F.2.2.2.2.2.2.2.2.1 (fun v hv => V v ((memL e).2 v hv))
  rw [wsM0 hz] at hM
  have S0 := F.2.2.2.2.2.2.2.2.2.2.1
  exact ⟨_, vx_runS (As := as.map (reV ρ)) ⟨F.1, F.2.1, F.2.2.2.1, F.2.2.2.2.1, F.2.2.2.2.2.1⟩ hM (va_cwS n F.2.2.2.2.2.1 (lw_S w1 w2 w3 w4) rfl rfl rfl ⟨hcls.1, hcls.2, hpar⟩ (roomL ho F.2.2.2.2.2.2.2.2.2.2.2.1 F.2.2.2.2.2.2.2.2.2.2.2.2)) (preS S0 C S) rfl (by rw [List.length_map]; exact ho.1) hsz (by show st.map (reV ρ) = _; rw [e, List.map_append, List.map_reverse]) (catL ho (fun v hv => V v ((memL e).1 v hv))) hd ⟨hc, hs⟩⟩
/-- a nest mate's static method -/
theorem run_SN {host : String} (hd : decode M.2.1 pc = .ok (.invokestatic i, 3)) (e : st = as.reverse ++ rest) (ho : cOk Z d n as rest) (hz : Z.2.2.2.2 = []) (hpar : (parseMethodDescriptor Z.1.desc).map (fun d => d.parameters.length) = some n) (hcls : okCls Z.1.cls)
    (w1 : Cond.methodLinkNest M.1.cls i Z.1 host ∈ lw_tbl) (w2 : Cond.static Z.1 ∈ lw_all) (w3 : Cond.initialized Z.1.cls ∈ lw_all) (w4 : Cond.code Z.1 Z.2.1 Z.2.2.1 Z.2.2.2.1 ∈ lw_all) (hF : FMx Z (d - 1) as h o1 h1) : RunX M d pc ls st rest h o1 h1 := by
  refine ⟨hF.1, hF.2.1, (memL e).1, fun G p l ev R s m args below meth c ρ H locs cells slots lsA F C S hsz V hc hs => ?_⟩
  have hM := hF.2.2 G l ρ F.2.2.2.2.2.2.2.2.1 (fun v hv => V v ((memL e).2 v hv))
  rw [wsM0 hz] at hM
  have S0 := F.2.2.2.2.2.2.2.2.2.2.1
  exact ⟨_, vx_runSN (As := as.map (reV ρ)) ⟨F.1, F.2.1, F.2.2.2.1, F.2.2.2.2.1, F.2.2.2.2.2.1⟩ hM ⟨va_cnB n F.2.2.2.2.2.1 (lw_meth w4) rfl rfl rfl (S0.2.1 _ w1 rfl) (F.2.2.2.2.2.1 _ w3) ⟨hcls.1, hcls.2, hpar⟩ (roomL ho F.2.2.2.2.2.2.2.2.2.2.2.1 F.2.2.2.2.2.2.2.2.2.2.2.2), F.2.2.2.2.2.1 _ w2, trivial⟩ (preS S0 C S) rfl (by rw [List.length_map]; exact ho.1) hsz (by show st.map (reV ρ) = _; rw [e, List.map_append, List.map_reverse]) (catL ho (fun v hv => V v ((memL e).1 v hv))) hd ⟨hc, hs⟩⟩
/-- a static method with handlers -/
theorem run_SX {x : Nat × Nat × Nat × Nat} {r : List (Nat × Nat × Nat × Nat)} (hd : decode M.2.1 pc = .ok (.invokestatic i, 3)) (e : st = as.reverse ++ rest) (ho : cOk Z d n as rest) (hz : Z.2.2.2.2 = x :: r) (hpar : (parseMethodDescriptor Z.1.desc).map (fun d => d.parameters.length) = some n) (hcls : okCls Z.1.cls)
    (w1 : Cond.methodLink M.1.cls i Z.1 ∈ lw_all) (w2 : Cond.static Z.1 ∈ lw_all) (w3 : Cond.initialized Z.1.cls ∈ lw_all) (w4 : Cond.codeWith Z.1 Z.2.1 Z.2.2.1 Z.2.2.2.1 (x :: r) ∈ lw_all) (hF : FMx Z (d - 1) as h o1 h1) : RunX M d pc ls st rest h o1 h1 := by
  refine ⟨hF.1, hF.2.1, (memL e).1, fun G p l ev R s m args below meth c ρ H locs cells slots lsA F C S hsz V hc hs => ?_⟩
  have hM := hF.2.2 G l ρ F.2.2.2.2.2.2.2.2.1 (fun v hv => V v ((memL e).2 v hv))
  rw [wsM1 hz] at hM
  have S0 := F.2.2.2.2.2.2.2.2.2.2.1
  exact ⟨_, vx_runSX (As := as.map (reV ρ)) ⟨F.1, F.2.1, F.2.2.2.1, F.2.2.2.2.1, F.2.2.2.2.2.1⟩ hM (vx_cwSW n F.2.2.2.2.2.1 (lw_SW w1 w2 w3 w4) rfl rfl rfl ⟨hcls.1, hcls.2, hpar⟩ (roomL ho F.2.2.2.2.2.2.2.2.2.2.2.1 F.2.2.2.2.2.2.2.2.2.2.2.2)) (preS S0 C S) rfl (by rw [List.length_map]; exact ho.1) hsz (by show st.map (reV ρ) = _; rw [e, List.map_append, List.map_reverse]) (catL ho (fun v hv => V v ((memL e).1 v hv))) hd ⟨hc, hs⟩⟩
theorem preV {G : cx_G} {p : Program} {l : Launch} {R : Room} {s : State} {m : MethodId} {args : Array Value} {meth : Method} {c : Code} {ρ : Nat → Nat} {H : Heap} {locs : List Loc} {a ci : Nat} {as' : List Value} {q : vw_C} (F : Fx G M d p l R s m args meth c) (C : Cn G ρ h H) (S : va_S (cx_A G) s.heap H locs) (hk : kd h a = ci) (hci : ci ≠ 0) (hc : cx_cl[ci]? = some q) : PreV s H q.1 (ρ a) (Pcx G ρ (.ref a :: as') h) (as'.map (reV ρ)) := by
  have h0 : 0 < a := (C.2.2.1 a (by rw [hk]; exact hci)).1
  refine ⟨PcxBlind _ _ _ _, recvOf F C S hk hci hc, fun U hU hW => ⟨?_, F.2.2.2.2.2.2.2.2.2.2.1.moved S hU hW, by rw [hU]; exact C⟩⟩
  rw [List.map_cons, er_ h0]
theorem stkV {a : Nat} {as' : List Value} {ρ : Nat → Nat} (h0 : 0 < a) (e : st = as.reverse ++ rest) (ea : as = .ref a :: as') : st.map (reV ρ) = (as'.map (reV ρ)).reverse ++ .ref (ρ a) :: rest.map (reV ρ) := by
  rw [e, ea, List.map_append, List.map_reverse, List.map_cons, er_ h0, List.reverse_cons, List.append_assoc]
  rfl
/-- a method of an object: its own class's -/
theorem run_V {a ci : Nat} {as' : List Value} {q : vw_C} (hd : decode M.2.1 pc = .ok (.invokevirtual i, 3)) (e : st = as.reverse ++ rest) (ea : as = .ref a :: as') (ho : cOk Z d (n + 1) as rest) (hz : Z.2.2.2.2 = []) (hpar : (parseMethodDescriptor Z.1.desc).map (fun d => d.parameters.length) = some n) (hcls : okCls Z.1.cls) (hk : kd h a = ci) (hci : ci ≠ 0) (hc : cx_cl[ci]? = some q) (hq : Z.1.cls = q.1)
    (w1 : Cond.methodLink M.1.cls i Z.1 ∈ lw_all) (w2 : Cond.instanceMethod Z.1 ∈ lw_all) (w3 : Cond.selects q.1 Z.1 Z.1 ∈ lw_all) (w4 : Cond.initialized q.1 ∈ lw_all) (w5 : Cond.code Z.1 Z.2.1 Z.2.2.1 Z.2.2.2.1 ∈ lw_all) (hF : FMx Z (d - 1) as h o1 h1) : RunX M d pc ls st rest h o1 h1 := by
  refine ⟨hF.1, hF.2.1, (memL e).1, fun G p l ev R s m args below meth c ρ H locs cells slots lsA F C S hsz V hc0 hs => ?_⟩
  have hM := hF.2.2 G l ρ F.2.2.2.2.2.2.2.2.1 (fun v hv => V v ((memL e).2 v hv))
  rw [wsM0 hz] at hM
  have h0 : 0 < a := (C.2.2.1 a (by rw [hk]; exact hci)).1
  have hl : as'.length = n := by have := ho.1; rw [ea] at this; simpa using this
  subst ea
  exact ⟨_, vx_runV (As := as'.map (reV ρ)) ⟨F.1, F.2.1, F.2.2.2.1, F.2.2.2.2.1, F.2.2.2.2.2.1⟩ hM (cwV n F.2.2.2.2.2.1 (lw_V w1 w2 w3 w4 w5) rfl rfl rfl ⟨hq, hcls.1, hcls.2, hpar⟩ (roomL ho F.2.2.2.2.2.2.2.2.2.2.2.1 F.2.2.2.2.2.2.2.2.2.2.2.2)) (preV F C S hk hci hc) rfl (by rw [List.length_map]; exact hl) hsz (stkV h0 e rfl) (catL ho (fun v hv => V v ((memL e).1 v hv))) hd ⟨hc0, hs⟩⟩
/-- the same, with handlers -/
theorem run_VX {a ci : Nat} {as' : List Value} {q : vw_C} {x : Nat × Nat × Nat × Nat} {r : List (Nat × Nat × Nat × Nat)} (hd : decode M.2.1 pc = .ok (.invokevirtual i, 3)) (e : st = as.reverse ++ rest) (ea : as = .ref a :: as') (ho : cOk Z d (n + 1) as rest) (hz : Z.2.2.2.2 = x :: r) (hpar : (parseMethodDescriptor Z.1.desc).map (fun d => d.parameters.length) = some n) (hcls : okCls Z.1.cls) (hk : kd h a = ci) (hci : ci ≠ 0) (hc : cx_cl[ci]? = some q) (hq : Z.1.cls = q.1)
    (w1 : Cond.methodLink M.1.cls i Z.1 ∈ lw_all) (w2 : Cond.instanceMethod Z.1 ∈ lw_all) (w3 : Cond.selects q.1 Z.1 Z.1 ∈ lw_all) (w4 : Cond.initialized q.1 ∈ lw_all) (w5 : Cond.codeWith Z.1 Z.2.1 Z.2.2.1 Z.2.2.2.1 (x :: r) ∈ lw_all) (hF : FMx Z (d - 1) as h o1 h1) : RunX M d pc ls st rest h o1 h1 := by
  refine ⟨hF.1, hF.2.1, (memL e).1, fun G p l ev R s m args below meth c ρ H locs cells slots lsA F C S hsz V hc0 hs => ?_⟩
  have hM := hF.2.2 G l ρ F.2.2.2.2.2.2.2.2.1 (fun v hv => V v ((memL e).2 v hv))
  rw [wsM1 hz] at hM
  have h0 : 0 < a := (C.2.2.1 a (by rw [hk]; exact hci)).1
  have hl : as'.length = n := by have := ho.1; rw [ea] at this; simpa using this
  subst ea
  exact ⟨_, vx_runVX (As := as'.map (reV ρ)) ⟨F.1, F.2.1, F.2.2.2.1, F.2.2.2.2.1, F.2.2.2.2.2.1⟩ hM (vx_cwVW n F.2.2.2.2.2.1 (lw_VW w1 w2 w3 w4 w5) rfl rfl rfl ⟨hq, hcls.1, hcls.2, hpar⟩ (roomL ho F.2.2.2.2.2.2.2.2.2.2.2.1 F.2.2.2.2.2.2.2.2.2.2.2.2)) (preV F C S hk hci hc) rfl (by rw [List.length_map]; exact hl) hsz (stkV h0 e rfl) (catL ho (fun v hv => V v ((memL e).1 v hv))) hd ⟨hc0, hs⟩⟩
/-- a nest mate's method of an object -/
theorem run_VN {a ci : Nat} {as' : List Value} {q : vw_C} {host : String} (hd : decode M.2.1 pc = .ok (.invokevirtual i, 3)) (e : st = as.reverse ++ rest) (ea : as = .ref a :: as') (ho : cOk Z d (n + 1) as rest) (hz : Z.2.2.2.2 = []) (hpar : (parseMethodDescriptor Z.1.desc).map (fun d => d.parameters.length) = some n) (hcls : okCls Z.1.cls) (hk : kd h a = ci) (hci : ci ≠ 0) (hc : cx_cl[ci]? = some q)
    (w1 : Cond.methodLinkNest M.1.cls i Z.1 host ∈ lw_tbl) (w2 : Cond.instanceMethod Z.1 ∈ lw_all) (w3 : Cond.selects q.1 Z.1 Z.1 ∈ lw_all) (w4 : Cond.initialized Z.1.cls ∈ lw_all) (w5 : Cond.code Z.1 Z.2.1 Z.2.2.1 Z.2.2.2.1 ∈ lw_all) (hF : FMx Z (d - 1) as h o1 h1) : RunX M d pc ls st rest h o1 h1 := by
  refine ⟨hF.1, hF.2.1, (memL e).1, fun G p l ev R s m args below meth c ρ H locs cells slots lsA F C S hsz V hc0 hs => ?_⟩
  have hM := hF.2.2 G l ρ F.2.2.2.2.2.2.2.2.1 (fun v hv => V v ((memL e).2 v hv))
  rw [wsM0 hz] at hM
  have S0 := F.2.2.2.2.2.2.2.2.2.2.1
  have h0 : 0 < a := (C.2.2.1 a (by rw [hk]; exact hci)).1
  have hl : as'.length = n := by have := ho.1; rw [ea] at this; simpa using this
  subst ea
  exact ⟨_, vx_runVN (As := as'.map (reV ρ)) ⟨F.1, F.2.1, F.2.2.2.1, F.2.2.2.2.1, F.2.2.2.2.2.1⟩ hM ⟨va_cnB n F.2.2.2.2.2.1 (lw_meth w5) rfl rfl rfl (S0.2.1 _ w1 rfl) (F.2.2.2.2.2.1 _ w4) ⟨hcls.1, hcls.2, hpar⟩ (roomL ho F.2.2.2.2.2.2.2.2.2.2.2.1 F.2.2.2.2.2.2.2.2.2.2.2.2), F.2.2.2.2.2.1 _ w2, F.2.2.2.2.2.1 _ w3⟩ (preV F C S hk hci hc) rfl (by rw [List.length_map]; exact hl) hsz (stkV h0 e rfl) (catL ho (fun v hv => V v ((memL e).1 v hv))) hd ⟨hc0, hs⟩⟩
theorem preI {G : cx_G} {s : State} {ρ : Nat → Nat} {H : Heap} {locs : List Loc} {a : Nat} {as' : List Value} (h0 : 0 < a) (hS : Sx G s) (C : Cn G ρ h H) (S : va_S (cx_A G) s.heap H locs) : PreS s H (Pcx G ρ (.ref a :: as') h) (.ref (ρ a) :: as'.map (reV ρ)) :=
  ⟨PcxBlind _ _ _ _, fun U hU hW => ⟨by rw [List.map_cons, er_ h0], hS.moved S hU hW, by rw [hU]; exact C⟩⟩
/-- a constructor -/
theorem run_I {a : Nat} {as' : List Value} (hd : decode M.2.1 pc = .ok (.invokespecial i, 3)) (e : st = as.reverse ++ rest) (ea : as = .ref a :: as') (h0 : 0 < a) (ho : cOk Z d (n + 1) as rest) (hz : Z.2.2.2.2 = []) (hr : Z.2.2.2.1 = none) (hin : Z.1.name = "<init>") (hpar : (parseMethodDescriptor Z.1.desc).map (fun d => d.parameters.length) = some n) (hcls : okCls Z.1.cls)
    (w1 : Cond.methodLink M.1.cls i Z.1 ∈ lw_all) (w2 : Cond.instanceMethod Z.1 ∈ lw_all) (w4 : Cond.initialized Z.1.cls ∈ lw_all) (w5 : Cond.code Z.1 Z.2.1 Z.2.2.1 none ∈ lw_all) (hF : FMx Z (d - 1) as h o1 h1) : RunX M d pc ls st rest h o1 h1 := by
  refine ⟨hF.1, hF.2.1, (memL e).1, fun G p l ev R s m args below meth c ρ H locs cells slots lsA F C S hsz V hc0 hs => ?_⟩
  have hM := hF.2.2 G l ρ F.2.2.2.2.2.2.2.2.1 (fun v hv => V v ((memL e).2 v hv))
  rw [wsM0 hz, hr] at hM
  have S0 := F.2.2.2.2.2.2.2.2.2.2.1
  have hl : as'.length = n := by have := ho.1; rw [ea] at this; simpa using this
  subst ea
  exact ⟨_, vx_runI (As := as'.map (reV ρ)) ⟨F.1, F.2.1, F.2.2.2.1, F.2.2.2.2.1, F.2.2.2.2.2.1⟩ hM (cwI n F.2.2.2.2.2.1 (lw_meth w5) rfl rfl rfl (F.2.2.2.2.2.1 _ w4) (F.2.2.2.2.2.1 _ w1) (F.2.2.2.2.2.1 _ w2) hin ⟨hcls.1, hcls.2, hpar⟩ (roomL ho F.2.2.2.2.2.2.2.2.2.2.2.1 F.2.2.2.2.2.2.2.2.2.2.2.2)) (preI h0 S0 C S) rfl (by rw [List.length_map]; exact hl) hsz (stkV h0 e rfl) (catL ho (fun v hv => V v ((memL e).1 v hv))) hd ⟨hc0, hs⟩⟩
/-- a nest mate's constructor -/
theorem run_IN {a : Nat} {as' : List Value} {host : String} (hd : decode M.2.1 pc = .ok (.invokespecial i, 3)) (e : st = as.reverse ++ rest) (ea : as = .ref a :: as') (h0 : 0 < a) (ho : cOk Z d (n + 1) as rest) (hz : Z.2.2.2.2 = []) (hr : Z.2.2.2.1 = none) (hin : Z.1.name = "<init>") (hpar : (parseMethodDescriptor Z.1.desc).map (fun d => d.parameters.length) = some n) (hcls : okCls Z.1.cls)
    (w1 : Cond.methodLinkNest M.1.cls i Z.1 host ∈ lw_tbl) (w2 : Cond.instanceMethod Z.1 ∈ lw_all) (w4 : Cond.initialized Z.1.cls ∈ lw_all) (w5 : Cond.code Z.1 Z.2.1 Z.2.2.1 none ∈ lw_all) (hF : FMx Z (d - 1) as h o1 h1) : RunX M d pc ls st rest h o1 h1 := by
  refine ⟨hF.1, hF.2.1, (memL e).1, fun G p l ev R s m args below meth c ρ H locs cells slots lsA F C S hsz V hc0 hs => ?_⟩
  have hM := hF.2.2 G l ρ F.2.2.2.2.2.2.2.2.1 (fun v hv => V v ((memL e).2 v hv))
  rw [wsM0 hz, hr] at hM
  have S0 := F.2.2.2.2.2.2.2.2.2.2.1
  have hl : as'.length = n := by have := ho.1; rw [ea] at this; simpa using this
  subst ea
  exact ⟨_, vx_runIN (As := as'.map (reV ρ)) ⟨F.1, F.2.1, F.2.2.2.1, F.2.2.2.2.1, F.2.2.2.2.2.1⟩ hM ⟨va_cnB n F.2.2.2.2.2.1 (lw_meth w5) rfl rfl rfl (S0.2.1 _ w1 rfl) (F.2.2.2.2.2.1 _ w4) ⟨hcls.1, hcls.2, hpar⟩ (roomL ho F.2.2.2.2.2.2.2.2.2.2.2.1 F.2.2.2.2.2.2.2.2.2.2.2.2), hin, F.2.2.2.2.2.1 _ w2⟩ (preI h0 S0 C S) rfl (by rw [List.length_map]; exact hl) hsz (stkV h0 e rfl) (catL ho (fun v hv => V v ((memL e).1 v hv))) hd ⟨hc0, hs⟩⟩
end
