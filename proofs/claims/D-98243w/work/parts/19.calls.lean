/-! CALLS -/
set_option maxRecDepth 100000
/-- the call at pc ends so -/
def RunX (M : MD) (d pc : Nat) (ls st rest : List Value) (h : MH) (o1 : Outcome) (h1 : MH) : Prop :=
  nn h ≤ nn h1 ∧ sU h ≤ sU h1 ∧ (∀ v ∈ rest, v ∈ st) ∧
  ∀ (G : cx_G) (p : Program) (l : Launch) (e : Env) (R : Room) (s : State) (m : MethodId) (args : Array Value) (below : List Frame) (meth : Method) (c : Code) (ρ : Nat → Nat) (H : Heap) (locs : List Loc) (cells slots : Nat) (lsA : Array Slot),
    Fx G M d p l R s m args meth c → Cn G ρ h H → va_S (cx_A G) s.heap H locs → lsA.size = M.2.2.1 → (∀ v ∈ st, vOk h v) → cells + (nn h1 - nn h) ≤ R.cells → slots + (sU h1 - sU h) ≤ R.slots →
    ∃ arr, vx_Run p l e R s m args below meth c H locs cells slots (nn h1 - nn h) (sU h1 - sU h) (F0 m pc lsA (st.map (reV ρ))) (rest.map (reV ρ)) (Qcx G ρ o1 h h1 arr) (XCx G ρ o1 h h1) (cx_A G)
theorem Bx.ret_ {M : MD} {d pc : Nat} {ls st rest : List Value} {h h1 h' : MH} {v : Option Value} {o : Outcome} (r : RunX M d pc ls st rest h (.returned v) h1) (k : Bx M d (pc + 3) ls (v.toList ++ rest) h1 o h') : Bx M d pc ls st h o h' := by
  obtain ⟨k1, k2, k3⟩ := k
  obtain ⟨r1, r2, r3, r4⟩ := r
  refine ⟨by omega, by omega, ?_⟩
  intro G p l e R s m args below meth c Q ρ H locs cells slots lsA F C S L V hc hs fin
  obtain ⟨arr, hrun⟩ := r4 G p l e R s m args below meth c ρ H locs cells slots lsA F C S L.2.1 V (by omega) (by omega)
  intro T hT X
  rcases hrun T hT X with ⟨v', st₀, t, T', Lo, h0, X', hL, e1, e2, ⟨ρ', v2, ho, hv', hx, C1, hF, hok⟩, go⟩ | ⟨q, st₀, t, T', Lo, E, ce, h0, X', hL, e1, e2, ⟨ρ', k', ho, _⟩, _⟩
  · cases ho
    cases hv'
    obtain ⟨_, _, S'⟩ := vx_keep h0 e1 S (fun _ _ z => z) (fun _ z => z) hL hF
    rw [← e1] at C1
    have Vr : ∀ w ∈ rest, vOk h w := fun w hw => V w (r3 w hw)
    have V' : ∀ w ∈ v.toList ++ rest, vOk h1 w := by
      intro w hw
      rcases List.mem_append.mp hw with z | z
      · exact hok w (Option.mem_toList.mp z)
      · exact (Vr w z).mono r1
    have W1 := k3 G p l e R s m args below meth c Q ρ' T'.heap (locs ++ Lo) (cells + (nn h1 - nn h)) (slots + (sU h1 - sU h)) lsA F C1 S' (L.ext r1 hx) V' (by omega) (by omega) (by
      intro ρ2 H2 locs2 lsA2 pc2 hx2 C2 S2 hz
      have := fin ρ2 H2 locs2 lsA2 pc2 (fun a ha => (hx2 a (by omega)).trans (hx a ha)) C2 S2 hz
      rw [show cells + (nn h1 - nn h) + (nn h' - nn h1) = cells + (nn h' - nn h) by omega, show slots + (sU h1 - sU h) + (sU h' - sU h1) = slots + (sU h' - sU h) by omega]
      exact this)
    obtain ⟨t2, a1, b1⟩ := W1 T' rfl X'
    refine ⟨t2, go t2 ?_, b1⟩
    have es : (v.map (reV ρ')).toList ++ rest.map (reV ρ) = (v.toList ++ rest).map (reV ρ') := by
      rw [List.map_append, map_ext hx Vr]
      cases v <;> rfl
    rw [es]
    exact a1
  · cases ho
theorem Bx.thr {M : MD} {d pc k : Nat} {ls st rest : List Value} {h h1 : MH} (hout : ∀ x ∈ tableOf M.2.2.2.2, covers x pc = false) (r : RunX M d pc ls st rest h (.threw k) h1) : Bx M d pc ls st h (.threw k) h1 := by
  obtain ⟨r1, r2, r3, r4⟩ := r
  refine ⟨r1, r2, ?_⟩
  intro G p l e R s m args below meth c Q ρ H locs cells slots lsA F C S L V hc hs fin
  obtain ⟨arr, hrun⟩ := r4 G p l e R s m args below meth c ρ H locs cells slots lsA F C S L.2.1 V hc hs
  intro T hT X
  rcases hrun T hT X with ⟨v', st₀, t, T', Lo, h0, X', hL, e1, e2, ⟨ρ', v2, ho, _⟩, go⟩ | ⟨q, st₀, t, T', Lo, E, ce, h0, X', hL, e1, e2, ⟨ρ', k', ho, hE, hx, C1, hF⟩, hce, hcv, hcl, st9⟩
  · cases ho
  · cases ho
    obtain ⟨_, _, S'⟩ := vx_keep h0 e1 S (fun _ _ z => z) (fun _ z => z) hL hF
    rw [← e1] at C1 hce
    rw [hE] at hcl
    obtain ⟨t2, a1, b1⟩ := fin ρ' T'.heap (locs ++ Lo) lsA pc hx C1 S' L.2.1 hout q ce (rest.map (reV ρ)) hce hcv hcl T' rfl X'
    exact ⟨t2, st9.trans a1, b1⟩
/-- what is thrown here is caught: by the handler x, behind which a local takes it -/
theorem Bx.cat {M : MD} {d pc k : Nat} {ls st rest : List Value} {h h1 h' : MH} {o : Outcome} {hpc len j : Nat} {pre suf : List ExceptionTableEntry} {x : ExceptionTableEntry} {name : String} (hsplit : tableOf M.2.2.2.2 = pre ++ x :: suf)
    (hpass : ∀ z ∈ pre, covers z pc = false ∨ (z.catchType ≠ 0 ∧ ∃ nm : String, Cond.classLink M.1.cls z.catchType nm ∈ lw_all ∧ (cx_nm k, nm) ∈ cx_nc)) (hx0 : covers x pc = true) (h0 : x.catchType ≠ 0) (hlink : Cond.classLink M.1.cls x.catchType name ∈ lw_all) (hcast : Cond.castable (cx_nm k) name ∈ lw_tbl) (hh : x.handlerPc = hpc)
    (hd : (∃ kf : Fin 4, (kf : Nat) = j ∧ decode M.2.1 hpc = .ok (.astore_n kf, 1) ∧ len = 1) ∨ (decode M.2.1 hpc = .ok (.astore j, 2) ∧ len = 2)) (hj : j < ls.length)
    (r : RunX M d pc ls st rest h (.threw k) h1) (kb : Bx M d (hpc + len) (ps ls j jk) [] h1 o h') : Bx M d pc ls st h o h' := by
  obtain ⟨k1, k2, k3⟩ := kb
  obtain ⟨r1, r2, r3, r4⟩ := r
  refine ⟨by omega, by omega, ?_⟩
  intro G p l e R s m args below meth c Q ρ H locs cells slots lsA F C S L V hc hs fin
  obtain ⟨arr, hrun⟩ := r4 G p l e R s m args below meth c ρ H locs cells slots lsA F C S L.2.1 V (by omega) (by omega)
  intro T hT X
  rcases hrun T hT X with ⟨v', st₀, t, T', Lo, h0', X', hL, e1, e2, ⟨ρ', v2, ho, _⟩, go⟩ | ⟨q, st₀, t, T', Lo, E, ce, h0', X', hL, e1, e2, ⟨ρ', k', ho, hE, hx, C1, hF⟩, hce, hcv, hcl, st9⟩
  · cases ho
  · cases ho
    obtain ⟨_, _, S'⟩ := vx_keep h0' e1 S (fun _ _ z => z) (fun _ z => z) hL hF
    rw [← e1] at C1 hce
    subst hE
    have Sx9 := F.2.2.2.2.2.2.2.2.2.2.1
    have L1 : LVr ρ' h1 lsA M.2.2.1 ls := L.ext r1 hx
    have hn : j < M.2.2.1 := by have := L.1; omega
    have W1 : W p l e R s m args below meth c T'.heap (locs ++ Lo) (cells + (nn h1 - nn h)) (slots + (sU h1 - sU h)) Q (F0 m hpc lsA [.ref q]) := by
      have fin1 : ∀ ls' : Array Slot, LVr ρ' h1 ls' M.2.2.1 (ps ls j jk) → W p l e R s m args below meth c T'.heap (locs ++ Lo) (cells + (nn h1 - nn h)) (slots + (sU h1 - sU h)) Q (F0 m (hpc + len) ls' []) := fun ls' L2 =>
        k3 G p l e R s m args below meth c Q ρ' T'.heap (locs ++ Lo) (cells + (nn h1 - nn h)) (slots + (sU h1 - sU h)) ls' F C1 S' L2 (fun v hv => by cases hv) (by omega) (by omega) (by
          intro ρ2 H2 locs2 lsA2 pc2 hx2 C2 S2 hz
          have := fin ρ2 H2 locs2 lsA2 pc2 (fun a ha => (hx2 a (by omega)).trans (hx a ha)) C2 S2 hz
          rw [show cells + (nn h1 - nn h) + (nn h' - nn h1) = cells + (nn h' - nn h) by omega, show slots + (sU h1 - sU h) + (sU h' - sU h1) = slots + (sU h' - sU h) by omega]
          exact this)
      rcases hd with ⟨kf, hkf, hd, rfl⟩ | ⟨hd, rfl⟩
      · exact lv_astore_n F.1 F.2.1 hd hkf L1.has hn rfl (fun ls' hl' => fin1 ls' (L1.put (v := jk) (Or.inl rfl) hl' (Or.inl rfl) (fun i w hm h1 h2 => flt_mem hm h1 h2)))
      · exact lv_astore F.1 F.2.1 hd L1.has hn rfl (fun ls' hl' => fin1 ls' (L1.put (v := jk) (Or.inl rfl) hl' (Or.inl rfl) (fun i w hm h1 h2 => flt_mem hm h1 h2)))
    have W2 := vx_catch (pc := pc) (rest := rest.map (reV ρ)) F.2.2.2.2.1 pre x suf (by rw [F.2.2.2.2.2.2.2.2.2.1]; exact hsplit) (fun z hz => by
      rcases hpass z hz with w | ⟨w1, nm, w2, w3⟩
      · exact Or.inl w
      · exact Or.inr ⟨w1, nm, F.2.2.2.2.2.1 _ w2, Sx9.2.2.2.2.2.2.1 _ w3⟩) hx0 h0 (F.2.2.2.2.2.1 _ hlink) ((Sx9.2.1 _ hcast rfl).use rfl) hce hcv hcl (by rw [hh]; exact W1)
    obtain ⟨t2, a1, b1⟩ := W2 T' rfl X'
    exact ⟨t2, st9.trans a1, b1⟩
theorem PcxBlind (G : cx_G) (ρ : Nat → Nat) (as : List Value) (h : MH) : FrameBlind (Pcx G ρ as h) := fun _ U _ _ q => ⟨q.1, q.2.1.moved (H := U.heap) (locs := []) va_S.rf rfl (State.WarmedH.refl U), q.2.2⟩
theorem recvOf {G : cx_G} {M : MD} {d : Nat} {p : Program} {l : Launch} {R : Room} {s : State} {m : MethodId} {args : Array Value} {meth : Method} {c : Code} (F : Fx G M d p l R s m args meth c) {ρ : Nat → Nat} {h : MH} {Hp : Heap} {locs : List Loc} (C : Cn G ρ h Hp) (S : va_S (cx_A G) s.heap Hp locs) {a ci : Nat} {q : vw_C} (hk : kd h a = ci) (hci : ci ≠ 0) (hc : cx_cl[ci]? = some q) :
    ∃ cell : Cell, Hp[ρ a]? = some cell ∧ cell.vm.isStatics = false ∧ s.vm.findClass q.1 = some cell.cls := by
  have hka : kd h a ≠ 0 := by rw [hk]; exact hci
  by_cases ha : a < cx_K0
  · obtain ⟨o1, o2, _⟩ := oldOf C ha
    have hold := F.2.2.2.2.2.2.2.2.2.2.1.2.2.2.2.2.2.2.2.2.1 a ha (by rw [← o2]; exact hka)
    rw [← o2, hk] at hold
    obtain ⟨⟨cell, h1, h2, h3, h4⟩, _⟩ := hold.1 (cl50 hc)
    rw [← o1] at h1 h4
    refine ⟨cell, ?_, h2, by rw [show q.1 = cx_nm ci by unfold cx_nm; rw [clE hc]]; exact h3⟩
    rw [S.2.1 (ρ a) (Array.getElem?_eq_some_iff.mp h1).1 h4]
    exact h1
  · have hP := C.at_ (Nat.le_of_not_lt ha) hka
    rw [cnE_o hk hc] at hP
    exact va_recv F.2.2.2.2.2.2.2.2.2.2.1.1 hP hc (q0 := 0) rfl
theorem catR {h : MH} {ρ : Nat → Nat} {rest : List Value} (V : ∀ v ∈ rest, vOk h v) : ((rest.map (reV ρ)).map fun v => v.category) = rest.map fun v => v.category := by
  rw [List.map_map]
  exact List.map_congr_left fun v hv => catOk (V v hv)
