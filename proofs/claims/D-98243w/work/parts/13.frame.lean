/-! FRAMES: what holds of a state all through a run (Sx), of a frame (Fx); a frame's run to its end (Bx), a method's contract (FMx) -/
set_option maxRecDepth 100000
abbrev MD : Type := MethodName × ByteArray × Nat × Option FieldType × List (Nat × Nat × Nat × Nat)
def elV (ρ : Nat → Nat) (h : MH) (a t i : Nat) : Value := match cx_rk (cx_tk t) with
  | 0 => .int (iI h a i)
  | 1 => .long (iJ h a i)
  | _ => reV ρ (.ref (iR h a i))
def cx_okw (w : Cond) : Bool := match w with
  | .fieldLinkNest .. => true
  | .methodLinkNest .. => true
  | .castable .. => true
  | .declares .. => true
  | .privateMethod .. => true
  | _ => false
def cx_Tk (ci k : Nat) : String × String × String × Bool := (cx_cl.getD ci ("", cx_T0, 0)).2.1 k
/-- the constants' cells -/
def oldW (G : cx_G) (U : State) : Prop := ∀ a, a < cx_K0 → kd G.2.2.2.2 a ≠ 0 →
  (kd G.2.2.2.2 a < 50 → va_O (cx_nm (kd G.2.2.2.2 a)) (G.2.2.2.1 a) (cx_A G) U U.heap ∧ ∀ k, k < cx_N (kd G.2.2.2.2 a) → va_OF (cx_Tk (kd G.2.2.2.2 a) k).1 (cx_Tk (kd G.2.2.2.2 a) k).2.1 (cx_Tk (kd G.2.2.2.2 a) k).2.2.1 (fdV G.2.2.2.1 G.2.2.2.2 a (kd G.2.2.2.2 a) k) (G.2.2.2.1 a) (cx_A G) U U.heap) ∧
  (50 ≤ kd G.2.2.2.2 a → va_T (cx_tk (kd G.2.2.2.2 a - 50)) (G.2.2.2.1 a) (ln G.2.2.2.2 a) (elV G.2.2.2.1 G.2.2.2.2 a (kd G.2.2.2.2 a - 50)) (cx_A G) U U.heap)
/-- the mirror of the class of arrays of objects; the enums' arrays, just so long -/
def mirW (G : cx_G) (U : State) : Prop := va_Mi "[Ljava/lang/Object;" (G.2.2.2.1 19) U ∧ ∀ a, 15 ≤ a → a ≤ 17 → ∃ cell : Cell, U.heap[G.2.2.2.1 a]? = some cell ∧ cell.slots.size = ln G.2.2.2.2 a ∧ cell.cls = G.2.1 (a - 10) ∧ cell.vm.isStatics = false ∧ cell.vm ≠ .unknown ∧ ¬ cx_A G (G.2.2.2.1 a)
/-- what holds of a state all through a run -/
def Sx (G : cx_G) (U : State) : Prop :=
  va_K G.1 cx_cl (cx_tys G) U ∧ (∀ w ∈ lw_tbl, cx_okw w = true → va_Nw w U) ∧ (∀ q ∈ cx_sta, va_Z q.1 q.2.1 q.2.2.1 (reV G.2.2.2.1 q.2.2.2) (cx_A G) U U.heap) ∧
  (∀ q ∈ cx_stq, va_Z q.1 q.2.1 q.2.2.1 (reV G.2.2.2.1 (.ref (iR G.2.2.2.2 0 q.2.2.2))) (cx_A G) U U.heap) ∧ (vx_Zq Bundle.tN "UNASSIGNED_STACK" Bundle.steD (cx_A G) U U.heap ∧ vx_Zq Bundle.tN "SUPPRESSED_SENTINEL" Bundle.listD (cx_A G) U U.heap) ∧
  (∀ C ∈ cx_ao, va_AO C U) ∧ (∀ q ∈ cx_nc, va_Nc q.1 q.2 U) ∧ (∀ q ∈ cx_str, vk_R q.1 q.2.1 q.2.2.1 (G.2.2.2.1 q.2.2.2) U) ∧ (∀ q ∈ cx_fw, va_Fw q.1 q.2.1 q.2.2 U) ∧ oldW G U ∧ mirW G U ∧ G.2.2.1 ≤ U.heap.size
theorem nwMoved {w : Cond} (hw : cx_okw w = true) {s U : State} (hW : s.WarmedH U.vm) (h : va_Nw w s) : va_Nw w U := by
  cases w <;> first | exact (Bool.false_ne_true hw).elim | exact va_Nw.warmF hW h | exact va_Nw.warmM hW h | exact va_Nw.warmC hW h | exact va_Nw.warmD hW h | exact va_tabs rfl (rfl : (s.setVm U.vm).vm = U.vm) (by rw [Cond.privateMethod_setVm hW.alike]; exact h)
theorem Sx.moved {G : cx_G} {s U : State} {H : Heap} {locs : List Loc} (h : Sx G s) (S : va_S (cx_A G) s.heap H locs) (hU : U.heap = H) (hW : s.WarmedH U.vm) : Sx G U := by
  obtain ⟨h1, h2, h3, h4, ⟨h5, h6⟩, h7, h8, h9, h10, h11, h12, h13⟩ := h
  have hv := hW.alike
  have hq : ∀ a : Nat, a < s.heap.size → ¬ cx_A G a → U.heap[a]? = s.heap[a]? := fun a ha hn => by rw [hU]; exact S.2.1 a ha hn
  refine ⟨h1.moved hv, fun w hw hk => nwMoved hk hW (h2 w hw hk), fun q hm => ((h3 q hm).moved hv).kept hq, fun q hm => ((h4 q hm).moved hv).kept hq, ⟨(h5.moved hv).kept hq, (h6.moved hv).kept hq⟩, fun C hC => (h7 C hC).moved hv, fun q hm => (h8 q hm).moved hv, fun q hm => (h9 q hm).warm hW, fun q hm => ?_, fun a ha hk => ?_, ⟨h12.1.moved hv, fun a ha hb => ?_⟩, by rw [hU]; exact Nat.le_trans h13 S.1⟩
  · exact va_Fw.moved (cx_fw_ok q hm) hv (h10 q hm)
  · obtain ⟨o1, o2⟩ := h11 a ha hk
    exact ⟨fun hlt => ⟨((o1 hlt).1.moved hv).kept hq, fun k hk2 => (((o1 hlt).2 k hk2).moved hv).kept hq⟩, fun hge => ((o2 hge).moved hv).kept hq⟩
  · obtain ⟨cell, e1, e2, e3, e4, e5, e6⟩ := h12.2 a ha hb
    exact ⟨cell, by rw [hq _ (Array.getElem?_eq_some_iff.mp e1).1 e6]; exact e1, e2, e3, e4, e5, e6⟩
/-- a frame -/
def Fx (G : cx_G) (M : MD) (d : Nat) (p : Program) (l : Launch) (R : Room) (s : State) (m : MethodId) (args : Array Value) (meth : Method) (c : Code) : Prop :=
  p.tables.exec = Jvm.exec ∧ c.code = M.2.1 ∧ meth.sig.returnType = M.2.2.2.1 ∧ c.maxLocals = M.2.2.1 ∧ s.vm.findClass M.1.cls = some m.cls ∧ (∀ w ∈ lw_all, w.before args s = true) ∧ meth.locks = false ∧ meth.name = M.1.name ∧ l.stackTraces = false ∧ c.exceptionTable.toList = tableOf M.2.2.2.2 ∧ Sx G s ∧ d ≤ R.frames ∧ 64 * d ≤ R.locals
/-- a value that may lie on the stack -/
def vOk (h : MH) (v : Value) : Prop := match v with
  | .ref a => a < nn h
  | .int _ => True
  | .long _ => True
  | _ => False
theorem vOk.ref {h : MH} {v : Value} (hv : vOk h v) : ∀ a, v = .ref a → a < nn h := by
  intro a e
  subst e
  exact hv
theorem vOk.mono {h h' : MH} (hn : nn h ≤ nn h') {v : Value} (hv : vOk h v) : vOk h' v := by
  cases v with
  | ref a => exact Nat.lt_of_lt_of_le hv hn
  | int _ => trivial
  | long _ => trivial
  | _ => exact hv
def jk : Value := .retAddr 0
/-- the locals -/
def LVr (ρ : Nat → Nat) (h : MH) (lsA : Array Slot) (nL : Nat) (ls : List Value) : Prop :=
  ls.length = nL ∧ lsA.size = nL ∧ lv_wf lsA ∧ ∀ (i : Nat) (v : Value), ls[i]? = some v → v ≠ jk → vOk h v ∧ lsA[i]? = some (.val (reV ρ v))
theorem LVr.ext {ρ ρ' : Nat → Nat} {h h' : MH} {lsA : Array Slot} {nL : Nat} {ls : List Value} (L : LVr ρ h lsA nL ls) (hn : nn h ≤ nn h') (hx : ∀ a, a < nn h → ρ' a = ρ a) : LVr ρ' h' lsA nL ls :=
  ⟨L.1, L.2.1, L.2.2.1, fun i v hi hv => ⟨(L.2.2.2 i v hi hv).1.mono hn, by rw [reV_ext hx (L.2.2.2 i v hi hv).1.ref]; exact (L.2.2.2 i v hi hv).2⟩⟩
theorem map_ext {ρ ρ' : Nat → Nat} {h : MH} {st : List Value} (hx : ∀ a, a < nn h → ρ' a = ρ a) (V : ∀ v ∈ st, vOk h v) : st.map (reV ρ') = st.map (reV ρ) :=
  List.map_congr_left fun v hv => reV_ext hx (V v hv).ref
def retI (v : Value) : Instr := match v with
  | .int _ => .ireturn
  | .long _ => .lreturn
  | _ => .areturn
def rtOk (rt : Option FieldType) (v : Value) : Prop := match rt, v with
  | some .int, .int _ => True
  | some .boolean, .int x => x = 0 ∨ x = 1
  | some .byte, .int x => x.toInt8.toInt32 = x
  | some .char, .int x => x.toUInt32.toUInt16.toUInt32.toInt32 = x
  | some .long, .long _ => True
  | some (.object _), .ref _ => True
  | some (.array _), .ref _ => True
  | _, _ => False
/-- how a frame's run is taken over at its end -/
def En (M : MD) (o : Outcome) (ρ' : Nat → Nat) (h' : MH) (p : Program) (l : Launch) (e : Env) (R : Room) (s : State) (m : MethodId) (args : Array Value) (below : List Frame) (meth : Method) (c : Code) (H' : Heap) (locs' : List Loc) (cells' slots' : Nat) (Q : State → Prop) (pc' : Nat) (lsA' : Array Slot) : Prop := match o with
  | .returned none => M.2.2.2.1 = none → decode M.2.1 pc' = .ok (.return_, 1) → W p l e R s m args below meth c H' locs' cells' slots' Q (F0 m pc' lsA' [])
  | .returned (some v) => vOk h' v → rtOk M.2.2.2.1 v → decode M.2.1 pc' = .ok (retI v, 1) → W p l e R s m args below meth c H' locs' cells' slots' Q (F0 m pc' lsA' [reV ρ' v])
  | .threw k => (∀ x ∈ tableOf M.2.2.2.2, covers x pc' = false) → ∀ (q : Addr) (ce : Cell) (st' : List Value), H'[q]? = some ce → ce.vm = .none → s.vm.findClass (cx_nm k) = some ce.cls → vx_W p l e R s m args below meth c H' locs' cells' slots' Q (F0 m pc' lsA' st') q
/-- a frame at pc with these locals, this stack and memory ends so -/
def Bx (M : MD) (d pc : Nat) (ls st : List Value) (h : MH) (o : Outcome) (h' : MH) : Prop :=
  nn h ≤ nn h' ∧ sU h ≤ sU h' ∧
  ∀ (G : cx_G) (p : Program) (l : Launch) (e : Env) (R : Room) (s : State) (m : MethodId) (args : Array Value) (below : List Frame) (meth : Method) (c : Code) (Q : State → Prop) (ρ : Nat → Nat) (H : Heap) (locs : List Loc) (cells slots : Nat) (lsA : Array Slot),
    Fx G M d p l R s m args meth c → Cn G ρ h H → va_S (cx_A G) s.heap H locs → LVr ρ h lsA M.2.2.1 ls → (∀ v ∈ st, vOk h v) →
    cells + (nn h' - nn h) ≤ R.cells → slots + (sU h' - sU h) ≤ R.slots →
    (∀ (ρ' : Nat → Nat) (H' : Heap) (locs' : List Loc) (lsA' : Array Slot) (pc' : Nat), (∀ a, a < nn h → ρ' a = ρ a) → Cn G ρ' h' H' → va_S (cx_A G) s.heap H' locs' → lsA'.size = M.2.2.1 →
       En M o ρ' h' p l e R s m args below meth c H' locs' (cells + (nn h' - nn h)) (slots + (sU h' - sU h)) Q pc' lsA') →
    W p l e R s m args below meth c H locs cells slots Q (F0 m pc lsA (st.map (reV ρ)))
/-- a step that changes stack and pc alone -/
theorem Bx.go {M : MD} {d pc pc' : Nat} {ls st st' : List Value} {h h' : MH} {o : Outcome}
    (hW : ∀ (G : cx_G) (p : Program) (l : Launch) (e : Env) (R : Room) (s : State) (m : MethodId) (args : Array Value) (below : List Frame) (meth : Method) (c : Code) (Q : State → Prop) (ρ : Nat → Nat) (H : Heap) (locs : List Loc) (cells slots : Nat) (lsA : Array Slot), Fx G M d p l R s m args meth c → Cn G ρ h H → va_S (cx_A G) s.heap H locs → LVr ρ h lsA M.2.2.1 ls → (∀ v ∈ st, vOk h v) →
      (∀ v ∈ st', vOk h v) ∧ (W p l e R s m args below meth c H locs cells slots Q (F0 m pc' lsA (st'.map (reV ρ))) → W p l e R s m args below meth c H locs cells slots Q (F0 m pc lsA (st.map (reV ρ)))))
    (k : Bx M d pc' ls st' h o h') : Bx M d pc ls st h o h' := by
  refine ⟨k.1, k.2.1, ?_⟩
  intro G p l e R s m args below meth c Q ρ H locs cells slots lsA F C S L V hc hs fin
  obtain ⟨V', hw⟩ := hW G p l e R s m args below meth c Q ρ H locs cells slots lsA F C S L V
  exact hw (k.2.2 G p l e R s m args below meth c Q ρ H locs cells slots lsA F C S L V' hc hs fin)
/-- a step that writes one cell -/
theorem Bx.wr {M : MD} {d pc pc' : Nat} {ls st st' : List Value} {h h1 h' : MH} {o : Outcome} (en : nn h1 = nn h) (eu : sU h1 = sU h)
    (hW : ∀ (G : cx_G) (p : Program) (l : Launch) (e : Env) (R : Room) (s : State) (m : MethodId) (args : Array Value) (below : List Frame) (meth : Method) (c : Code) (Q : State → Prop) (ρ : Nat → Nat) (H : Heap) (locs : List Loc) (cells slots : Nat) (lsA : Array Slot), Fx G M d p l R s m args meth c → Cn G ρ h H → va_S (cx_A G) s.heap H locs → LVr ρ h lsA M.2.2.1 ls → (∀ v ∈ st, vOk h v) →
      (∀ v ∈ st', vOk h v) ∧ ((∀ (H1 : Heap) (locs1 : List Loc), Cn G ρ h1 H1 → va_S (cx_A G) s.heap H1 locs1 → W p l e R s m args below meth c H1 locs1 cells slots Q (F0 m pc' lsA (st'.map (reV ρ)))) → W p l e R s m args below meth c H locs cells slots Q (F0 m pc lsA (st.map (reV ρ)))))
    (k : Bx M d pc' ls st' h1 o h') : Bx M d pc ls st h o h' := by
  obtain ⟨k1, k2, k3⟩ := k
  rw [en] at k1
  rw [eu] at k2
  refine ⟨k1, k2, ?_⟩
  intro G p l e R s m args below meth c Q ρ H locs cells slots lsA F C S L V hc hs fin
  obtain ⟨V', hw⟩ := hW G p l e R s m args below meth c Q ρ H locs cells slots lsA F C S L V
  refine hw (fun H1 locs1 C1 S1 => ?_)
  refine k3 G p l e R s m args below meth c Q ρ H1 locs1 cells slots lsA F C1 S1 (L.ext (by omega) (fun _ _ => rfl)) (fun v hv => (V' v hv).mono (by omega)) (by rw [en]; exact hc) (by rw [eu]; exact hs) ?_
  rw [en, eu]
  exact fin
/-- a step that makes one cell -/
theorem Bx.mk {M : MD} {d pc pc' k n u : Nat} {f : Nat → Int32} {g : Nat → Nat} {j : Nat → Int64} {ls st st' : List Value} {h h' : MH} {o : Outcome}
    (hW : ∀ (G : cx_G) (p : Program) (l : Launch) (e : Env) (R : Room) (s : State) (m : MethodId) (args : Array Value) (below : List Frame) (meth : Method) (c : Code) (Q : State → Prop) (ρ : Nat → Nat) (H : Heap) (locs : List Loc) (cells slots : Nat) (lsA : Array Slot), Fx G M d p l R s m args meth c → Cn G ρ h H → va_S (cx_A G) s.heap H locs → LVr ρ h lsA M.2.2.1 ls → (∀ v ∈ st, vOk h v) → cells + 1 ≤ R.cells → slots + u ≤ R.slots →
      (∀ v ∈ st', vOk (alc h k n u f g j) v) ∧ ((∀ (q : Nat) (H1 : Heap) (locs1 : List Loc), Cn G (va_up ρ (nn h) q) (alc h k n u f g j) H1 → va_S (cx_A G) s.heap H1 locs1 → W p l e R s m args below meth c H1 locs1 (cells + 1) (slots + u) Q (F0 m pc' lsA (st'.map (reV (va_up ρ (nn h) q))))) → W p l e R s m args below meth c H locs cells slots Q (F0 m pc lsA (st.map (reV ρ)))))
    (kk : Bx M d pc' ls st' (alc h k n u f g j) o h') : Bx M d pc ls st h o h' := by
  obtain ⟨k1, k2, k3⟩ := kk
  rw [nn_alc] at k1
  rw [sU_alc] at k2
  refine ⟨by omega, by omega, ?_⟩
  intro G p l e R s m args below meth c Q ρ H locs cells slots lsA F C S L V hc hs fin
  obtain ⟨V', hw⟩ := hW G p l e R s m args below meth c Q ρ H locs cells slots lsA F C S L V (by omega) (by omega)
  refine hw (fun q H1 locs1 C1 S1 => ?_)
  have hx : ∀ a, a < nn h → va_up ρ (nn h) q a = ρ a := fun a ha => va_up_ne _ _ (by omega)
  refine k3 G p l e R s m args below meth c Q _ H1 locs1 (cells + 1) (slots + u) lsA F C1 S1 (L.ext (by rw [nn_alc]; omega) hx) V' (by rw [nn_alc]; omega) (by rw [sU_alc]; omega) ?_
  intro ρ' H' locs' lsA' pc2 hx' C' S' hz
  have := fin ρ' H' locs' lsA' pc2 (fun a ha => (hx' a (by rw [nn_alc]; omega)).trans (hx a ha)) C' S' hz
  rw [nn_alc, sU_alc, show cells + 1 + (nn h' - (nn h + 1)) = cells + (nn h' - nn h) by omega, show slots + u + (sU h' - (sU h + u)) = slots + (sU h' - sU h) by omega]
  exact this
