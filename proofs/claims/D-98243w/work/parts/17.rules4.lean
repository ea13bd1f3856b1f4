/-! RULES 4: new cells, returns, a method's contract out of its body -/
set_option maxRecDepth 100000
theorem RA_cls {U : State} {cA : ClassId} {ty : FieldType} (h : va_RA U cA ty) : U.vm.findClass ("[" ++ ty.toString) = some cA := by
  cases ty with
  | object C => obtain ⟨_, _, _, _, _, h4⟩ := h; exact h4
  | _ => exact h
theorem dA_eq {D : va_G} {cl : List vw_C} {tys : List (ClassId × FieldType)} {s : State} {cA dA : ClassId} {ty : FieldType} {t : Nat} (K : va_K D cl (tys ++ [(cA, ty)]) s) (ht : tys[t]? = some (dA, ty)) : cA = dA := by
  have h1 := RA_cls (K.2 tys.length (cA, ty) (by rw [List.getElem?_append_right (Nat.le_refl _)]; simp)).2
  have h2 := RA_cls (K.2 t (dA, ty) (by rw [List.getElem?_append_left (List.getElem?_eq_some_iff.mp ht).1]; exact ht)).2
  exact Option.some.inj (h1.symm.trans h2)
def z32 : Nat → Int32 := fun _ => 0
def zN : Nat → Nat := fun _ => 0
def z64 : Nat → Int64 := fun _ => 0
def i_newa (t : Nat) (kk : KT) : KT := fun ls st h => match st with
  | .int n :: r => (¬ n < 0 ∧ n.toNatClampNeg ≤ 60000) ∧ kk ls (.ref (nn h) :: r) (alc h (50 + t) n.toNatClampNeg n.toNatClampNeg z32 zN z64)
  | _ => False
theorem fit0 {h : MH} {k n u : Nat} {g : Nat → Nat} {j : Nat → Int64} : fitB (alc h k n u z32 g j) (nn h) := by
  unfold fitB
  rw [iI_alc, va_up_self]
  exact ⟨fun _ _ => (by decide +kernel : fits .byte (.int 0) = true), fun _ _ => (by decide +kernel : fits .boolean (.int 0) = true)⟩
theorem vMk {h : MH} {k n u : Nat} {f : Nat → Int32} {g : Nat → Nat} {j : Nat → Int64} {st : List Value} (V : ∀ v ∈ st, vOk h v) : ∀ v ∈ Value.ref (nn h) :: st, vOk (alc h k n u f g j) v :=
  vC (w := .ref (nn h)) (by show nn h < nn (alc h k n u f g j); rw [nn_alc]; omega) (fun v hv => (V v hv).mono (by rw [nn_alc]; omega))
theorem mapMk {h : MH} {ρ : Nat → Nat} {q : Nat} {st : List Value} (hn : 0 < nn h) (V : ∀ v ∈ st, vOk h v) : (Value.ref (nn h) :: st).map (reV (va_up ρ (nn h) q)) = .ref q :: st.map (reV ρ) := by
  rw [List.map_cons, er_ hn, va_up_self, map_ext (fun a ha => va_up_ne _ _ (by omega)) V]
section
variable {M : MD} {d pc : Nat} {Q : Outcome → MH → Prop} {kk : KT}
theorem r_newa {t : Nat} {at9 : ArrayType} {ty : FieldType} (ht : t < 4) (hat : newarray.typeOf at9 = ty) (hty : cx_tk t = ty) (hw : Cond.arrayClass (newarray.typeOf at9) ∈ lw_all) (hby : componentBytes ty ≤ 8) (hd : decode M.2.1 pc = .ok (.newarray at9, 2)) (cc : ∀ ls st h, kk ls st h → WPb M d (pc + 2) ls st h Q) : ∀ ls st h, i_newa t kk ls st h → WPb M d pc ls st h Q := by
  intro ls st h H
  unfold i_newa at H
  split at H
  · rename_i n r
    refine WPb.lift (fun _ _ kb => Bx.mk (fun G p l ev R s m args below meth c Q ρ Hp locs cells slots lsA F C S L V h1 h2 => ⟨vMk (vT V), fun wk => ?_⟩) kb) (cc _ _ _ H.2)
    have hn0 : 0 < nn h := Nat.lt_of_lt_of_le (by decide) C.2.2.2.2.2.2.1
    have hS := F.2.2.2.2.2.2.2.2.2.2.1
    have ha : ∃ a0 : vp_A, a0.1 = n.toNatClampNeg ∧ (∀ cA : ClassId, vp_cell cA a0 = arrV cA n.toNatClampNeg (fun _ => defaultValue ty)) ∧ a0.2 = arC ρ (alc h (50 + t) n.toNatClampNeg n.toNatClampNeg z32 zN z64) (nn h) t := by
      have e0 : iI (alc h (50 + t) n.toNatClampNeg n.toNatClampNeg z32 zN z64) (nn h) = z32 := va_up_self _ _ _
      have e1 : iJ (alc h (50 + t) n.toNatClampNeg n.toNatClampNeg z32 zN z64) (nn h) = z64 := va_up_self _ _ _
      unfold arC
      rw [e0, e1, hty]
      subst hty
      rcases t with _ | _ | _ | _ | t
      · exact ⟨(_, .inl z32), rfl, fun _ => rfl, rfl⟩
      · exact ⟨(_, .inl z32), rfl, fun _ => rfl, rfl⟩
      · exact ⟨(_, .inl z32), rfl, fun _ => rfl, rfl⟩
      · exact ⟨(_, .inr (.inl z64)), rfl, fun _ => rfl, rfl⟩
      · omega
    obtain ⟨a0, ha1, ha2, ha3⟩ := ha
    refine va_newa F.1 F.2.1 (F.2.2.2.2.2.1 _ hw) hat hS.1 C.P C.D S (fun q hq => Nat.le_trans hS.2.2.2.2.2.2.2.2.2.2.2 hq) ha2 H.1.1 rfl (Nat.le_trans (Nat.mul_le_mul H.1.2 hby) (by decide)) h1 h2 hd (fun q cA H1 K1 P1 D1 S1 => ?_)
    have ecA : cA = G.2.1 t := dA_eq K1 (by rw [tys_at (t := t) (by omega), hty])
    have w1 := wk q H1 locs (C.push (by omega) (by omega) (fun _ => hn0) fit0 (e := .inl (cA, a0)) (by
      rw [cnE_a (t := t) (kd_alc _ _ _ _ _ _ _ ▸ va_up_self _ _ _), ecA, ← ha3, ln_alc, va_up_self, ← ha1]) P1 D1) S1
    rw [mapMk hn0 (vT V)] at w1
    exact w1
  · exact H.elim
def cx_nf (t : FieldType) : Bool := match t with
  | .float => false
  | .double => false
  | .char => false
  | .short => false
  | _ => true
def i_new (ci u : Nat) (kk : KT) : KT := fun ls st h => kk ls (.ref (nn h) :: st) (alc h ci 0 u z32 zN z64)
theorem r_new {ci i u : Nat} {q : vw_C} (ty0 : Nat → FieldType) (hty : ∀ k, k < q.2.2 → parseFieldDescriptor (q.2.1 k).2.2.1 = some (ty0 k)) (hft : ∀ k, k < q.2.2 → cx_ft ci k = ty0 k) (hnf : ∀ k, k < q.2.2 → cx_nf (ty0 k) = true) (hci : ci ≠ 0) (hc : cx_cl[ci]? = some q) (hu : q.2.2 = u) (hin : ∀ w ∈ u_ws q.1 q.2.1 q.2.2, w ∈ lw_all) (hcl : Cond.classLink M.1.cls i q.1 ∈ lw_all) (hins : Cond.instantiable q.1 u ∈ lw_all) (hini : Cond.initialized q.1 ∈ lw_all) (hd : decode M.2.1 pc = .ok (.new i, 3)) (cc : ∀ ls st h, kk ls st h → WPb M d (pc + 3) ls st h Q) : ∀ ls st h, i_new ci u kk ls st h → WPb M d pc ls st h Q := by
  intro ls st h H
  unfold i_new at H
  subst hu
  refine WPb.lift (fun _ _ kb => Bx.mk (fun G p l ev R s m args below meth c Q ρ Hp locs cells slots lsA F C S L V h1 h2 => ⟨vMk V, fun wk => ?_⟩) kb) (cc _ _ _ H)
  have hn0 : 0 < nn h := Nat.lt_of_lt_of_le (by decide) C.2.2.2.2.2.2.1
  have hS := F.2.2.2.2.2.2.2.2.2.2.1
  have hk : kd (alc h ci 0 q.2.2 z32 zN z64) (nn h) = ci := va_up_self _ _ _
  refine va_new (C := q.1) (T := q.2.1) (N := q.2.2) F.1 F.2.1 F.2.2.2.2.2.1 hin ty0 hty F.2.2.2.2.1 (F.2.2.2.2.2.1 _ hcl) (F.2.2.2.2.2.1 _ hins) (F.2.2.2.2.2.1 _ hini) hS.1 C.P C.D S (fun q hq => Nat.le_trans hS.2.2.2.2.2.2.2.2.2.2.2 hq) hc (fs := (List.range q.2.2).map (fdV ρ (alc h ci 0 q.2.2 z32 zN z64) (nn h) ci)) (fun j hj => ?_) h1 h2 hd (fun q1 H1 P1 D1 S1 => ?_)
  · unfold vp_V
    rw [List.getD_eq_getElem?_getD, rng_get hj]
    show defaultValue (ty0 j) = fdV ρ _ (nn h) ci j
    unfold fdV
    rw [hft j hj, show iI (alc h ci 0 q.2.2 z32 zN z64) (nn h) = z32 from va_up_self _ _ _, show iJ (alc h ci 0 q.2.2 z32 zN z64) (nn h) = z64 from va_up_self _ _ _, show iR (alc h ci 0 q.2.2 z32 zN z64) (nn h) = zN from va_up_self _ _ _]
    have := hnf j hj
    cases hq : ty0 j <;> rw [hq] at this <;> first | rfl | exact absurd this (by decide)
  · have w1 := wk q1 H1 locs (C.push hci (by have := cl50 hc; omega) (fun _ => hn0) fit0 (cnE_o hk hc).symm P1 D1) S1
    rw [mapMk hn0 V] at w1
    exact w1
def i_newq (t : Nat) (kk : KT) : KT := fun ls st h => match st with
  | .int n :: r => (¬ n < 0 ∧ n.toNatClampNeg ≤ 60000) ∧ kk ls (.ref (nn h) :: r) (alc h (50 + t) n.toNatClampNeg n.toNatClampNeg z32 zN z64)
  | _ => False
theorem r_newq {i : Nat} (hcl : Cond.classLink M.1.cls i "java/lang/Object" ∈ lw_all) (hd : decode M.2.1 pc = .ok (.anewarray i, 3)) (cc : ∀ ls st h, kk ls st h → WPb M d (pc + 3) ls st h Q) : ∀ ls st h, i_newq 4 kk ls st h → WPb M d pc ls st h Q := by
  intro ls st h H
  unfold i_newq at H
  split at H
  · rename_i n r
    refine WPb.lift (fun _ _ kb => Bx.mk (fun G p l ev R s m args below meth c Q ρ Hp locs cells slots lsA F C S L V h1 h2 => ⟨vMk (vT V), fun wk => ?_⟩) kb) (cc _ _ _ H.2)
    have hn0 : 0 < nn h := Nat.lt_of_lt_of_le (by decide) C.2.2.2.2.2.2.1
    have hS := F.2.2.2.2.2.2.2.2.2.2.1
    refine va_newq F.1 F.2.1 F.2.2.2.2.1 (F.2.2.2.2.2.1 _ hcl) (hS.2.2.2.2.2.1 _ (by decide)) hS.1 C.P C.D S (fun q hq => Nat.le_trans hS.2.2.2.2.2.2.2.2.2.2.2 hq) H.1.1 rfl (Nat.le_trans (Nat.mul_le_mul H.1.2 (Nat.le_refl 4)) (by decide)) h1 h2 hd (fun q cA H1 K1 P1 D1 S1 => ?_)
    have ecA : cA = G.2.1 4 := dA_eq K1 (tys_at (t := 4) (by decide))
    have w1 := wk q H1 locs (C.push (by decide) (by decide) (fun _ => hn0) fit0 (by
      rw [cnE_a (t := 4) (kd_alc _ _ _ _ _ _ _ ▸ va_up_self _ _ _), ecA, ln_alc, va_up_self, show arC ρ (alc h (50 + 4) n.toNatClampNeg n.toNatClampNeg z32 zN z64) (nn h) 4 = .inr (.inr (.inr (.inr (fun _ => none)))) by
        unfold arC
        rw [show iR (alc h (50 + 4) n.toNatClampNeg n.toNatClampNeg z32 zN z64) (nn h) = zN from va_up_self _ _ _]
        rfl]) P1 D1) S1
    rw [mapMk hn0 (vT V)] at w1
    exact w1
  · exact H.elim
/-! returns -/
def i_ret (Q : Outcome → MH → Prop) (rt : Option FieldType) : KT := fun _ st h => match st with
  | [v] => rtOk rt v ∧ Q (.returned (some v)) h
  | _ => False
def i_vret (Q : Outcome → MH → Prop) : KT := fun _ st h => st = [] ∧ Q (.returned none) h
theorem r_ret {rt : Option FieldType} (hrt : M.2.2.2.1 = rt) (hd : decode M.2.1 pc = .ok (.ireturn, 1) ∧ (rt = some .int ∨ rt = some .boolean ∨ rt = some .byte ∨ rt = some .char) ∨ decode M.2.1 pc = .ok (.lreturn, 1) ∧ rt = some .long ∨ decode M.2.1 pc = .ok (.areturn, 1) ∧ ((∃ n, rt = some (.object n)) ∨ ∃ t, rt = some (.array t))) : ∀ ls st h, i_ret Q rt ls st h → WPb M d pc ls st h Q := by
  intro ls st h H
  unfold i_ret at H
  split at H
  · rename_i v
    refine ⟨_, h, ⟨Nat.le_refl _, Nat.le_refl _, ?_⟩, H.2⟩
    intro G p l e R s m args below meth c Q ρ Hp locs cells slots lsA F C S L V hc hs fin
    have f := fin ρ Hp locs lsA pc (fun _ _ => rfl) C S L.2.1
    rw [Nat.sub_self, Nat.sub_self, Nat.add_zero, Nat.add_zero] at f
    refine f (vH V) (by rw [hrt]; exact H.1) ?_
    have hk := H.1
    rcases hd with ⟨hd, hr⟩ | ⟨hd, hr⟩ | ⟨hd, hr⟩
    · have : retI v = .ireturn := by
        rcases hr with e | e | e | e <;> rw [e] at hk <;> cases v <;> first | rfl | exact hk.elim
      rw [this]; exact hd
    · have : retI v = .lreturn := by
        rw [hr] at hk; cases v <;> first | rfl | exact hk.elim
      rw [this]; exact hd
    · have : retI v = .areturn := by
        rcases hr with ⟨n, e⟩ | ⟨n, e⟩ <;> rw [e] at hk <;> cases v <;> first | rfl | exact hk.elim
      rw [this]; exact hd
  · exact H.elim
theorem r_vret (hrt : M.2.2.2.1 = none) (hd : decode M.2.1 pc = .ok (.return_, 1)) : ∀ ls st h, i_vret Q ls st h → WPb M d pc ls st h Q := by
  intro ls st h H
  obtain ⟨rfl, HQ⟩ := H
  refine ⟨_, h, ⟨Nat.le_refl _, Nat.le_refl _, ?_⟩, HQ⟩
  intro G p l e R s m args below meth c Q ρ Hp locs cells slots lsA F C S L V hc hs fin
  have f := fin ρ Hp locs lsA pc (fun _ _ => rfl) C S L.2.1
  rw [Nat.sub_self, Nat.sub_self, Nat.add_zero, Nat.add_zero] at f
  exact f hrt hd
end
