/-! EXCEPTIONS made by new X() -/
set_option maxRecDepth 100000
def i_exc (d ci : Nat) (kk : KT) : KT := fun ls st h => (9 ≤ d ∧ (st.map fun v => v.category).sum ≤ 8) ∧ kk ls (.ref (nn h) :: st) (alc h ci 0 6 z32 zN z64)
theorem r_exc {M : MD} {d pc ik ic ci : Nat} {Q : Outcome → MH → Prop} {kk : KT} {X : String} {names : List String} (hn2 : names.length = 2) (hX : Bundle.fit X = true) (hnames : ∀ n ∈ names, Bundle.fit n = true) (hci : ci ≠ 0) (hc0 : cx_cl[ci]? = some (X, cx_T0, 0))
    (hg : ∀ w ∈ (vx_at0 M.1.cls ic X names).filter goodWord, w ∈ lw_all) (hb : ∀ w ∈ (vx_at0 M.1.cls ic X names).filter (fun w => !goodWord w), w ∈ lw_tbl ∧ cx_okw w = true) (hot : ∀ w ∈ Cond.classLink M.1.cls ik X :: Cond.initialized X :: vx_at0 M.1.cls ic X names, vx_ot w = true)
    (hk : Cond.classLink M.1.cls ik X ∈ lw_all) (hi : Cond.initialized X ∈ lw_all) (d0 : decode M.2.1 pc = .ok (.new ik, 3)) (d3 : decode M.2.1 (pc + 3) = .ok (.dup, 1)) (d4 : decode M.2.1 (pc + 4) = .ok (.invokespecial ic, 3)) (hc : ∀ ls st h, kk ls st h → WPb M d (pc + 7) ls st h Q) : ∀ ls st h, i_exc d ci kk ls st h → WPb M d pc ls st h Q := by
  intro ls st h H
  unfold i_exc at H
  refine WPb.lift (fun _ _ kb => Bx.mk (fun G p l ev R s m args below meth c Q ρ Hp locs cells slots lsA F C S L V h1 h2 => ⟨vMk V, fun wk => ?_⟩) kb) (hc _ _ _ H.2)
  have hn0 : 0 < nn h := Nat.lt_of_lt_of_le (by decide) C.2.2.2.2.2.2.1
  have hS := F.2.2.2.2.2.2.2.2.2.2.1
  have f1 := F.2.2.2.2.2.2.2.2.2.2.2.1
  have f2 := F.2.2.2.2.2.2.2.2.2.2.2.2
  have h3 := H.1
  have hat : ∀ w ∈ vx_at0 M.1.cls ic X names, w.before args s = true := by
    intro w hw
    by_cases g : goodWord w = true
    · exact F.2.2.2.2.2.1 _ (hg w (List.mem_filter.mpr ⟨hw, g⟩))
    · obtain ⟨b1, b2⟩ := hb w (List.mem_filter.mpr ⟨hw, by simp [g]⟩)
      have hw2 := hS.2.1 w b1 b2
      cases w <;> first | exact (Bool.false_ne_true b2).elim | exact hw2.use rfl
  have hk9 : kd (alc h ci 0 6 z32 zN z64) (nn h) = ci := va_up_self _ _ _
  refine vx_make0 F.1 F.2.1 F.2.2.2.2.2.2.2.2.1 F.2.2.2.2.1 hX hnames (F.2.2.2.2.2.1 _ hk) (F.2.2.2.2.2.1 _ hi) hat hot hS.2.2.2.2.1.1 hS.2.2.2.2.1.2 S (L.2.1.trans F.2.2.2.1.symm) d0 d3 d4 hS.1 C.P C.D (fun q hq => Nat.le_trans hS.2.2.2.2.2.2.2.2.2.2.2 hq) hc0 (by omega) (by rw [catR V, hn2]; omega) h1 h2 (fun q H1 P1 D1 S1 => ?_)
  have w1 := wk q H1 locs (C.push hci (by have := cl50 hc0; omega) (fun _ => hn0) fit0 (cnE_o hk9 hc0).symm P1 D1) S1
  rw [mapMk hn0 V] at w1
  exact w1
theorem hg_25 : ∀ w ∈ (vx_at0 "CheekTown" 250 "java/lang/IllegalArgumentException" ["java/lang/RuntimeException", "java/lang/Exception"]).filter goodWord, w ∈ lw_all := lw_in _ [138, 638, 647, 655, 658, 660, 639, 640, 170, 171, 641, 646, 656, 887, 628, 888, 630, 889, 632, 642, 644, 634, 1359, 1360, 1361, 1362, 1362, 1363, 1364, 1365, 1365, 1366, 1367, 639, 1358, 617, 625, 626, 627, 629, 631, 633, 637, 636, 635] (by decide +kernel) (by decide +kernel)
theorem hb_25 : ∀ w ∈ (vx_at0 "CheekTown" 250 "java/lang/IllegalArgumentException" ["java/lang/RuntimeException", "java/lang/Exception"]).filter (fun w => !goodWord w), w ∈ lw_tbl ∧ cx_okw w = true := by
  have e : (vx_at0 "CheekTown" 250 "java/lang/IllegalArgumentException" ["java/lang/RuntimeException", "java/lang/Exception"]).filter (fun w => !goodWord w) = [619, 621, 623, 618].filterMap (fun i => lw_tbl[i]?) := by decide +kernel
  have f : ((vx_at0 "CheekTown" 250 "java/lang/IllegalArgumentException" ["java/lang/RuntimeException", "java/lang/Exception"]).filter (fun w => !goodWord w)).all cx_okw = true := by decide +kernel
  intro w hw
  refine ⟨?_, List.all_eq_true.mp f w hw⟩
  rw [e] at hw
  obtain ⟨i, -, hi⟩ := List.mem_filterMap.mp hw
  exact List.mem_of_getElem? hi
theorem r_exc25 {M : MD} {d pc ik : Nat} {Q : Outcome → MH → Prop} {kk : KT} (hM : M.1.cls = "CheekTown") (d0 : decode M.2.1 pc = .ok (.new ik, 3)) (d3 : decode M.2.1 (pc + 3) = .ok (.dup, 1)) (d4 : decode M.2.1 (pc + 4) = .ok (.invokespecial 250, 3)) (hk : Cond.classLink M.1.cls ik "java/lang/IllegalArgumentException" ∈ lw_all) (hc : ∀ ls st h, kk ls st h → WPb M d (pc + 7) ls st h Q) : ∀ ls st h, i_exc d 25 kk ls st h → WPb M d pc ls st h Q :=
  r_exc (X := "java/lang/IllegalArgumentException") (names := ["java/lang/RuntimeException", "java/lang/Exception"]) rfl (by decide +kernel) (by decide +kernel) (by decide) rfl (by rw [hM]; exact hg_25) (by rw [hM]; exact hb_25) (by
    rw [hM]
    intro w hw
    rcases List.mem_cons.mp hw with e | hw
    · rw [e]; rfl
    · rcases List.mem_cons.mp hw with e | hw
      · rw [e]; rfl
      · exact List.all_eq_true.mp (by decide +kernel : (vx_at0 "CheekTown" 250 "java/lang/IllegalArgumentException" ["java/lang/RuntimeException", "java/lang/Exception"]).all vx_ot = true) w hw) hk q141 d0 d3 d4 hc
theorem hg_26 : ∀ w ∈ (vx_at0 "CheekTown" 420 "java/lang/IndexOutOfBoundsException" ["java/lang/RuntimeException", "java/lang/Exception"]).filter goodWord, w ∈ lw_all := lw_in _ [138, 638, 647, 655, 658, 660, 639, 640, 170, 171, 641, 646, 656, 887, 628, 888, 630, 889, 632, 642, 644, 634, 1648, 1649, 1650, 1362, 1362, 1363, 1364, 1365, 1365, 1366, 1367, 639, 1647, 1639, 1641, 652, 1642, 1643, 1644, 1645, 637, 636, 1646] (by decide +kernel) (by decide +kernel)
theorem hb_26 : ∀ w ∈ (vx_at0 "CheekTown" 420 "java/lang/IndexOutOfBoundsException" ["java/lang/RuntimeException", "java/lang/Exception"]).filter (fun w => !goodWord w), w ∈ lw_tbl ∧ cx_okw w = true := by
  have e : (vx_at0 "CheekTown" 420 "java/lang/IndexOutOfBoundsException" ["java/lang/RuntimeException", "java/lang/Exception"]).filter (fun w => !goodWord w) = [619, 621, 623, 1640].filterMap (fun i => lw_tbl[i]?) := by decide +kernel
  have f : ((vx_at0 "CheekTown" 420 "java/lang/IndexOutOfBoundsException" ["java/lang/RuntimeException", "java/lang/Exception"]).filter (fun w => !goodWord w)).all cx_okw = true := by decide +kernel
  intro w hw
  refine ⟨?_, List.all_eq_true.mp f w hw⟩
  rw [e] at hw
  obtain ⟨i, -, hi⟩ := List.mem_filterMap.mp hw
  exact List.mem_of_getElem? hi
theorem r_exc26 {M : MD} {d pc ik : Nat} {Q : Outcome → MH → Prop} {kk : KT} (hM : M.1.cls = "CheekTown") (d0 : decode M.2.1 pc = .ok (.new ik, 3)) (d3 : decode M.2.1 (pc + 3) = .ok (.dup, 1)) (d4 : decode M.2.1 (pc + 4) = .ok (.invokespecial 420, 3)) (hk : Cond.classLink M.1.cls ik "java/lang/IndexOutOfBoundsException" ∈ lw_all) (hc : ∀ ls st h, kk ls st h → WPb M d (pc + 7) ls st h Q) : ∀ ls st h, i_exc d 26 kk ls st h → WPb M d pc ls st h Q :=
  r_exc (X := "java/lang/IndexOutOfBoundsException") (names := ["java/lang/RuntimeException", "java/lang/Exception"]) rfl (by decide +kernel) (by decide +kernel) (by decide) rfl (by rw [hM]; exact hg_26) (by rw [hM]; exact hb_26) (by
    rw [hM]
    intro w hw
    rcases List.mem_cons.mp hw with e | hw
    · rw [e]; rfl
    · rcases List.mem_cons.mp hw with e | hw
      · rw [e]; rfl
      · exact List.all_eq_true.mp (by decide +kernel : (vx_at0 "CheekTown" 420 "java/lang/IndexOutOfBoundsException" ["java/lang/RuntimeException", "java/lang/Exception"]).all vx_ot = true) w hw) hk q157 d0 d3 d4 hc
theorem hg_27 : ∀ w ∈ (vx_at0 "CheekTown" 423 "java/util/NoSuchElementException" ["java/lang/RuntimeException", "java/lang/Exception"]).filter goodWord, w ∈ lw_all := lw_in _ [138, 638, 647, 655, 658, 660, 639, 640, 170, 171, 641, 646, 656, 887, 628, 888, 630, 889, 632, 642, 644, 634, 1693, 1694, 1695, 1362, 1362, 1363, 1364, 1365, 1365, 1366, 1367, 639, 1692, 1684, 1686, 654, 1687, 1688, 1689, 1690, 637, 636, 1691] (by decide +kernel) (by decide +kernel)
theorem hb_27 : ∀ w ∈ (vx_at0 "CheekTown" 423 "java/util/NoSuchElementException" ["java/lang/RuntimeException", "java/lang/Exception"]).filter (fun w => !goodWord w), w ∈ lw_tbl ∧ cx_okw w = true := by
  have e : (vx_at0 "CheekTown" 423 "java/util/NoSuchElementException" ["java/lang/RuntimeException", "java/lang/Exception"]).filter (fun w => !goodWord w) = [619, 621, 623, 1685].filterMap (fun i => lw_tbl[i]?) := by decide +kernel
  have f : ((vx_at0 "CheekTown" 423 "java/util/NoSuchElementException" ["java/lang/RuntimeException", "java/lang/Exception"]).filter (fun w => !goodWord w)).all cx_okw = true := by decide +kernel
  intro w hw
  refine ⟨?_, List.all_eq_true.mp f w hw⟩
  rw [e] at hw
  obtain ⟨i, -, hi⟩ := List.mem_filterMap.mp hw
  exact List.mem_of_getElem? hi
theorem r_exc27 {M : MD} {d pc ik : Nat} {Q : Outcome → MH → Prop} {kk : KT} (hM : M.1.cls = "CheekTown") (d0 : decode M.2.1 pc = .ok (.new ik, 3)) (d3 : decode M.2.1 (pc + 3) = .ok (.dup, 1)) (d4 : decode M.2.1 (pc + 4) = .ok (.invokespecial 423, 3)) (hk : Cond.classLink M.1.cls ik "java/util/NoSuchElementException" ∈ lw_all) (hc : ∀ ls st h, kk ls st h → WPb M d (pc + 7) ls st h Q) : ∀ ls st h, i_exc d 27 kk ls st h → WPb M d pc ls st h Q :=
  r_exc (X := "java/util/NoSuchElementException") (names := ["java/lang/RuntimeException", "java/lang/Exception"]) rfl (by decide +kernel) (by decide +kernel) (by decide) rfl (by rw [hM]; exact hg_27) (by rw [hM]; exact hb_27) (by
    rw [hM]
    intro w hw
    rcases List.mem_cons.mp hw with e | hw
    · rw [e]; rfl
    · rcases List.mem_cons.mp hw with e | hw
      · rw [e]; rfl
      · exact List.all_eq_true.mp (by decide +kernel : (vx_at0 "CheekTown" 423 "java/util/NoSuchElementException" ["java/lang/RuntimeException", "java/lang/Exception"]).all vx_ot = true) w hw) hk q159 d0 d3 d4 hc
theorem hg_28 : ∀ w ∈ (vx_at0 "CheekTown" 536 "java/lang/IllegalStateException" ["java/lang/RuntimeException", "java/lang/Exception"]).filter goodWord, w ∈ lw_all := lw_in _ [138, 638, 647, 655, 658, 660, 639, 640, 170, 171, 641, 646, 656, 887, 628, 888, 630, 889, 632, 642, 644, 634, 1898, 1899, 1900, 1362, 1362, 1363, 1364, 1365, 1365, 1366, 1367, 639, 1897, 1889, 1891, 651, 1892, 1893, 1894, 1895, 637, 636, 1896] (by decide +kernel) (by decide +kernel)
theorem hb_28 : ∀ w ∈ (vx_at0 "CheekTown" 536 "java/lang/IllegalStateException" ["java/lang/RuntimeException", "java/lang/Exception"]).filter (fun w => !goodWord w), w ∈ lw_tbl ∧ cx_okw w = true := by
  have e : (vx_at0 "CheekTown" 536 "java/lang/IllegalStateException" ["java/lang/RuntimeException", "java/lang/Exception"]).filter (fun w => !goodWord w) = [619, 621, 623, 1890].filterMap (fun i => lw_tbl[i]?) := by decide +kernel
  have f : ((vx_at0 "CheekTown" 536 "java/lang/IllegalStateException" ["java/lang/RuntimeException", "java/lang/Exception"]).filter (fun w => !goodWord w)).all cx_okw = true := by decide +kernel
  intro w hw
  refine ⟨?_, List.all_eq_true.mp f w hw⟩
  rw [e] at hw
  obtain ⟨i, -, hi⟩ := List.mem_filterMap.mp hw
  exact List.mem_of_getElem? hi
theorem r_exc28 {M : MD} {d pc ik : Nat} {Q : Outcome → MH → Prop} {kk : KT} (hM : M.1.cls = "CheekTown") (d0 : decode M.2.1 pc = .ok (.new ik, 3)) (d3 : decode M.2.1 (pc + 3) = .ok (.dup, 1)) (d4 : decode M.2.1 (pc + 4) = .ok (.invokespecial 536, 3)) (hk : Cond.classLink M.1.cls ik "java/lang/IllegalStateException" ∈ lw_all) (hc : ∀ ls st h, kk ls st h → WPb M d (pc + 7) ls st h Q) : ∀ ls st h, i_exc d 28 kk ls st h → WPb M d pc ls st h Q :=
  r_exc (X := "java/lang/IllegalStateException") (names := ["java/lang/RuntimeException", "java/lang/Exception"]) rfl (by decide +kernel) (by decide +kernel) (by decide) rfl (by rw [hM]; exact hg_28) (by rw [hM]; exact hb_28) (by
    rw [hM]
    intro w hw
    rcases List.mem_cons.mp hw with e | hw
    · rw [e]; rfl
    · rcases List.mem_cons.mp hw with e | hw
      · rw [e]; rfl
      · exact List.all_eq_true.mp (by decide +kernel : (vx_at0 "CheekTown" 536 "java/lang/IllegalStateException" ["java/lang/RuntimeException", "java/lang/Exception"]).all vx_ot = true) w hw) hk q161 d0 d3 d4 hc
theorem hg_29 : ∀ w ∈ (vx_at0 "CheekTown" 271 "java/lang/UnsupportedOperationException" ["java/lang/RuntimeException", "java/lang/Exception"]).filter goodWord, w ∈ lw_all := lw_in _ [138, 638, 647, 655, 658, 660, 639, 640, 170, 171, 641, 646, 656, 887, 628, 888, 630, 889, 632, 642, 644, 634, 1378, 1379, 1380, 1362, 1362, 1363, 1364, 1365, 1365, 1366, 1367, 639, 1377, 1369, 1371, 653, 1372, 1373, 1374, 1375, 637, 636, 1376] (by decide +kernel) (by decide +kernel)
theorem hb_29 : ∀ w ∈ (vx_at0 "CheekTown" 271 "java/lang/UnsupportedOperationException" ["java/lang/RuntimeException", "java/lang/Exception"]).filter (fun w => !goodWord w), w ∈ lw_tbl ∧ cx_okw w = true := by
  have e : (vx_at0 "CheekTown" 271 "java/lang/UnsupportedOperationException" ["java/lang/RuntimeException", "java/lang/Exception"]).filter (fun w => !goodWord w) = [619, 621, 623, 1370].filterMap (fun i => lw_tbl[i]?) := by decide +kernel
  have f : ((vx_at0 "CheekTown" 271 "java/lang/UnsupportedOperationException" ["java/lang/RuntimeException", "java/lang/Exception"]).filter (fun w => !goodWord w)).all cx_okw = true := by decide +kernel
  intro w hw
  refine ⟨?_, List.all_eq_true.mp f w hw⟩
  rw [e] at hw
  obtain ⟨i, -, hi⟩ := List.mem_filterMap.mp hw
  exact List.mem_of_getElem? hi
theorem r_exc29 {M : MD} {d pc ik : Nat} {Q : Outcome → MH → Prop} {kk : KT} (hM : M.1.cls = "CheekTown") (d0 : decode M.2.1 pc = .ok (.new ik, 3)) (d3 : decode M.2.1 (pc + 3) = .ok (.dup, 1)) (d4 : decode M.2.1 (pc + 4) = .ok (.invokespecial 271, 3)) (hk : Cond.classLink M.1.cls ik "java/lang/UnsupportedOperationException" ∈ lw_all) (hc : ∀ ls st h, kk ls st h → WPb M d (pc + 7) ls st h Q) : ∀ ls st h, i_exc d 29 kk ls st h → WPb M d pc ls st h Q :=
  r_exc (X := "java/lang/UnsupportedOperationException") (names := ["java/lang/RuntimeException", "java/lang/Exception"]) rfl (by decide +kernel) (by decide +kernel) (by decide) rfl (by rw [hM]; exact hg_29) (by rw [hM]; exact hb_29) (by
    rw [hM]
    intro w hw
    rcases List.mem_cons.mp hw with e | hw
    · rw [e]; rfl
    · rcases List.mem_cons.mp hw with e | hw
      · rw [e]; rfl
      · exact List.all_eq_true.mp (by decide +kernel : (vx_at0 "CheekTown" 271 "java/lang/UnsupportedOperationException" ["java/lang/RuntimeException", "java/lang/Exception"]).all vx_ot = true) w hw) hk q147 d0 d3 d4 hc
/-- what is thrown lies on the stack -/
def i_thr (Q : Outcome → MH → Prop) : KT := fun _ st h => match st with
  | .ref a :: _ => (kd h a ≠ 0 ∧ kd h a < 30 ∧ cx_K0 ≤ a) ∧ Q (.threw (kd h a)) h
  | _ => False
theorem r_thr {M : MD} {d pc : Nat} {Q : Outcome → MH → Prop} (hd : decode M.2.1 pc = .ok (.athrow, 1)) (hout : ∀ x ∈ tableOf M.2.2.2.2, covers x pc = false) : ∀ ls st h, i_thr Q ls st h → WPb M d pc ls st h Q := by
  intro ls st h H
  unfold i_thr at H
  split at H
  · rename_i a r
    refine ⟨_, h, ⟨Nat.le_refl _, Nat.le_refl _, ?_⟩, H.2⟩
    intro G p l e R s m args below meth c Q ρ Hp locs cells slots lsA F C S L V hc hs fin
    have f := fin ρ Hp locs lsA pc (fun _ _ => rfl) C S L.2.1
    rw [Nat.sub_self, Nat.sub_self, Nat.add_zero, Nat.add_zero] at f
    have hlen : cx_cl.length = 30 := rfl
    have hcl : cx_cl[kd h a]? = some (cx_cl[kd h a]'(by rw [hlen]; exact H.1.2.1)) := List.getElem?_eq_getElem _
    have hat := (C.1 a H.1.2.2 H.1.1).2
    rw [cnE_o rfl hcl] at hat
    obtain ⟨q, hq, cell, h1, h2, h3, -⟩ := hat
    have eq : cx_cl[kd h a]'(by rw [hlen]; exact H.1.2.1) = q := Option.some.inj (hcl.symm.trans hq)
    have hKn := F.2.2.2.2.2.2.2.2.2.2.1.1.1 (kd h a) q hq
    rw [List.map_cons, er_ (C.2.2.1 a H.1.1).1]
    refine vx_athrow F.1 F.2.1 hd (f hout (ρ a) cell (r.map (reV ρ)) h1 h3 ?_)
    rw [h2, show cx_nm (kd h a) = q.1 by unfold cx_nm; rw [clE hq]]
    exact hKn.2.1
  · exact H.elim
