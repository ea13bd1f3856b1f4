/-! THE TOWN is read: what holds of rows -/
set_option maxRecDepth 100000
section
variable {S : Nat → Int32} {T : Nat → Int32} {e : Nat}
theorem nX_eq {x : Int32} {n : Nat} (h : x = nI n) (hn : n ≤ 1000) : x.toNatClampNeg = n := by rw [h]; exact nI_clamp (by omega)
theorem gM_c {S S' : Nat → Int32} {p : Nat} (hP : nP S' = nP S) (h : ∀ q, q < nP S → S' (172 + 10 * p + q) = S (172 + 10 * p + q)) : gMo S' p = gMo S p := by
  unfold gMo
  rw [hP]
  exact sm_c h
/-- a number of the head is written -/
theorem Iv_hd (I : Iv S) {k : Nat} {x : Int32} (hk : k = 0 ∨ (7 ≤ k ∧ k ≤ 11) ∨ k = 16 ∨ k = 1 ∨ k = 2) : Iv (upd S k x) := by
  obtain ⟨ic, io, ib, ih, it, iw, im, iz, ig, is, iq⟩ := I
  have u : ∀ i, i ≠ k → upd S k x i = S i := fun i hi => pk_un hi
  obtain ⟨eL, eH, eP, eT⟩ := cnt_e (S := S) (S' := upd S k x) (u 3 (by omega)) (u 4 (by omega)) (u 5 (by omega)) (u 6 (by omega))
  have hH := hH24 ic
  have hT := hT24 ic
  have hP := hP10 ic
  refine ⟨?_, ?_, ?_, ?_, ?_, ?_, ?_, ?_, ?_, ?_, ?_⟩
  · unfold Ic; rw [eL, eH, eP, eT, u 3 (by omega), u 4 (by omega), u 5 (by omega), u 6 (by omega)]; exact ic
  · refine Io_of (fun p hp => ?_)
    rw [eP] at hp
    rw [u _ (by omega)]; exact io.cd hp
  · intro p hp; rw [u _ (by omega)]; exact ib p hp
  · intro j hj; rw [eH] at hj; rw [u _ (by omega)]; exact ih j hj
  · intro j hj
    rw [eT] at hj
    unfold ta tb
    rw [eP, u _ (by omega), u _ (by omega)]
    exact it j hj
  · intro p q hp hq; rw [u _ (by omega)]; exact iw p q hp hq
  · intro p hp
    rw [eP] at hp
    rw [u _ (by omega), im p hp]
    exact (gM_c eP (fun q hq => u _ (by omega))).symm
  · intro p q hp hq h1; rw [eP] at h1; rw [u _ (by omega)]; exact iz p q hp hq h1
  · have e12 : nG (upd S k x) = nG S := by unfold nG; rw [u 12 (by omega)]
    unfold Ig
    rw [e12, u 12 (by omega)]
    refine ⟨ig.1, fun j hj => ?_⟩
    have := ig.1.2
    rw [u _ (by omega), u _ (by omega), u _ (by omega), u _ (by omega)]; exact ig.2 j hj
  · intro j h1 h2; rw [u _ (by omega)]; exact is j h1 h2
  · intro j hj; rw [eH] at hj; rw [u _ (by omega)]; exact iq j hj
end
