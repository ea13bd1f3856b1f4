/-! THE TOWN is read: what holds of rows 2 -/
set_option maxRecDepth 100000
section
variable {S : Nat → Int32} {T : Nat → Int32} {e : Nat}
theorem Iv_land (I : Iv S) (hl : nL S < 6) : Iv (upd S 3 (nI (nL S + 1))) := by
  obtain ⟨ic, io, ib, ih, it, iw, im, iz, ig, is, iq⟩ := I
  have hH := hH24 ic
  have hT := hT24 ic
  have hP := hP10 ic
  obtain ⟨⟨c3, hL6⟩, ⟨c4, _⟩, ⟨c5, _⟩, c6, _⟩ := ic
  have ic : Ic S := ⟨⟨c3, hL6⟩, ⟨c4, hH⟩, ⟨c5, hP⟩, c6, hT⟩
  have u : ∀ i, i ≠ 3 → (upd S 3 (nI (nL S + 1))) i = S i := fun i hi => pk_un hi
  have w3 : (upd S 3 (nI (nL S + 1))) 3 = nI (nL S + 1) := by rw [pk_us]
  have eL : nL (upd S 3 (nI (nL S + 1))) = nL S + 1 := nX_eq w3 (by omega)
  have w4 : (upd S 3 (nI (nL S + 1))) 4 = nI (nH S) := by rw [u 4 (by omega)]; exact c4
  have eH : nH (upd S 3 (nI (nL S + 1))) = nH S := by unfold nH; rw [u 4 (by omega)]
  have w5 : (upd S 3 (nI (nL S + 1))) 5 = nI (nP S) := by rw [u 5 (by omega)]; exact c5
  have eP : nP (upd S 3 (nI (nL S + 1))) = nP S := by unfold nP; rw [u 5 (by omega)]
  have w6 : (upd S 3 (nI (nL S + 1))) 6 = nI (nT S) := by rw [u 6 (by omega)]; exact c6
  have eT : nT (upd S 3 (nI (nL S + 1))) = nT S := by unfold nT; rw [u 6 (by omega)]
  refine ⟨?_, ?_, ?_, ?_, ?_, ?_, ?_, ?_, ?_, ?_, ?_⟩
  · unfold Ic; rw [eL, eH, eP, eT]; exact ⟨⟨w3, by omega⟩, ⟨w4, by omega⟩, ⟨w5, by omega⟩, w6, by omega⟩
  · refine Io_of (fun p hp => ?_)
    rw [eP] at hp
    rw [u _ (by omega)]; exact io.cd hp
  · intro p hp; rw [u _ (by omega)]; exact ib p hp
  · intro j hj; rw [eH] at hj; rw [u _ (by omega)]; exact ih j hj
  · intro j hj
    rw [eT] at hj
    unfold ta tb
    rw [eP, u _ (by omega), u _ (by omega)]
    exact it j hj
  · intro p q hp hq; rw [u _ (by omega)]; exact iw p q hp hq
  · intro p hp
    rw [eP] at hp
    rw [u _ (by omega), im p hp]
    exact (gM_c eP (fun q hq => u _ (by omega))).symm
  · intro p q hp hq h1; rw [eP] at h1; rw [u _ (by omega)]; exact iz p q hp hq h1
  · have e12 : nG (upd S 3 (nI (nL S + 1))) = nG S := by unfold nG; rw [u 12 (by omega)]
    unfold Ig
    rw [e12, u 12 (by omega)]
    refine ⟨ig.1, fun j hj => ?_⟩
    have := ig.1.2
    rw [u _ (by omega), u _ (by omega), u _ (by omega), u _ (by omega)]; exact ig.2 j hj
  · intro j h1 h2; rw [u _ (by omega)]; exact is j h1 h2
  · intro j hj; rw [eH] at hj; rw [u _ (by omega)]; exact iq j hj
theorem Iv_cold (I : Iv S) {j : Nat} (hj : j < nP S) : Iv (upd S (92 + 8 * j + 4) (nI 1)) := by
  obtain ⟨ic, io, ib, ih, it, iw, im, iz, ig, is, iq⟩ := I
  have hH := hH24 ic
  have hT := hT24 ic
  have hP := hP10 ic
  obtain ⟨⟨c3, hL6⟩, ⟨c4, _⟩, ⟨c5, _⟩, c6, _⟩ := ic
  have ic : Ic S := ⟨⟨c3, hL6⟩, ⟨c4, hH⟩, ⟨c5, hP⟩, c6, hT⟩
  have u : ∀ i, i ≠ 92 + 8 * j + 4 → (upd S (92 + 8 * j + 4) (nI 1)) i = S i := fun i hi => pk_un hi
  have w3 : (upd S (92 + 8 * j + 4) (nI 1)) 3 = nI (nL S) := by rw [u 3 (by omega)]; exact c3
  have eL : nL (upd S (92 + 8 * j + 4) (nI 1)) = nL S := by unfold nL; rw [u 3 (by omega)]
  have w4 : (upd S (92 + 8 * j + 4) (nI 1)) 4 = nI (nH S) := by rw [u 4 (by omega)]; exact c4
  have eH : nH (upd S (92 + 8 * j + 4) (nI 1)) = nH S := by unfold nH; rw [u 4 (by omega)]
  have w5 : (upd S (92 + 8 * j + 4) (nI 1)) 5 = nI (nP S) := by rw [u 5 (by omega)]; exact c5
  have eP : nP (upd S (92 + 8 * j + 4) (nI 1)) = nP S := by unfold nP; rw [u 5 (by omega)]
  have w6 : (upd S (92 + 8 * j + 4) (nI 1)) 6 = nI (nT S) := by rw [u 6 (by omega)]; exact c6
  have eT : nT (upd S (92 + 8 * j + 4) (nI 1)) = nT S := by unfold nT; rw [u 6 (by omega)]
  refine ⟨?_, ?_, ?_, ?_, ?_, ?_, ?_, ?_, ?_, ?_, ?_⟩
  · unfold Ic; rw [eL, eH, eP, eT]; exact ⟨⟨w3, by omega⟩, ⟨w4, by omega⟩, ⟨w5, by omega⟩, w6, by omega⟩
  · refine Io_of (fun p hp => ?_)
    rw [eP] at hp
    rw [u _ (by omega)]; exact io.cd hp
  · intro p hp
    by_cases z : p = j
    · rw [z, pk_us]; exact Or.inr rfl
    · rw [u _ (by omega)]; exact ib p hp
  · intro j hj; rw [eH] at hj; rw [u _ (by omega)]; exact ih j hj
  · intro j hj
    rw [eT] at hj
    unfold ta tb
    rw [eP, u _ (by omega), u _ (by omega)]
    exact it j hj
  · intro p q hp hq; rw [u _ (by omega)]; exact iw p q hp hq
  · intro p hp
    rw [eP] at hp
    rw [u _ (by omega), im p hp]
    exact (gM_c eP (fun q hq => u _ (by omega))).symm
  · intro p q hp hq h1; rw [eP] at h1; rw [u _ (by omega)]; exact iz p q hp hq h1
  · have e12 : nG (upd S (92 + 8 * j + 4) (nI 1)) = nG S := by unfold nG; rw [u 12 (by omega)]
    unfold Ig
    rw [e12, u 12 (by omega)]
    refine ⟨ig.1, fun j hj => ?_⟩
    have := ig.1.2
    rw [u _ (by omega), u _ (by omega), u _ (by omega), u _ (by omega)]; exact ig.2 j hj
  · intro j h1 h2; rw [u _ (by omega)]; exact is j h1 h2
  · intro j hj; rw [eH] at hj; rw [u _ (by omega)]; exact iq j hj
theorem Iv_tell (I : Iv S) {k x : Nat} (hk : 13 ≤ k ∧ k ≤ 15) (hx : x ≤ 99) : Iv (upd S k (nI x)) := by
  obtain ⟨ic, io, ib, ih, it, iw, im, iz, ig, is, iq⟩ := I
  have hH := hH24 ic
  have hT := hT24 ic
  have hP := hP10 ic
  obtain ⟨⟨c3, hL6⟩, ⟨c4, _⟩, ⟨c5, _⟩, c6, _⟩ := ic
  have ic : Ic S := ⟨⟨c3, hL6⟩, ⟨c4, hH⟩, ⟨c5, hP⟩, c6, hT⟩
  have u : ∀ i, i ≠ k → (upd S k (nI x)) i = S i := fun i hi => pk_un hi
  have w3 : (upd S k (nI x)) 3 = nI (nL S) := by rw [u 3 (by omega)]; exact c3
  have eL : nL (upd S k (nI x)) = nL S := by unfold nL; rw [u 3 (by omega)]
  have w4 : (upd S k (nI x)) 4 = nI (nH S) := by rw [u 4 (by omega)]; exact c4
  have eH : nH (upd S k (nI x)) = nH S := by unfold nH; rw [u 4 (by omega)]
  have w5 : (upd S k (nI x)) 5 = nI (nP S) := by rw [u 5 (by omega)]; exact c5
  have eP : nP (upd S k (nI x)) = nP S := by unfold nP; rw [u 5 (by omega)]
  have w6 : (upd S k (nI x)) 6 = nI (nT S) := by rw [u 6 (by omega)]; exact c6
  have eT : nT (upd S k (nI x)) = nT S := by unfold nT; rw [u 6 (by omega)]
  refine ⟨?_, ?_, ?_, ?_, ?_, ?_, ?_, ?_, ?_, ?_, ?_⟩
  · unfold Ic; rw [eL, eH, eP, eT]; exact ⟨⟨w3, by omega⟩, ⟨w4, by omega⟩, ⟨w5, by omega⟩, w6, by omega⟩
  · refine Io_of (fun p hp => ?_)
    rw [eP] at hp
    rw [u _ (by omega)]; exact io.cd hp
  · intro p hp; rw [u _ (by omega)]; exact ib p hp
  · intro j hj; rw [eH] at hj; rw [u _ (by omega)]; exact ih j hj
  · intro j hj
    rw [eT] at hj
    unfold ta tb
    rw [eP, u _ (by omega), u _ (by omega)]
    exact it j hj
  · intro p q hp hq; rw [u _ (by omega)]; exact iw p q hp hq
  · intro p hp
    rw [eP] at hp
    rw [u _ (by omega), im p hp]
    exact (gM_c eP (fun q hq => u _ (by omega))).symm
  · intro p q hp hq h1; rw [eP] at h1; rw [u _ (by omega)]; exact iz p q hp hq h1
  · have e12 : nG (upd S k (nI x)) = nG S := by unfold nG; rw [u 12 (by omega)]
    unfold Ig
    rw [e12, u 12 (by omega)]
    refine ⟨ig.1, fun j hj => ?_⟩
    have := ig.1.2
    rw [u _ (by omega), u _ (by omega), u _ (by omega), u _ (by omega)]; exact ig.2 j hj
  · intro j h1 h2
    by_cases z : j = k
    · rw [z, pk_us]; exact ⟨x, hx, rfl⟩
    · rw [u _ z]; exact is j h1 h2
  · intro j hj; rw [eH] at hj; rw [u _ (by omega)]; exact iq j hj
theorem Iv_hab (I : Iv S) {n : Nat} {l g : Int32} (hl : nH S < 24) (hg : cd g) (hn1 : 1 ≤ n) (hn9 : n ≤ 9) : Iv (habS S l g (nI n)) := by
  obtain ⟨ic, io, ib, ih, it, iw, im, iz, ig, is, iq⟩ := I
  have hH := hH24 ic
  have hT := hT24 ic
  have hP := hP10 ic
  obtain ⟨⟨c3, hL6⟩, ⟨c4, _⟩, ⟨c5, _⟩, c6, _⟩ := ic
  have ic : Ic S := ⟨⟨c3, hL6⟩, ⟨c4, hH⟩, ⟨c5, hP⟩, c6, hT⟩
  have u : ∀ i, i ≠ 20 + 3 * nH S → i ≠ 20 + 3 * nH S + 1 → i ≠ 20 + 3 * nH S + 2 → i ≠ 4 → (habS S l g (nI n)) i = S i := fun i h1 h2 h3 h4 => by unfold habS; rw [pk_un h4, pk_un h3, pk_un h2, pk_un h1]
  have w3 : (habS S l g (nI n)) 3 = nI (nL S) := by rw [u 3 (by omega) (by omega) (by omega) (by omega)]; exact c3
  have eL : nL (habS S l g (nI n)) = nL S := by unfold nL; rw [u 3 (by omega) (by omega) (by omega) (by omega)]
  have w4 : (habS S l g (nI n)) 4 = nI (nH S + 1) := by unfold habS; rw [pk_us]
  have eH : nH (habS S l g (nI n)) = nH S + 1 := nX_eq w4 (by omega)
  have w5 : (habS S l g (nI n)) 5 = nI (nP S) := by rw [u 5 (by omega) (by omega) (by omega) (by omega)]; exact c5
  have eP : nP (habS S l g (nI n)) = nP S := by unfold nP; rw [u 5 (by omega) (by omega) (by omega) (by omega)]
  have w6 : (habS S l g (nI n)) 6 = nI (nT S) := by rw [u 6 (by omega) (by omega) (by omega) (by omega)]; exact c6
  have eT : nT (habS S l g (nI n)) = nT S := by unfold nT; rw [u 6 (by omega) (by omega) (by omega) (by omega)]
  refine ⟨?_, ?_, ?_, ?_, ?_, ?_, ?_, ?_, ?_, ?_, ?_⟩
  · unfold Ic; rw [eL, eH, eP, eT]; exact ⟨⟨w3, by omega⟩, ⟨w4, by omega⟩, ⟨w5, by omega⟩, w6, by omega⟩
  · refine Io_of (fun p hp => ?_)
    rw [eP] at hp
    rw [u _ (by omega) (by omega) (by omega) (by omega)]; exact io.cd hp
  · intro p hp; rw [u _ (by omega) (by omega) (by omega) (by omega)]; exact ib p hp
  · intro j hj
    rw [eH] at hj
    by_cases z : j = nH S
    · rw [z]; unfold habS; rw [pk_un (by omega), pk_un (by omega), pk_us]; exact hg
    · rw [u _ (by omega) (by omega) (by omega) (by omega)]; exact ih j (by omega)
  · intro j hj
    rw [eT] at hj
    unfold ta tb
    rw [eP, u _ (by omega) (by omega) (by omega) (by omega), u _ (by omega) (by omega) (by omega) (by omega)]
    exact it j hj
  · intro p q hp hq; rw [u _ (by omega) (by omega) (by omega) (by omega)]; exact iw p q hp hq
  · intro p hp
    rw [eP] at hp
    rw [u _ (by omega) (by omega) (by omega) (by omega), im p hp]
    exact (gM_c eP (fun q hq => u _ (by omega) (by omega) (by omega) (by omega))).symm
  · intro p q hp hq h1; rw [eP] at h1; rw [u _ (by omega) (by omega) (by omega) (by omega)]; exact iz p q hp hq h1
  · have e12 : nG (habS S l g (nI n)) = nG S := by unfold nG; rw [u 12 (by omega) (by omega) (by omega) (by omega)]
    unfold Ig
    rw [e12, u 12 (by omega) (by omega) (by omega) (by omega)]
    refine ⟨ig.1, fun j hj => ?_⟩
    have := ig.1.2
    rw [u _ (by omega) (by omega) (by omega) (by omega), u _ (by omega) (by omega) (by omega) (by omega), u _ (by omega) (by omega) (by omega) (by omega), u _ (by omega) (by omega) (by omega) (by omega)]; exact ig.2 j hj
  · intro j h1 h2; rw [u _ (by omega) (by omega) (by omega) (by omega)]; exact is j h1 h2
  · intro j hj
    rw [eH] at hj
    by_cases z : j = nH S
    · rw [z]; unfold habS; rw [pk_un (by omega), pk_us]; exact ⟨n, hn1, hn9, rfl⟩
    · rw [u _ (by omega) (by omega) (by omega) (by omega)]; exact iq j (by omega)
theorem Iv_tie (I : Iv S) {x y : Nat} (hl : nT S < 24) (hx : x < nP S) (hy : y < nP S) (hxy : x ≠ y) : Iv (tieS S (nI x) (nI y)) := by
  obtain ⟨ic, io, ib, ih, it, iw, im, iz, ig, is, iq⟩ := I
  have hH := hH24 ic
  have hT := hT24 ic
  have hP := hP10 ic
  obtain ⟨⟨c3, hL6⟩, ⟨c4, _⟩, ⟨c5, _⟩, c6, _⟩ := ic
  have ic : Ic S := ⟨⟨c3, hL6⟩, ⟨c4, hH⟩, ⟨c5, hP⟩, c6, hT⟩
  have u : ∀ i, i ≠ 372 + 2 * nT S → i ≠ 372 + 2 * nT S + 1 → i ≠ 6 → (tieS S (nI x) (nI y)) i = S i := fun i h1 h2 h4 => by unfold tieS; rw [pk_un h4, pk_un h2, pk_un h1]
  have w3 : (tieS S (nI x) (nI y)) 3 = nI (nL S) := by rw [u 3 (by omega) (by omega) (by omega)]; exact c3
  have eL : nL (tieS S (nI x) (nI y)) = nL S := by unfold nL; rw [u 3 (by omega) (by omega) (by omega)]
  have w4 : (tieS S (nI x) (nI y)) 4 = nI (nH S) := by rw [u 4 (by omega) (by omega) (by omega)]; exact c4
  have eH : nH (tieS S (nI x) (nI y)) = nH S := by unfold nH; rw [u 4 (by omega) (by omega) (by omega)]
  have w5 : (tieS S (nI x) (nI y)) 5 = nI (nP S) := by rw [u 5 (by omega) (by omega) (by omega)]; exact c5
  have eP : nP (tieS S (nI x) (nI y)) = nP S := by unfold nP; rw [u 5 (by omega) (by omega) (by omega)]
  have w6 : (tieS S (nI x) (nI y)) 6 = nI (nT S + 1) := by unfold tieS; rw [pk_us]
  have eT : nT (tieS S (nI x) (nI y)) = nT S + 1 := nX_eq w6 (by omega)
  refine ⟨?_, ?_, ?_, ?_, ?_, ?_, ?_, ?_, ?_, ?_, ?_⟩
  · unfold Ic; rw [eL, eH, eP, eT]; exact ⟨⟨w3, by omega⟩, ⟨w4, by omega⟩, ⟨w5, by omega⟩, w6, by omega⟩
  · refine Io_of (fun p hp => ?_)
    rw [eP] at hp
    rw [u _ (by omega) (by omega) (by omega)]; exact io.cd hp
  · intro p hp; rw [u _ (by omega) (by omega) (by omega)]; exact ib p hp
  · intro j hj; rw [eH] at hj; rw [u _ (by omega) (by omega) (by omega)]; exact ih j hj
  · intro j hj
    rw [eT] at hj
    unfold ta tb
    by_cases z : j = nT S
    · have q1 : tieS S (nI x) (nI y) (372 + 2 * nT S) = nI x := by unfold tieS; rw [pk_un (by omega), pk_un (by omega), pk_us]
      have q2 : tieS S (nI x) (nI y) (372 + 2 * nT S + 1) = nI y := by unfold tieS; rw [pk_un (by omega), pk_us]
      rw [z, q1, q2, nI_clamp (by omega), nI_clamp (by omega), eP]
      exact ⟨⟨rfl, rfl⟩, hx, hy, hxy⟩
    · rw [eP, u _ (by omega) (by omega) (by omega), u _ (by omega) (by omega) (by omega)]
      exact it j (by omega)
  · intro p q hp hq; rw [u _ (by omega) (by omega) (by omega)]; exact iw p q hp hq
  · intro p hp
    rw [eP] at hp
    rw [u _ (by omega) (by omega) (by omega), im p hp]
    exact (gM_c eP (fun q hq => u _ (by omega) (by omega) (by omega))).symm
  · intro p q hp hq h1; rw [eP] at h1; rw [u _ (by omega) (by omega) (by omega)]; exact iz p q hp hq h1
  · have e12 : nG (tieS S (nI x) (nI y)) = nG S := by unfold nG; rw [u 12 (by omega) (by omega) (by omega)]
    unfold Ig
    rw [e12, u 12 (by omega) (by omega) (by omega)]
    refine ⟨ig.1, fun j hj => ?_⟩
    have := ig.1.2
    rw [u _ (by omega) (by omega) (by omega), u _ (by omega) (by omega) (by omega), u _ (by omega) (by omega) (by omega), u _ (by omega) (by omega) (by omega)]; exact ig.2 j hj
  · intro j h1 h2; rw [u _ (by omega) (by omega) (by omega)]; exact is j h1 h2
  · intro j hj; rw [eH] at hj; rw [u _ (by omega) (by omega) (by omega)]; exact iq j hj
end
