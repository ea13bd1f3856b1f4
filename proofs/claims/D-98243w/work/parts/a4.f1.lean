/-! THE COMPONENT WHOLE: its shape, its kept worlds, its law -/
set_option maxRecDepth 100000
def SHa (h : MH) : Prop := kd h 300 = 1 ∧ iR h 300 0 = 301 ∧ iR h 300 1 = 317 ∧ iR h 300 2 = 333 ∧ iR h 300 4 = 349 ∧ iR h 300 5 = 351 ∧ iR h 300 6 = 352 ∧ iR h 300 7 = 353 ∧ iR h 300 8 = 354 ∧ iR h 300 9 = 355 ∧ iR h 300 10 = 358 ∧ iR h 300 11 = 360 ∧ iR h 300 12 = 364
def SHb (h : MH) : Prop := WS h 301 ∧ WS h 317 ∧ WS h 333 ∧ WS h 364
def SHc (h : MH) : Prop := kd h 349 = 3 ∧ iR h 349 0 = 350 ∧ kd h 350 = 51 ∧ ln h 350 = 400 ∧ kd h 351 = 4 ∧ kd h 353 = 50 ∧ ln h 353 = 2 ∧ kd h 354 = 50 ∧ ln h 354 = 2
def SHd (h : MH) : Prop := kd h 355 = 5 ∧ iR h 355 0 = 356 ∧ iR h 355 2 = 357 ∧ iR h 355 3 = 300 ∧ kd h 356 = 50 ∧ ln h 356 = 8 ∧ kd h 357 = 50 ∧ ln h 357 = 2048 ∧ kd h 358 = 6 ∧ iR h 358 0 = 359 ∧ iR h 358 1 = 300 ∧ kd h 359 = 51 ∧ ln h 359 = 25600
/-- the constants -/
def SHk (h : MH) : Prop := CK h (iI h) ∧ CE h ∧ (kd h 18 = 54 ∧ ln h 18 = 0) ∧ (∀ t, 5 ≤ t → t ≤ 7 → kd h (10 + t) = 50 + t ∧ ln h (10 + t) = (if t = 5 then 4 else if t = 6 then 6 else 3) ∧ (∀ i, iR h (10 + t) i < 300) ∧ ∀ i, i < (if t = 5 then 4 else if t = 6 then 6 else 3) → iR h (10 + t) i = (if t = 5 then 2 else if t = 6 then 6 else 12) + i) ∧ ∀ j, j < 3 → iR h 0 j < 300
def SH (h : MH) : Prop := 396 ≤ nn h ∧ SHa h ∧ SHb h ∧ SHc h ∧ SHd h ∧ YS h ∧ SM h ∧ SHk h ∧ (kd h 352 = 22) ∧ kd h 395 = 53 ∧ ln h 395 = 1
def wB (a : Nat) : Prop := a = 301 ∨ a = 317 ∨ a = 333 ∨ a = 364
/-- the shape is as it was -/
def SF (h h1 : MH) : Prop := nn h ≤ nn h1 ∧ (∀ a, a < 396 → kd h1 a = kd h a ∧ ln h1 a = ln h a) ∧ (∀ a k, a < 396 → ¬ (k = 30 ∧ wB a) → a ≠ 352 → iR h1 a k = iR h a k) ∧ ∀ a, a < 300 → iI h1 a = iI h a
theorem SF.refl (h : MH) : SF h h := ⟨Nat.le_refl _, fun _ _ => ⟨rfl, rfl⟩, fun _ _ _ _ _ => rfl, fun _ _ => rfl⟩
theorem SF.trans {h h1 h2 : MH} (a : SF h h1) (b : SF h1 h2) : SF h h2 := ⟨Nat.le_trans a.1 b.1, fun x hx => ⟨(b.2.1 x hx).1.trans (a.2.1 x hx).1, (b.2.1 x hx).2.trans (a.2.1 x hx).2⟩, fun x k hx n1 n2 => (b.2.2.1 x k hx n1 n2).trans (a.2.2.1 x k hx n1 n2), fun x hx => (b.2.2.2 x hx).trans (a.2.2.2 x hx)⟩
theorem WS.sf {h h1 : MH} {w : Nat} (s : WS h w) (hw : w + 15 < 396) (k : ∀ a, a < 396 → kd h1 a = kd h a ∧ ln h1 a = ln h a) (r : ∀ k, k ≠ 30 → iR h1 w k = iR h w k) : WS h1 w := by
  obtain ⟨s1, s2, s3⟩ := s
  refine ⟨s1, by rw [(k w (by omega)).1]; exact s2, fun j h1 h2 => ?_⟩
  rw [r _ (by omega), (k (w + j) (by omega)).1, (k (w + j) (by omega)).2]
  exact s3 j h1 h2
theorem SH.sf {h h1 : MH} (s : SH h) (f : SF h h1) : SH h1 := by
  obtain ⟨s1, sa, ⟨w1, w2, w3, w4⟩, sc, sd, sy, sm, ⟨c1, c2, c3, c4, c5⟩, s352, so1, so2⟩ := s
  obtain ⟨f1, f2, f3, f4⟩ := f
  have r2 : ∀ a k, a < 396 → ¬ wB a → a ≠ 352 → iR h1 a k = iR h a k := fun a k ha n1 n2 => f3 a k ha (fun z => n1 z.2) n2
  have nw : ∀ {a}, (a = 300 ∨ a = 349 ∨ a = 355 ∨ a = 358 ∨ a = 360 ∨ a = 380 ∨ a < 300) → ¬ wB a := fun ha z => by unfold wB at z; omega
  refine ⟨by omega, ?_, ⟨w1.sf (by omega) f2 (fun k hk => f3 _ _ (by omega) (fun z => hk z.1) (by omega)), w2.sf (by omega) f2 (fun k hk => f3 _ _ (by omega) (fun z => hk z.1) (by omega)), w3.sf (by omega) f2 (fun k hk => f3 _ _ (by omega) (fun z => hk z.1) (by omega)), w4.sf (by omega) f2 (fun k hk => f3 _ _ (by omega) (fun z => hk z.1) (by omega))⟩, ?_, ?_, ?_, ?_, ⟨?_, ?_, ?_, ?_, ?_⟩, ?_, ?_, ?_⟩
  · unfold SHa
    rw [(f2 300 (by omega)).1]
    simp only [r2 300 _ (by omega) (nw (by omega)) (by omega)]
    exact sa
  · unfold SHc
    simp only [(f2 349 (by omega)).1, (f2 350 (by omega)).1, (f2 350 (by omega)).2, (f2 351 (by omega)).1, (f2 353 (by omega)).1, (f2 353 (by omega)).2, (f2 354 (by omega)).1, (f2 354 (by omega)).2, r2 349 _ (by omega) (nw (by omega)) (by omega)]
    exact sc
  · unfold SHd
    simp only [(f2 355 (by omega)).1, (f2 356 (by omega)).1, (f2 356 (by omega)).2, (f2 357 (by omega)).1, (f2 357 (by omega)).2, (f2 358 (by omega)).1, (f2 359 (by omega)).1, (f2 359 (by omega)).2, r2 355 _ (by omega) (nw (by omega)) (by omega), r2 358 _ (by omega) (nw (by omega)) (by omega)]
    exact sd
  · unfold YS
    simp only [(f2 360 (by omega)).1, (f2 361 (by omega)).1, (f2 361 (by omega)).2, (f2 362 (by omega)).1, (f2 362 (by omega)).2, (f2 363 (by omega)).1, (f2 363 (by omega)).2, r2 360 _ (by omega) (nw (by omega)) (by omega)]
    exact sy
  · unfold SM
    obtain ⟨m1, m2, m3⟩ := sm
    refine ⟨by rw [(f2 380 (by omega)).1]; exact m1, fun a h1 h2 => by rw [(f2 a (by omega)).1, (f2 a (by omega)).2]; exact m2 a h1 h2, ?_⟩
    simp only [r2 380 _ (by omega) (nw (by omega)) (by omega)]
    exact m3
  · intro i hi
    have st := c1 i hi
    have hl := st.2.1 (by omega)
    obtain ⟨t1, t2, t3, t4, t5, t6, t7, t8⟩ := st
    have er : iR h1 (30 + 2 * i) 0 = iR h (30 + 2 * i) 0 := r2 _ _ (by omega) (nw (by omega)) (by omega)
    unfold Str
    rw [er, (f2 _ (by omega)).1, (f2 _ (by omega)).1, (f2 (iR h (30 + 2 * i) 0) (by omega)).2, f4 _ (by omega), f4 _ hl, r2 0 2 (by omega) (nw (by omega)) (by omega)]
    exact ⟨t1, t2, t3, t4, t5, t6, t7, t8⟩
  · intro a h1 h2
    obtain ⟨d1, d2, d3, d4⟩ := c2 a h1 h2
    rw [(f2 a (by omega)).1, f4 a (by omega), r2 a _ (by omega) (nw (by omega)) (by omega), r2 a _ (by omega) (nw (by omega)) (by omega)]
    exact ⟨d1, d2, d3, d4⟩
  · rw [(f2 18 (by omega)).1, (f2 18 (by omega)).2]; exact c3
  · intro t h5 h7
    rw [(f2 (10 + t) (by omega)).1, (f2 (10 + t) (by omega)).2]
    simp only [r2 (10 + t) _ (by omega) (nw (by omega)) (by omega)]
    exact c4 t h5 h7
  · intro j hj
    rw [r2 0 j (by omega) (nw (by omega)) (by omega)]; exact c5 j hj
  · rw [(f2 352 (by omega)).1]; exact s352
  · rw [(f2 395 (by omega)).1]; exact so1
  · rw [(f2 395 (by omega)).2]; exact so2
