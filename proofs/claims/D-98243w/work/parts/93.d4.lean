/-! WORLDS: what is written in one is written in the row -/
set_option maxRecDepth 100000
section
variable {σ : Nat → Nat → Int32} {w : Nat} {S : Nat → Int32}
theorem WR.f0 (r : WR σ w S) (x : Int32) : WR (va_up σ w (upd (σ w) 0 x)) w (upd S 0 x) := by
  refine ⟨⟨?_, ?_, ?_, ?_, ?_, ?_, ?_, ?_, ?_, ?_, ?_, ?_, ?_, ?_, ?_⟩, ?_, ?_, ?_, ?_, ?_, ?_, ?_, ?_, ?_, ?_, ?_, ?_, ?_, ?_, ?_⟩
  · rw [vus, pk_us, pk_us]
  · rw [vus, pk_un (by omega), pk_un (by omega)]; exact wf1 r
  · rw [vus, pk_un (by omega), pk_un (by omega)]; exact wf2 r
  · rw [vus, pk_un (by omega), pk_un (by omega)]; exact wf3 r
  · rw [vus, pk_un (by omega), pk_un (by omega)]; exact wf4 r
  · rw [vus, pk_un (by omega), pk_un (by omega)]; exact wf5 r
  · rw [vus, pk_un (by omega), pk_un (by omega)]; exact wf6 r
  · rw [vus, pk_un (by omega), pk_un (by omega)]; exact wf7 r
  · rw [vus, pk_un (by omega), pk_un (by omega)]; exact wf8 r
  · rw [vus, pk_un (by omega), pk_un (by omega)]; exact wf9 r
  · rw [vus, pk_un (by omega), pk_un (by omega)]; exact wf10 r
  · rw [vus, pk_un (by omega), pk_un (by omega)]; exact wf11 r
  · rw [vus, pk_un (by omega), pk_un (by omega)]; exact wf12 r
  · rw [vus, pk_un (by omega), pk_un (by omega)]; exact wf13 r
  · rw [vus, pk_un (by omega), pk_un (by omega)]; exact wf14 r
  · intro k hk; rw [vun _ _ (by omega), pk_un (by omega)]; exact wv1 r hk
  · intro k hk; rw [vun _ _ (by omega), pk_un (by omega)]; exact wv2 r hk
  · intro k hk; rw [vun _ _ (by omega), pk_un (by omega)]; exact wv3 r hk
  · intro k hk; rw [vun _ _ (by omega), pk_un (by omega)]; exact wv4 r hk
  · intro k hk; rw [vun _ _ (by omega), pk_un (by omega)]; exact wv5 r hk
  · intro k hk; rw [vun _ _ (by omega), pk_un (by omega)]; exact wv6 r hk
  · intro k hk; rw [vun _ _ (by omega), pk_un (by omega)]; exact wv7 r hk
  · intro k hk; rw [vun _ _ (by omega), pk_un (by omega)]; exact wv8 r hk
  · intro k hk; rw [vun _ _ (by omega), pk_un (by omega)]; exact wv11 r hk
  · intro k hk; rw [vun _ _ (by omega), pk_un (by omega)]; exact wv12 r hk
  · intro p q hp hq; rw [vun _ _ (by omega), pk_un (by omega)]; exact wv9 r hp hq
  · intro p q hp hq; rw [vun _ _ (by omega), pk_un (by omega)]; exact wv10 r hp hq
  · intro k hk; rw [vun _ _ (by omega), pk_un (by omega)]; exact wv13 r hk
  · intro k hk; rw [vun _ _ (by omega), pk_un (by omega)]; exact wv14 r hk
  · intro k z hk hz; rw [vun _ _ (by omega), pk_un (by omega)]; exact wv15 r hk hz
theorem WR.f1 (r : WR σ w S) (x : Int32) : WR (va_up σ w (upd (σ w) 1 x)) w (upd S 3 x) := by
  refine ⟨⟨?_, ?_, ?_, ?_, ?_, ?_, ?_, ?_, ?_, ?_, ?_, ?_, ?_, ?_, ?_⟩, ?_, ?_, ?_, ?_, ?_, ?_, ?_, ?_, ?_, ?_, ?_, ?_, ?_, ?_, ?_⟩
  · rw [vus, pk_un (by omega), pk_un (by omega)]; exact wf0 r
  · rw [vus, pk_us, pk_us]
  · rw [vus, pk_un (by omega), pk_un (by omega)]; exact wf2 r
  · rw [vus, pk_un (by omega), pk_un (by omega)]; exact wf3 r
  · rw [vus, pk_un (by omega), pk_un (by omega)]; exact wf4 r
  · rw [vus, pk_un (by omega), pk_un (by omega)]; exact wf5 r
  · rw [vus, pk_un (by omega), pk_un (by omega)]; exact wf6 r
  · rw [vus, pk_un (by omega), pk_un (by omega)]; exact wf7 r
  · rw [vus, pk_un (by omega), pk_un (by omega)]; exact wf8 r
  · rw [vus, pk_un (by omega), pk_un (by omega)]; exact wf9 r
  · rw [vus, pk_un (by omega), pk_un (by omega)]; exact wf10 r
  · rw [vus, pk_un (by omega), pk_un (by omega)]; exact wf11 r
  · rw [vus, pk_un (by omega), pk_un (by omega)]; exact wf12 r
  · rw [vus, pk_un (by omega), pk_un (by omega)]; exact wf13 r
  · rw [vus, pk_un (by omega), pk_un (by omega)]; exact wf14 r
  · intro k hk; rw [vun _ _ (by omega), pk_un (by omega)]; exact wv1 r hk
  · intro k hk; rw [vun _ _ (by omega), pk_un (by omega)]; exact wv2 r hk
  · intro k hk; rw [vun _ _ (by omega), pk_un (by omega)]; exact wv3 r hk
  · intro k hk; rw [vun _ _ (by omega), pk_un (by omega)]; exact wv4 r hk
  · intro k hk; rw [vun _ _ (by omega), pk_un (by omega)]; exact wv5 r hk
  · intro k hk; rw [vun _ _ (by omega), pk_un (by omega)]; exact wv6 r hk
  · intro k hk; rw [vun _ _ (by omega), pk_un (by omega)]; exact wv7 r hk
  · intro k hk; rw [vun _ _ (by omega), pk_un (by omega)]; exact wv8 r hk
  · intro k hk; rw [vun _ _ (by omega), pk_un (by omega)]; exact wv11 r hk
  · intro k hk; rw [vun _ _ (by omega), pk_un (by omega)]; exact wv12 r hk
  · intro p q hp hq; rw [vun _ _ (by omega), pk_un (by omega)]; exact wv9 r hp hq
  · intro p q hp hq; rw [vun _ _ (by omega), pk_un (by omega)]; exact wv10 r hp hq
  · intro k hk; rw [vun _ _ (by omega), pk_un (by omega)]; exact wv13 r hk
  · intro k hk; rw [vun _ _ (by omega), pk_un (by omega)]; exact wv14 r hk
  · intro k z hk hz; rw [vun _ _ (by omega), pk_un (by omega)]; exact wv15 r hk hz
theorem WR.f2 (r : WR σ w S) (x : Int32) : WR (va_up σ w (upd (σ w) 2 x)) w (upd S 4 x) := by
  refine ⟨⟨?_, ?_, ?_, ?_, ?_, ?_, ?_, ?_, ?_, ?_, ?_, ?_, ?_, ?_, ?_⟩, ?_, ?_, ?_, ?_, ?_, ?_, ?_, ?_, ?_, ?_, ?_, ?_, ?_, ?_, ?_⟩
  · rw [vus, pk_un (by omega), pk_un (by omega)]; exact wf0 r
  · rw [vus, pk_un (by omega), pk_un (by omega)]; exact wf1 r
  · rw [vus, pk_us, pk_us]
  · rw [vus, pk_un (by omega), pk_un (by omega)]; exact wf3 r
  · rw [vus, pk_un (by omega), pk_un (by omega)]; exact wf4 r
  · rw [vus, pk_un (by omega), pk_un (by omega)]; exact wf5 r
  · rw [vus, pk_un (by omega), pk_un (by omega)]; exact wf6 r
  · rw [vus, pk_un (by omega), pk_un (by omega)]; exact wf7 r
  · rw [vus, pk_un (by omega), pk_un (by omega)]; exact wf8 r
  · rw [vus, pk_un (by omega), pk_un (by omega)]; exact wf9 r
  · rw [vus, pk_un (by omega), pk_un (by omega)]; exact wf10 r
  · rw [vus, pk_un (by omega), pk_un (by omega)]; exact wf11 r
  · rw [vus, pk_un (by omega), pk_un (by omega)]; exact wf12 r
  · rw [vus, pk_un (by omega), pk_un (by omega)]; exact wf13 r
  · rw [vus, pk_un (by omega), pk_un (by omega)]; exact wf14 r
  · intro k hk; rw [vun _ _ (by omega), pk_un (by omega)]; exact wv1 r hk
  · intro k hk; rw [vun _ _ (by omega), pk_un (by omega)]; exact wv2 r hk
  · intro k hk; rw [vun _ _ (by omega), pk_un (by omega)]; exact wv3 r hk
  · intro k hk; rw [vun _ _ (by omega), pk_un (by omega)]; exact wv4 r hk
  · intro k hk; rw [vun _ _ (by omega), pk_un (by omega)]; exact wv5 r hk
  · intro k hk; rw [vun _ _ (by omega), pk_un (by omega)]; exact wv6 r hk
  · intro k hk; rw [vun _ _ (by omega), pk_un (by omega)]; exact wv7 r hk
  · intro k hk; rw [vun _ _ (by omega), pk_un (by omega)]; exact wv8 r hk
  · intro k hk; rw [vun _ _ (by omega), pk_un (by omega)]; exact wv11 r hk
  · intro k hk; rw [vun _ _ (by omega), pk_un (by omega)]; exact wv12 r hk
  · intro p q hp hq; rw [vun _ _ (by omega), pk_un (by omega)]; exact wv9 r hp hq
  · intro p q hp hq; rw [vun _ _ (by omega), pk_un (by omega)]; exact wv10 r hp hq
  · intro k hk; rw [vun _ _ (by omega), pk_un (by omega)]; exact wv13 r hk
  · intro k hk; rw [vun _ _ (by omega), pk_un (by omega)]; exact wv14 r hk
  · intro k z hk hz; rw [vun _ _ (by omega), pk_un (by omega)]; exact wv15 r hk hz
theorem WR.f3 (r : WR σ w S) (x : Int32) : WR (va_up σ w (upd (σ w) 3 x)) w (upd S 5 x) := by
  refine ⟨⟨?_, ?_, ?_, ?_, ?_, ?_, ?_, ?_, ?_, ?_, ?_, ?_, ?_, ?_, ?_⟩, ?_, ?_, ?_, ?_, ?_, ?_, ?_, ?_, ?_, ?_, ?_, ?_, ?_, ?_, ?_⟩
  · rw [vus, pk_un (by omega), pk_un (by omega)]; exact wf0 r
  · rw [vus, pk_un (by omega), pk_un (by omega)]; exact wf1 r
  · rw [vus, pk_un (by omega), pk_un (by omega)]; exact wf2 r
  · rw [vus, pk_us, pk_us]
  · rw [vus, pk_un (by omega), pk_un (by omega)]; exact wf4 r
  · rw [vus, pk_un (by omega), pk_un (by omega)]; exact wf5 r
  · rw [vus, pk_un (by omega), pk_un (by omega)]; exact wf6 r
  · rw [vus, pk_un (by omega), pk_un (by omega)]; exact wf7 r
  · rw [vus, pk_un (by omega), pk_un (by omega)]; exact wf8 r
  · rw [vus, pk_un (by omega), pk_un (by omega)]; exact wf9 r
  · rw [vus, pk_un (by omega), pk_un (by omega)]; exact wf10 r
  · rw [vus, pk_un (by omega), pk_un (by omega)]; exact wf11 r
  · rw [vus, pk_un (by omega), pk_un (by omega)]; exact wf12 r
  · rw [vus, pk_un (by omega), pk_un (by omega)]; exact wf13 r
  · rw [vus, pk_un (by omega), pk_un (by omega)]; exact wf14 r
  · intro k hk; rw [vun _ _ (by omega), pk_un (by omega)]; exact wv1 r hk
  · intro k hk; rw [vun _ _ (by omega), pk_un (by omega)]; exact wv2 r hk
  · intro k hk; rw [vun _ _ (by omega), pk_un (by omega)]; exact wv3 r hk
  · intro k hk; rw [vun _ _ (by omega), pk_un (by omega)]; exact wv4 r hk
  · intro k hk; rw [vun _ _ (by omega), pk_un (by omega)]; exact wv5 r hk
  · intro k hk; rw [vun _ _ (by omega), pk_un (by omega)]; exact wv6 r hk
  · intro k hk; rw [vun _ _ (by omega), pk_un (by omega)]; exact wv7 r hk
  · intro k hk; rw [vun _ _ (by omega), pk_un (by omega)]; exact wv8 r hk
  · intro k hk; rw [vun _ _ (by omega), pk_un (by omega)]; exact wv11 r hk
  · intro k hk; rw [vun _ _ (by omega), pk_un (by omega)]; exact wv12 r hk
  · intro p q hp hq; rw [vun _ _ (by omega), pk_un (by omega)]; exact wv9 r hp hq
  · intro p q hp hq; rw [vun _ _ (by omega), pk_un (by omega)]; exact wv10 r hp hq
  · intro k hk; rw [vun _ _ (by omega), pk_un (by omega)]; exact wv13 r hk
  · intro k hk; rw [vun _ _ (by omega), pk_un (by omega)]; exact wv14 r hk
  · intro k z hk hz; rw [vun _ _ (by omega), pk_un (by omega)]; exact wv15 r hk hz
theorem WR.f4 (r : WR σ w S) (x : Int32) : WR (va_up σ w (upd (σ w) 4 x)) w (upd S 6 x) := by
  refine ⟨⟨?_, ?_, ?_, ?_, ?_, ?_, ?_, ?_, ?_, ?_, ?_, ?_, ?_, ?_, ?_⟩, ?_, ?_, ?_, ?_, ?_, ?_, ?_, ?_, ?_, ?_, ?_, ?_, ?_, ?_, ?_⟩
  · rw [vus, pk_un (by omega), pk_un (by omega)]; exact wf0 r
  · rw [vus, pk_un (by omega), pk_un (by omega)]; exact wf1 r
  · rw [vus, pk_un (by omega), pk_un (by omega)]; exact wf2 r
  · rw [vus, pk_un (by omega), pk_un (by omega)]; exact wf3 r
  · rw [vus, pk_us, pk_us]
  · rw [vus, pk_un (by omega), pk_un (by omega)]; exact wf5 r
  · rw [vus, pk_un (by omega), pk_un (by omega)]; exact wf6 r
  · rw [vus, pk_un (by omega), pk_un (by omega)]; exact wf7 r
  · rw [vus, pk_un (by omega), pk_un (by omega)]; exact wf8 r
  · rw [vus, pk_un (by omega), pk_un (by omega)]; exact wf9 r
  · rw [vus, pk_un (by omega), pk_un (by omega)]; exact wf10 r
  · rw [vus, pk_un (by omega), pk_un (by omega)]; exact wf11 r
  · rw [vus, pk_un (by omega), pk_un (by omega)]; exact wf12 r
  · rw [vus, pk_un (by omega), pk_un (by omega)]; exact wf13 r
  · rw [vus, pk_un (by omega), pk_un (by omega)]; exact wf14 r
  · intro k hk; rw [vun _ _ (by omega), pk_un (by omega)]; exact wv1 r hk
  · intro k hk; rw [vun _ _ (by omega), pk_un (by omega)]; exact wv2 r hk
  · intro k hk; rw [vun _ _ (by omega), pk_un (by omega)]; exact wv3 r hk
  · intro k hk; rw [vun _ _ (by omega), pk_un (by omega)]; exact wv4 r hk
  · intro k hk; rw [vun _ _ (by omega), pk_un (by omega)]; exact wv5 r hk
  · intro k hk; rw [vun _ _ (by omega), pk_un (by omega)]; exact wv6 r hk
  · intro k hk; rw [vun _ _ (by omega), pk_un (by omega)]; exact wv7 r hk
  · intro k hk; rw [vun _ _ (by omega), pk_un (by omega)]; exact wv8 r hk
  · intro k hk; rw [vun _ _ (by omega), pk_un (by omega)]; exact wv11 r hk
  · intro k hk; rw [vun _ _ (by omega), pk_un (by omega)]; exact wv12 r hk
  · intro p q hp hq; rw [vun _ _ (by omega), pk_un (by omega)]; exact wv9 r hp hq
  · intro p q hp hq; rw [vun _ _ (by omega), pk_un (by omega)]; exact wv10 r hp hq
  · intro k hk; rw [vun _ _ (by omega), pk_un (by omega)]; exact wv13 r hk
  · intro k hk; rw [vun _ _ (by omega), pk_un (by omega)]; exact wv14 r hk
  · intro k z hk hz; rw [vun _ _ (by omega), pk_un (by omega)]; exact wv15 r hk hz
theorem WR.f5 (r : WR σ w S) (x : Int32) : WR (va_up σ w (upd (σ w) 5 x)) w (upd S 7 x) := by
  refine ⟨⟨?_, ?_, ?_, ?_, ?_, ?_, ?_, ?_, ?_, ?_, ?_, ?_, ?_, ?_, ?_⟩, ?_, ?_, ?_, ?_, ?_, ?_, ?_, ?_, ?_, ?_, ?_, ?_, ?_, ?_, ?_⟩
  · rw [vus, pk_un (by omega), pk_un (by omega)]; exact wf0 r
  · rw [vus, pk_un (by omega), pk_un (by omega)]; exact wf1 r
  · rw [vus, pk_un (by omega), pk_un (by omega)]; exact wf2 r
  · rw [vus, pk_un (by omega), pk_un (by omega)]; exact wf3 r
  · rw [vus, pk_un (by omega), pk_un (by omega)]; exact wf4 r
  · rw [vus, pk_us, pk_us]
  · rw [vus, pk_un (by omega), pk_un (by omega)]; exact wf6 r
  · rw [vus, pk_un (by omega), pk_un (by omega)]; exact wf7 r
  · rw [vus, pk_un (by omega), pk_un (by omega)]; exact wf8 r
  · rw [vus, pk_un (by omega), pk_un (by omega)]; exact wf9 r
  · rw [vus, pk_un (by omega), pk_un (by omega)]; exact wf10 r
  · rw [vus, pk_un (by omega), pk_un (by omega)]; exact wf11 r
  · rw [vus, pk_un (by omega), pk_un (by omega)]; exact wf12 r
  · rw [vus, pk_un (by omega), pk_un (by omega)]; exact wf13 r
  · rw [vus, pk_un (by omega), pk_un (by omega)]; exact wf14 r
  · intro k hk; rw [vun _ _ (by omega), pk_un (by omega)]; exact wv1 r hk
  · intro k hk; rw [vun _ _ (by omega), pk_un (by omega)]; exact wv2 r hk
  · intro k hk; rw [vun _ _ (by omega), pk_un (by omega)]; exact wv3 r hk
  · intro k hk; rw [vun _ _ (by omega), pk_un (by omega)]; exact wv4 r hk
  · intro k hk; rw [vun _ _ (by omega), pk_un (by omega)]; exact wv5 r hk
  · intro k hk; rw [vun _ _ (by omega), pk_un (by omega)]; exact wv6 r hk
  · intro k hk; rw [vun _ _ (by omega), pk_un (by omega)]; exact wv7 r hk
  · intro k hk; rw [vun _ _ (by omega), pk_un (by omega)]; exact wv8 r hk
  · intro k hk; rw [vun _ _ (by omega), pk_un (by omega)]; exact wv11 r hk
  · intro k hk; rw [vun _ _ (by omega), pk_un (by omega)]; exact wv12 r hk
  · intro p q hp hq; rw [vun _ _ (by omega), pk_un (by omega)]; exact wv9 r hp hq
  · intro p q hp hq; rw [vun _ _ (by omega), pk_un (by omega)]; exact wv10 r hp hq
  · intro k hk; rw [vun _ _ (by omega), pk_un (by omega)]; exact wv13 r hk
  · intro k hk; rw [vun _ _ (by omega), pk_un (by omega)]; exact wv14 r hk
  · intro k z hk hz; rw [vun _ _ (by omega), pk_un (by omega)]; exact wv15 r hk hz
theorem WR.f6 (r : WR σ w S) (x : Int32) : WR (va_up σ w (upd (σ w) 6 x)) w (upd S 8 x) := by
  refine ⟨⟨?_, ?_, ?_, ?_, ?_, ?_, ?_, ?_, ?_, ?_, ?_, ?_, ?_, ?_, ?_⟩, ?_, ?_, ?_, ?_, ?_, ?_, ?_, ?_, ?_, ?_, ?_, ?_, ?_, ?_, ?_⟩
  · rw [vus, pk_un (by omega), pk_un (by omega)]; exact wf0 r
  · rw [vus, pk_un (by omega), pk_un (by omega)]; exact wf1 r
  · rw [vus, pk_un (by omega), pk_un (by omega)]; exact wf2 r
  · rw [vus, pk_un (by omega), pk_un (by omega)]; exact wf3 r
  · rw [vus, pk_un (by omega), pk_un (by omega)]; exact wf4 r
  · rw [vus, pk_un (by omega), pk_un (by omega)]; exact wf5 r
  · rw [vus, pk_us, pk_us]
  · rw [vus, pk_un (by omega), pk_un (by omega)]; exact wf7 r
  · rw [vus, pk_un (by omega), pk_un (by omega)]; exact wf8 r
  · rw [vus, pk_un (by omega), pk_un (by omega)]; exact wf9 r
  · rw [vus, pk_un (by omega), pk_un (by omega)]; exact wf10 r
  · rw [vus, pk_un (by omega), pk_un (by omega)]; exact wf11 r
  · rw [vus, pk_un (by omega), pk_un (by omega)]; exact wf12 r
  · rw [vus, pk_un (by omega), pk_un (by omega)]; exact wf13 r
  · rw [vus, pk_un (by omega), pk_un (by omega)]; exact wf14 r
  · intro k hk; rw [vun _ _ (by omega), pk_un (by omega)]; exact wv1 r hk
  · intro k hk; rw [vun _ _ (by omega), pk_un (by omega)]; exact wv2 r hk
  · intro k hk; rw [vun _ _ (by omega), pk_un (by omega)]; exact wv3 r hk
  · intro k hk; rw [vun _ _ (by omega), pk_un (by omega)]; exact wv4 r hk
  · intro k hk; rw [vun _ _ (by omega), pk_un (by omega)]; exact wv5 r hk
  · intro k hk; rw [vun _ _ (by omega), pk_un (by omega)]; exact wv6 r hk
  · intro k hk; rw [vun _ _ (by omega), pk_un (by omega)]; exact wv7 r hk
  · intro k hk; rw [vun _ _ (by omega), pk_un (by omega)]; exact wv8 r hk
  · intro k hk; rw [vun _ _ (by omega), pk_un (by omega)]; exact wv11 r hk
  · intro k hk; rw [vun _ _ (by omega), pk_un (by omega)]; exact wv12 r hk
  · intro p q hp hq; rw [vun _ _ (by omega), pk_un (by omega)]; exact wv9 r hp hq
  · intro p q hp hq; rw [vun _ _ (by omega), pk_un (by omega)]; exact wv10 r hp hq
  · intro k hk; rw [vun _ _ (by omega), pk_un (by omega)]; exact wv13 r hk
  · intro k hk; rw [vun _ _ (by omega), pk_un (by omega)]; exact wv14 r hk
  · intro k z hk hz; rw [vun _ _ (by omega), pk_un (by omega)]; exact wv15 r hk hz
theorem WR.f7 (r : WR σ w S) (x : Int32) : WR (va_up σ w (upd (σ w) 7 x)) w (upd S 9 x) := by
  refine ⟨⟨?_, ?_, ?_, ?_, ?_, ?_, ?_, ?_, ?_, ?_, ?_, ?_, ?_, ?_, ?_⟩, ?_, ?_, ?_, ?_, ?_, ?_, ?_, ?_, ?_, ?_, ?_, ?_, ?_, ?_, ?_⟩
  · rw [vus, pk_un (by omega), pk_un (by omega)]; exact wf0 r
  · rw [vus, pk_un (by omega), pk_un (by omega)]; exact wf1 r
  · rw [vus, pk_un (by omega), pk_un (by omega)]; exact wf2 r
  · rw [vus, pk_un (by omega), pk_un (by omega)]; exact wf3 r
  · rw [vus, pk_un (by omega), pk_un (by omega)]; exact wf4 r
  · rw [vus, pk_un (by omega), pk_un (by omega)]; exact wf5 r
  · rw [vus, pk_un (by omega), pk_un (by omega)]; exact wf6 r
  · rw [vus, pk_us, pk_us]
  · rw [vus, pk_un (by omega), pk_un (by omega)]; exact wf8 r
  · rw [vus, pk_un (by omega), pk_un (by omega)]; exact wf9 r
  · rw [vus, pk_un (by omega), pk_un (by omega)]; exact wf10 r
  · rw [vus, pk_un (by omega), pk_un (by omega)]; exact wf11 r
  · rw [vus, pk_un (by omega), pk_un (by omega)]; exact wf12 r
  · rw [vus, pk_un (by omega), pk_un (by omega)]; exact wf13 r
  · rw [vus, pk_un (by omega), pk_un (by omega)]; exact wf14 r
  · intro k hk; rw [vun _ _ (by omega), pk_un (by omega)]; exact wv1 r hk
  · intro k hk; rw [vun _ _ (by omega), pk_un (by omega)]; exact wv2 r hk
  · intro k hk; rw [vun _ _ (by omega), pk_un (by omega)]; exact wv3 r hk
  · intro k hk; rw [vun _ _ (by omega), pk_un (by omega)]; exact wv4 r hk
  · intro k hk; rw [vun _ _ (by omega), pk_un (by omega)]; exact wv5 r hk
  · intro k hk; rw [vun _ _ (by omega), pk_un (by omega)]; exact wv6 r hk
  · intro k hk; rw [vun _ _ (by omega), pk_un (by omega)]; exact wv7 r hk
  · intro k hk; rw [vun _ _ (by omega), pk_un (by omega)]; exact wv8 r hk
  · intro k hk; rw [vun _ _ (by omega), pk_un (by omega)]; exact wv11 r hk
  · intro k hk; rw [vun _ _ (by omega), pk_un (by omega)]; exact wv12 r hk
  · intro p q hp hq; rw [vun _ _ (by omega), pk_un (by omega)]; exact wv9 r hp hq
  · intro p q hp hq; rw [vun _ _ (by omega), pk_un (by omega)]; exact wv10 r hp hq
  · intro k hk; rw [vun _ _ (by omega), pk_un (by omega)]; exact wv13 r hk
  · intro k hk; rw [vun _ _ (by omega), pk_un (by omega)]; exact wv14 r hk
  · intro k z hk hz; rw [vun _ _ (by omega), pk_un (by omega)]; exact wv15 r hk hz
theorem WR.f8 (r : WR σ w S) (x : Int32) : WR (va_up σ w (upd (σ w) 8 x)) w (upd S 10 x) := by
  refine ⟨⟨?_, ?_, ?_, ?_, ?_, ?_, ?_, ?_, ?_, ?_, ?_, ?_, ?_, ?_, ?_⟩, ?_, ?_, ?_, ?_, ?_, ?_, ?_, ?_, ?_, ?_, ?_, ?_, ?_, ?_, ?_⟩
  · rw [vus, pk_un (by omega), pk_un (by omega)]; exact wf0 r
  · rw [vus, pk_un (by omega), pk_un (by omega)]; exact wf1 r
  · rw [vus, pk_un (by omega), pk_un (by omega)]; exact wf2 r
  · rw [vus, pk_un (by omega), pk_un (by omega)]; exact wf3 r
  · rw [vus, pk_un (by omega), pk_un (by omega)]; exact wf4 r
  · rw [vus, pk_un (by omega), pk_un (by omega)]; exact wf5 r
  · rw [vus, pk_un (by omega), pk_un (by omega)]; exact wf6 r
  · rw [vus, pk_un (by omega), pk_un (by omega)]; exact wf7 r
  · rw [vus, pk_us, pk_us]
  · rw [vus, pk_un (by omega), pk_un (by omega)]; exact wf9 r
  · rw [vus, pk_un (by omega), pk_un (by omega)]; exact wf10 r
  · rw [vus, pk_un (by omega), pk_un (by omega)]; exact wf11 r
  · rw [vus, pk_un (by omega), pk_un (by omega)]; exact wf12 r
  · rw [vus, pk_un (by omega), pk_un (by omega)]; exact wf13 r
  · rw [vus, pk_un (by omega), pk_un (by omega)]; exact wf14 r
  · intro k hk; rw [vun _ _ (by omega), pk_un (by omega)]; exact wv1 r hk
  · intro k hk; rw [vun _ _ (by omega), pk_un (by omega)]; exact wv2 r hk
  · intro k hk; rw [vun _ _ (by omega), pk_un (by omega)]; exact wv3 r hk
  · intro k hk; rw [vun _ _ (by omega), pk_un (by omega)]; exact wv4 r hk
  · intro k hk; rw [vun _ _ (by omega), pk_un (by omega)]; exact wv5 r hk
  · intro k hk; rw [vun _ _ (by omega), pk_un (by omega)]; exact wv6 r hk
  · intro k hk; rw [vun _ _ (by omega), pk_un (by omega)]; exact wv7 r hk
  · intro k hk; rw [vun _ _ (by omega), pk_un (by omega)]; exact wv8 r hk
  · intro k hk; rw [vun _ _ (by omega), pk_un (by omega)]; exact wv11 r hk
  · intro k hk; rw [vun _ _ (by omega), pk_un (by omega)]; exact wv12 r hk
  · intro p q hp hq; rw [vun _ _ (by omega), pk_un (by omega)]; exact wv9 r hp hq
  · intro p q hp hq; rw [vun _ _ (by omega), pk_un (by omega)]; exact wv10 r hp hq
  · intro k hk; rw [vun _ _ (by omega), pk_un (by omega)]; exact wv13 r hk
  · intro k hk; rw [vun _ _ (by omega), pk_un (by omega)]; exact wv14 r hk
  · intro k z hk hz; rw [vun _ _ (by omega), pk_un (by omega)]; exact wv15 r hk hz
theorem WR.f9 (r : WR σ w S) (x : Int32) : WR (va_up σ w (upd (σ w) 9 x)) w (upd S 11 x) := by
  refine ⟨⟨?_, ?_, ?_, ?_, ?_, ?_, ?_, ?_, ?_, ?_, ?_, ?_, ?_, ?_, ?_⟩, ?_, ?_, ?_, ?_, ?_, ?_, ?_, ?_, ?_, ?_, ?_, ?_, ?_, ?_, ?_⟩
  · rw [vus, pk_un (by omega), pk_un (by omega)]; exact wf0 r
  · rw [vus, pk_un (by omega), pk_un (by omega)]; exact wf1 r
  · rw [vus, pk_un (by omega), pk_un (by omega)]; exact wf2 r
  · rw [vus, pk_un (by omega), pk_un (by omega)]; exact wf3 r
  · rw [vus, pk_un (by omega), pk_un (by omega)]; exact wf4 r
  · rw [vus, pk_un (by omega), pk_un (by omega)]; exact wf5 r
  · rw [vus, pk_un (by omega), pk_un (by omega)]; exact wf6 r
  · rw [vus, pk_un (by omega), pk_un (by omega)]; exact wf7 r
  · rw [vus, pk_un (by omega), pk_un (by omega)]; exact wf8 r
  · rw [vus, pk_us, pk_us]
  · rw [vus, pk_un (by omega), pk_un (by omega)]; exact wf10 r
  · rw [vus, pk_un (by omega), pk_un (by omega)]; exact wf11 r
  · rw [vus, pk_un (by omega), pk_un (by omega)]; exact wf12 r
  · rw [vus, pk_un (by omega), pk_un (by omega)]; exact wf13 r
  · rw [vus, pk_un (by omega), pk_un (by omega)]; exact wf14 r
  · intro k hk; rw [vun _ _ (by omega), pk_un (by omega)]; exact wv1 r hk
  · intro k hk; rw [vun _ _ (by omega), pk_un (by omega)]; exact wv2 r hk
  · intro k hk; rw [vun _ _ (by omega), pk_un (by omega)]; exact wv3 r hk
  · intro k hk; rw [vun _ _ (by omega), pk_un (by omega)]; exact wv4 r hk
  · intro k hk; rw [vun _ _ (by omega), pk_un (by omega)]; exact wv5 r hk
  · intro k hk; rw [vun _ _ (by omega), pk_un (by omega)]; exact wv6 r hk
  · intro k hk; rw [vun _ _ (by omega), pk_un (by omega)]; exact wv7 r hk
  · intro k hk; rw [vun _ _ (by omega), pk_un (by omega)]; exact wv8 r hk
  · intro k hk; rw [vun _ _ (by omega), pk_un (by omega)]; exact wv11 r hk
  · intro k hk; rw [vun _ _ (by omega), pk_un (by omega)]; exact wv12 r hk
  · intro p q hp hq; rw [vun _ _ (by omega), pk_un (by omega)]; exact wv9 r hp hq
  · intro p q hp hq; rw [vun _ _ (by omega), pk_un (by omega)]; exact wv10 r hp hq
  · intro k hk; rw [vun _ _ (by omega), pk_un (by omega)]; exact wv13 r hk
  · intro k hk; rw [vun _ _ (by omega), pk_un (by omega)]; exact wv14 r hk
  · intro k z hk hz; rw [vun _ _ (by omega), pk_un (by omega)]; exact wv15 r hk hz
theorem WR.f10 (r : WR σ w S) (x : Int32) : WR (va_up σ w (upd (σ w) 10 x)) w (upd S 12 x) := by
  refine ⟨⟨?_, ?_, ?_, ?_, ?_, ?_, ?_, ?_, ?_, ?_, ?_, ?_, ?_, ?_, ?_⟩, ?_, ?_, ?_, ?_, ?_, ?_, ?_, ?_, ?_, ?_, ?_, ?_, ?_, ?_, ?_⟩
  · rw [vus, pk_un (by omega), pk_un (by omega)]; exact wf0 r
  · rw [vus, pk_un (by omega), pk_un (by omega)]; exact wf1 r
  · rw [vus, pk_un (by omega), pk_un (by omega)]; exact wf2 r
  · rw [vus, pk_un (by omega), pk_un (by omega)]; exact wf3 r
  · rw [vus, pk_un (by omega), pk_un (by omega)]; exact wf4 r
  · rw [vus, pk_un (by omega), pk_un (by omega)]; exact wf5 r
  · rw [vus, pk_un (by omega), pk_un (by omega)]; exact wf6 r
  · rw [vus, pk_un (by omega), pk_un (by omega)]; exact wf7 r
  · rw [vus, pk_un (by omega), pk_un (by omega)]; exact wf8 r
  · rw [vus, pk_un (by omega), pk_un (by omega)]; exact wf9 r
  · rw [vus, pk_us, pk_us]
  · rw [vus, pk_un (by omega), pk_un (by omega)]; exact wf11 r
  · rw [vus, pk_un (by omega), pk_un (by omega)]; exact wf12 r
  · rw [vus, pk_un (by omega), pk_un (by omega)]; exact wf13 r
  · rw [vus, pk_un (by omega), pk_un (by omega)]; exact wf14 r
  · intro k hk; rw [vun _ _ (by omega), pk_un (by omega)]; exact wv1 r hk
  · intro k hk; rw [vun _ _ (by omega), pk_un (by omega)]; exact wv2 r hk
  · intro k hk; rw [vun _ _ (by omega), pk_un (by omega)]; exact wv3 r hk
  · intro k hk; rw [vun _ _ (by omega), pk_un (by omega)]; exact wv4 r hk
  · intro k hk; rw [vun _ _ (by omega), pk_un (by omega)]; exact wv5 r hk
  · intro k hk; rw [vun _ _ (by omega), pk_un (by omega)]; exact wv6 r hk
  · intro k hk; rw [vun _ _ (by omega), pk_un (by omega)]; exact wv7 r hk
  · intro k hk; rw [vun _ _ (by omega), pk_un (by omega)]; exact wv8 r hk
  · intro k hk; rw [vun _ _ (by omega), pk_un (by omega)]; exact wv11 r hk
  · intro k hk; rw [vun _ _ (by omega), pk_un (by omega)]; exact wv12 r hk
  · intro p q hp hq; rw [vun _ _ (by omega), pk_un (by omega)]; exact wv9 r hp hq
  · intro p q hp hq; rw [vun _ _ (by omega), pk_un (by omega)]; exact wv10 r hp hq
  · intro k hk; rw [vun _ _ (by omega), pk_un (by omega)]; exact wv13 r hk
  · intro k hk; rw [vun _ _ (by omega), pk_un (by omega)]; exact wv14 r hk
  · intro k z hk hz; rw [vun _ _ (by omega), pk_un (by omega)]; exact wv15 r hk hz
theorem WR.f11 (r : WR σ w S) (x : Int32) : WR (va_up σ w (upd (σ w) 11 x)) w (upd S 13 x) := by
  refine ⟨⟨?_, ?_, ?_, ?_, ?_, ?_, ?_, ?_, ?_, ?_, ?_, ?_, ?_, ?_, ?_⟩, ?_, ?_, ?_, ?_, ?_, ?_, ?_, ?_, ?_, ?_, ?_, ?_, ?_, ?_, ?_⟩
  · rw [vus, pk_un (by omega), pk_un (by omega)]; exact wf0 r
  · rw [vus, pk_un (by omega), pk_un (by omega)]; exact wf1 r
  · rw [vus, pk_un (by omega), pk_un (by omega)]; exact wf2 r
  · rw [vus, pk_un (by omega), pk_un (by omega)]; exact wf3 r
  · rw [vus, pk_un (by omega), pk_un (by omega)]; exact wf4 r
  · rw [vus, pk_un (by omega), pk_un (by omega)]; exact wf5 r
  · rw [vus, pk_un (by omega), pk_un (by omega)]; exact wf6 r
  · rw [vus, pk_un (by omega), pk_un (by omega)]; exact wf7 r
  · rw [vus, pk_un (by omega), pk_un (by omega)]; exact wf8 r
  · rw [vus, pk_un (by omega), pk_un (by omega)]; exact wf9 r
  · rw [vus, pk_un (by omega), pk_un (by omega)]; exact wf10 r
  · rw [vus, pk_us, pk_us]
  · rw [vus, pk_un (by omega), pk_un (by omega)]; exact wf12 r
  · rw [vus, pk_un (by omega), pk_un (by omega)]; exact wf13 r
  · rw [vus, pk_un (by omega), pk_un (by omega)]; exact wf14 r
  · intro k hk; rw [vun _ _ (by omega), pk_un (by omega)]; exact wv1 r hk
  · intro k hk; rw [vun _ _ (by omega), pk_un (by omega)]; exact wv2 r hk
  · intro k hk; rw [vun _ _ (by omega), pk_un (by omega)]; exact wv3 r hk
  · intro k hk; rw [vun _ _ (by omega), pk_un (by omega)]; exact wv4 r hk
  · intro k hk; rw [vun _ _ (by omega), pk_un (by omega)]; exact wv5 r hk
  · intro k hk; rw [vun _ _ (by omega), pk_un (by omega)]; exact wv6 r hk
  · intro k hk; rw [vun _ _ (by omega), pk_un (by omega)]; exact wv7 r hk
  · intro k hk; rw [vun _ _ (by omega), pk_un (by omega)]; exact wv8 r hk
  · intro k hk; rw [vun _ _ (by omega), pk_un (by omega)]; exact wv11 r hk
  · intro k hk; rw [vun _ _ (by omega), pk_un (by omega)]; exact wv12 r hk
  · intro p q hp hq; rw [vun _ _ (by omega), pk_un (by omega)]; exact wv9 r hp hq
  · intro p q hp hq; rw [vun _ _ (by omega), pk_un (by omega)]; exact wv10 r hp hq
  · intro k hk; rw [vun _ _ (by omega), pk_un (by omega)]; exact wv13 r hk
  · intro k hk; rw [vun _ _ (by omega), pk_un (by omega)]; exact wv14 r hk
  · intro k z hk hz; rw [vun _ _ (by omega), pk_un (by omega)]; exact wv15 r hk hz
theorem WR.f12 (r : WR σ w S) (x : Int32) : WR (va_up σ w (upd (σ w) 12 x)) w (upd S 14 x) := by
  refine ⟨⟨?_, ?_, ?_, ?_, ?_, ?_, ?_, ?_, ?_, ?_, ?_, ?_, ?_, ?_, ?_⟩, ?_, ?_, ?_, ?_, ?_, ?_, ?_, ?_, ?_, ?_, ?_, ?_, ?_, ?_, ?_⟩
  · rw [vus, pk_un (by omega), pk_un (by omega)]; exact wf0 r
  · rw [vus, pk_un (by omega), pk_un (by omega)]; exact wf1 r
  · rw [vus, pk_un (by omega), pk_un (by omega)]; exact wf2 r
  · rw [vus, pk_un (by omega), pk_un (by omega)]; exact wf3 r
  · rw [vus, pk_un (by omega), pk_un (by omega)]; exact wf4 r
  · rw [vus, pk_un (by omega), pk_un (by omega)]; exact wf5 r
  · rw [vus, pk_un (by omega), pk_un (by omega)]; exact wf6 r
  · rw [vus, pk_un (by omega), pk_un (by omega)]; exact wf7 r
  · rw [vus, pk_un (by omega), pk_un (by omega)]; exact wf8 r
  · rw [vus, pk_un (by omega), pk_un (by omega)]; exact wf9 r
  · rw [vus, pk_un (by omega), pk_un (by omega)]; exact wf10 r
  · rw [vus, pk_un (by omega), pk_un (by omega)]; exact wf11 r
  · rw [vus, pk_us, pk_us]
  · rw [vus, pk_un (by omega), pk_un (by omega)]; exact wf13 r
  · rw [vus, pk_un (by omega), pk_un (by omega)]; exact wf14 r
  · intro k hk; rw [vun _ _ (by omega), pk_un (by omega)]; exact wv1 r hk
  · intro k hk; rw [vun _ _ (by omega), pk_un (by omega)]; exact wv2 r hk
  · intro k hk; rw [vun _ _ (by omega), pk_un (by omega)]; exact wv3 r hk
  · intro k hk; rw [vun _ _ (by omega), pk_un (by omega)]; exact wv4 r hk
  · intro k hk; rw [vun _ _ (by omega), pk_un (by omega)]; exact wv5 r hk
  · intro k hk; rw [vun _ _ (by omega), pk_un (by omega)]; exact wv6 r hk
  · intro k hk; rw [vun _ _ (by omega), pk_un (by omega)]; exact wv7 r hk
  · intro k hk; rw [vun _ _ (by omega), pk_un (by omega)]; exact wv8 r hk
  · intro k hk; rw [vun _ _ (by omega), pk_un (by omega)]; exact wv11 r hk
  · intro k hk; rw [vun _ _ (by omega), pk_un (by omega)]; exact wv12 r hk
  · intro p q hp hq; rw [vun _ _ (by omega), pk_un (by omega)]; exact wv9 r hp hq
  · intro p q hp hq; rw [vun _ _ (by omega), pk_un (by omega)]; exact wv10 r hp hq
  · intro k hk; rw [vun _ _ (by omega), pk_un (by omega)]; exact wv13 r hk
  · intro k hk; rw [vun _ _ (by omega), pk_un (by omega)]; exact wv14 r hk
  · intro k z hk hz; rw [vun _ _ (by omega), pk_un (by omega)]; exact wv15 r hk hz
theorem WR.f13 (r : WR σ w S) (x : Int32) : WR (va_up σ w (upd (σ w) 13 x)) w (upd S 15 x) := by
  refine ⟨⟨?_, ?_, ?_, ?_, ?_, ?_, ?_, ?_, ?_, ?_, ?_, ?_, ?_, ?_, ?_⟩, ?_, ?_, ?_, ?_, ?_, ?_, ?_, ?_, ?_, ?_, ?_, ?_, ?_, ?_, ?_⟩
  · rw [vus, pk_un (by omega), pk_un (by omega)]; exact wf0 r
  · rw [vus, pk_un (by omega), pk_un (by omega)]; exact wf1 r
  · rw [vus, pk_un (by omega), pk_un (by omega)]; exact wf2 r
  · rw [vus, pk_un (by omega), pk_un (by omega)]; exact wf3 r
  · rw [vus, pk_un (by omega), pk_un (by omega)]; exact wf4 r
  · rw [vus, pk_un (by omega), pk_un (by omega)]; exact wf5 r
  · rw [vus, pk_un (by omega), pk_un (by omega)]; exact wf6 r
  · rw [vus, pk_un (by omega), pk_un (by omega)]; exact wf7 r
  · rw [vus, pk_un (by omega), pk_un (by omega)]; exact wf8 r
  · rw [vus, pk_un (by omega), pk_un (by omega)]; exact wf9 r
  · rw [vus, pk_un (by omega), pk_un (by omega)]; exact wf10 r
  · rw [vus, pk_un (by omega), pk_un (by omega)]; exact wf11 r
  · rw [vus, pk_un (by omega), pk_un (by omega)]; exact wf12 r
  · rw [vus, pk_us, pk_us]
  · rw [vus, pk_un (by omega), pk_un (by omega)]; exact wf14 r
  · intro k hk; rw [vun _ _ (by omega), pk_un (by omega)]; exact wv1 r hk
  · intro k hk; rw [vun _ _ (by omega), pk_un (by omega)]; exact wv2 r hk
  · intro k hk; rw [vun _ _ (by omega), pk_un (by omega)]; exact wv3 r hk
  · intro k hk; rw [vun _ _ (by omega), pk_un (by omega)]; exact wv4 r hk
  · intro k hk; rw [vun _ _ (by omega), pk_un (by omega)]; exact wv5 r hk
  · intro k hk; rw [vun _ _ (by omega), pk_un (by omega)]; exact wv6 r hk
  · intro k hk; rw [vun _ _ (by omega), pk_un (by omega)]; exact wv7 r hk
  · intro k hk; rw [vun _ _ (by omega), pk_un (by omega)]; exact wv8 r hk
  · intro k hk; rw [vun _ _ (by omega), pk_un (by omega)]; exact wv11 r hk
  · intro k hk; rw [vun _ _ (by omega), pk_un (by omega)]; exact wv12 r hk
  · intro p q hp hq; rw [vun _ _ (by omega), pk_un (by omega)]; exact wv9 r hp hq
  · intro p q hp hq; rw [vun _ _ (by omega), pk_un (by omega)]; exact wv10 r hp hq
  · intro k hk; rw [vun _ _ (by omega), pk_un (by omega)]; exact wv13 r hk
  · intro k hk; rw [vun _ _ (by omega), pk_un (by omega)]; exact wv14 r hk
  · intro k z hk hz; rw [vun _ _ (by omega), pk_un (by omega)]; exact wv15 r hk hz
theorem WR.f14 (r : WR σ w S) (x : Int32) : WR (va_up σ w (upd (σ w) 14 x)) w (upd S 16 x) := by
  refine ⟨⟨?_, ?_, ?_, ?_, ?_, ?_, ?_, ?_, ?_, ?_, ?_, ?_, ?_, ?_, ?_⟩, ?_, ?_, ?_, ?_, ?_, ?_, ?_, ?_, ?_, ?_, ?_, ?_, ?_, ?_, ?_⟩
  · rw [vus, pk_un (by omega), pk_un (by omega)]; exact wf0 r
  · rw [vus, pk_un (by omega), pk_un (by omega)]; exact wf1 r
  · rw [vus, pk_un (by omega), pk_un (by omega)]; exact wf2 r
  · rw [vus, pk_un (by omega), pk_un (by omega)]; exact wf3 r
  · rw [vus, pk_un (by omega), pk_un (by omega)]; exact wf4 r
  · rw [vus, pk_un (by omega), pk_un (by omega)]; exact wf5 r
  · rw [vus, pk_un (by omega), pk_un (by omega)]; exact wf6 r
  · rw [vus, pk_un (by omega), pk_un (by omega)]; exact wf7 r
  · rw [vus, pk_un (by omega), pk_un (by omega)]; exact wf8 r
  · rw [vus, pk_un (by omega), pk_un (by omega)]; exact wf9 r
  · rw [vus, pk_un (by omega), pk_un (by omega)]; exact wf10 r
  · rw [vus, pk_un (by omega), pk_un (by omega)]; exact wf11 r
  · rw [vus, pk_un (by omega), pk_un (by omega)]; exact wf12 r
  · rw [vus, pk_un (by omega), pk_un (by omega)]; exact wf13 r
  · rw [vus, pk_us, pk_us]
  · intro k hk; rw [vun _ _ (by omega), pk_un (by omega)]; exact wv1 r hk
  · intro k hk; rw [vun _ _ (by omega), pk_un (by omega)]; exact wv2 r hk
  · intro k hk; rw [vun _ _ (by omega), pk_un (by omega)]; exact wv3 r hk
  · intro k hk; rw [vun _ _ (by omega), pk_un (by omega)]; exact wv4 r hk
  · intro k hk; rw [vun _ _ (by omega), pk_un (by omega)]; exact wv5 r hk
  · intro k hk; rw [vun _ _ (by omega), pk_un (by omega)]; exact wv6 r hk
  · intro k hk; rw [vun _ _ (by omega), pk_un (by omega)]; exact wv7 r hk
  · intro k hk; rw [vun _ _ (by omega), pk_un (by omega)]; exact wv8 r hk
  · intro k hk; rw [vun _ _ (by omega), pk_un (by omega)]; exact wv11 r hk
  · intro k hk; rw [vun _ _ (by omega), pk_un (by omega)]; exact wv12 r hk
  · intro p q hp hq; rw [vun _ _ (by omega), pk_un (by omega)]; exact wv9 r hp hq
  · intro p q hp hq; rw [vun _ _ (by omega), pk_un (by omega)]; exact wv10 r hp hq
  · intro k hk; rw [vun _ _ (by omega), pk_un (by omega)]; exact wv13 r hk
  · intro k hk; rw [vun _ _ (by omega), pk_un (by omega)]; exact wv14 r hk
  · intro k z hk hz; rw [vun _ _ (by omega), pk_un (by omega)]; exact wv15 r hk hz
theorem WR.a1 (r : WR σ w S) {i : Nat} (hi : i < 24) (x : Int32) : WR (va_up σ (w + 1) (upd (σ (w + 1)) i x)) w (upd S (20 + 3 * i) x) := by
  refine ⟨⟨?_, ?_, ?_, ?_, ?_, ?_, ?_, ?_, ?_, ?_, ?_, ?_, ?_, ?_, ?_⟩, ?_, ?_, ?_, ?_, ?_, ?_, ?_, ?_, ?_, ?_, ?_, ?_, ?_, ?_, ?_⟩
  · rw [vun _ _ (by omega), pk_un (by omega)]; exact wf0 r
  · rw [vun _ _ (by omega), pk_un (by omega)]; exact wf1 r
  · rw [vun _ _ (by omega), pk_un (by omega)]; exact wf2 r
  · rw [vun _ _ (by omega), pk_un (by omega)]; exact wf3 r
  · rw [vun _ _ (by omega), pk_un (by omega)]; exact wf4 r
  · rw [vun _ _ (by omega), pk_un (by omega)]; exact wf5 r
  · rw [vun _ _ (by omega), pk_un (by omega)]; exact wf6 r
  · rw [vun _ _ (by omega), pk_un (by omega)]; exact wf7 r
  · rw [vun _ _ (by omega), pk_un (by omega)]; exact wf8 r
  · rw [vun _ _ (by omega), pk_un (by omega)]; exact wf9 r
  · rw [vun _ _ (by omega), pk_un (by omega)]; exact wf10 r
  · rw [vun _ _ (by omega), pk_un (by omega)]; exact wf11 r
  · rw [vun _ _ (by omega), pk_un (by omega)]; exact wf12 r
  · rw [vun _ _ (by omega), pk_un (by omega)]; exact wf13 r
  · rw [vun _ _ (by omega), pk_un (by omega)]; exact wf14 r
  · intro k hk; rw [vus]; by_cases e : k = i
    · subst e; rw [pk_us, pk_us]
    · rw [pk_un e, pk_un (by omega)]; exact wv1 r hk
  · intro k hk; rw [vun _ _ (by omega), pk_un (by omega)]; exact wv2 r hk
  · intro k hk; rw [vun _ _ (by omega), pk_un (by omega)]; exact wv3 r hk
  · intro k hk; rw [vun _ _ (by omega), pk_un (by omega)]; exact wv4 r hk
  · intro k hk; rw [vun _ _ (by omega), pk_un (by omega)]; exact wv5 r hk
  · intro k hk; rw [vun _ _ (by omega), pk_un (by omega)]; exact wv6 r hk
  · intro k hk; rw [vun _ _ (by omega), pk_un (by omega)]; exact wv7 r hk
  · intro k hk; rw [vun _ _ (by omega), pk_un (by omega)]; exact wv8 r hk
  · intro k hk; rw [vun _ _ (by omega), pk_un (by omega)]; exact wv11 r hk
  · intro k hk; rw [vun _ _ (by omega), pk_un (by omega)]; exact wv12 r hk
  · intro p q hp hq; rw [vun _ _ (by omega), pk_un (by omega)]; exact wv9 r hp hq
  · intro p q hp hq; rw [vun _ _ (by omega), pk_un (by omega)]; exact wv10 r hp hq
  · intro k hk; rw [vun _ _ (by omega), pk_un (by omega)]; exact wv13 r hk
  · intro k hk; rw [vun _ _ (by omega), pk_un (by omega)]; exact wv14 r hk
  · intro k z hk hz; rw [vun _ _ (by omega), pk_un (by omega)]; exact wv15 r hk hz
theorem WR.a2 (r : WR σ w S) {i : Nat} (hi : i < 24) (x : Int32) : WR (va_up σ (w + 2) (upd (σ (w + 2)) i x)) w (upd S (20 + 3 * i + 1) x) := by
  refine ⟨⟨?_, ?_, ?_, ?_, ?_, ?_, ?_, ?_, ?_, ?_, ?_, ?_, ?_, ?_, ?_⟩, ?_, ?_, ?_, ?_, ?_, ?_, ?_, ?_, ?_, ?_, ?_, ?_, ?_, ?_, ?_⟩
  · rw [vun _ _ (by omega), pk_un (by omega)]; exact wf0 r
  · rw [vun _ _ (by omega), pk_un (by omega)]; exact wf1 r
  · rw [vun _ _ (by omega), pk_un (by omega)]; exact wf2 r
  · rw [vun _ _ (by omega), pk_un (by omega)]; exact wf3 r
  · rw [vun _ _ (by omega), pk_un (by omega)]; exact wf4 r
  · rw [vun _ _ (by omega), pk_un (by omega)]; exact wf5 r
  · rw [vun _ _ (by omega), pk_un (by omega)]; exact wf6 r
  · rw [vun _ _ (by omega), pk_un (by omega)]; exact wf7 r
  · rw [vun _ _ (by omega), pk_un (by omega)]; exact wf8 r
  · rw [vun _ _ (by omega), pk_un (by omega)]; exact wf9 r
  · rw [vun _ _ (by omega), pk_un (by omega)]; exact wf10 r
  · rw [vun _ _ (by omega), pk_un (by omega)]; exact wf11 r
  · rw [vun _ _ (by omega), pk_un (by omega)]; exact wf12 r
  · rw [vun _ _ (by omega), pk_un (by omega)]; exact wf13 r
  · rw [vun _ _ (by omega), pk_un (by omega)]; exact wf14 r
  · intro k hk; rw [vun _ _ (by omega), pk_un (by omega)]; exact wv1 r hk
  · intro k hk; rw [vus]; by_cases e : k = i
    · subst e; rw [pk_us, pk_us]
    · rw [pk_un e, pk_un (by omega)]; exact wv2 r hk
  · intro k hk; rw [vun _ _ (by omega), pk_un (by omega)]; exact wv3 r hk
  · intro k hk; rw [vun _ _ (by omega), pk_un (by omega)]; exact wv4 r hk
  · intro k hk; rw [vun _ _ (by omega), pk_un (by omega)]; exact wv5 r hk
  · intro k hk; rw [vun _ _ (by omega), pk_un (by omega)]; exact wv6 r hk
  · intro k hk; rw [vun _ _ (by omega), pk_un (by omega)]; exact wv7 r hk
  · intro k hk; rw [vun _ _ (by omega), pk_un (by omega)]; exact wv8 r hk
  · intro k hk; rw [vun _ _ (by omega), pk_un (by omega)]; exact wv11 r hk
  · intro k hk; rw [vun _ _ (by omega), pk_un (by omega)]; exact wv12 r hk
  · intro p q hp hq; rw [vun _ _ (by omega), pk_un (by omega)]; exact wv9 r hp hq
  · intro p q hp hq; rw [vun _ _ (by omega), pk_un (by omega)]; exact wv10 r hp hq
  · intro k hk; rw [vun _ _ (by omega), pk_un (by omega)]; exact wv13 r hk
  · intro k hk; rw [vun _ _ (by omega), pk_un (by omega)]; exact wv14 r hk
  · intro k z hk hz; rw [vun _ _ (by omega), pk_un (by omega)]; exact wv15 r hk hz
theorem WR.a3 (r : WR σ w S) {i : Nat} (hi : i < 24) (x : Int32) : WR (va_up σ (w + 3) (upd (σ (w + 3)) i x)) w (upd S (20 + 3 * i + 2) x) := by
  refine ⟨⟨?_, ?_, ?_, ?_, ?_, ?_, ?_, ?_, ?_, ?_, ?_, ?_, ?_, ?_, ?_⟩, ?_, ?_, ?_, ?_, ?_, ?_, ?_, ?_, ?_, ?_, ?_, ?_, ?_, ?_, ?_⟩
  · rw [vun _ _ (by omega), pk_un (by omega)]; exact wf0 r
  · rw [vun _ _ (by omega), pk_un (by omega)]; exact wf1 r
  · rw [vun _ _ (by omega), pk_un (by omega)]; exact wf2 r
  · rw [vun _ _ (by omega), pk_un (by omega)]; exact wf3 r
  · rw [vun _ _ (by omega), pk_un (by omega)]; exact wf4 r
  · rw [vun _ _ (by omega), pk_un (by omega)]; exact wf5 r
  · rw [vun _ _ (by omega), pk_un (by omega)]; exact wf6 r
  · rw [vun _ _ (by omega), pk_un (by omega)]; exact wf7 r
  · rw [vun _ _ (by omega), pk_un (by omega)]; exact wf8 r
  · rw [vun _ _ (by omega), pk_un (by omega)]; exact wf9 r
  · rw [vun _ _ (by omega), pk_un (by omega)]; exact wf10 r
  · rw [vun _ _ (by omega), pk_un (by omega)]; exact wf11 r
  · rw [vun _ _ (by omega), pk_un (by omega)]; exact wf12 r
  · rw [vun _ _ (by omega), pk_un (by omega)]; exact wf13 r
  · rw [vun _ _ (by omega), pk_un (by omega)]; exact wf14 r
  · intro k hk; rw [vun _ _ (by omega), pk_un (by omega)]; exact wv1 r hk
  · intro k hk; rw [vun _ _ (by omega), pk_un (by omega)]; exact wv2 r hk
  · intro k hk; rw [vus]; by_cases e : k = i
    · subst e; rw [pk_us, pk_us]
    · rw [pk_un e, pk_un (by omega)]; exact wv3 r hk
  · intro k hk; rw [vun _ _ (by omega), pk_un (by omega)]; exact wv4 r hk
  · intro k hk; rw [vun _ _ (by omega), pk_un (by omega)]; exact wv5 r hk
  · intro k hk; rw [vun _ _ (by omega), pk_un (by omega)]; exact wv6 r hk
  · intro k hk; rw [vun _ _ (by omega), pk_un (by omega)]; exact wv7 r hk
  · intro k hk; rw [vun _ _ (by omega), pk_un (by omega)]; exact wv8 r hk
  · intro k hk; rw [vun _ _ (by omega), pk_un (by omega)]; exact wv11 r hk
  · intro k hk; rw [vun _ _ (by omega), pk_un (by omega)]; exact wv12 r hk
  · intro p q hp hq; rw [vun _ _ (by omega), pk_un (by omega)]; exact wv9 r hp hq
  · intro p q hp hq; rw [vun _ _ (by omega), pk_un (by omega)]; exact wv10 r hp hq
  · intro k hk; rw [vun _ _ (by omega), pk_un (by omega)]; exact wv13 r hk
  · intro k hk; rw [vun _ _ (by omega), pk_un (by omega)]; exact wv14 r hk
  · intro k z hk hz; rw [vun _ _ (by omega), pk_un (by omega)]; exact wv15 r hk hz
theorem WR.a4 (r : WR σ w S) {i : Nat} (hi : i < 10) (x : Int32) : WR (va_up σ (w + 4) (upd (σ (w + 4)) i x)) w (upd S (92 + 8 * i + 0) x) := by
  refine ⟨⟨?_, ?_, ?_, ?_, ?_, ?_, ?_, ?_, ?_, ?_, ?_, ?_, ?_, ?_, ?_⟩, ?_, ?_, ?_, ?_, ?_, ?_, ?_, ?_, ?_, ?_, ?_, ?_, ?_, ?_, ?_⟩
  · rw [vun _ _ (by omega), pk_un (by omega)]; exact wf0 r
  · rw [vun _ _ (by omega), pk_un (by omega)]; exact wf1 r
  · rw [vun _ _ (by omega), pk_un (by omega)]; exact wf2 r
  · rw [vun _ _ (by omega), pk_un (by omega)]; exact wf3 r
  · rw [vun _ _ (by omega), pk_un (by omega)]; exact wf4 r
  · rw [vun _ _ (by omega), pk_un (by omega)]; exact wf5 r
  · rw [vun _ _ (by omega), pk_un (by omega)]; exact wf6 r
  · rw [vun _ _ (by omega), pk_un (by omega)]; exact wf7 r
  · rw [vun _ _ (by omega), pk_un (by omega)]; exact wf8 r
  · rw [vun _ _ (by omega), pk_un (by omega)]; exact wf9 r
  · rw [vun _ _ (by omega), pk_un (by omega)]; exact wf10 r
  · rw [vun _ _ (by omega), pk_un (by omega)]; exact wf11 r
  · rw [vun _ _ (by omega), pk_un (by omega)]; exact wf12 r
  · rw [vun _ _ (by omega), pk_un (by omega)]; exact wf13 r
  · rw [vun _ _ (by omega), pk_un (by omega)]; exact wf14 r
  · intro k hk; rw [vun _ _ (by omega), pk_un (by omega)]; exact wv1 r hk
  · intro k hk; rw [vun _ _ (by omega), pk_un (by omega)]; exact wv2 r hk
  · intro k hk; rw [vun _ _ (by omega), pk_un (by omega)]; exact wv3 r hk
  · intro k hk; rw [vus]; by_cases e : k = i
    · subst e; rw [pk_us, pk_us]
    · rw [pk_un e, pk_un (by omega)]; exact wv4 r hk
  · intro k hk; rw [vun _ _ (by omega), pk_un (by omega)]; exact wv5 r hk
  · intro k hk; rw [vun _ _ (by omega), pk_un (by omega)]; exact wv6 r hk
  · intro k hk; rw [vun _ _ (by omega), pk_un (by omega)]; exact wv7 r hk
  · intro k hk; rw [vun _ _ (by omega), pk_un (by omega)]; exact wv8 r hk
  · intro k hk; rw [vun _ _ (by omega), pk_un (by omega)]; exact wv11 r hk
  · intro k hk; rw [vun _ _ (by omega), pk_un (by omega)]; exact wv12 r hk
  · intro p q hp hq; rw [vun _ _ (by omega), pk_un (by omega)]; exact wv9 r hp hq
  · intro p q hp hq; rw [vun _ _ (by omega), pk_un (by omega)]; exact wv10 r hp hq
  · intro k hk; rw [vun _ _ (by omega), pk_un (by omega)]; exact wv13 r hk
  · intro k hk; rw [vun _ _ (by omega), pk_un (by omega)]; exact wv14 r hk
  · intro k z hk hz; rw [vun _ _ (by omega), pk_un (by omega)]; exact wv15 r hk hz
theorem WR.a5 (r : WR σ w S) {i : Nat} (hi : i < 10) (x : Int32) : WR (va_up σ (w + 5) (upd (σ (w + 5)) i x)) w (upd S (92 + 8 * i + 1) x) := by
  refine ⟨⟨?_, ?_, ?_, ?_, ?_, ?_, ?_, ?_, ?_, ?_, ?_, ?_, ?_, ?_, ?_⟩, ?_, ?_, ?_, ?_, ?_, ?_, ?_, ?_, ?_, ?_, ?_, ?_, ?_, ?_, ?_⟩
  · rw [vun _ _ (by omega), pk_un (by omega)]; exact wf0 r
  · rw [vun _ _ (by omega), pk_un (by omega)]; exact wf1 r
  · rw [vun _ _ (by omega), pk_un (by omega)]; exact wf2 r
  · rw [vun _ _ (by omega), pk_un (by omega)]; exact wf3 r
  · rw [vun _ _ (by omega), pk_un (by omega)]; exact wf4 r
  · rw [vun _ _ (by omega), pk_un (by omega)]; exact wf5 r
  · rw [vun _ _ (by omega), pk_un (by omega)]; exact wf6 r
  · rw [vun _ _ (by omega), pk_un (by omega)]; exact wf7 r
  · rw [vun _ _ (by omega), pk_un (by omega)]; exact wf8 r
  · rw [vun _ _ (by omega), pk_un (by omega)]; exact wf9 r
  · rw [vun _ _ (by omega), pk_un (by omega)]; exact wf10 r
  · rw [vun _ _ (by omega), pk_un (by omega)]; exact wf11 r
  · rw [vun _ _ (by omega), pk_un (by omega)]; exact wf12 r
  · rw [vun _ _ (by omega), pk_un (by omega)]; exact wf13 r
  · rw [vun _ _ (by omega), pk_un (by omega)]; exact wf14 r
  · intro k hk; rw [vun _ _ (by omega), pk_un (by omega)]; exact wv1 r hk
  · intro k hk; rw [vun _ _ (by omega), pk_un (by omega)]; exact wv2 r hk
  · intro k hk; rw [vun _ _ (by omega), pk_un (by omega)]; exact wv3 r hk
  · intro k hk; rw [vun _ _ (by omega), pk_un (by omega)]; exact wv4 r hk
  · intro k hk; rw [vus]; by_cases e : k = i
    · subst e; rw [pk_us, pk_us]
    · rw [pk_un e, pk_un (by omega)]; exact wv5 r hk
  · intro k hk; rw [vun _ _ (by omega), pk_un (by omega)]; exact wv6 r hk
  · intro k hk; rw [vun _ _ (by omega), pk_un (by omega)]; exact wv7 r hk
  · intro k hk; rw [vun _ _ (by omega), pk_un (by omega)]; exact wv8 r hk
  · intro k hk; rw [vun _ _ (by omega), pk_un (by omega)]; exact wv11 r hk
  · intro k hk; rw [vun _ _ (by omega), pk_un (by omega)]; exact wv12 r hk
  · intro p q hp hq; rw [vun _ _ (by omega), pk_un (by omega)]; exact wv9 r hp hq
  · intro p q hp hq; rw [vun _ _ (by omega), pk_un (by omega)]; exact wv10 r hp hq
  · intro k hk; rw [vun _ _ (by omega), pk_un (by omega)]; exact wv13 r hk
  · intro k hk; rw [vun _ _ (by omega), pk_un (by omega)]; exact wv14 r hk
  · intro k z hk hz; rw [vun _ _ (by omega), pk_un (by omega)]; exact wv15 r hk hz
theorem WR.a6 (r : WR σ w S) {i : Nat} (hi : i < 10) (x : Int32) : WR (va_up σ (w + 6) (upd (σ (w + 6)) i x)) w (upd S (92 + 8 * i + 2) x) := by
  refine ⟨⟨?_, ?_, ?_, ?_, ?_, ?_, ?_, ?_, ?_, ?_, ?_, ?_, ?_, ?_, ?_⟩, ?_, ?_, ?_, ?_, ?_, ?_, ?_, ?_, ?_, ?_, ?_, ?_, ?_, ?_, ?_⟩
  · rw [vun _ _ (by omega), pk_un (by omega)]; exact wf0 r
  · rw [vun _ _ (by omega), pk_un (by omega)]; exact wf1 r
  · rw [vun _ _ (by omega), pk_un (by omega)]; exact wf2 r
  · rw [vun _ _ (by omega), pk_un (by omega)]; exact wf3 r
  · rw [vun _ _ (by omega), pk_un (by omega)]; exact wf4 r
  · rw [vun _ _ (by omega), pk_un (by omega)]; exact wf5 r
  · rw [vun _ _ (by omega), pk_un (by omega)]; exact wf6 r
  · rw [vun _ _ (by omega), pk_un (by omega)]; exact wf7 r
  · rw [vun _ _ (by omega), pk_un (by omega)]; exact wf8 r
  · rw [vun _ _ (by omega), pk_un (by omega)]; exact wf9 r
  · rw [vun _ _ (by omega), pk_un (by omega)]; exact wf10 r
  · rw [vun _ _ (by omega), pk_un (by omega)]; exact wf11 r
  · rw [vun _ _ (by omega), pk_un (by omega)]; exact wf12 r
  · rw [vun _ _ (by omega), pk_un (by omega)]; exact wf13 r
  · rw [vun _ _ (by omega), pk_un (by omega)]; exact wf14 r
  · intro k hk; rw [vun _ _ (by omega), pk_un (by omega)]; exact wv1 r hk
  · intro k hk; rw [vun _ _ (by omega), pk_un (by omega)]; exact wv2 r hk
  · intro k hk; rw [vun _ _ (by omega), pk_un (by omega)]; exact wv3 r hk
  · intro k hk; rw [vun _ _ (by omega), pk_un (by omega)]; exact wv4 r hk
  · intro k hk; rw [vun _ _ (by omega), pk_un (by omega)]; exact wv5 r hk
  · intro k hk; rw [vus]; by_cases e : k = i
    · subst e; rw [pk_us, pk_us]
    · rw [pk_un e, pk_un (by omega)]; exact wv6 r hk
  · intro k hk; rw [vun _ _ (by omega), pk_un (by omega)]; exact wv7 r hk
  · intro k hk; rw [vun _ _ (by omega), pk_un (by omega)]; exact wv8 r hk
  · intro k hk; rw [vun _ _ (by omega), pk_un (by omega)]; exact wv11 r hk
  · intro k hk; rw [vun _ _ (by omega), pk_un (by omega)]; exact wv12 r hk
  · intro p q hp hq; rw [vun _ _ (by omega), pk_un (by omega)]; exact wv9 r hp hq
  · intro p q hp hq; rw [vun _ _ (by omega), pk_un (by omega)]; exact wv10 r hp hq
  · intro k hk; rw [vun _ _ (by omega), pk_un (by omega)]; exact wv13 r hk
  · intro k hk; rw [vun _ _ (by omega), pk_un (by omega)]; exact wv14 r hk
  · intro k z hk hz; rw [vun _ _ (by omega), pk_un (by omega)]; exact wv15 r hk hz
theorem WR.a7 (r : WR σ w S) {i : Nat} (hi : i < 10) (x : Int32) : WR (va_up σ (w + 7) (upd (σ (w + 7)) i x)) w (upd S (92 + 8 * i + 3) x) := by
  refine ⟨⟨?_, ?_, ?_, ?_, ?_, ?_, ?_, ?_, ?_, ?_, ?_, ?_, ?_, ?_, ?_⟩, ?_, ?_, ?_, ?_, ?_, ?_, ?_, ?_, ?_, ?_, ?_, ?_, ?_, ?_, ?_⟩
  · rw [vun _ _ (by omega), pk_un (by omega)]; exact wf0 r
  · rw [vun _ _ (by omega), pk_un (by omega)]; exact wf1 r
  · rw [vun _ _ (by omega), pk_un (by omega)]; exact wf2 r
  · rw [vun _ _ (by omega), pk_un (by omega)]; exact wf3 r
  · rw [vun _ _ (by omega), pk_un (by omega)]; exact wf4 r
  · rw [vun _ _ (by omega), pk_un (by omega)]; exact wf5 r
  · rw [vun _ _ (by omega), pk_un (by omega)]; exact wf6 r
  · rw [vun _ _ (by omega), pk_un (by omega)]; exact wf7 r
  · rw [vun _ _ (by omega), pk_un (by omega)]; exact wf8 r
  · rw [vun _ _ (by omega), pk_un (by omega)]; exact wf9 r
  · rw [vun _ _ (by omega), pk_un (by omega)]; exact wf10 r
  · rw [vun _ _ (by omega), pk_un (by omega)]; exact wf11 r
  · rw [vun _ _ (by omega), pk_un (by omega)]; exact wf12 r
  · rw [vun _ _ (by omega), pk_un (by omega)]; exact wf13 r
  · rw [vun _ _ (by omega), pk_un (by omega)]; exact wf14 r
  · intro k hk; rw [vun _ _ (by omega), pk_un (by omega)]; exact wv1 r hk
  · intro k hk; rw [vun _ _ (by omega), pk_un (by omega)]; exact wv2 r hk
  · intro k hk; rw [vun _ _ (by omega), pk_un (by omega)]; exact wv3 r hk
  · intro k hk; rw [vun _ _ (by omega), pk_un (by omega)]; exact wv4 r hk
  · intro k hk; rw [vun _ _ (by omega), pk_un (by omega)]; exact wv5 r hk
  · intro k hk; rw [vun _ _ (by omega), pk_un (by omega)]; exact wv6 r hk
  · intro k hk; rw [vus]; by_cases e : k = i
    · subst e; rw [pk_us, pk_us]
    · rw [pk_un e, pk_un (by omega)]; exact wv7 r hk
  · intro k hk; rw [vun _ _ (by omega), pk_un (by omega)]; exact wv8 r hk
  · intro k hk; rw [vun _ _ (by omega), pk_un (by omega)]; exact wv11 r hk
  · intro k hk; rw [vun _ _ (by omega), pk_un (by omega)]; exact wv12 r hk
  · intro p q hp hq; rw [vun _ _ (by omega), pk_un (by omega)]; exact wv9 r hp hq
  · intro p q hp hq; rw [vun _ _ (by omega), pk_un (by omega)]; exact wv10 r hp hq
  · intro k hk; rw [vun _ _ (by omega), pk_un (by omega)]; exact wv13 r hk
  · intro k hk; rw [vun _ _ (by omega), pk_un (by omega)]; exact wv14 r hk
  · intro k z hk hz; rw [vun _ _ (by omega), pk_un (by omega)]; exact wv15 r hk hz
theorem WR.a8 (r : WR σ w S) {i : Nat} (hi : i < 10) (x : Int32) : WR (va_up σ (w + 8) (upd (σ (w + 8)) i x)) w (upd S (92 + 8 * i + 4) x) := by
  refine ⟨⟨?_, ?_, ?_, ?_, ?_, ?_, ?_, ?_, ?_, ?_, ?_, ?_, ?_, ?_, ?_⟩, ?_, ?_, ?_, ?_, ?_, ?_, ?_, ?_, ?_, ?_, ?_, ?_, ?_, ?_, ?_⟩
  · rw [vun _ _ (by omega), pk_un (by omega)]; exact wf0 r
  · rw [vun _ _ (by omega), pk_un (by omega)]; exact wf1 r
  · rw [vun _ _ (by omega), pk_un (by omega)]; exact wf2 r
  · rw [vun _ _ (by omega), pk_un (by omega)]; exact wf3 r
  · rw [vun _ _ (by omega), pk_un (by omega)]; exact wf4 r
  · rw [vun _ _ (by omega), pk_un (by omega)]; exact wf5 r
  · rw [vun _ _ (by omega), pk_un (by omega)]; exact wf6 r
  · rw [vun _ _ (by omega), pk_un (by omega)]; exact wf7 r
  · rw [vun _ _ (by omega), pk_un (by omega)]; exact wf8 r
  · rw [vun _ _ (by omega), pk_un (by omega)]; exact wf9 r
  · rw [vun _ _ (by omega), pk_un (by omega)]; exact wf10 r
  · rw [vun _ _ (by omega), pk_un (by omega)]; exact wf11 r
  · rw [vun _ _ (by omega), pk_un (by omega)]; exact wf12 r
  · rw [vun _ _ (by omega), pk_un (by omega)]; exact wf13 r
  · rw [vun _ _ (by omega), pk_un (by omega)]; exact wf14 r
  · intro k hk; rw [vun _ _ (by omega), pk_un (by omega)]; exact wv1 r hk
  · intro k hk; rw [vun _ _ (by omega), pk_un (by omega)]; exact wv2 r hk
  · intro k hk; rw [vun _ _ (by omega), pk_un (by omega)]; exact wv3 r hk
  · intro k hk; rw [vun _ _ (by omega), pk_un (by omega)]; exact wv4 r hk
  · intro k hk; rw [vun _ _ (by omega), pk_un (by omega)]; exact wv5 r hk
  · intro k hk; rw [vun _ _ (by omega), pk_un (by omega)]; exact wv6 r hk
  · intro k hk; rw [vun _ _ (by omega), pk_un (by omega)]; exact wv7 r hk
  · intro k hk; rw [vus]; by_cases e : k = i
    · subst e; rw [pk_us, pk_us]
    · rw [pk_un e, pk_un (by omega)]; exact wv8 r hk
  · intro k hk; rw [vun _ _ (by omega), pk_un (by omega)]; exact wv11 r hk
  · intro k hk; rw [vun _ _ (by omega), pk_un (by omega)]; exact wv12 r hk
  · intro p q hp hq; rw [vun _ _ (by omega), pk_un (by omega)]; exact wv9 r hp hq
  · intro p q hp hq; rw [vun _ _ (by omega), pk_un (by omega)]; exact wv10 r hp hq
  · intro k hk; rw [vun _ _ (by omega), pk_un (by omega)]; exact wv13 r hk
  · intro k hk; rw [vun _ _ (by omega), pk_un (by omega)]; exact wv14 r hk
  · intro k z hk hz; rw [vun _ _ (by omega), pk_un (by omega)]; exact wv15 r hk hz
theorem WR.a11 (r : WR σ w S) {i : Nat} (hi : i < 10) (x : Int32) : WR (va_up σ (w + 11) (upd (σ (w + 11)) i x)) w (upd S (92 + 8 * i + 6) x) := by
  refine ⟨⟨?_, ?_, ?_, ?_, ?_, ?_, ?_, ?_, ?_, ?_, ?_, ?_, ?_, ?_, ?_⟩, ?_, ?_, ?_, ?_, ?_, ?_, ?_, ?_, ?_, ?_, ?_, ?_, ?_, ?_, ?_⟩
  · rw [vun _ _ (by omega), pk_un (by omega)]; exact wf0 r
  · rw [vun _ _ (by omega), pk_un (by omega)]; exact wf1 r
  · rw [vun _ _ (by omega), pk_un (by omega)]; exact wf2 r
  · rw [vun _ _ (by omega), pk_un (by omega)]; exact wf3 r
  · rw [vun _ _ (by omega), pk_un (by omega)]; exact wf4 r
  · rw [vun _ _ (by omega), pk_un (by omega)]; exact wf5 r
  · rw [vun _ _ (by omega), pk_un (by omega)]; exact wf6 r
  · rw [vun _ _ (by omega), pk_un (by omega)]; exact wf7 r
  · rw [vun _ _ (by omega), pk_un (by omega)]; exact wf8 r
  · rw [vun _ _ (by omega), pk_un (by omega)]; exact wf9 r
  · rw [vun _ _ (by omega), pk_un (by omega)]; exact wf10 r
  · rw [vun _ _ (by omega), pk_un (by omega)]; exact wf11 r
  · rw [vun _ _ (by omega), pk_un (by omega)]; exact wf12 r
  · rw [vun _ _ (by omega), pk_un (by omega)]; exact wf13 r
  · rw [vun _ _ (by omega), pk_un (by omega)]; exact wf14 r
  · intro k hk; rw [vun _ _ (by omega), pk_un (by omega)]; exact wv1 r hk
  · intro k hk; rw [vun _ _ (by omega), pk_un (by omega)]; exact wv2 r hk
  · intro k hk; rw [vun _ _ (by omega), pk_un (by omega)]; exact wv3 r hk
  · intro k hk; rw [vun _ _ (by omega), pk_un (by omega)]; exact wv4 r hk
  · intro k hk; rw [vun _ _ (by omega), pk_un (by omega)]; exact wv5 r hk
  · intro k hk; rw [vun _ _ (by omega), pk_un (by omega)]; exact wv6 r hk
  · intro k hk; rw [vun _ _ (by omega), pk_un (by omega)]; exact wv7 r hk
  · intro k hk; rw [vun _ _ (by omega), pk_un (by omega)]; exact wv8 r hk
  · intro k hk; rw [vus]; by_cases e : k = i
    · subst e; rw [pk_us, pk_us]
    · rw [pk_un e, pk_un (by omega)]; exact wv11 r hk
  · intro k hk; rw [vun _ _ (by omega), pk_un (by omega)]; exact wv12 r hk
  · intro p q hp hq; rw [vun _ _ (by omega), pk_un (by omega)]; exact wv9 r hp hq
  · intro p q hp hq; rw [vun _ _ (by omega), pk_un (by omega)]; exact wv10 r hp hq
  · intro k hk; rw [vun _ _ (by omega), pk_un (by omega)]; exact wv13 r hk
  · intro k hk; rw [vun _ _ (by omega), pk_un (by omega)]; exact wv14 r hk
  · intro k z hk hz; rw [vun _ _ (by omega), pk_un (by omega)]; exact wv15 r hk hz
theorem WR.a12 (r : WR σ w S) {i : Nat} (hi : i < 10) (x : Int32) : WR (va_up σ (w + 12) (upd (σ (w + 12)) i x)) w (upd S (92 + 8 * i + 7) x) := by
  refine ⟨⟨?_, ?_, ?_, ?_, ?_, ?_, ?_, ?_, ?_, ?_, ?_, ?_, ?_, ?_, ?_⟩, ?_, ?_, ?_, ?_, ?_, ?_, ?_, ?_, ?_, ?_, ?_, ?_, ?_, ?_, ?_⟩
  · rw [vun _ _ (by omega), pk_un (by omega)]; exact wf0 r
  · rw [vun _ _ (by omega), pk_un (by omega)]; exact wf1 r
  · rw [vun _ _ (by omega), pk_un (by omega)]; exact wf2 r
  · rw [vun _ _ (by omega), pk_un (by omega)]; exact wf3 r
  · rw [vun _ _ (by omega), pk_un (by omega)]; exact wf4 r
  · rw [vun _ _ (by omega), pk_un (by omega)]; exact wf5 r
  · rw [vun _ _ (by omega), pk_un (by omega)]; exact wf6 r
  · rw [vun _ _ (by omega), pk_un (by omega)]; exact wf7 r
  · rw [vun _ _ (by omega), pk_un (by omega)]; exact wf8 r
  · rw [vun _ _ (by omega), pk_un (by omega)]; exact wf9 r
  · rw [vun _ _ (by omega), pk_un (by omega)]; exact wf10 r
  · rw [vun _ _ (by omega), pk_un (by omega)]; exact wf11 r
  · rw [vun _ _ (by omega), pk_un (by omega)]; exact wf12 r
  · rw [vun _ _ (by omega), pk_un (by omega)]; exact wf13 r
  · rw [vun _ _ (by omega), pk_un (by omega)]; exact wf14 r
  · intro k hk; rw [vun _ _ (by omega), pk_un (by omega)]; exact wv1 r hk
  · intro k hk; rw [vun _ _ (by omega), pk_un (by omega)]; exact wv2 r hk
  · intro k hk; rw [vun _ _ (by omega), pk_un (by omega)]; exact wv3 r hk
  · intro k hk; rw [vun _ _ (by omega), pk_un (by omega)]; exact wv4 r hk
  · intro k hk; rw [vun _ _ (by omega), pk_un (by omega)]; exact wv5 r hk
  · intro k hk; rw [vun _ _ (by omega), pk_un (by omega)]; exact wv6 r hk
  · intro k hk; rw [vun _ _ (by omega), pk_un (by omega)]; exact wv7 r hk
  · intro k hk; rw [vun _ _ (by omega), pk_un (by omega)]; exact wv8 r hk
  · intro k hk; rw [vun _ _ (by omega), pk_un (by omega)]; exact wv11 r hk
  · intro k hk; rw [vus]; by_cases e : k = i
    · subst e; rw [pk_us, pk_us]
    · rw [pk_un e, pk_un (by omega)]; exact wv12 r hk
  · intro p q hp hq; rw [vun _ _ (by omega), pk_un (by omega)]; exact wv9 r hp hq
  · intro p q hp hq; rw [vun _ _ (by omega), pk_un (by omega)]; exact wv10 r hp hq
  · intro k hk; rw [vun _ _ (by omega), pk_un (by omega)]; exact wv13 r hk
  · intro k hk; rw [vun _ _ (by omega), pk_un (by omega)]; exact wv14 r hk
  · intro k z hk hz; rw [vun _ _ (by omega), pk_un (by omega)]; exact wv15 r hk hz
theorem WR.a9 (r : WR σ w S) {i j : Nat} (hi : i < 10) (hj : j < 10) (x : Int32) : WR (va_up σ (w + 9) (upd (σ (w + 9)) (10 * i + j) x)) w (upd S (172 + 10 * i + j) x) := by
  refine ⟨⟨?_, ?_, ?_, ?_, ?_, ?_, ?_, ?_, ?_, ?_, ?_, ?_, ?_, ?_, ?_⟩, ?_, ?_, ?_, ?_, ?_, ?_, ?_, ?_, ?_, ?_, ?_, ?_, ?_, ?_, ?_⟩
  · rw [vun _ _ (by omega), pk_un (by omega)]; exact wf0 r
  · rw [vun _ _ (by omega), pk_un (by omega)]; exact wf1 r
  · rw [vun _ _ (by omega), pk_un (by omega)]; exact wf2 r
  · rw [vun _ _ (by omega), pk_un (by omega)]; exact wf3 r
  · rw [vun _ _ (by omega), pk_un (by omega)]; exact wf4 r
  · rw [vun _ _ (by omega), pk_un (by omega)]; exact wf5 r
  · rw [vun _ _ (by omega), pk_un (by omega)]; exact wf6 r
  · rw [vun _ _ (by omega), pk_un (by omega)]; exact wf7 r
  · rw [vun _ _ (by omega), pk_un (by omega)]; exact wf8 r
  · rw [vun _ _ (by omega), pk_un (by omega)]; exact wf9 r
  · rw [vun _ _ (by omega), pk_un (by omega)]; exact wf10 r
  · rw [vun _ _ (by omega), pk_un (by omega)]; exact wf11 r
  · rw [vun _ _ (by omega), pk_un (by omega)]; exact wf12 r
  · rw [vun _ _ (by omega), pk_un (by omega)]; exact wf13 r
  · rw [vun _ _ (by omega), pk_un (by omega)]; exact wf14 r
  · intro k hk; rw [vun _ _ (by omega), pk_un (by omega)]; exact wv1 r hk
  · intro k hk; rw [vun _ _ (by omega), pk_un (by omega)]; exact wv2 r hk
  · intro k hk; rw [vun _ _ (by omega), pk_un (by omega)]; exact wv3 r hk
  · intro k hk; rw [vun _ _ (by omega), pk_un (by omega)]; exact wv4 r hk
  · intro k hk; rw [vun _ _ (by omega), pk_un (by omega)]; exact wv5 r hk
  · intro k hk; rw [vun _ _ (by omega), pk_un (by omega)]; exact wv6 r hk
  · intro k hk; rw [vun _ _ (by omega), pk_un (by omega)]; exact wv7 r hk
  · intro k hk; rw [vun _ _ (by omega), pk_un (by omega)]; exact wv8 r hk
  · intro k hk; rw [vun _ _ (by omega), pk_un (by omega)]; exact wv11 r hk
  · intro k hk; rw [vun _ _ (by omega), pk_un (by omega)]; exact wv12 r hk
  · intro p q hp hq; rw [vus]; by_cases e : 10 * p + q = 10 * i + j
    · rw [show p = i by omega, show q = j by omega, pk_us, pk_us]
    · rw [pk_un e, pk_un (by omega)]; exact wv9 r hp hq
  · intro p q hp hq; rw [vun _ _ (by omega), pk_un (by omega)]; exact wv10 r hp hq
  · intro k hk; rw [vun _ _ (by omega), pk_un (by omega)]; exact wv13 r hk
  · intro k hk; rw [vun _ _ (by omega), pk_un (by omega)]; exact wv14 r hk
  · intro k z hk hz; rw [vun _ _ (by omega), pk_un (by omega)]; exact wv15 r hk hz
theorem WR.a10 (r : WR σ w S) {i j : Nat} (hi : i < 10) (hj : j < 10) (x : Int32) : WR (va_up σ (w + 10) (upd (σ (w + 10)) (10 * i + j) x)) w (upd S (272 + 10 * i + j) x) := by
  refine ⟨⟨?_, ?_, ?_, ?_, ?_, ?_, ?_, ?_, ?_, ?_, ?_, ?_, ?_, ?_, ?_⟩, ?_, ?_, ?_, ?_, ?_, ?_, ?_, ?_, ?_, ?_, ?_, ?_, ?_, ?_, ?_⟩
  · rw [vun _ _ (by omega), pk_un (by omega)]; exact wf0 r
  · rw [vun _ _ (by omega), pk_un (by omega)]; exact wf1 r
  · rw [vun _ _ (by omega), pk_un (by omega)]; exact wf2 r
  · rw [vun _ _ (by omega), pk_un (by omega)]; exact wf3 r
  · rw [vun _ _ (by omega), pk_un (by omega)]; exact wf4 r
  · rw [vun _ _ (by omega), pk_un (by omega)]; exact wf5 r
  · rw [vun _ _ (by omega), pk_un (by omega)]; exact wf6 r
  · rw [vun _ _ (by omega), pk_un (by omega)]; exact wf7 r
  · rw [vun _ _ (by omega), pk_un (by omega)]; exact wf8 r
  · rw [vun _ _ (by omega), pk_un (by omega)]; exact wf9 r
  · rw [vun _ _ (by omega), pk_un (by omega)]; exact wf10 r
  · rw [vun _ _ (by omega), pk_un (by omega)]; exact wf11 r
  · rw [vun _ _ (by omega), pk_un (by omega)]; exact wf12 r
  · rw [vun _ _ (by omega), pk_un (by omega)]; exact wf13 r
  · rw [vun _ _ (by omega), pk_un (by omega)]; exact wf14 r
  · intro k hk; rw [vun _ _ (by omega), pk_un (by omega)]; exact wv1 r hk
  · intro k hk; rw [vun _ _ (by omega), pk_un (by omega)]; exact wv2 r hk
  · intro k hk; rw [vun _ _ (by omega), pk_un (by omega)]; exact wv3 r hk
  · intro k hk; rw [vun _ _ (by omega), pk_un (by omega)]; exact wv4 r hk
  · intro k hk; rw [vun _ _ (by omega), pk_un (by omega)]; exact wv5 r hk
  · intro k hk; rw [vun _ _ (by omega), pk_un (by omega)]; exact wv6 r hk
  · intro k hk; rw [vun _ _ (by omega), pk_un (by omega)]; exact wv7 r hk
  · intro k hk; rw [vun _ _ (by omega), pk_un (by omega)]; exact wv8 r hk
  · intro k hk; rw [vun _ _ (by omega), pk_un (by omega)]; exact wv11 r hk
  · intro k hk; rw [vun _ _ (by omega), pk_un (by omega)]; exact wv12 r hk
  · intro p q hp hq; rw [vun _ _ (by omega), pk_un (by omega)]; exact wv9 r hp hq
  · intro p q hp hq; rw [vus]; by_cases e : 10 * p + q = 10 * i + j
    · rw [show p = i by omega, show q = j by omega, pk_us, pk_us]
    · rw [pk_un e, pk_un (by omega)]; exact wv10 r hp hq
  · intro k hk; rw [vun _ _ (by omega), pk_un (by omega)]; exact wv13 r hk
  · intro k hk; rw [vun _ _ (by omega), pk_un (by omega)]; exact wv14 r hk
  · intro k z hk hz; rw [vun _ _ (by omega), pk_un (by omega)]; exact wv15 r hk hz
theorem WR.a13 (r : WR σ w S) {i : Nat} (hi : i < 24) (x : Int32) : WR (va_up σ (w + 13) (upd (σ (w + 13)) i x)) w (upd S (372 + 2 * i) x) := by
  refine ⟨⟨?_, ?_, ?_, ?_, ?_, ?_, ?_, ?_, ?_, ?_, ?_, ?_, ?_, ?_, ?_⟩, ?_, ?_, ?_, ?_, ?_, ?_, ?_, ?_, ?_, ?_, ?_, ?_, ?_, ?_, ?_⟩
  · rw [vun _ _ (by omega), pk_un (by omega)]; exact wf0 r
  · rw [vun _ _ (by omega), pk_un (by omega)]; exact wf1 r
  · rw [vun _ _ (by omega), pk_un (by omega)]; exact wf2 r
  · rw [vun _ _ (by omega), pk_un (by omega)]; exact wf3 r
  · rw [vun _ _ (by omega), pk_un (by omega)]; exact wf4 r
  · rw [vun _ _ (by omega), pk_un (by omega)]; exact wf5 r
  · rw [vun _ _ (by omega), pk_un (by omega)]; exact wf6 r
  · rw [vun _ _ (by omega), pk_un (by omega)]; exact wf7 r
  · rw [vun _ _ (by omega), pk_un (by omega)]; exact wf8 r
  · rw [vun _ _ (by omega), pk_un (by omega)]; exact wf9 r
  · rw [vun _ _ (by omega), pk_un (by omega)]; exact wf10 r
  · rw [vun _ _ (by omega), pk_un (by omega)]; exact wf11 r
  · rw [vun _ _ (by omega), pk_un (by omega)]; exact wf12 r
  · rw [vun _ _ (by omega), pk_un (by omega)]; exact wf13 r
  · rw [vun _ _ (by omega), pk_un (by omega)]; exact wf14 r
  · intro k hk; rw [vun _ _ (by omega), pk_un (by omega)]; exact wv1 r hk
  · intro k hk; rw [vun _ _ (by omega), pk_un (by omega)]; exact wv2 r hk
  · intro k hk; rw [vun _ _ (by omega), pk_un (by omega)]; exact wv3 r hk
  · intro k hk; rw [vun _ _ (by omega), pk_un (by omega)]; exact wv4 r hk
  · intro k hk; rw [vun _ _ (by omega), pk_un (by omega)]; exact wv5 r hk
  · intro k hk; rw [vun _ _ (by omega), pk_un (by omega)]; exact wv6 r hk
  · intro k hk; rw [vun _ _ (by omega), pk_un (by omega)]; exact wv7 r hk
  · intro k hk; rw [vun _ _ (by omega), pk_un (by omega)]; exact wv8 r hk
  · intro k hk; rw [vun _ _ (by omega), pk_un (by omega)]; exact wv11 r hk
  · intro k hk; rw [vun _ _ (by omega), pk_un (by omega)]; exact wv12 r hk
  · intro p q hp hq; rw [vun _ _ (by omega), pk_un (by omega)]; exact wv9 r hp hq
  · intro p q hp hq; rw [vun _ _ (by omega), pk_un (by omega)]; exact wv10 r hp hq
  · intro k hk; rw [vus]; by_cases e : k = i
    · subst e; rw [pk_us, pk_us]
    · rw [pk_un e, pk_un (by omega)]; exact wv13 r hk
  · intro k hk; rw [vun _ _ (by omega), pk_un (by omega)]; exact wv14 r hk
  · intro k z hk hz; rw [vun _ _ (by omega), pk_un (by omega)]; exact wv15 r hk hz
theorem WR.a14 (r : WR σ w S) {i : Nat} (hi : i < 24) (x : Int32) : WR (va_up σ (w + 14) (upd (σ (w + 14)) i x)) w (upd S (372 + 2 * i + 1) x) := by
  refine ⟨⟨?_, ?_, ?_, ?_, ?_, ?_, ?_, ?_, ?_, ?_, ?_, ?_, ?_, ?_, ?_⟩, ?_, ?_, ?_, ?_, ?_, ?_, ?_, ?_, ?_, ?_, ?_, ?_, ?_, ?_, ?_⟩
  · rw [vun _ _ (by omega), pk_un (by omega)]; exact wf0 r
  · rw [vun _ _ (by omega), pk_un (by omega)]; exact wf1 r
  · rw [vun _ _ (by omega), pk_un (by omega)]; exact wf2 r
  · rw [vun _ _ (by omega), pk_un (by omega)]; exact wf3 r
  · rw [vun _ _ (by omega), pk_un (by omega)]; exact wf4 r
  · rw [vun _ _ (by omega), pk_un (by omega)]; exact wf5 r
  · rw [vun _ _ (by omega), pk_un (by omega)]; exact wf6 r
  · rw [vun _ _ (by omega), pk_un (by omega)]; exact wf7 r
  · rw [vun _ _ (by omega), pk_un (by omega)]; exact wf8 r
  · rw [vun _ _ (by omega), pk_un (by omega)]; exact wf9 r
  · rw [vun _ _ (by omega), pk_un (by omega)]; exact wf10 r
  · rw [vun _ _ (by omega), pk_un (by omega)]; exact wf11 r
  · rw [vun _ _ (by omega), pk_un (by omega)]; exact wf12 r
  · rw [vun _ _ (by omega), pk_un (by omega)]; exact wf13 r
  · rw [vun _ _ (by omega), pk_un (by omega)]; exact wf14 r
  · intro k hk; rw [vun _ _ (by omega), pk_un (by omega)]; exact wv1 r hk
  · intro k hk; rw [vun _ _ (by omega), pk_un (by omega)]; exact wv2 r hk
  · intro k hk; rw [vun _ _ (by omega), pk_un (by omega)]; exact wv3 r hk
  · intro k hk; rw [vun _ _ (by omega), pk_un (by omega)]; exact wv4 r hk
  · intro k hk; rw [vun _ _ (by omega), pk_un (by omega)]; exact wv5 r hk
  · intro k hk; rw [vun _ _ (by omega), pk_un (by omega)]; exact wv6 r hk
  · intro k hk; rw [vun _ _ (by omega), pk_un (by omega)]; exact wv7 r hk
  · intro k hk; rw [vun _ _ (by omega), pk_un (by omega)]; exact wv8 r hk
  · intro k hk; rw [vun _ _ (by omega), pk_un (by omega)]; exact wv11 r hk
  · intro k hk; rw [vun _ _ (by omega), pk_un (by omega)]; exact wv12 r hk
  · intro p q hp hq; rw [vun _ _ (by omega), pk_un (by omega)]; exact wv9 r hp hq
  · intro p q hp hq; rw [vun _ _ (by omega), pk_un (by omega)]; exact wv10 r hp hq
  · intro k hk; rw [vun _ _ (by omega), pk_un (by omega)]; exact wv13 r hk
  · intro k hk; rw [vus]; by_cases e : k = i
    · subst e; rw [pk_us, pk_us]
    · rw [pk_un e, pk_un (by omega)]; exact wv14 r hk
  · intro k z hk hz; rw [vun _ _ (by omega), pk_un (by omega)]; exact wv15 r hk hz
theorem WR.a15 (r : WR σ w S) {i j : Nat} (hi : i < 60) (hj : j < 8) (x : Int32) : WR (va_up σ (w + 15) (upd (σ (w + 15)) (8 * i + j) x)) w (upd S (420 + 8 * i + j) x) := by
  refine ⟨⟨?_, ?_, ?_, ?_, ?_, ?_, ?_, ?_, ?_, ?_, ?_, ?_, ?_, ?_, ?_⟩, ?_, ?_, ?_, ?_, ?_, ?_, ?_, ?_, ?_, ?_, ?_, ?_, ?_, ?_, ?_⟩
  · rw [vun _ _ (by omega), pk_un (by omega)]; exact wf0 r
  · rw [vun _ _ (by omega), pk_un (by omega)]; exact wf1 r
  · rw [vun _ _ (by omega), pk_un (by omega)]; exact wf2 r
  · rw [vun _ _ (by omega), pk_un (by omega)]; exact wf3 r
  · rw [vun _ _ (by omega), pk_un (by omega)]; exact wf4 r
  · rw [vun _ _ (by omega), pk_un (by omega)]; exact wf5 r
  · rw [vun _ _ (by omega), pk_un (by omega)]; exact wf6 r
  · rw [vun _ _ (by omega), pk_un (by omega)]; exact wf7 r
  · rw [vun _ _ (by omega), pk_un (by omega)]; exact wf8 r
  · rw [vun _ _ (by omega), pk_un (by omega)]; exact wf9 r
  · rw [vun _ _ (by omega), pk_un (by omega)]; exact wf10 r
  · rw [vun _ _ (by omega), pk_un (by omega)]; exact wf11 r
  · rw [vun _ _ (by omega), pk_un (by omega)]; exact wf12 r
  · rw [vun _ _ (by omega), pk_un (by omega)]; exact wf13 r
  · rw [vun _ _ (by omega), pk_un (by omega)]; exact wf14 r
  · intro k hk; rw [vun _ _ (by omega), pk_un (by omega)]; exact wv1 r hk
  · intro k hk; rw [vun _ _ (by omega), pk_un (by omega)]; exact wv2 r hk
  · intro k hk; rw [vun _ _ (by omega), pk_un (by omega)]; exact wv3 r hk
  · intro k hk; rw [vun _ _ (by omega), pk_un (by omega)]; exact wv4 r hk
  · intro k hk; rw [vun _ _ (by omega), pk_un (by omega)]; exact wv5 r hk
  · intro k hk; rw [vun _ _ (by omega), pk_un (by omega)]; exact wv6 r hk
  · intro k hk; rw [vun _ _ (by omega), pk_un (by omega)]; exact wv7 r hk
  · intro k hk; rw [vun _ _ (by omega), pk_un (by omega)]; exact wv8 r hk
  · intro k hk; rw [vun _ _ (by omega), pk_un (by omega)]; exact wv11 r hk
  · intro k hk; rw [vun _ _ (by omega), pk_un (by omega)]; exact wv12 r hk
  · intro p q hp hq; rw [vun _ _ (by omega), pk_un (by omega)]; exact wv9 r hp hq
  · intro p q hp hq; rw [vun _ _ (by omega), pk_un (by omega)]; exact wv10 r hp hq
  · intro k hk; rw [vun _ _ (by omega), pk_un (by omega)]; exact wv13 r hk
  · intro k hk; rw [vun _ _ (by omega), pk_un (by omega)]; exact wv14 r hk
  · intro k z hk hz; rw [vus]; by_cases e : 8 * k + z = 8 * i + j
    · rw [show k = i by omega, show z = j by omega, pk_us, pk_us]
    · rw [pk_un e, pk_un (by omega)]; exact wv15 r hk hz
theorem WR.no (r : WR σ w S) {i : Nat} (hi : i = 1 ∨ i = 2 ∨ 900 ≤ i ∨ ∃ p, p < 10 ∧ i = 92 + 8 * p + 5) (x : Int32) : WR σ w (upd S i x) := by
  refine ⟨⟨?_, ?_, ?_, ?_, ?_, ?_, ?_, ?_, ?_, ?_, ?_, ?_, ?_, ?_, ?_⟩, ?_, ?_, ?_, ?_, ?_, ?_, ?_, ?_, ?_, ?_, ?_, ?_, ?_, ?_, ?_⟩
  · rw [pk_un (by omega)]; exact wf0 r
  · rw [pk_un (by omega)]; exact wf1 r
  · rw [pk_un (by omega)]; exact wf2 r
  · rw [pk_un (by omega)]; exact wf3 r
  · rw [pk_un (by omega)]; exact wf4 r
  · rw [pk_un (by omega)]; exact wf5 r
  · rw [pk_un (by omega)]; exact wf6 r
  · rw [pk_un (by omega)]; exact wf7 r
  · rw [pk_un (by omega)]; exact wf8 r
  · rw [pk_un (by omega)]; exact wf9 r
  · rw [pk_un (by omega)]; exact wf10 r
  · rw [pk_un (by omega)]; exact wf11 r
  · rw [pk_un (by omega)]; exact wf12 r
  · rw [pk_un (by omega)]; exact wf13 r
  · rw [pk_un (by omega)]; exact wf14 r
  · intro k hk; rw [pk_un (by omega)]; exact wv1 r hk
  · intro k hk; rw [pk_un (by omega)]; exact wv2 r hk
  · intro k hk; rw [pk_un (by omega)]; exact wv3 r hk
  · intro k hk; rw [pk_un (by omega)]; exact wv4 r hk
  · intro k hk; rw [pk_un (by omega)]; exact wv5 r hk
  · intro k hk; rw [pk_un (by omega)]; exact wv6 r hk
  · intro k hk; rw [pk_un (by omega)]; exact wv7 r hk
  · intro k hk; rw [pk_un (by omega)]; exact wv8 r hk
  · intro k hk; rw [pk_un (by omega)]; exact wv11 r hk
  · intro k hk; rw [pk_un (by omega)]; exact wv12 r hk
  · intro p q hp hq; rw [pk_un (by omega)]; exact wv9 r hp hq
  · intro p q hp hq; rw [pk_un (by omega)]; exact wv10 r hp hq
  · intro k hk; rw [pk_un (by omega)]; exact wv13 r hk
  · intro k hk; rw [pk_un (by omega)]; exact wv14 r hk
  · intro k z hk hz; rw [pk_un (by omega)]; exact wv15 r hk hz
end
