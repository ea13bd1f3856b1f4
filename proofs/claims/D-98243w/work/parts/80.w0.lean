/-! THE COMPONENT: worlds, throws -/
set_option maxRecDepth 100000
def wKd (j : Nat) : Nat := match j with | 8 => 52 | _ => 50
def wLen (j : Nat) : Nat := match j with | 1 => 24 | 2 => 24 | 3 => 24 | 9 => 100 | 10 => 100 | 13 => 24 | 14 => 24 | 15 => 480 | _ => 10
/-- a world at w, its arrays behind it -/
def WS (h : MH) (w : Nat) : Prop := 300 ≤ w ∧ kd h w = 2 ∧ ∀ j, 1 ≤ j → j ≤ 15 → iR h w (14 + j) = w + j ∧ kd h (w + j) = wKd j ∧ ln h (w + j) = wLen j
theorem wg {h : MH} {w : Nat} (s : WS h w) : 300 ≤ w := s.1
theorem wgj {h : MH} {w : Nat} (s : WS h w) (j : Nat) : 300 ≤ w + j := by have := s.1; omega
theorem wk {h : MH} {w : Nat} (s : WS h w) : kd h w = 2 := s.2.1
theorem wr15 {h : MH} {w : Nat} (s : WS h w) : iR h w 15 = w + 1 := (s.2.2 1 (by decide) (by decide)).1
theorem wk1 {h : MH} {w : Nat} (s : WS h w) : kd h (w + 1) = 50 := (s.2.2 1 (by decide) (by decide)).2.1
theorem wl1 {h : MH} {w : Nat} (s : WS h w) : ln h (w + 1) = 24 := (s.2.2 1 (by decide) (by decide)).2.2
theorem wr16 {h : MH} {w : Nat} (s : WS h w) : iR h w 16 = w + 2 := (s.2.2 2 (by decide) (by decide)).1
theorem wk2 {h : MH} {w : Nat} (s : WS h w) : kd h (w + 2) = 50 := (s.2.2 2 (by decide) (by decide)).2.1
theorem wl2 {h : MH} {w : Nat} (s : WS h w) : ln h (w + 2) = 24 := (s.2.2 2 (by decide) (by decide)).2.2
theorem wr17 {h : MH} {w : Nat} (s : WS h w) : iR h w 17 = w + 3 := (s.2.2 3 (by decide) (by decide)).1
theorem wk3 {h : MH} {w : Nat} (s : WS h w) : kd h (w + 3) = 50 := (s.2.2 3 (by decide) (by decide)).2.1
theorem wl3 {h : MH} {w : Nat} (s : WS h w) : ln h (w + 3) = 24 := (s.2.2 3 (by decide) (by decide)).2.2
theorem wr18 {h : MH} {w : Nat} (s : WS h w) : iR h w 18 = w + 4 := (s.2.2 4 (by decide) (by decide)).1
theorem wk4 {h : MH} {w : Nat} (s : WS h w) : kd h (w + 4) = 50 := (s.2.2 4 (by decide) (by decide)).2.1
theorem wl4 {h : MH} {w : Nat} (s : WS h w) : ln h (w + 4) = 10 := (s.2.2 4 (by decide) (by decide)).2.2
theorem wr19 {h : MH} {w : Nat} (s : WS h w) : iR h w 19 = w + 5 := (s.2.2 5 (by decide) (by decide)).1
theorem wk5 {h : MH} {w : Nat} (s : WS h w) : kd h (w + 5) = 50 := (s.2.2 5 (by decide) (by decide)).2.1
theorem wl5 {h : MH} {w : Nat} (s : WS h w) : ln h (w + 5) = 10 := (s.2.2 5 (by decide) (by decide)).2.2
theorem wr20 {h : MH} {w : Nat} (s : WS h w) : iR h w 20 = w + 6 := (s.2.2 6 (by decide) (by decide)).1
theorem wk6 {h : MH} {w : Nat} (s : WS h w) : kd h (w + 6) = 50 := (s.2.2 6 (by decide) (by decide)).2.1
theorem wl6 {h : MH} {w : Nat} (s : WS h w) : ln h (w + 6) = 10 := (s.2.2 6 (by decide) (by decide)).2.2
theorem wr21 {h : MH} {w : Nat} (s : WS h w) : iR h w 21 = w + 7 := (s.2.2 7 (by decide) (by decide)).1
theorem wk7 {h : MH} {w : Nat} (s : WS h w) : kd h (w + 7) = 50 := (s.2.2 7 (by decide) (by decide)).2.1
theorem wl7 {h : MH} {w : Nat} (s : WS h w) : ln h (w + 7) = 10 := (s.2.2 7 (by decide) (by decide)).2.2
theorem wr22 {h : MH} {w : Nat} (s : WS h w) : iR h w 22 = w + 8 := (s.2.2 8 (by decide) (by decide)).1
theorem wk8 {h : MH} {w : Nat} (s : WS h w) : kd h (w + 8) = 52 := (s.2.2 8 (by decide) (by decide)).2.1
theorem wl8 {h : MH} {w : Nat} (s : WS h w) : ln h (w + 8) = 10 := (s.2.2 8 (by decide) (by decide)).2.2
theorem wr23 {h : MH} {w : Nat} (s : WS h w) : iR h w 23 = w + 9 := (s.2.2 9 (by decide) (by decide)).1
theorem wk9 {h : MH} {w : Nat} (s : WS h w) : kd h (w + 9) = 50 := (s.2.2 9 (by decide) (by decide)).2.1
theorem wl9 {h : MH} {w : Nat} (s : WS h w) : ln h (w + 9) = 100 := (s.2.2 9 (by decide) (by decide)).2.2
theorem wr24 {h : MH} {w : Nat} (s : WS h w) : iR h w 24 = w + 10 := (s.2.2 10 (by decide) (by decide)).1
theorem wk10 {h : MH} {w : Nat} (s : WS h w) : kd h (w + 10) = 50 := (s.2.2 10 (by decide) (by decide)).2.1
theorem wl10 {h : MH} {w : Nat} (s : WS h w) : ln h (w + 10) = 100 := (s.2.2 10 (by decide) (by decide)).2.2
theorem wr25 {h : MH} {w : Nat} (s : WS h w) : iR h w 25 = w + 11 := (s.2.2 11 (by decide) (by decide)).1
theorem wk11 {h : MH} {w : Nat} (s : WS h w) : kd h (w + 11) = 50 := (s.2.2 11 (by decide) (by decide)).2.1
theorem wl11 {h : MH} {w : Nat} (s : WS h w) : ln h (w + 11) = 10 := (s.2.2 11 (by decide) (by decide)).2.2
theorem wr26 {h : MH} {w : Nat} (s : WS h w) : iR h w 26 = w + 12 := (s.2.2 12 (by decide) (by decide)).1
theorem wk12 {h : MH} {w : Nat} (s : WS h w) : kd h (w + 12) = 50 := (s.2.2 12 (by decide) (by decide)).2.1
theorem wl12 {h : MH} {w : Nat} (s : WS h w) : ln h (w + 12) = 10 := (s.2.2 12 (by decide) (by decide)).2.2
theorem wr27 {h : MH} {w : Nat} (s : WS h w) : iR h w 27 = w + 13 := (s.2.2 13 (by decide) (by decide)).1
theorem wk13 {h : MH} {w : Nat} (s : WS h w) : kd h (w + 13) = 50 := (s.2.2 13 (by decide) (by decide)).2.1
theorem wl13 {h : MH} {w : Nat} (s : WS h w) : ln h (w + 13) = 24 := (s.2.2 13 (by decide) (by decide)).2.2
theorem wr28 {h : MH} {w : Nat} (s : WS h w) : iR h w 28 = w + 14 := (s.2.2 14 (by decide) (by decide)).1
theorem wk14 {h : MH} {w : Nat} (s : WS h w) : kd h (w + 14) = 50 := (s.2.2 14 (by decide) (by decide)).2.1
theorem wl14 {h : MH} {w : Nat} (s : WS h w) : ln h (w + 14) = 24 := (s.2.2 14 (by decide) (by decide)).2.2
theorem wr29 {h : MH} {w : Nat} (s : WS h w) : iR h w 29 = w + 15 := (s.2.2 15 (by decide) (by decide)).1
theorem wk15 {h : MH} {w : Nat} (s : WS h w) : kd h (w + 15) = 50 := (s.2.2 15 (by decide) (by decide)).2.1
theorem wl15 {h : MH} {w : Nat} (s : WS h w) : ln h (w + 15) = 480 := (s.2.2 15 (by decide) (by decide)).2.2
/-- what a world holds, as the row S has it -/
def WR (σ : Nat → Nat → Int32) (w : Nat) (S : Nat → Int32) : Prop := (σ w 0 = S 0 ∧ σ w 1 = S 3 ∧ σ w 2 = S 4 ∧ σ w 3 = S 5 ∧ σ w 4 = S 6 ∧ σ w 5 = S 7 ∧ σ w 6 = S 8 ∧ σ w 7 = S 9 ∧ σ w 8 = S 10 ∧ σ w 9 = S 11 ∧ σ w 10 = S 12 ∧ σ w 11 = S 13 ∧ σ w 12 = S 14 ∧ σ w 13 = S 15 ∧ σ w 14 = S 16) ∧ (∀ (k : Nat), k < 24 → σ (w + 1) k = S (20 + 3 * k)) ∧ (∀ (k : Nat), k < 24 → σ (w + 2) k = S (20 + 3 * k + 1)) ∧ (∀ (k : Nat), k < 24 → σ (w + 3) k = S (20 + 3 * k + 2)) ∧ (∀ (p : Nat), p < 10 → σ (w + 4) p = S (92 + 8 * p + 0)) ∧ (∀ (p : Nat), p < 10 → σ (w + 5) p = S (92 + 8 * p + 1)) ∧ (∀ (p : Nat), p < 10 → σ (w + 6) p = S (92 + 8 * p + 2)) ∧ (∀ (p : Nat), p < 10 → σ (w + 7) p = S (92 + 8 * p + 3)) ∧ (∀ (p : Nat), p < 10 → σ (w + 8) p = S (92 + 8 * p + 4)) ∧ (∀ (p : Nat), p < 10 → σ (w + 11) p = S (92 + 8 * p + 6)) ∧ (∀ (p : Nat), p < 10 → σ (w + 12) p = S (92 + 8 * p + 7)) ∧ (∀ (p q : Nat), p < 10 → q < 10 → σ (w + 9) (10 * p + q) = S (172 + 10 * p + q)) ∧ (∀ (p q : Nat), p < 10 → q < 10 → σ (w + 10) (10 * p + q) = S (272 + 10 * p + q)) ∧ (∀ (k : Nat), k < 24 → σ (w + 13) k = S (372 + 2 * k)) ∧ (∀ (k : Nat), k < 24 → σ (w + 14) k = S (372 + 2 * k + 1)) ∧ (∀ (k v : Nat), k < 60 → v < 8 → σ (w + 15) (8 * k + v) = S (420 + 8 * k + v))
theorem wf0 {σ : Nat → Nat → Int32} {w : Nat} {S : Nat → Int32} (r : WR σ w S) : σ w 0 = S 0 := r.1.1
theorem wf1 {σ : Nat → Nat → Int32} {w : Nat} {S : Nat → Int32} (r : WR σ w S) : σ w 1 = S 3 := r.1.2.1
theorem wf2 {σ : Nat → Nat → Int32} {w : Nat} {S : Nat → Int32} (r : WR σ w S) : σ w 2 = S 4 := r.1.2.2.1
theorem wf3 {σ : Nat → Nat → Int32} {w : Nat} {S : Nat → Int32} (r : WR σ w S) : σ w 3 = S 5 := r.1.2.2.2.1
theorem wf4 {σ : Nat → Nat → Int32} {w : Nat} {S : Nat → Int32} (r : WR σ w S) : σ w 4 = S 6 := r.1.2.2.2.2.1
theorem wf5 {σ : Nat → Nat → Int32} {w : Nat} {S : Nat → Int32} (r : WR σ w S) : σ w 5 = S 7 := r.1.2.2.2.2.2.1
theorem wf6 {σ : Nat → Nat → Int32} {w : Nat} {S : Nat → Int32} (r : WR σ w S) : σ w 6 = S 8 := r.1.2.2.2.2.2.2.1
theorem wf7 {σ : Nat → Nat → Int32} {w : Nat} {S : Nat → Int32} (r : WR σ w S) : σ w 7 = S 9 := r.1.2.2.2.2.2.2.2.1
theorem wf8 {σ : Nat → Nat → Int32} {w : Nat} {S : Nat → Int32} (r : WR σ w S) : σ w 8 = S 10 := r.1.2.2.2.2.2.2.2.2.1
theorem wf9 {σ : Nat → Nat → Int32} {w : Nat} {S : Nat → Int32} (r : WR σ w S) : σ w 9 = S 11 := r.1.2.2.2.2.2.2.2.2.2.1
theorem wf10 {σ : Nat → Nat → Int32} {w : Nat} {S : Nat → Int32} (r : WR σ w S) : σ w 10 = S 12 := r.1.2.2.2.2.2.2.2.2.2.2.1
theorem wf11 {σ : Nat → Nat → Int32} {w : Nat} {S : Nat → Int32} (r : WR σ w S) : σ w 11 = S 13 := r.1.2.2.2.2.2.2.2.2.2.2.2.1
theorem wf12 {σ : Nat → Nat → Int32} {w : Nat} {S : Nat → Int32} (r : WR σ w S) : σ w 12 = S 14 := r.1.2.2.2.2.2.2.2.2.2.2.2.2.1
theorem wf13 {σ : Nat → Nat → Int32} {w : Nat} {S : Nat → Int32} (r : WR σ w S) : σ w 13 = S 15 := r.1.2.2.2.2.2.2.2.2.2.2.2.2.2.1
theorem wf14 {σ : Nat → Nat → Int32} {w : Nat} {S : Nat → Int32} (r : WR σ w S) : σ w 14 = S 16 := r.1.2.2.2.2.2.2.2.2.2.2.2.2.2.2
theorem wv1 {σ : Nat → Nat → Int32} {w : Nat} {S : Nat → Int32} (r : WR σ w S) {k : Nat} (h0 : k < 24) : σ (w + 1) k = S (20 + 3 * k) := r.2.1 k h0
theorem wv2 {σ : Nat → Nat → Int32} {w : Nat} {S : Nat → Int32} (r : WR σ w S) {k : Nat} (h0 : k < 24) : σ (w + 2) k = S (20 + 3 * k + 1) := r.2.2.1 k h0
theorem wv3 {σ : Nat → Nat → Int32} {w : Nat} {S : Nat → Int32} (r : WR σ w S) {k : Nat} (h0 : k < 24) : σ (w + 3) k = S (20 + 3 * k + 2) := r.2.2.2.1 k h0
theorem wv4 {σ : Nat → Nat → Int32} {w : Nat} {S : Nat → Int32} (r : WR σ w S) {p : Nat} (h0 : p < 10) : σ (w + 4) p = S (92 + 8 * p + 0) := r.2.2.2.2.1 p h0
theorem wv5 {σ : Nat → Nat → Int32} {w : Nat} {S : Nat → Int32} (r : WR σ w S) {p : Nat} (h0 : p < 10) : σ (w + 5) p = S (92 + 8 * p + 1) := r.2.2.2.2.2.1 p h0
theorem wv6 {σ : Nat → Nat → Int32} {w : Nat} {S : Nat → Int32} (r : WR σ w S) {p : Nat} (h0 : p < 10) : σ (w + 6) p = S (92 + 8 * p + 2) := r.2.2.2.2.2.2.1 p h0
theorem wv7 {σ : Nat → Nat → Int32} {w : Nat} {S : Nat → Int32} (r : WR σ w S) {p : Nat} (h0 : p < 10) : σ (w + 7) p = S (92 + 8 * p + 3) := r.2.2.2.2.2.2.2.1 p h0
theorem wv8 {σ : Nat → Nat → Int32} {w : Nat} {S : Nat → Int32} (r : WR σ w S) {p : Nat} (h0 : p < 10) : σ (w + 8) p = S (92 + 8 * p + 4) := r.2.2.2.2.2.2.2.2.1 p h0
theorem wv11 {σ : Nat → Nat → Int32} {w : Nat} {S : Nat → Int32} (r : WR σ w S) {p : Nat} (h0 : p < 10) : σ (w + 11) p = S (92 + 8 * p + 6) := r.2.2.2.2.2.2.2.2.2.1 p h0
theorem wv12 {σ : Nat → Nat → Int32} {w : Nat} {S : Nat → Int32} (r : WR σ w S) {p : Nat} (h0 : p < 10) : σ (w + 12) p = S (92 + 8 * p + 7) := r.2.2.2.2.2.2.2.2.2.2.1 p h0
theorem wv9 {σ : Nat → Nat → Int32} {w : Nat} {S : Nat → Int32} (r : WR σ w S) {p q : Nat} (h0 : p < 10) (h1 : q < 10) : σ (w + 9) (10 * p + q) = S (172 + 10 * p + q) := r.2.2.2.2.2.2.2.2.2.2.2.1 p q h0 h1
theorem wv10 {σ : Nat → Nat → Int32} {w : Nat} {S : Nat → Int32} (r : WR σ w S) {p q : Nat} (h0 : p < 10) (h1 : q < 10) : σ (w + 10) (10 * p + q) = S (272 + 10 * p + q) := r.2.2.2.2.2.2.2.2.2.2.2.2.1 p q h0 h1
theorem wv13 {σ : Nat → Nat → Int32} {w : Nat} {S : Nat → Int32} (r : WR σ w S) {k : Nat} (h0 : k < 24) : σ (w + 13) k = S (372 + 2 * k) := r.2.2.2.2.2.2.2.2.2.2.2.2.2.1 k h0
theorem wv14 {σ : Nat → Nat → Int32} {w : Nat} {S : Nat → Int32} (r : WR σ w S) {k : Nat} (h0 : k < 24) : σ (w + 14) k = S (372 + 2 * k + 1) := r.2.2.2.2.2.2.2.2.2.2.2.2.2.2.1 k h0
theorem wv15 {σ : Nat → Nat → Int32} {w : Nat} {S : Nat → Int32} (r : WR σ w S) {k v : Nat} (h0 : k < 60) (h1 : v < 8) : σ (w + 15) (8 * k + v) = S (420 + 8 * k + v) := r.2.2.2.2.2.2.2.2.2.2.2.2.2.2.2 k v h0 h1
/-- CheekTown's object and its world -/
def X0 (h : MH) (w : Nat) : Prop := kd h 300 = 1 ∧ iR h 300 0 = w
theorem xk {h : MH} {w : Nat} (s : X0 h w) : kd h 300 = 1 := s.1
theorem xr {h : MH} {w : Nat} (s : X0 h w) : iR h 300 0 = w := s.2
/-- a method that throws an exception of kind k, the memory being this then -/
def TH (Z : MD) (d : Nat) (as : List Value) (h : MH) (k : Nat) (h' : MH) : Prop := WPm Z d as h (fun o h1 => o = .threw k ∧ h1 = h')
theorem cT {Z : MD} {d n : Nat} {pre : List Value → MH → Prop} {X : Nat → List Value → MH → Prop} {kk : KT} {ls st : List Value} {h h' : MH} {as r : List Value} {k : Nat} (hw : TH Z (d - 1) as h k h') (hp : popn n st [] = (as, r)) (hn : as.length = n) (hs : Nat.ble ((r.map fun v => v.category).sum) 8 = true) (hl : Nat.ble Z.2.2.1 45 = true) (hd : 1 ≤ d) (hpre : pre as h)
    (hk : X k ls h') : i_call Z d n pre X kk ls st h := cl as r hw hp hn hs hl hd hpre (fun o h1 q => by obtain ⟨rfl, rfl⟩ := q; exact hk)
theorem e_xO (Q : Outcome → MH → Prop) (k : Nat) (ls : List Value) (h : MH) : xOut Q k ls h = Q (.threw k) h := rfl
theorem e_xC {k0 j : Nat} {kk : KT} {X : Nat → List Value → MH → Prop} {ls : List Value} {h : MH} : xCat k0 j kk X k0 ls h = (j < ls.length ∧ kk (ps ls j jk) [] h) := if_pos rfl
theorem e_xN {k k0 j : Nat} {kk : KT} {X : Nat → List Value → MH → Prop} {ls : List Value} {h : MH} (hk : k ≠ k0) : xCat k0 j kk X k ls h = X k ls h := if_neg hk
/-- the memory with one exception more -/
def ex (h : MH) (k : Nat) : MH := alc h k 0 6 z32 zN z64
theorem ex_e (h : MH) (k : Nat) : alc h k 0 6 z32 zN z64 = ex h k := rfl
theorem ex_k (h : MH) (k : Nat) : kd (ex h k) (nn h) = k := va_up_self _ _ _
theorem e_mabsN (d : Nat) (kk : KT) (ls : List Value) (x : Int32) (r : List Value) (h : MH) : i_mabs d kk ls (.int x :: r) h = ((1 ≤ d ∧ (r.map fun v => v.category).sum ≤ 8) ∧ kk ls (.int (if nI 0 ≤ x then x else -x) :: r) h) := by
  rw [e_mabs]
  have : (if (0 : Int32) ≤ x then x else 0 - x) = if nI 0 ≤ x then x else -x := by
    by_cases hz : (0 : Int32) ≤ x
    · rw [if_pos hz, if_pos (by rw [nI_0]; exact hz)]
    · rw [if_neg hz, if_neg (by rw [nI_0]; exact hz), Int32.zero_sub]
  rw [this]
theorem cat0 : (([] : List Value).map fun v => v.category).sum = 0 := rfl
/-- constants: the enums -/
def eK (a : Nat) : Nat := if a < 6 then 10 else if a < 12 then 18 else 21
def eO (a : Nat) : Nat := if a < 6 then a - 2 else if a < 12 then a - 6 else a - 12
def CE (h : MH) : Prop := ∀ a, 2 ≤ a → a < 15 → kd h a = eK a ∧ iI h a 0 = nI (eO a) ∧ iR h a 0 < 300 ∧ iR h a 1 = cx_told a
