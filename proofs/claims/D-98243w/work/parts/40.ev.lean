/-! EVALUATION of the trees: rows of the combinators, fully applied -/
set_option maxRecDepth 100000
theorem e_const (v : Int32) (kk : KT) (ls st : List Value) (h : MH) : i_const v kk ls st h = (kk ls (.int v :: st) h) := rfl
theorem e_lconst (v : Int64) (kk : KT) (ls st : List Value) (h : MH) : i_lconst v kk ls st h = (kk ls (.long v :: st) h) := rfl
theorem e_null (kk : KT) (ls st : List Value) (h : MH) : i_null kk ls st h = (kk ls (.ref 0 :: st) h) := rfl
theorem e_iload (k : Nat) (kk : KT) (ls st : List Value) (h : MH) : i_iload k kk ls st h = (match lg ls k with | .int x => kk ls (.int x :: st) h | _ => False) := rfl
theorem e_lload (k : Nat) (kk : KT) (ls st : List Value) (h : MH) : i_lload k kk ls st h = (match lg ls k with | .long x => kk ls (.long x :: st) h | _ => False) := rfl
theorem e_aload (k : Nat) (kk : KT) (ls st : List Value) (h : MH) : i_aload k kk ls st h = (match lg ls k with | .ref a => kk ls (.ref a :: st) h | _ => False) := rfl
theorem e_istore (k : Nat) (kk : KT) (ls : List Value) (x : Int32) (r : List Value) (h : MH) : i_istore k kk ls (.int x :: r) h = (k < ls.length ∧ kk (ps ls k (.int x)) r h) := rfl
theorem e_astore (k : Nat) (kk : KT) (ls : List Value) (a : Nat) (r : List Value) (h : MH) : i_astore k kk ls (.ref a :: r) h = (k < ls.length ∧ kk (ps ls k (.ref a)) r h) := rfl
theorem e_lstore (k : Nat) (kk : KT) (ls : List Value) (x : Int64) (r : List Value) (h : MH) : i_lstore k kk ls (.long x :: r) h = (k + 1 < ls.length ∧ kk ((ps ls k (.long x)).set (k + 1) jk) r h) := rfl
theorem e_iinc (k : Nat) (n : Int32) (kk : KT) (ls st : List Value) (h : MH) : i_iinc k n kk ls st h = (match lg ls k with | .int x => kk (ps ls k (.int (x + n))) st h | _ => False) := rfl
theorem e_iadd (kk : KT) (ls : List Value) (y : Int32) (x : Int32) (r : List Value) (h : MH) : i_iadd kk ls (.int y :: .int x :: r) h = (kk ls (.int (x + y) :: r) h) := rfl
theorem e_isub (kk : KT) (ls : List Value) (y : Int32) (x : Int32) (r : List Value) (h : MH) : i_isub kk ls (.int y :: .int x :: r) h = (kk ls (.int (x - y) :: r) h) := rfl
theorem e_imul (kk : KT) (ls : List Value) (y : Int32) (x : Int32) (r : List Value) (h : MH) : i_imul kk ls (.int y :: .int x :: r) h = (kk ls (.int (x * y) :: r) h) := rfl
theorem e_iand (kk : KT) (ls : List Value) (y : Int32) (x : Int32) (r : List Value) (h : MH) : i_iand kk ls (.int y :: .int x :: r) h = (kk ls (.int (x &&& y) :: r) h) := rfl
theorem e_ior (kk : KT) (ls : List Value) (y : Int32) (x : Int32) (r : List Value) (h : MH) : i_ior kk ls (.int y :: .int x :: r) h = (kk ls (.int (x ||| y) :: r) h) := rfl
theorem e_ixor (kk : KT) (ls : List Value) (y : Int32) (x : Int32) (r : List Value) (h : MH) : i_ixor kk ls (.int y :: .int x :: r) h = (kk ls (.int (x ^^^ y) :: r) h) := rfl
theorem e_ishl (kk : KT) (ls : List Value) (y : Int32) (x : Int32) (r : List Value) (h : MH) : i_ishl kk ls (.int y :: .int x :: r) h = (kk ls (.int (x <<< (y &&& 31)) :: r) h) := rfl
theorem e_ishr (kk : KT) (ls : List Value) (y : Int32) (x : Int32) (r : List Value) (h : MH) : i_ishr kk ls (.int y :: .int x :: r) h = (kk ls (.int (x >>> (y &&& 31)) :: r) h) := rfl
theorem e_iushr (kk : KT) (ls : List Value) (y : Int32) (x : Int32) (r : List Value) (h : MH) : i_iushr kk ls (.int y :: .int x :: r) h = (kk ls (.int ((x.toUInt32 >>> (y.toUInt32 &&& Int32.toUInt32 31)).toInt32) :: r) h) := rfl
theorem e_idiv (kk : KT) (ls : List Value) (y : Int32) (x : Int32) (r : List Value) (h : MH) : i_idiv kk ls (.int y :: .int x :: r) h = (¬ y = 0 ∧ kk ls (.int (x / y) :: r) h) := rfl
theorem e_irem (kk : KT) (ls : List Value) (y : Int32) (x : Int32) (r : List Value) (h : MH) : i_irem kk ls (.int y :: .int x :: r) h = (¬ y = 0 ∧ kk ls (.int (x - x / y * y) :: r) h) := rfl
theorem e_ineg (kk : KT) (ls : List Value) (x : Int32) (r : List Value) (h : MH) : i_ineg kk ls (.int x :: r) h = (kk ls (.int (-x) :: r) h) := rfl
theorem e_i2l (kk : KT) (ls : List Value) (x : Int32) (r : List Value) (h : MH) : i_i2l kk ls (.int x :: r) h = (kk ls (.long (x.toInt64) :: r) h) := rfl
theorem e_i2b (kk : KT) (ls : List Value) (x : Int32) (r : List Value) (h : MH) : i_i2b kk ls (.int x :: r) h = (kk ls (.int (x.toInt8.toInt32) :: r) h) := rfl
theorem e_i2c (kk : KT) (ls : List Value) (x : Int32) (r : List Value) (h : MH) : i_i2c kk ls (.int x :: r) h = (kk ls (.int ((x.toUInt32 % 65536).toInt32) :: r) h) := rfl
theorem e_lmul (kk : KT) (ls : List Value) (y : Int64) (x : Int64) (r : List Value) (h : MH) : i_lmul kk ls (.long y :: .long x :: r) h = (kk ls (.long (x * y) :: r) h) := rfl
theorem e_lcmp (kk : KT) (ls : List Value) (y : Int64) (x : Int64) (r : List Value) (h : MH) : i_lcmp kk ls (.long y :: .long x :: r) h = (kk ls (.int (lg_cmp x y) :: r) h) := rfl
theorem e_dup (kk : KT) (ls : List Value) (x : Value) (r : List Value) (h : MH) : i_dup kk ls (x :: r) h = ((c1 x) ∧ kk ls (x :: x :: r) h) := rfl
theorem e_pop (kk : KT) (ls : List Value) (x : Value) (r : List Value) (h : MH) : i_pop kk ls (x :: r) h = ((c1 x) ∧ kk ls (r) h) := rfl
theorem e_dup_x1 (kk : KT) (ls : List Value) (x : Value) (y : Value) (r : List Value) (h : MH) : i_dup_x1 kk ls (x :: y :: r) h = ((c1 x ∧ c1 y) ∧ kk ls (x :: y :: x :: r) h) := rfl
theorem e_dup2 (kk : KT) (ls : List Value) (x : Value) (y : Value) (r : List Value) (h : MH) : i_dup2 kk ls (x :: y :: r) h = ((c1 x ∧ c1 y) ∧ kk ls (x :: y :: x :: y :: r) h) := rfl
theorem e_if_eq (kt kf : KT) (ls : List Value) (x : Int32) (r : List Value) (h : MH) : i_if_eq kt kf ls (.int x :: r) h = ((x = 0 → kt ls r h) ∧ (¬ x = 0 → kf ls r h)) := rfl
theorem e_icmp_eq (kt kf : KT) (ls : List Value) (y : Int32) (x : Int32) (r : List Value) (h : MH) : i_icmp_eq kt kf ls (.int y :: .int x :: r) h = ((x = y → kt ls r h) ∧ (¬ x = y → kf ls r h)) := rfl
theorem e_if_ne (kt kf : KT) (ls : List Value) (x : Int32) (r : List Value) (h : MH) : i_if_ne kt kf ls (.int x :: r) h = ((¬ x = 0 → kt ls r h) ∧ (x = 0 → kf ls r h)) := rfl
theorem e_icmp_ne (kt kf : KT) (ls : List Value) (y : Int32) (x : Int32) (r : List Value) (h : MH) : i_icmp_ne kt kf ls (.int y :: .int x :: r) h = ((¬ x = y → kt ls r h) ∧ (x = y → kf ls r h)) := rfl
theorem e_if_lt (kt kf : KT) (ls : List Value) (x : Int32) (r : List Value) (h : MH) : i_if_lt kt kf ls (.int x :: r) h = ((x < 0 → kt ls r h) ∧ (¬ x < 0 → kf ls r h)) := rfl
theorem e_icmp_lt (kt kf : KT) (ls : List Value) (y : Int32) (x : Int32) (r : List Value) (h : MH) : i_icmp_lt kt kf ls (.int y :: .int x :: r) h = ((x < y → kt ls r h) ∧ (¬ x < y → kf ls r h)) := rfl
theorem e_if_ge (kt kf : KT) (ls : List Value) (x : Int32) (r : List Value) (h : MH) : i_if_ge kt kf ls (.int x :: r) h = ((0 ≤ x → kt ls r h) ∧ (¬ 0 ≤ x → kf ls r h)) := rfl
theorem e_icmp_ge (kt kf : KT) (ls : List Value) (y : Int32) (x : Int32) (r : List Value) (h : MH) : i_icmp_ge kt kf ls (.int y :: .int x :: r) h = ((y ≤ x → kt ls r h) ∧ (¬ y ≤ x → kf ls r h)) := rfl
theorem e_if_gt (kt kf : KT) (ls : List Value) (x : Int32) (r : List Value) (h : MH) : i_if_gt kt kf ls (.int x :: r) h = ((0 < x → kt ls r h) ∧ (¬ 0 < x → kf ls r h)) := rfl
theorem e_icmp_gt (kt kf : KT) (ls : List Value) (y : Int32) (x : Int32) (r : List Value) (h : MH) : i_icmp_gt kt kf ls (.int y :: .int x :: r) h = ((y < x → kt ls r h) ∧ (¬ y < x → kf ls r h)) := rfl
theorem e_if_le (kt kf : KT) (ls : List Value) (x : Int32) (r : List Value) (h : MH) : i_if_le kt kf ls (.int x :: r) h = ((x ≤ 0 → kt ls r h) ∧ (¬ x ≤ 0 → kf ls r h)) := rfl
theorem e_icmp_le (kt kf : KT) (ls : List Value) (y : Int32) (x : Int32) (r : List Value) (h : MH) : i_icmp_le kt kf ls (.int y :: .int x :: r) h = ((x ≤ y → kt ls r h) ∧ (¬ x ≤ y → kf ls r h)) := rfl
theorem e_ifnull (kt kf : KT) (ls : List Value) (a : Nat) (r : List Value) (h : MH) : i_ifnull kt kf ls (.ref a :: r) h = ((a = 0 → kt ls r h) ∧ (¬ a = 0 → kf ls r h)) := rfl
theorem e_ifnonnull (kt kf : KT) (ls : List Value) (a : Nat) (r : List Value) (h : MH) : i_ifnonnull kt kf ls (.ref a :: r) h = ((¬ a = 0 → kt ls r h) ∧ (a = 0 → kf ls r h)) := rfl
theorem e_acmp_eq (kt kf : KT) (ls : List Value) (b : Nat) (a : Nat) (r : List Value) (h : MH) : i_acmp_eq kt kf ls (.ref b :: .ref a :: r) h = ((a = b ∨ (rKn h a ∧ rKn h b)) ∧ (a = b → kt ls r h) ∧ (¬ a = b → kf ls r h)) := rfl
theorem e_acmp_ne (kt kf : KT) (ls : List Value) (b : Nat) (a : Nat) (r : List Value) (h : MH) : i_acmp_ne kt kf ls (.ref b :: .ref a :: r) h = ((a = b ∨ (rKn h a ∧ rKn h b)) ∧ (¬ a = b → kt ls r h) ∧ (a = b → kf ls r h)) := rfl
theorem e_getI (ci k : Nat) (kk : KT) (ls : List Value) (a : Nat) (r : List Value) (h : MH) : i_getI ci k kk ls (.ref a :: r) h = ((kd h a = ci ∧ cx_K0 ≤ a) ∧ kk ls (.int (iI h a k) :: r) h) := rfl
theorem e_getJ (ci k : Nat) (kk : KT) (ls : List Value) (a : Nat) (r : List Value) (h : MH) : i_getJ ci k kk ls (.ref a :: r) h = ((kd h a = ci ∧ cx_K0 ≤ a) ∧ kk ls (.long (iJ h a k) :: r) h) := rfl
theorem e_getR (ci k : Nat) (kk : KT) (ls : List Value) (a : Nat) (r : List Value) (h : MH) : i_getR ci k kk ls (.ref a :: r) h = ((kd h a = ci ∧ cx_K0 ≤ a) ∧ kk ls (.ref (iR h a k) :: r) h) := rfl
theorem e_getSI (k : Nat) (kk : KT) (ls : List Value) (a : Nat) (r : List Value) (h : MH) : i_getSI k kk ls (.ref a :: r) h = (kd h a = 24 ∧ kk ls (.int (iI h a k) :: r) h) := rfl
theorem e_getSR (k : Nat) (kk : KT) (ls : List Value) (a : Nat) (r : List Value) (h : MH) : i_getSR k kk ls (.ref a :: r) h = ((kd h a = 24 ∧ (a < cx_K0 → iR h a k < cx_K0)) ∧ kk ls (.ref (iR h a k) :: r) h) := rfl
theorem e_getEI (ci k : Nat) (kk : KT) (ls : List Value) (a : Nat) (r : List Value) (h : MH) : i_getEI ci k kk ls (.ref a :: r) h = ((kd h a = ci ∧ a < cx_K0 ∧ iR h a k < cx_K0) ∧ kk ls (.int (iI h a k) :: r) h) := rfl
theorem e_getER (ci k : Nat) (kk : KT) (ls : List Value) (a : Nat) (r : List Value) (h : MH) : i_getER ci k kk ls (.ref a :: r) h = ((kd h a = ci ∧ a < cx_K0 ∧ iR h a k < cx_K0) ∧ kk ls (.ref (iR h a k) :: r) h) := rfl
theorem e_putI (ci k : Nat) (t : FieldType) (kk : KT) (ls : List Value) (x : Int32) (a : Nat) (r : List Value) (h : MH) : i_putI ci k t kk ls (.int x :: .ref a :: r) h = ((kd h a = ci ∧ cx_K0 ≤ a ∧ fOk t x) ∧ kk ls r (stI h a (upd (iI h a) k x))) := rfl
theorem e_putJ (ci k : Nat) (kk : KT) (ls : List Value) (x : Int64) (a : Nat) (r : List Value) (h : MH) : i_putJ ci k kk ls (.long x :: .ref a :: r) h = ((kd h a = ci ∧ cx_K0 ≤ a) ∧ kk ls r (stJ h a (va_up (iJ h a) k x))) := rfl
theorem e_putR (ci k : Nat) (kk : KT) (ls : List Value) (b : Nat) (a : Nat) (r : List Value) (h : MH) : i_putR ci k kk ls (.ref b :: .ref a :: r) h = ((kd h a = ci ∧ cx_K0 ≤ a) ∧ kk ls r (stR h a (va_up (iR h a) k b))) := rfl
theorem e_iald (kk : KT) (ls : List Value) (i : Int32) (a : Nat) (r : List Value) (h : MH) : i_iald kk ls (.int i :: .ref a :: r) h = ((kd h a = 50 ∧ vp_in i (ln h a)) ∧ kk ls (.int (iI h a i.toNatClampNeg) :: r) h) := rfl
theorem e_bald (kk : KT) (ls : List Value) (i : Int32) (a : Nat) (r : List Value) (h : MH) : i_bald kk ls (.int i :: .ref a :: r) h = ((kd h a = 51 ∧ vp_in i (ln h a)) ∧ kk ls (.int (iI h a i.toNatClampNeg) :: r) h) := rfl
theorem e_zald (kk : KT) (ls : List Value) (i : Int32) (a : Nat) (r : List Value) (h : MH) : i_zald kk ls (.int i :: .ref a :: r) h = ((kd h a = 52 ∧ cx_K0 ≤ a ∧ vp_in i (ln h a)) ∧ kk ls (.int (iI h a i.toNatClampNeg) :: r) h) := rfl
theorem e_lald (kk : KT) (ls : List Value) (i : Int32) (a : Nat) (r : List Value) (h : MH) : i_lald kk ls (.int i :: .ref a :: r) h = ((kd h a = 53 ∧ cx_K0 ≤ a ∧ vp_in i (ln h a)) ∧ kk ls (.long (iJ h a i.toNatClampNeg) :: r) h) := rfl
theorem e_aald (t : Nat) (kk : KT) (ls : List Value) (i : Int32) (a : Nat) (r : List Value) (h : MH) : i_aald t kk ls (.int i :: .ref a :: r) h = ((kd h a = 50 + t ∧ vp_in i (ln h a) ∧ (a < cx_K0 → iR h a i.toNatClampNeg < cx_K0)) ∧ kk ls (.ref (iR h a i.toNatClampNeg) :: r) h) := rfl
theorem e_alen (kk : KT) (ls : List Value) (a : Nat) (r : List Value) (h : MH) : i_alen kk ls (.ref a :: r) h = ((50 ≤ kd h a ∧ kd h a < 58) ∧ kk ls (.int (nI (ln h a)) :: r) h) := rfl
theorem e_iast (kk : KT) (ls : List Value) (x : Int32) (i : Int32) (a : Nat) (r : List Value) (h : MH) : i_iast kk ls (.int x :: .int i :: .ref a :: r) h = ((kd h a = 50 ∧ cx_K0 ≤ a ∧ vp_in i (ln h a)) ∧ kk ls r (stI h a (upd (iI h a) i.toNatClampNeg x))) := rfl
theorem e_bast (kk : KT) (ls : List Value) (x : Int32) (i : Int32) (a : Nat) (r : List Value) (h : MH) : i_bast kk ls (.int x :: .int i :: .ref a :: r) h = ((kd h a = 51 ∧ cx_K0 ≤ a ∧ vp_in i (ln h a)) ∧ kk ls r (stI h a (upd (iI h a) i.toNatClampNeg x.toInt8.toInt32))) := rfl
theorem e_zast (kk : KT) (ls : List Value) (x : Int32) (i : Int32) (a : Nat) (r : List Value) (h : MH) : i_zast kk ls (.int x :: .int i :: .ref a :: r) h = ((kd h a = 52 ∧ cx_K0 ≤ a ∧ vp_in i (ln h a) ∧ (x = 0 ∨ x = 1)) ∧ kk ls r (stI h a (upd (iI h a) i.toNatClampNeg x))) := rfl
theorem e_last (kk : KT) (ls : List Value) (x : Int64) (i : Int32) (a : Nat) (r : List Value) (h : MH) : i_last kk ls (.long x :: .int i :: .ref a :: r) h = ((kd h a = 53 ∧ cx_K0 ≤ a ∧ vp_in i (ln h a)) ∧ kk ls r (stJ h a (va_up (iJ h a) i.toNatClampNeg x))) := rfl
theorem e_newa (t : Nat) (kk : KT) (ls : List Value) (n : Int32) (r : List Value) (h : MH) : i_newa t kk ls (.int n :: r) h = ((¬ n < 0 ∧ n.toNatClampNeg ≤ 60000) ∧ kk ls (.ref (nn h) :: r) (alc h (50 + t) n.toNatClampNeg n.toNatClampNeg z32 zN z64)) := rfl
theorem e_new (ci u : Nat) (kk : KT) (ls st : List Value) (h : MH) : i_new ci u kk ls st h = (kk ls (.ref (nn h) :: st) (alc h ci 0 u z32 zN z64)) := rfl
theorem e_newq (t : Nat) (kk : KT) (ls : List Value) (n : Int32) (r : List Value) (h : MH) : i_newq t kk ls (.int n :: r) h = ((¬ n < 0 ∧ n.toNatClampNeg ≤ 60000) ∧ kk ls (.ref (nn h) :: r) (alc h (50 + t) n.toNatClampNeg n.toNatClampNeg z32 zN z64)) := rfl
theorem e_ret (Q : Outcome → MH → Prop) (rt : Option FieldType) (ls : List Value) (v : Value) (h : MH) : i_ret Q rt ls [v] h = (rtOk rt v ∧ Q (.returned (some v)) h) := rfl
theorem e_vret (Q : Outcome → MH → Prop) (ls : List Value) (h : MH) : i_vret Q ls [] h = Q (.returned none) h := by unfold i_vret; simp
theorem e_obj (d : Nat) (kk : KT) (ls : List Value) (a : Nat) (r : List Value) (h : MH) : i_obj d kk ls (.ref a :: r) h = ((0 < a ∧ 1 ≤ d ∧ (r.map fun v => v.category).sum ≤ 8) ∧ kk ls r h) := rfl
theorem e_mmax (d : Nat) (kk : KT) (ls : List Value) (y : Int32) (x : Int32) (r : List Value) (h : MH) : i_mmax d kk ls (.int y :: .int x :: r) h = ((1 ≤ d ∧ (r.map fun v => v.category).sum ≤ 8) ∧ kk ls (.int (if x < y then y else x) :: r) h) := rfl
theorem e_mmin (d : Nat) (kk : KT) (ls : List Value) (y : Int32) (x : Int32) (r : List Value) (h : MH) : i_mmin d kk ls (.int y :: .int x :: r) h = ((1 ≤ d ∧ (r.map fun v => v.category).sum ≤ 8) ∧ kk ls (.int (if y < x then y else x) :: r) h) := rfl
theorem e_mabs (d : Nat) (kk : KT) (ls : List Value) (x : Int32) (r : List Value) (h : MH) : i_mabs d kk ls (.int x :: r) h = ((1 ≤ d ∧ (r.map fun v => v.category).sum ≤ 8) ∧ kk ls (.int (if 0 ≤ x then x else 0 - x) :: r) h) := rfl
theorem e_ldcS (a : Nat) (kk : KT) (ls st : List Value) (h : MH) : i_ldcS a kk ls st h = (kk ls (.ref a :: st) h) := rfl
theorem e_sref (a : Nat) (kk : KT) (ls st : List Value) (h : MH) : i_sref a kk ls st h = (kk ls (.ref a :: st) h) := rfl
theorem e_exc (d ci : Nat) (kk : KT) (ls st : List Value) (h : MH) : i_exc d ci kk ls st h = ((9 ≤ d ∧ (st.map fun v => v.category).sum ≤ 8) ∧ kk ls (.ref (nn h) :: st) (alc h ci 0 6 z32 zN z64)) := rfl
theorem e_thr (Q : Outcome → MH → Prop) (ls r : List Value) (a : Nat) (h : MH) : i_thr Q ls (.ref a :: r) h = ((kd h a ≠ 0 ∧ kd h a < 30 ∧ cx_K0 ≤ a) ∧ Q (.threw (kd h a)) h) := rfl
theorem e_stq (j : Nat) (kk : KT) (ls st : List Value) (h : MH) : i_stq j kk ls st h = (iR h 0 j < cx_K0 ∧ kk ls (.ref (iR h 0 j) :: st) h) := rfl
theorem e_cast (ci : Nat) (kk : KT) (ls : List Value) (a : Nat) (r : List Value) (h : MH) : i_cast ci kk ls (.ref a :: r) h = ((a = 0 ∨ kd h a = ci) ∧ kk ls (.ref a :: r) h) := rfl
theorem e_castY (cs : List Nat) (kk : KT) (ls : List Value) (a : Nat) (r : List Value) (h : MH) : i_castY cs kk ls (.ref a :: r) h = ((a = 0 ∨ kd h a ∈ cs) ∧ kk ls (.ref a :: r) h) := rfl
theorem e_castA (t : Nat) (kk : KT) (ls : List Value) (a : Nat) (r : List Value) (h : MH) : i_castA t kk ls (.ref a :: r) h = ((kd h a = 50 + t ∧ cx_K0 ≤ a) ∧ kk ls (.ref a :: r) h) := rfl
theorem e_instS (kk : KT) (ls : List Value) (a : Nat) (r : List Value) (h : MH) : i_instS kk ls (.ref a :: r) h = (kd h a = 24 ∧ kk ls (.int 1 :: r) h) := rfl
theorem e_cpy (t d : Nat) (kk : KT) (ls : List Value) (n : Int32) (dp : Int32) (a : Nat) (sp : Int32) (b : Nat) (r : List Value) (h : MH) : i_cpy t d kk ls (.int n :: .int dp :: .ref a :: .int sp :: .ref b :: r) h = (((kd h a = 50 + t ∧ cx_K0 ≤ a ∧ kd h b = 50 + t ∧ cx_K0 ≤ b) ∧ cpOk sp dp n (ln h b) (ln h a) ∧ 1 ≤ d ∧ (r.map fun v => v.category).sum ≤ 8) ∧ kk ls r (stI h a (va_cpy (iI h b) (iI h a) sp.toNatClampNeg dp.toNatClampNeg n.toNatClampNeg))) := rfl
theorem e_aast (kk : KT) (ls : List Value) (b : Nat) (i : Int32) (a : Nat) (r : List Value) (h : MH) : i_aast kk ls (.ref b :: .int i :: .ref a :: r) h = ((kd h a = 54 ∧ cx_K0 ≤ a ∧ vp_in i (ln h a) ∧ (b = 0 ∨ (cx_co (kd h b) = true ∧ cx_K0 ≤ b))) ∧ kk ls r (stR h a (va_up (iR h a) i.toNatClampNeg b))) := rfl
theorem e_cpyR (d : Nat) (kk : KT) (ls : List Value) (n : Int32) (dp : Int32) (a : Nat) (sp : Int32) (b : Nat) (r : List Value) (h : MH) : i_cpyR d kk ls (.int n :: .int dp :: .ref a :: .int sp :: .ref b :: r) h = (((kd h a = 54 ∧ cx_K0 ≤ a ∧ kd h b = 54 ∧ cx_K0 ≤ b) ∧ cpOk sp dp n (ln h b) (ln h a) ∧ (∀ i, i < n.toNatClampNeg → iR h b (sp.toNatClampNeg + i) = 0 ∨ (cx_co (kd h (iR h b (sp.toNatClampNeg + i))) = true ∧ cx_K0 ≤ iR h b (sp.toNatClampNeg + i))) ∧ 1 ≤ d ∧ (r.map fun v => v.category).sum ≤ 8) ∧ kk ls r (stR h a (va_cpy (iR h b) (iR h a) sp.toNatClampNeg dp.toNatClampNeg n.toNatClampNeg))) := rfl
theorem e_cln (d t : Nat) (kk : KT) (ls : List Value) (a : Nat) (r : List Value) (h : MH) : i_cln d t kk ls (.ref a :: r) h = (((a = 10 + t ∧ 5 ≤ t ∧ t ≤ 7 ∧ kd h a = 50 + t ∧ (∀ i, iR h a i < cx_K0)) ∧ 1 ≤ d ∧ (r.map fun v => v.category).sum ≤ 8) ∧ kk ls (.ref (nn h) :: r) (alc h (50 + t) (ln h a) (ln h a) z32 (iR h a) z64)) := rfl
theorem e_gcl (d : Nat) (kk : KT) (ls : List Value) (a : Nat) (r : List Value) (h : MH) : i_gcl d kk ls (.ref a :: r) h = (((kd h a = 54 ∧ cx_K0 ≤ a) ∧ 1 ≤ d ∧ (r.map fun v => v.category).sum ≤ 8) ∧ kk ls (.ref 19 :: r) h) := rfl
theorem e_ldcM (kk : KT) (ls st : List Value) (h : MH) : i_ldcM kk ls st h = (kk ls (.ref 19 :: st) h) := rfl
theorem e_sw (cs : List (Int32 × KT)) (kf : KT) (ls : List Value) (x : Int32) (r : List Value) (h : MH) : i_sw cs kf ls (.int x :: r) h = swc x ls r h kf cs := rfl
theorem swc_n (x : Int32) (ls r : List Value) (h : MH) (k : KT) : swc x ls r h k [] = k ls r h := rfl
theorem swc_c (x c : Int32) (ls r : List Value) (h : MH) (k k1 : KT) (cs : List (Int32 × KT)) : swc x ls r h k ((c, k1) :: cs) = ((x = c → k1 ls r h) ∧ (¬ x = c → swc x ls r h k cs)) := rfl
/-- what follows a call -/
def kon (kk : KT) (X : Nat → List Value → MH → Prop) (ls r : List Value) : Outcome → MH → Prop := fun o h1 => match o with
  | .returned v => kk ls (v.toList ++ r) h1
  | .threw k => X k ls h1
theorem cl {Z : MD} {d n : Nat} {pre : List Value → MH → Prop} {X : Nat → List Value → MH → Prop} {kk : KT} {ls st : List Value} {h : MH} (as r : List Value) {Q0 : Outcome → MH → Prop} (hw : WPm Z (d - 1) as h Q0) (hp : popn n st [] = (as, r)) (hn : as.length = n) (hs : Nat.ble ((r.map fun v => v.category).sum) 8 = true) (hl : Nat.ble Z.2.2.1 45 = true) (hd : 1 ≤ d) (hpre : pre as h)
    (hk : ∀ o h1, Q0 o h1 → kon kk X ls r o h1) : i_call Z d n pre X kk ls st h := by
  unfold i_call
  rw [hp]
  exact ⟨⟨hn, Nat.le_of_ble_eq_true hs, hd, Nat.le_of_ble_eq_true hl⟩, hpre, hw.mono hk⟩
/-- a method that returns this, the memory being this then -/
def RT (Z : MD) (d : Nat) (as : List Value) (h : MH) (v : Option Value) (h' : MH) : Prop := WPm Z d as h (fun o h1 => o = .returned v ∧ h1 = h')
theorem cR {Z : MD} {d n : Nat} {pre : List Value → MH → Prop} {X : Nat → List Value → MH → Prop} {kk : KT} {ls st : List Value} {h h' : MH} {as r : List Value} {v : Value} (hw : RT Z (d - 1) as h (some v) h') (hp : popn n st [] = (as, r)) (hn : as.length = n) (hs : Nat.ble ((r.map fun v => v.category).sum) 8 = true) (hl : Nat.ble Z.2.2.1 45 = true) (hd : 1 ≤ d) (hpre : pre as h)
    (hk : kk ls (v :: r) h') : i_call Z d n pre X kk ls st h := cl as r hw hp hn hs hl hd hpre (fun o h1 q => by obtain ⟨rfl, rfl⟩ := q; exact hk)
theorem cV {Z : MD} {d n : Nat} {pre : List Value → MH → Prop} {X : Nat → List Value → MH → Prop} {kk : KT} {ls st : List Value} {h h' : MH} {as r : List Value} (hw : RT Z (d - 1) as h none h') (hp : popn n st [] = (as, r)) (hn : as.length = n) (hs : Nat.ble ((r.map fun v => v.category).sum) 8 = true) (hl : Nat.ble Z.2.2.1 45 = true) (hd : 1 ≤ d) (hpre : pre as h)
    (hk : kk ls r h') : i_call Z d n pre X kk ls st h := cl as r hw hp hn hs hl hd hpre (fun o h1 q => by obtain ⟨rfl, rfl⟩ := q; exact hk)
theorem lit (n : Nat) : (OfNat.ofNat n : Int32) = nI (OfNat.ofNat n) := rfl
theorem K0e : cx_K0 = 300 := rfl
theorem vpi {j n : Nat} (h : j < n) (hn : n < 2 ^ 31) : vp_in (nI j) n := nI_in h hn
/-- the memory with other ints -/
def hI (h : MH) (s : Nat → Nat → Int32) : MH := (h.1, h.2.1, h.2.2.1, s, h.2.2.2.2)
theorem kd_hI (h : MH) (s : Nat → Nat → Int32) : kd (hI h s) = kd h := rfl
theorem ln_hI (h : MH) (s : Nat → Nat → Int32) : ln (hI h s) = ln h := rfl
theorem nn_hI (h : MH) (s : Nat → Nat → Int32) : nn (hI h s) = nn h := rfl
theorem iI_hI (h : MH) (s : Nat → Nat → Int32) : iI (hI h s) = s := rfl
theorem iR_hI (h : MH) (s : Nat → Nat → Int32) : iR (hI h s) = iR h := rfl
theorem iJ_hI (h : MH) (s : Nat → Nat → Int32) : iJ (hI h s) = iJ h := rfl
theorem sU_hI (h : MH) (s : Nat → Nat → Int32) : sU (hI h s) = sU h := rfl
theorem hI_hI (h : MH) (s t : Nat → Nat → Int32) : hI (hI h s) t = hI h t := rfl
theorem stI_hI (h : MH) (s : Nat → Nat → Int32) (a : Nat) (f : Nat → Int32) : stI (hI h s) a f = hI h (va_up s a f) := rfl
theorem hI_iI (h : MH) : hI h (iI h) = h := rfl
theorem vus {α : Type} (f : Nat → α) (k : Nat) (v : α) : va_up f k v k = v := if_pos rfl
theorem vun {α : Type} (f : Nat → α) {k j : Nat} (v : α) (h : j ≠ k) : va_up f k v j = f j := if_neg h
theorem vuu {α : Type} (f : Nat → α) (k : Nat) (v w : α) : va_up (va_up f k v) k w = va_up f k w := by
  funext j; unfold va_up; split <;> rfl
/-- a loop that counts up, backwards -/
theorem bk {n : Nat} {I : Nat → Prop} (he : I n) (hs : ∀ k, k < n → I (k + 1) → I k) : ∀ k, k ≤ n → I k := by
  intro k hk
  obtain ⟨m, rfl⟩ : ∃ m, n = k + m := ⟨n - k, by omega⟩
  clear hk
  induction m generalizing k with
  | zero => exact he
  | succ m ih =>
    refine hs k (by omega) (ih (k + 1) ?_ ?_)
    · rwa [show k + 1 + m = k + (m + 1) by omega]
    · intro j hj
      rw [show k + 1 + m = k + (m + 1) by omega] at hj
      exact hs j hj
noncomputable def bP (P : Prop) : Int32 := @ite _ P (Classical.propDecidable P) (nI 1) (nI 0)
theorem bP_t {P : Prop} (h : P) : bP P = nI 1 := by unfold bP; rw [if_pos h]
theorem bP_f {P : Prop} (h : ¬ P) : bP P = nI 0 := by unfold bP; rw [if_neg h]
theorem bP_or (P : Prop) : bP P = 0 ∨ bP P = 1 := by
  by_cases h : P
  · rw [bP_t h]; exact Or.inr rfl
  · rw [bP_f h]; exact Or.inl rfl
theorem bP_z {P : Prop} : bP P = nI 0 ↔ ¬ P := by
  by_cases h : P
  · rw [bP_t h]; exact ⟨fun z => absurd z (by decide), fun z => absurd h z⟩
  · rw [bP_f h]; exact ⟨fun _ => h, fun _ => rfl⟩
/-- where the model lies, of what kind, how long -/
def mLen (a : Nat) : Nat := match a with
  | 381 => 1300 | 382 => 1300 | 383 => 900 | 384 => 10800 | 385 => 400 | 386 => 6 | 387 => 10 | 388 => 10 | 389 => 10 | 390 => 32 | 391 => 8 | 392 => 8 | 393 => 1024 | _ => 100
def SM (h : MH) : Prop := kd h 380 = 8 ∧ (∀ a, 381 ≤ a → a ≤ 394 → kd h a = 50 ∧ ln h a = mLen a) ∧
  iR h 380 1 = 381 ∧ iR h 380 2 = 382 ∧ iR h 380 4 = 383 ∧ iR h 380 5 = 384 ∧ iR h 380 7 = 385 ∧ iR h 380 14 = 386 ∧ iR h 380 18 = 387 ∧ iR h 380 19 = 388 ∧ iR h 380 20 = 389 ∧ iR h 380 21 = 390 ∧ iR h 380 22 = 391 ∧ iR h 380 23 = 392 ∧ iR h 380 24 = 393 ∧ iR h 380 25 = 394
theorem smk {h : MH} (s : SM h) : kd h 380 = 8 := s.1
theorem smr1 {h : MH} (s : SM h) : iR h 380 1 = 381 := s.2.2.1
theorem smr2 {h : MH} (s : SM h) : iR h 380 2 = 382 := s.2.2.2.1
theorem smr4 {h : MH} (s : SM h) : iR h 380 4 = 383 := s.2.2.2.2.1
theorem smr5 {h : MH} (s : SM h) : iR h 380 5 = 384 := s.2.2.2.2.2.1
theorem smr7 {h : MH} (s : SM h) : iR h 380 7 = 385 := s.2.2.2.2.2.2.1
theorem smr14 {h : MH} (s : SM h) : iR h 380 14 = 386 := s.2.2.2.2.2.2.2.1
theorem smr18 {h : MH} (s : SM h) : iR h 380 18 = 387 := s.2.2.2.2.2.2.2.2.1
theorem smr19 {h : MH} (s : SM h) : iR h 380 19 = 388 := s.2.2.2.2.2.2.2.2.2.1
theorem smr20 {h : MH} (s : SM h) : iR h 380 20 = 389 := s.2.2.2.2.2.2.2.2.2.2.1
theorem smr21 {h : MH} (s : SM h) : iR h 380 21 = 390 := s.2.2.2.2.2.2.2.2.2.2.2.1
theorem smr22 {h : MH} (s : SM h) : iR h 380 22 = 391 := s.2.2.2.2.2.2.2.2.2.2.2.2.1
theorem smr23 {h : MH} (s : SM h) : iR h 380 23 = 392 := s.2.2.2.2.2.2.2.2.2.2.2.2.2.1
theorem smr24 {h : MH} (s : SM h) : iR h 380 24 = 393 := s.2.2.2.2.2.2.2.2.2.2.2.2.2.2.1
theorem smr25 {h : MH} (s : SM h) : iR h 380 25 = 394 := s.2.2.2.2.2.2.2.2.2.2.2.2.2.2.2
theorem smk381 {h : MH} (s : SM h) : kd h 381 = 50 := (s.2.1 381 (by decide) (by decide)).1
theorem sml381 {h : MH} (s : SM h) : ln h 381 = 1300 := (s.2.1 381 (by decide) (by decide)).2
theorem smk382 {h : MH} (s : SM h) : kd h 382 = 50 := (s.2.1 382 (by decide) (by decide)).1
theorem sml382 {h : MH} (s : SM h) : ln h 382 = 1300 := (s.2.1 382 (by decide) (by decide)).2
theorem smk383 {h : MH} (s : SM h) : kd h 383 = 50 := (s.2.1 383 (by decide) (by decide)).1
theorem sml383 {h : MH} (s : SM h) : ln h 383 = 900 := (s.2.1 383 (by decide) (by decide)).2
theorem smk384 {h : MH} (s : SM h) : kd h 384 = 50 := (s.2.1 384 (by decide) (by decide)).1
theorem sml384 {h : MH} (s : SM h) : ln h 384 = 10800 := (s.2.1 384 (by decide) (by decide)).2
theorem smk385 {h : MH} (s : SM h) : kd h 385 = 50 := (s.2.1 385 (by decide) (by decide)).1
theorem sml385 {h : MH} (s : SM h) : ln h 385 = 400 := (s.2.1 385 (by decide) (by decide)).2
theorem smk386 {h : MH} (s : SM h) : kd h 386 = 50 := (s.2.1 386 (by decide) (by decide)).1
theorem sml386 {h : MH} (s : SM h) : ln h 386 = 6 := (s.2.1 386 (by decide) (by decide)).2
theorem smk387 {h : MH} (s : SM h) : kd h 387 = 50 := (s.2.1 387 (by decide) (by decide)).1
theorem sml387 {h : MH} (s : SM h) : ln h 387 = 10 := (s.2.1 387 (by decide) (by decide)).2
theorem smk388 {h : MH} (s : SM h) : kd h 388 = 50 := (s.2.1 388 (by decide) (by decide)).1
theorem sml388 {h : MH} (s : SM h) : ln h 388 = 10 := (s.2.1 388 (by decide) (by decide)).2
theorem smk389 {h : MH} (s : SM h) : kd h 389 = 50 := (s.2.1 389 (by decide) (by decide)).1
theorem sml389 {h : MH} (s : SM h) : ln h 389 = 10 := (s.2.1 389 (by decide) (by decide)).2
theorem smk390 {h : MH} (s : SM h) : kd h 390 = 50 := (s.2.1 390 (by decide) (by decide)).1
theorem sml390 {h : MH} (s : SM h) : ln h 390 = 32 := (s.2.1 390 (by decide) (by decide)).2
theorem smk391 {h : MH} (s : SM h) : kd h 391 = 50 := (s.2.1 391 (by decide) (by decide)).1
theorem sml391 {h : MH} (s : SM h) : ln h 391 = 8 := (s.2.1 391 (by decide) (by decide)).2
theorem smk392 {h : MH} (s : SM h) : kd h 392 = 50 := (s.2.1 392 (by decide) (by decide)).1
theorem sml392 {h : MH} (s : SM h) : ln h 392 = 8 := (s.2.1 392 (by decide) (by decide)).2
theorem smk393 {h : MH} (s : SM h) : kd h 393 = 50 := (s.2.1 393 (by decide) (by decide)).1
theorem sml393 {h : MH} (s : SM h) : ln h 393 = 1024 := (s.2.1 393 (by decide) (by decide)).2
theorem smk394 {h : MH} (s : SM h) : kd h 394 = 50 := (s.2.1 394 (by decide) (by decide)).1
theorem sml394 {h : MH} (s : SM h) : ln h 394 = 100 := (s.2.1 394 (by decide) (by decide)).2
theorem mO {M : MD} {d : Nat} {as : List Value} {h : MH} {Q : Outcome → MH → Prop} (hp : plainName M.1.cls = true) (hn : Nat.ble (lay as).length M.2.2.1 = true) (k : WPb M d 0 (ls0 M.2.2.1 as) [] h Q) : WPm M d as h Q := WPm.of hp (Nat.le_of_ble_eq_true hn) k
theorem m31 {k : Nat} (h : k < 32) : nI k &&& nI 31 = nI k := by
  have e : ∀ k : Nat, k < 32 → nI k &&& nI 31 = nI k := by decide +kernel
  exact e k h
theorem ro {x y : Int32} (e : x = y) : Outcome.returned (some (.int x)) = Outcome.returned (some (.int y)) := by rw [e]
theorem bP_1 {P : Prop} : bP P = nI 1 ↔ P := by
  by_cases h : P
  · rw [bP_t h]; exact ⟨fun _ => h, fun _ => rfl⟩
  · rw [bP_f h]; exact ⟨fun z => absurd z (by decide), fun z => absurd z h⟩
theorem bP_em (P : Prop) : (¬ P ∨ P) = True := eq_true ((Classical.em P).elim Or.inr Or.inl)
noncomputable def cI (P : Prop) (x y : Int32) : Int32 := @ite _ P (Classical.propDecidable P) x y
theorem cI_t {P : Prop} {x y : Int32} (h : P) : cI P x y = x := by unfold cI; rw [if_pos h]
theorem cI_f {P : Prop} {x y : Int32} (h : ¬ P) : cI P x y = y := by unfold cI; rw [if_neg h]
def sm (F : Nat → Int32) : Nat → Int32
  | 0 => nI 0
  | k + 1 => sm F k + F k
theorem sm_s (F : Nat → Int32) (k : Nat) : sm F (k + 1) = sm F k + F k := rfl
def orr (F : Nat → Int32) : Nat → Int32
  | 0 => nI 0
  | k + 1 => orr F k ||| F k
theorem orr_s (F : Nat → Int32) (k : Nat) : orr F (k + 1) = orr F k ||| F k := rfl
/-- a fold upwards -/
def fu {α : Type} (f : α → Nat → α) (a : α) : Nat → α
  | 0 => a
  | k + 1 => f (fu f a k) k
theorem fu_s {α : Type} (f : α → Nat → α) (a : α) (k : Nat) : fu f a (k + 1) = f (fu f a k) k := rfl
def nL (S : Nat → Int32) : Nat := (S 3).toNatClampNeg
def nH (S : Nat → Int32) : Nat := (S 4).toNatClampNeg
def nP (S : Nat → Int32) : Nat := (S 5).toNatClampNeg
def nT (S : Nat → Int32) : Nat := (S 6).toNatClampNeg
def Ic (S : Nat → Int32) : Prop := (S 3 = nI (nL S) ∧ nL S ≤ 6) ∧ (S 4 = nI (nH S) ∧ nH S ≤ 24) ∧ (S 5 = nI (nP S) ∧ nP S ≤ 10) ∧ (S 6 = nI (nT S) ∧ nT S ≤ 24)
/-- the model's word of what was thrown -/
def thr (σ : Nat → Nat → Int32) (t : Int32) : Nat → Nat → Int32 := va_up σ 380 (upd (σ 380) 0 t)
theorem thr_m (σ : Nat → Nat → Int32) (t : Int32) {a : Nat} (h : a ≠ 380) : thr σ t a = σ a := vun _ _ h
theorem thr_0 (σ : Nat → Nat → Int32) (t : Int32) : thr σ t 380 0 = t := by unfold thr; rw [vus, pk_us]
theorem thr_e (σ : Nat → Nat → Int32) (t : Int32) : va_up σ 380 (upd (σ 380) 0 t) = thr σ t := rfl
def cd (g : Int32) : Prop := nI 0 ≤ g ∧ g ≤ nI 31
def pe (S : Nat → Int32) (p : Int32) : Prop := nI 0 ≤ p ∧ p ≤ S 5 - nI 1
def la (S : Nat → Int32) (p : Int32) : Prop := nI 0 ≤ p ∧ p ≤ S 3 - nI 1
def N1 : Int32 := -1
theorem nN : -nI 1 = N1 := rfl
def N2 : Int32 := -2
theorem nN2 : -nI 2 = N2 := rfl
theorem rg_of {x : Int32} {n p : Nat} (e : x = nI n) (hn : n ≤ 1000) (hp : p < n) : nI 0 ≤ nI p ∧ nI p ≤ x - nI 1 := by
  rw [e, pk_sub (by omega)]
  exact ⟨nI_le (by omega) (by omega), nI_le (by omega) (by omega)⟩
theorem rg_ex {x p : Int32} {n : Nat} (e : x = nI n) (hn : n ≤ 1000) (h : nI 0 ≤ p ∧ p ≤ x - nI 1) : ∃ j, j < n ∧ p = nI j := by
  have h0 : ¬ p < 0 := by
    have := h.1
    rw [nI_0] at this
    exact Int32.not_lt.mpr this
  obtain ⟨j, hj, rfl⟩ := nI_of h0
  refine ⟨j, ?_, rfl⟩
  have h2 := h.2
  rw [e] at h2
  by_cases hz : n = 0
  · subst hz
    exfalso
    have h3 : nI 0 - nI 1 = (-1 : Int32) := by decide
    rw [h3] at h2
    have := h.1
    rw [nI_0] at this
    rw [Int32.le_iff_toInt_le] at this h2
    have e1 : (-1 : Int32).toInt = -1 := by decide
    have e0 : (0 : Int32).toInt = 0 := by decide
    omega
  · rw [pk_sub (by omega), nI_leI (by omega) (by omega)] at h2
    omega
theorem pe_of {S : Nat → Int32} (hi : Ic S) {p : Nat} (hp : p < nP S) : pe S (nI p) := rg_of hi.2.2.1.1 (by have := hi.2.2.1.2; omega) hp
theorem pe_ex {S : Nat → Int32} (hi : Ic S) {p : Int32} (h : pe S p) : ∃ j, j < nP S ∧ p = nI j := rg_ex hi.2.2.1.1 (by have := hi.2.2.1.2; omega) h
theorem la_of {S : Nat → Int32} (hi : Ic S) {p : Nat} (hp : p < nL S) : la S (nI p) := rg_of hi.1.1 (by have := hi.1.2; omega) hp
theorem la_ex {S : Nat → Int32} (hi : Ic S) {p : Int32} (h : la S p) : ∃ j, j < nL S ∧ p = nI j := rg_ex hi.1.1 (by have := hi.1.2; omega) h
def ti (S : Nat → Int32) (p : Int32) : Prop := nI 0 ≤ p ∧ p ≤ S 6 - nI 1
theorem ti_of {S : Nat → Int32} (hi : Ic S) {p : Nat} (hp : p < nT S) : ti S (nI p) := rg_of hi.2.2.2.1 (by have := hi.2.2.2.2; omega) hp
theorem ti_ex {S : Nat → Int32} (hi : Ic S) {p : Int32} (h : ti S p) : ∃ j, j < nT S ∧ p = nI j := rg_ex hi.2.2.2.1 (by have := hi.2.2.2.2; omega) h
theorem cd_of {p : Nat} (hp : p < 32) : cd (nI p) := ⟨nI_le (by omega) (by omega), nI_le (by omega) (by omega)⟩
theorem cd_ex {p : Int32} (h : cd p) : ∃ j, j < 32 ∧ p = nI j := rg_ex (x := nI 32) (n := 32) rfl (by decide) ⟨h.1, by rw [pk_sub (by omega)]; exact h.2⟩
theorem cI_T {x y : Int32} : cI True x y = x := cI_t trivial
theorem cI_F {x y : Int32} : cI False x y = y := cI_f (fun z => z)
theorem va_id {α : Type} (f : Nat → α) (k : Nat) : va_up f k (f k) = f := by
  funext j; unfold va_up; split
  · rename_i e; rw [e]
  · rfl
theorem va_eq {α : Type} {f : Nat → α} {k : Nat} {v : α} (e : f k = v) : va_up f k v = f := by rw [← e, va_id]
theorem upd_eq {f : Nat → Int32} {k : Nat} {v : Int32} (e : f k = v) : upd f k v = f := va_eq e
theorem upd_upd (f : Nat → Int32) (k : Nat) (v w : Int32) : upd (upd f k v) k w = upd f k w := vuu f k v w
theorem va_cm {α : Type} (f : Nat → α) {j k : Nat} (v w : α) (h : j ≠ k) : va_up (va_up f j v) k w = va_up (va_up f k w) j v := by
  funext i; unfold va_up; split
  · rename_i e; rw [if_neg (by omega)]
  · rfl
def nG (S : Nat → Int32) : Nat := (S 12).toNatClampNeg
theorem kon_v (kk : KT) (X : Nat → List Value → MH → Prop) (ls r : List Value) (h1 : MH) : kon kk X ls r (.returned none) h1 = kk ls r h1 := rfl
theorem kon_r (kk : KT) (X : Nat → List Value → MH → Prop) (ls r : List Value) (v : Value) (h1 : MH) : kon kk X ls r (.returned (some v)) h1 = kk ls (v :: r) h1 := rfl
theorem kon_t (kk : KT) (X : Nat → List Value → MH → Prop) (ls r : List Value) (k : Nat) (h1 : MH) : kon kk X ls r (.threw k) h1 = X k ls h1 := rfl
/-- the same but for some rows -/
def Eqx (L : List Nat) (σ τ : Nat → Nat → Int32) : Prop := ∀ a, L.contains a = false → τ a = σ a
theorem Eqx.refl (L : List Nat) (σ : Nat → Nat → Int32) : Eqx L σ σ := fun _ _ => rfl
theorem Eqx.trans {L : List Nat} {σ τ υ : Nat → Nat → Int32} (a : Eqx L σ τ) (b : Eqx L τ υ) : Eqx L σ υ := fun x hx => (b x hx).trans (a x hx)
theorem Eqx.mono {L K : List Nat} {σ τ : Nat → Nat → Int32} (a : Eqx L σ τ) (h : ∀ x, K.contains x = false → L.contains x = false) : Eqx K σ τ := fun x hx => a x (h x hx)
theorem Eqx.up {L : List Nat} {σ τ : Nat → Nat → Int32} (a : Eqx L σ τ) {k : Nat} (hk : L.contains k = true) (f : Nat → Int32) : Eqx L σ (va_up τ k f) := by
  intro x hx
  rw [vun _ _ (fun e => by subst e; rw [hk] at hx; cases hx)]
  exact a x hx
