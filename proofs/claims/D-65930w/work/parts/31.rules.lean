/-! STAGE 2, 2: rules of the pure machine, instruction by instruction -/
section GR
variable {k pc len pc' : Nat} {L L' : gm_L} {st : List Value} {h : hh_T} {Q : Option Value ⊕ Nat → hh_T → Prop}
theorem g_iconst {z : Int} {c : Int32} (e : gm_it k pc = (.iconst z, len)) (hz : Int32.ofInt z = c) (p : pc + len = pc') (H : gm_G k pc' L (.int c :: st) (h) Q) : gm_G k pc L (st) h Q := by
  subst p
  subst hz; exact gm_G_one e H (fun K => rfl)
theorem g_lconst {z : Int} {c : Int64} (e : gm_it k pc = (.jsr z, len)) (hz : Int64.ofInt z = c) (p : pc + len = pc') (H : gm_G k pc' L (.long c :: st) (h) Q) : gm_G k pc L (st) h Q := by
  subst p
  subst hz; exact gm_G_one e H (fun K => rfl)
theorem g_null (e : gm_it k pc = (.aconst_null, len)) (p : pc + len = pc') (H : gm_G k pc' L (va_rf none :: st) (h) Q) : gm_G k pc L (st) h Q := by
  subst p
  exact gm_G_one e H (fun K => rfl)
theorem g_iload {i : Nat} {x : Int32} (e : gm_it k pc = (.iload i, len)) (hl : gm_ld L i = some (.int x)) (p : pc + len = pc') (H : gm_G k pc' L (.int x :: st) (h) Q) : gm_G k pc L (st) h Q := by
  subst p
  exact gm_G_one e H (fun K => by simp only [gm_stI, hl])
theorem g_lload {i : Nat} {x : Int64} (e : gm_it k pc = (.lload i, len)) (hl : gm_ld L i = some (.long x)) (p : pc + len = pc') (H : gm_G k pc' L (.long x :: st) (h) Q) : gm_G k pc L (st) h Q := by
  subst p
  exact gm_G_one e H (fun K => by simp only [gm_stI, hl])
theorem g_aload {i : Nat} {r : Option Nat} (e : gm_it k pc = (.aload i, len)) (hl : gm_ld L i = some (va_rf r)) (p : pc + len = pc') (H : gm_G k pc' L (va_rf r :: st) (h) Q) : gm_G k pc L (st) h Q := by
  subst p
  cases r <;> exact gm_G_one e H (fun K => by simp only [gm_stI, hl, va_rf])
theorem g_istore {i : Nat} {x : Int32} (e : gm_it k pc = (.istore i, len)) (hL : gm_sto L i (.int x) = L') (p : pc + len = pc') (H : gm_G k pc' L' (st) (h) Q) : gm_G k pc L (.int x :: st) h Q := by
  subst p
  subst hL; exact gm_G_one e H (fun K => rfl)
theorem g_lstore {i : Nat} {x : Int64} (e : gm_it k pc = (.lstore i, len)) (hL : gm_sto2 L i (.long x) = L') (p : pc + len = pc') (H : gm_G k pc' L' (st) (h) Q) : gm_G k pc L (.long x :: st) h Q := by
  subst p
  subst hL; exact gm_G_one e H (fun K => rfl)
theorem g_astore {i : Nat} {r : Option Nat} (e : gm_it k pc = (.astore i, len)) (hL : gm_sto L i (va_rf r) = L') (p : pc + len = pc') (H : gm_G k pc' L' (st) (h) Q) : gm_G k pc L (va_rf r :: st) h Q := by
  subst p
  subst hL; cases r <;> exact gm_G_one e H (fun K => rfl)
theorem g_iinc {i : Nat} {z : Int} {c x : Int32} (e : gm_it k pc = (.iinc i z, len)) (hl : gm_ld L i = some (.int x)) (hz : Int32.ofInt z = c) (hL : gm_sto L i (.int (x + c)) = L') (p : pc + len = pc') (H : gm_G k pc' L' (st) (h) Q) : gm_G k pc L (st) h Q := by
  subst p
  subst hz; subst hL; exact gm_G_one e H (fun K => by simp only [gm_stI, hl])
theorem g_iadd {x y : Int32} (e : gm_it k pc = (.iadd, len)) (p : pc + len = pc') (H : gm_G k pc' L (.int (x + y) :: st) (h) Q) : gm_G k pc L (.int y :: .int x :: st) h Q := by
  subst p
  exact gm_G_one e H (fun K => rfl)
theorem g_isub {x y : Int32} (e : gm_it k pc = (.isub, len)) (p : pc + len = pc') (H : gm_G k pc' L (.int (x - y) :: st) (h) Q) : gm_G k pc L (.int y :: .int x :: st) h Q := by
  subst p
  exact gm_G_one e H (fun K => rfl)
theorem g_imul {x y : Int32} (e : gm_it k pc = (.imul, len)) (p : pc + len = pc') (H : gm_G k pc' L (.int (x * y) :: st) (h) Q) : gm_G k pc L (.int y :: .int x :: st) h Q := by
  subst p
  exact gm_G_one e H (fun K => rfl)
theorem g_iand {x y : Int32} (e : gm_it k pc = (.iand, len)) (p : pc + len = pc') (H : gm_G k pc' L (.int (x &&& y) :: st) (h) Q) : gm_G k pc L (.int y :: .int x :: st) h Q := by
  subst p
  exact gm_G_one e H (fun K => rfl)
theorem g_ior {x y : Int32} (e : gm_it k pc = (.ior, len)) (p : pc + len = pc') (H : gm_G k pc' L (.int (x ||| y) :: st) (h) Q) : gm_G k pc L (.int y :: .int x :: st) h Q := by
  subst p
  exact gm_G_one e H (fun K => rfl)
theorem g_ixor {x y : Int32} (e : gm_it k pc = (.ixor, len)) (p : pc + len = pc') (H : gm_G k pc' L (.int (x ^^^ y) :: st) (h) Q) : gm_G k pc L (.int y :: .int x :: st) h Q := by
  subst p
  exact gm_G_one e H (fun K => rfl)
theorem g_ishl {x y : Int32} (e : gm_it k pc = (.ishl, len)) (p : pc + len = pc') (H : gm_G k pc' L (.int (x <<< (y &&& 31)) :: st) (h) Q) : gm_G k pc L (.int y :: .int x :: st) h Q := by
  subst p
  exact gm_G_one e H (fun K => rfl)
theorem g_ishr {x y : Int32} (e : gm_it k pc = (.ishr, len)) (p : pc + len = pc') (H : gm_G k pc' L (.int (x >>> (y &&& 31)) :: st) (h) Q) : gm_G k pc L (.int y :: .int x :: st) h Q := by
  subst p
  exact gm_G_one e H (fun K => rfl)
theorem g_iushr {x y : Int32} (e : gm_it k pc = (.iushr, len)) (p : pc + len = pc') (H : gm_G k pc' L (.int ((x.toUInt32 >>> (y.toUInt32 &&& Int32.toUInt32 31)).toInt32) :: st) (h) Q) : gm_G k pc L (.int y :: .int x :: st) h Q := by
  subst p
  exact gm_G_one e H (fun K => rfl)
theorem g_dadd {x y : Int32} (e : gm_it k pc = (.dadd, len)) (hs : st.length ≤ 6) (p : pc + len = pc') (H : gm_G k pc' L (.int (if x < y then y else x) :: st) (h) Q) : gm_G k pc L (.int y :: .int x :: st) h Q := by
  subst p
  exact gm_G_one e H (fun K => if_pos (show (Value.int y :: Value.int x :: st).length ≤ 8 by simp only [List.length_cons]; omega))
theorem g_dsub {x y : Int32} (e : gm_it k pc = (.dsub, len)) (hs : st.length ≤ 6) (p : pc + len = pc') (H : gm_G k pc' L (.int (if y < x then y else x) :: st) (h) Q) : gm_G k pc L (.int y :: .int x :: st) h Q := by
  subst p
  exact gm_G_one e H (fun K => if_pos (show (Value.int y :: Value.int x :: st).length ≤ 8 by simp only [List.length_cons]; omega))
theorem g_idiv {x y : Int32} (e : gm_it k pc = (.idiv, len)) (hy : y ≠ 0) (p : pc + len = pc') (H : gm_G k pc' L (.int (x / y) :: st) (h) Q) : gm_G k pc L (.int y :: .int x :: st) h Q := by
  subst p
  exact gm_G_one e H (fun K => if_neg hy)
theorem g_irem {x y : Int32} (e : gm_it k pc = (.irem, len)) (hy : y ≠ 0) (p : pc + len = pc') (H : gm_G k pc' L (.int (x - x / y * y) :: st) (h) Q) : gm_G k pc L (.int y :: .int x :: st) h Q := by
  subst p
  exact gm_G_one e H (fun K => if_neg hy)
theorem g_ineg {x : Int32} (e : gm_it k pc = (.ineg, len)) (p : pc + len = pc') (H : gm_G k pc' L (.int (-x) :: st) (h) Q) : gm_G k pc L (.int x :: st) h Q := by
  subst p
  exact gm_G_one e H (fun K => rfl)
theorem g_lmul {x y : Int64} (e : gm_it k pc = (.lmul, len)) (p : pc + len = pc') (H : gm_G k pc' L (.long (x * y) :: st) (h) Q) : gm_G k pc L (.long y :: .long x :: st) h Q := by
  subst p
  exact gm_G_one e H (fun K => rfl)
theorem g_land {x y : Int64} (e : gm_it k pc = (.land, len)) (p : pc + len = pc') (H : gm_G k pc' L (.long (x &&& y) :: st) (h) Q) : gm_G k pc L (.long y :: .long x :: st) h Q := by
  subst p
  exact gm_G_one e H (fun K => rfl)
theorem g_lor {x y : Int64} (e : gm_it k pc = (.lor, len)) (p : pc + len = pc') (H : gm_G k pc' L (.long (x ||| y) :: st) (h) Q) : gm_G k pc L (.long y :: .long x :: st) h Q := by
  subst p
  exact gm_G_one e H (fun K => rfl)
theorem g_lxor {x y : Int64} (e : gm_it k pc = (.lxor, len)) (p : pc + len = pc') (H : gm_G k pc' L (.long (x ^^^ y) :: st) (h) Q) : gm_G k pc L (.long y :: .long x :: st) h Q := by
  subst p
  exact gm_G_one e H (fun K => rfl)
theorem g_lshl {x : Int64} {y : Int32} (e : gm_it k pc = (.lshl, len)) (p : pc + len = pc') (H : gm_G k pc' L (.long (x <<< (y.toInt64 &&& 63)) :: st) (h) Q) : gm_G k pc L (.int y :: .long x :: st) h Q := by
  subst p
  exact gm_G_one e H (fun K => rfl)
theorem g_lshr {x : Int64} {y : Int32} (e : gm_it k pc = (.lshr, len)) (p : pc + len = pc') (H : gm_G k pc' L (.long (x >>> (y.toInt64 &&& 63)) :: st) (h) Q) : gm_G k pc L (.int y :: .long x :: st) h Q := by
  subst p
  exact gm_G_one e H (fun K => rfl)
theorem g_lushr {x : Int64} {y : Int32} (e : gm_it k pc = (.lushr, len)) (p : pc + len = pc') (H : gm_G k pc' L (.long ((x.toUInt64 >>> (y.toInt64.toUInt64 &&& Int64.toUInt64 63)).toInt64) :: st) (h) Q) : gm_G k pc L (.int y :: .long x :: st) h Q := by
  subst p
  exact gm_G_one e H (fun K => rfl)
theorem g_lcmp {x y : Int64} (e : gm_it k pc = (.lcmp, len)) (p : pc + len = pc') (H : gm_G k pc' L (.int (lg_cmp x y) :: st) (h) Q) : gm_G k pc L (.long y :: .long x :: st) h Q := by
  subst p
  exact gm_G_one e H (fun K => rfl)
theorem g_i2l {x : Int32} (e : gm_it k pc = (.i2l, len)) (p : pc + len = pc') (H : gm_G k pc' L (.long x.toInt64 :: st) (h) Q) : gm_G k pc L (.int x :: st) h Q := by
  subst p
  exact gm_G_one e H (fun K => rfl)
theorem g_l2i {x : Int64} (e : gm_it k pc = (.l2i, len)) (p : pc + len = pc') (H : gm_G k pc' L (.int x.toInt32 :: st) (h) Q) : gm_G k pc L (.long x :: st) h Q := by
  subst p
  exact gm_G_one e H (fun K => rfl)
theorem g_i2b {x : Int32} (e : gm_it k pc = (.i2b, len)) (p : pc + len = pc') (H : gm_G k pc' L (.int x.toInt8.toInt32 :: st) (h) Q) : gm_G k pc L (.int x :: st) h Q := by
  subst p
  exact gm_G_one e H (fun K => rfl)
theorem g_dup_i {x : Int32} (e : gm_it k pc = (.dup, len)) (p : pc + len = pc') (H : gm_G k pc' L (.int x :: .int x :: st) (h) Q) : gm_G k pc L (.int x :: st) h Q := by
  subst p
  exact gm_G_one e H (fun K => rfl)
theorem g_dup_a {r : Option Nat} (e : gm_it k pc = (.dup, len)) (p : pc + len = pc') (H : gm_G k pc' L (va_rf r :: va_rf r :: st) (h) Q) : gm_G k pc L (va_rf r :: st) h Q := by
  subst p
  cases r <;> exact gm_G_one e H (fun K => rfl)
theorem g_dup_x1_i {x : Int32} {a : Nat} (e : gm_it k pc = (.dup_x1, len)) (p : pc + len = pc') (H : gm_G k pc' L (.int x :: .ref a :: .int x :: st) (h) Q) : gm_G k pc L (.int x :: .ref a :: st) h Q := by
  subst p
  exact gm_G_one e H (fun K => rfl)
theorem g_dup_x1_a {b a : Nat} (e : gm_it k pc = (.dup_x1, len)) (p : pc + len = pc') (H : gm_G k pc' L (.ref b :: .ref a :: .ref b :: st) (h) Q) : gm_G k pc L (.ref b :: .ref a :: st) h Q := by
  subst p
  exact gm_G_one e H (fun K => rfl)
theorem g_dup_x2 {x y : Int32} {a : Nat} (e : gm_it k pc = (.dup_x2, len)) (p : pc + len = pc') (H : gm_G k pc' L (.int x :: .int y :: .ref a :: .int x :: st) (h) Q) : gm_G k pc L (.int x :: .int y :: .ref a :: st) h Q := by
  subst p
  exact gm_G_one e H (fun K => rfl)
theorem g_dup2_a {x : Int32} {a : Nat} (e : gm_it k pc = (.dup2, len)) (p : pc + len = pc') (H : gm_G k pc' L (.int x :: .ref a :: .int x :: .ref a :: st) (h) Q) : gm_G k pc L (.int x :: .ref a :: st) h Q := by
  subst p
  exact gm_G_one e H (fun K => rfl)
theorem g_dup2_i {x y : Int32} (e : gm_it k pc = (.dup2, len)) (p : pc + len = pc') (H : gm_G k pc' L (.int x :: .int y :: .int x :: .int y :: st) (h) Q) : gm_G k pc L (.int x :: .int y :: st) h Q := by
  subst p
  exact gm_G_one e H (fun K => rfl)
theorem g_pop_i {x : Int32} (e : gm_it k pc = (.pop, len)) (p : pc + len = pc') (H : gm_G k pc' L (st) (h) Q) : gm_G k pc L (.int x :: st) h Q := by
  subst p
  exact gm_G_one e H (fun K => rfl)
theorem g_pop_a {r : Option Nat} (e : gm_it k pc = (.pop, len)) (p : pc + len = pc') (H : gm_G k pc' L (st) (h) Q) : gm_G k pc L (va_rf r :: st) h Q := by
  subst p
  cases r <;> exact gm_G_one e H (fun K => rfl)
theorem g_goto {t : Int} (e : gm_it k pc = (.goto t, len)) (p : t.toNat = pc') (H : gm_G k pc' L st h Q) : gm_G k pc L st h Q := by
  subst p
  exact gm_G_one e H (fun K => rfl)
theorem g_if_eq {t : Int} {pt : Nat} {x : Int32} (e : gm_it k pc = (.ifCond .eq t, len)) (p : pc + len = pc') (q : t.toNat = pt) (H : (x = 0 → gm_G k pt L st h Q) ∧ (¬ x = 0 → gm_G k pc' L st h Q)) : gm_G k pc L (.int x :: st) h Q := by
  subst p; subst q
  by_cases hc : x = 0
  · exact gm_G_one e (H.1 hc) (fun K => if_pos hc)
  · exact gm_G_one e (H.2 hc) (fun K => if_neg hc)
theorem g_ic_eq {t : Int} {pt : Nat} {x y : Int32} (e : gm_it k pc = (.if_icmp .eq t, len)) (p : pc + len = pc') (q : t.toNat = pt) (H : (x = y → gm_G k pt L st h Q) ∧ (¬ x = y → gm_G k pc' L st h Q)) : gm_G k pc L (.int y :: .int x :: st) h Q := by
  subst p; subst q
  by_cases hc : x = y
  · exact gm_G_one e (H.1 hc) (fun K => if_pos hc)
  · exact gm_G_one e (H.2 hc) (fun K => if_neg hc)
theorem g_if_ne {t : Int} {pt : Nat} {x : Int32} (e : gm_it k pc = (.ifCond .ne t, len)) (p : pc + len = pc') (q : t.toNat = pt) (H : (¬ x = 0 → gm_G k pt L st h Q) ∧ (x = 0 → gm_G k pc' L st h Q)) : gm_G k pc L (.int x :: st) h Q := by
  subst p; subst q
  by_cases hc : x = 0
  · exact gm_G_one e (H.2 hc) (fun K => if_pos hc)
  · exact gm_G_one e (H.1 hc) (fun K => if_neg hc)
theorem g_ic_ne {t : Int} {pt : Nat} {x y : Int32} (e : gm_it k pc = (.if_icmp .ne t, len)) (p : pc + len = pc') (q : t.toNat = pt) (H : (¬ x = y → gm_G k pt L st h Q) ∧ (x = y → gm_G k pc' L st h Q)) : gm_G k pc L (.int y :: .int x :: st) h Q := by
  subst p; subst q
  by_cases hc : x = y
  · exact gm_G_one e (H.2 hc) (fun K => if_pos hc)
  · exact gm_G_one e (H.1 hc) (fun K => if_neg hc)
theorem g_if_lt {t : Int} {pt : Nat} {x : Int32} (e : gm_it k pc = (.ifCond .lt t, len)) (p : pc + len = pc') (q : t.toNat = pt) (H : (x < 0 → gm_G k pt L st h Q) ∧ (¬ x < 0 → gm_G k pc' L st h Q)) : gm_G k pc L (.int x :: st) h Q := by
  subst p; subst q
  by_cases hc : x < 0
  · exact gm_G_one e (H.1 hc) (fun K => if_pos hc)
  · exact gm_G_one e (H.2 hc) (fun K => if_neg hc)
theorem g_ic_lt {t : Int} {pt : Nat} {x y : Int32} (e : gm_it k pc = (.if_icmp .lt t, len)) (p : pc + len = pc') (q : t.toNat = pt) (H : (x < y → gm_G k pt L st h Q) ∧ (¬ x < y → gm_G k pc' L st h Q)) : gm_G k pc L (.int y :: .int x :: st) h Q := by
  subst p; subst q
  by_cases hc : x < y
  · exact gm_G_one e (H.1 hc) (fun K => if_pos hc)
  · exact gm_G_one e (H.2 hc) (fun K => if_neg hc)
theorem g_if_ge {t : Int} {pt : Nat} {x : Int32} (e : gm_it k pc = (.ifCond .ge t, len)) (p : pc + len = pc') (q : t.toNat = pt) (H : (¬ x < 0 → gm_G k pt L st h Q) ∧ (x < 0 → gm_G k pc' L st h Q)) : gm_G k pc L (.int x :: st) h Q := by
  subst p; subst q
  by_cases hc : x < 0
  · exact gm_G_one e (H.2 hc) (fun K => if_neg (Int32.not_le.mpr hc))
  · exact gm_G_one e (H.1 hc) (fun K => if_pos (Int32.not_lt.mp hc))
theorem g_ic_ge {t : Int} {pt : Nat} {x y : Int32} (e : gm_it k pc = (.if_icmp .ge t, len)) (p : pc + len = pc') (q : t.toNat = pt) (H : (¬ x < y → gm_G k pt L st h Q) ∧ (x < y → gm_G k pc' L st h Q)) : gm_G k pc L (.int y :: .int x :: st) h Q := by
  subst p; subst q
  by_cases hc : x < y
  · exact gm_G_one e (H.2 hc) (fun K => if_neg (Int32.not_le.mpr hc))
  · exact gm_G_one e (H.1 hc) (fun K => if_pos (Int32.not_lt.mp hc))
theorem g_if_gt {t : Int} {pt : Nat} {x : Int32} (e : gm_it k pc = (.ifCond .gt t, len)) (p : pc + len = pc') (q : t.toNat = pt) (H : (0 < x → gm_G k pt L st h Q) ∧ (¬ 0 < x → gm_G k pc' L st h Q)) : gm_G k pc L (.int x :: st) h Q := by
  subst p; subst q
  by_cases hc : 0 < x
  · exact gm_G_one e (H.1 hc) (fun K => if_pos hc)
  · exact gm_G_one e (H.2 hc) (fun K => if_neg hc)
theorem g_ic_gt {t : Int} {pt : Nat} {x y : Int32} (e : gm_it k pc = (.if_icmp .gt t, len)) (p : pc + len = pc') (q : t.toNat = pt) (H : (y < x → gm_G k pt L st h Q) ∧ (¬ y < x → gm_G k pc' L st h Q)) : gm_G k pc L (.int y :: .int x :: st) h Q := by
  subst p; subst q
  by_cases hc : y < x
  · exact gm_G_one e (H.1 hc) (fun K => if_pos hc)
  · exact gm_G_one e (H.2 hc) (fun K => if_neg hc)
theorem g_if_le {t : Int} {pt : Nat} {x : Int32} (e : gm_it k pc = (.ifCond .le t, len)) (p : pc + len = pc') (q : t.toNat = pt) (H : (¬ 0 < x → gm_G k pt L st h Q) ∧ (0 < x → gm_G k pc' L st h Q)) : gm_G k pc L (.int x :: st) h Q := by
  subst p; subst q
  by_cases hc : 0 < x
  · exact gm_G_one e (H.2 hc) (fun K => if_neg (Int32.not_le.mpr hc))
  · exact gm_G_one e (H.1 hc) (fun K => if_pos (Int32.not_lt.mp hc))
theorem g_ic_le {t : Int} {pt : Nat} {x y : Int32} (e : gm_it k pc = (.if_icmp .le t, len)) (p : pc + len = pc') (q : t.toNat = pt) (H : (¬ y < x → gm_G k pt L st h Q) ∧ (y < x → gm_G k pc' L st h Q)) : gm_G k pc L (.int y :: .int x :: st) h Q := by
  subst p; subst q
  by_cases hc : y < x
  · exact gm_G_one e (H.2 hc) (fun K => if_neg (Int32.not_le.mpr hc))
  · exact gm_G_one e (H.1 hc) (fun K => if_pos (Int32.not_lt.mp hc))
theorem g_ac_eq {t : Int} {pt : Nat} {r1 r2 : Option Nat} (e : gm_it k pc = (.if_acmp .eq t, len)) (p : pc + len = pc') (q : t.toNat = pt) (H : (r2 = r1 → gm_G k pt L st h Q) ∧ (¬ r2 = r1 → gm_G k pc' L st h Q)) : gm_G k pc L (va_rf r1 :: va_rf r2 :: st) h Q := by
  subst p; subst q
  rcases r1 with _ | b <;> rcases r2 with _ | a
  · exact gm_G_one e (H.1 rfl) (fun K => rfl)
  · exact gm_G_one e (H.2 (fun z => by cases z)) (fun K => rfl)
  · exact gm_G_one e (H.2 (fun z => by cases z)) (fun K => rfl)
  · by_cases hc : a = b
    · exact gm_G_one e (H.1 (congrArg some hc)) (fun K => if_pos hc)
    · exact gm_G_one e (H.2 (fun z => hc (Option.some.inj z))) (fun K => if_neg hc)
theorem g_ac_ne {t : Int} {pt : Nat} {r1 r2 : Option Nat} (e : gm_it k pc = (.if_acmp .ne t, len)) (p : pc + len = pc') (q : t.toNat = pt) (H : (¬ r2 = r1 → gm_G k pt L st h Q) ∧ (r2 = r1 → gm_G k pc' L st h Q)) : gm_G k pc L (va_rf r1 :: va_rf r2 :: st) h Q := by
  subst p; subst q
  rcases r1 with _ | b <;> rcases r2 with _ | a
  · exact gm_G_one e (H.2 rfl) (fun K => rfl)
  · exact gm_G_one e (H.1 (fun z => by cases z)) (fun K => rfl)
  · exact gm_G_one e (H.1 (fun z => by cases z)) (fun K => rfl)
  · by_cases hc : a = b
    · exact gm_G_one e (H.2 (congrArg some hc)) (fun K => if_pos hc)
    · exact gm_G_one e (H.1 (fun z => hc (Option.some.inj z))) (fun K => if_neg hc)
theorem g_ifnull {t : Int} {pt : Nat} {r : Option Nat} (e : gm_it k pc = (.ifnull t, len)) (p : pc + len = pc') (q : t.toNat = pt) (H : (r = none → gm_G k pt L st h Q) ∧ (∀ a, r = some a → gm_G k pc' L st h Q)) : gm_G k pc L (va_rf r :: st) h Q := by
  subst p; subst q
  rcases r with _ | a
  · exact gm_G_one e (H.1 rfl) (fun K => rfl)
  · exact gm_G_one e (H.2 a rfl) (fun K => rfl)
theorem g_ifnonnull {t : Int} {pt : Nat} {r : Option Nat} (e : gm_it k pc = (.ifnonnull t, len)) (p : pc + len = pc') (q : t.toNat = pt) (H : (∀ a, r = some a → gm_G k pt L st h Q) ∧ (r = none → gm_G k pc' L st h Q)) : gm_G k pc L (va_rf r :: st) h Q := by
  subst p; subst q
  rcases r with _ | a
  · exact gm_G_one e (H.2 rfl) (fun K => rfl)
  · exact gm_G_one e (H.1 a rfl) (fun K => rfl)
theorem g_getI {n a d f : Nat} (e : gm_it k pc = (.getfield n, len)) (hd : n / 1024 = d) (hk : n / 256 % 4 = 0) (hf : n % 256 = f) (ht : gm_sub (hh_tg h a) d = true) (p : pc + len = pc') (H : gm_G k pc' L (.int (hh_i h a f) :: st) (h) Q) : gm_G k pc L (.ref a :: st) h Q := by
  subst p
  subst hd; subst hf; exact gm_G_one e H (fun K => by simp only [gm_stI, ht, if_true, hk])
theorem g_getZ {n a d f : Nat} (e : gm_it k pc = (.getfield n, len)) (hd : n / 1024 = d) (hk : n / 256 % 4 = 1) (hf : n % 256 = f) (ht : gm_sub (hh_tg h a) d = true) (p : pc + len = pc') (H : gm_G k pc' L (.int (hh_i h a f) :: st) (h) Q) : gm_G k pc L (.ref a :: st) h Q := by
  subst p
  subst hd; subst hf; exact gm_G_one e H (fun K => by simp only [gm_stI, ht, if_true, hk])
theorem g_getJ {n a d f : Nat} (e : gm_it k pc = (.getfield n, len)) (hd : n / 1024 = d) (hk : n / 256 % 4 = 2) (hf : n % 256 = f) (ht : gm_sub (hh_tg h a) d = true) (p : pc + len = pc') (H : gm_G k pc' L (.long (hh_j h a f) :: st) (h) Q) : gm_G k pc L (.ref a :: st) h Q := by
  subst p
  subst hd; subst hf; exact gm_G_one e H (fun K => by simp only [gm_stI, ht, if_true, hk])
theorem g_getR {n a d f : Nat} (e : gm_it k pc = (.getfield n, len)) (hd : n / 1024 = d) (hk : n / 256 % 4 = 3) (hf : n % 256 = f) (ht : gm_sub (hh_tg h a) d = true) (p : pc + len = pc') (H : gm_G k pc' L (va_rf (hh_r h a f) :: st) (h) Q) : gm_G k pc L (.ref a :: st) h Q := by
  subst p
  subst hd; subst hf; exact gm_G_one e H (fun K => by simp only [gm_stI, ht, if_true, hk])
theorem g_putI {x : Int32} {n a d f : Nat} (e : gm_it k pc = (.putfield n, len)) (hd : n / 1024 = d) (hk : n / 256 % 4 = 0) (hf : n % 256 = f) (ht : gm_sub (hh_tg h a) d = true)  (p : pc + len = pc') (H : gm_G k pc' L (st) (hh_wi h a f x) Q) : gm_G k pc L (.int x :: .ref a :: st) h Q := by
  subst p
  subst hd; subst hf; exact gm_G_one e H (fun K => by simp only [gm_stI, hk, ht, if_true])
theorem g_putZ {x : Int32} {n a d f : Nat} (e : gm_it k pc = (.putfield n, len)) (hd : n / 1024 = d) (hk : n / 256 % 4 = 1) (hf : n % 256 = f) (ht : gm_sub (hh_tg h a) d = true) (hx : x = 0 ∨ x = 1) (p : pc + len = pc') (H : gm_G k pc' L (st) (hh_wi h a f x) Q) : gm_G k pc L (.int x :: .ref a :: st) h Q := by
  subst p
  subst hd; subst hf; exact gm_G_one e H (fun K => by simp only [gm_stI, hk, ht, hx, and_self, true_and, if_true])
theorem g_putJ {x : Int64} {n a d f : Nat} (e : gm_it k pc = (.putfield n, len)) (hd : n / 1024 = d) (hk : n / 256 % 4 = 2) (hf : n % 256 = f) (ht : gm_sub (hh_tg h a) d = true)  (p : pc + len = pc') (H : gm_G k pc' L (st) (hh_wj h a f x) Q) : gm_G k pc L (.long x :: .ref a :: st) h Q := by
  subst p
  subst hd; subst hf; exact gm_G_one e H (fun K => by simp only [gm_stI, hk, ht, if_true])
theorem g_putR {x : Option Nat} {n a d f : Nat} (e : gm_it k pc = (.putfield n, len)) (hd : n / 1024 = d) (hk : n / 256 % 4 = 3) (hf : n % 256 = f) (ht : gm_sub (hh_tg h a) d = true)  (p : pc + len = pc') (H : gm_G k pc' L (st) (hh_wr h a f x) Q) : gm_G k pc L (va_rf x :: .ref a :: st) h Q := by
  subst p
  subst hd; subst hf; rcases x with _ | b <;> exact gm_G_one e H (fun K => by simp only [gm_stI, hk, ht, if_true, va_rf])
theorem g_new {n t s : Nat} (e : gm_it k pc = (.new n, len)) (ht : n % 64 + 1 = t) (hs : n / 64 = s) (p : pc + len = pc') (H : gm_G k pc' L (.ref (hh_sz h) :: st) (hh_al h t 0 s) Q) : gm_G k pc L (st) h Q := by
  subst p
  subst ht; subst hs; exact gm_G_one e H (fun K => rfl)
theorem g_newarray {t : ArrayType} {x : Int32} {u n : Nat} (e : gm_it k pc = (.newarray t, len)) (ht : gm_new t = u) (hu : u ≠ 0) (hx : x.toNatClampNeg = n) (hr : 0 ≤ x ∧ x ≤ 100000) (p : pc + len = pc') (H : gm_G k pc' L (.ref (hh_sz h) :: st) (hh_al h u n n) Q) : gm_G k pc L (.int x :: st) h Q := by
  subst p
  subst ht; subst hx; exact gm_G_one e H (fun K => if_pos ⟨hr, hu⟩)
theorem g_anewarray {t n : Nat} {x : Int32} (e : gm_it k pc = (.anewarray t, len)) (hx : x.toNatClampNeg = n) (hr : 0 ≤ x ∧ x ≤ 100000) (p : pc + len = pc') (H : gm_G k pc' L (.ref (hh_sz h) :: st) (hh_al h t n n) Q) : gm_G k pc L (.int x :: st) h Q := by
  subst p
  subst hx; exact gm_G_one e H (fun K => if_pos hr)
theorem g_alen {a : Nat} (e : gm_it k pc = (.arraylength, len)) (ht : 100 ≤ hh_tg h a) (p : pc + len = pc') (H : gm_G k pc' L (.int (Int32.ofNat (hh_ln h a)) :: st) (h) Q) : gm_G k pc L (.ref a :: st) h Q := by
  subst p
  exact gm_G_one e H (fun K => if_pos ht)
def gm_ix (i : Int32) (n m : Nat) : Prop := i.toNatClampNeg = n ∧ 0 ≤ i ∧ n < m
theorem gm_ix_in {i : Int32} {n m : Nat} (h : gm_ix i n m) : ¬ (i < 0 ∨ m ≤ i.toNatClampNeg) := by
  obtain ⟨rfl, h1, h2⟩ := h
  rintro (q | q)
  · exact absurd h1 (Int32.not_le.mpr q)
  · omega
theorem g_iaload {i : Int32} {a n : Nat} (e : gm_it k pc = (.iaload, len)) (ht : hh_tg h a = 100 ∨ hh_tg h a = 105) (hi : gm_ix i n (hh_ln h a)) (p : pc + len = pc') (H : gm_G k pc' L (.int (hh_i h a n) :: st) (h) Q) : gm_G k pc L (.int i :: .ref a :: st) h Q := by
  subst p
  have q := gm_ix_in hi; obtain ⟨rfl, -, -⟩ := hi; exact gm_G_one e H (fun K => if_pos ⟨ht, q⟩)
theorem g_baload {i : Int32} {a n : Nat} (e : gm_it k pc = (.baload, len)) (ht : hh_tg h a = 101 ∨ hh_tg h a = 102) (hi : gm_ix i n (hh_ln h a)) (p : pc + len = pc') (H : gm_G k pc' L (.int (hh_i h a n) :: st) (h) Q) : gm_G k pc L (.int i :: .ref a :: st) h Q := by
  subst p
  have q := gm_ix_in hi; obtain ⟨rfl, -, -⟩ := hi; exact gm_G_one e H (fun K => if_pos ⟨ht, q⟩)
theorem g_laload {i : Int32} {a n : Nat} (e : gm_it k pc = (.laload, len)) (ht : hh_tg h a = 103) (hi : gm_ix i n (hh_ln h a)) (p : pc + len = pc') (H : gm_G k pc' L (.long (hh_j h a n) :: st) (h) Q) : gm_G k pc L (.int i :: .ref a :: st) h Q := by
  subst p
  have q := gm_ix_in hi; obtain ⟨rfl, -, -⟩ := hi; exact gm_G_one e H (fun K => if_pos ⟨ht, q⟩)
theorem g_aaload {i : Int32} {a n : Nat} (e : gm_it k pc = (.aaload, len)) (ht : hh_tg h a = 104 ∨ 200 ≤ hh_tg h a) (hi : gm_ix i n (hh_ln h a)) (p : pc + len = pc') (H : gm_G k pc' L (va_rf (hh_r h a n) :: st) (h) Q) : gm_G k pc L (.int i :: .ref a :: st) h Q := by
  subst p
  have q := gm_ix_in hi; obtain ⟨rfl, -, -⟩ := hi; exact gm_G_one e H (fun K => if_pos ⟨ht, q⟩)
theorem g_iastore {i x : Int32} {a n : Nat} (e : gm_it k pc = (.iastore, len)) (ht : hh_tg h a = 100) (hi : gm_ix i n (hh_ln h a)) (p : pc + len = pc') (H : gm_G k pc' L (st) (hh_wi h a n x) Q) : gm_G k pc L (.int x :: .int i :: .ref a :: st) h Q := by
  subst p
  have q := gm_ix_in hi; obtain ⟨rfl, -, -⟩ := hi; exact gm_G_one e H (fun K => if_pos ⟨ht, q⟩)
theorem g_bastore {i x : Int32} {a n : Nat} (e : gm_it k pc = (.bastore, len)) (ht : hh_tg h a = 101) (hi : gm_ix i n (hh_ln h a)) (p : pc + len = pc') (H : gm_G k pc' L (st) (hh_wi h a n x.toInt8.toInt32) Q) : gm_G k pc L (.int x :: .int i :: .ref a :: st) h Q := by
  subst p
  have q := gm_ix_in hi; obtain ⟨rfl, -, -⟩ := hi; exact gm_G_one e H (fun K => if_pos ⟨ht, q⟩)
theorem g_zastore {i x : Int32} {a n : Nat} (e : gm_it k pc = (.bastore, len)) (ht : hh_tg h a = 102) (hi : gm_ix i n (hh_ln h a)) (hx : x = 0 ∨ x = 1) (p : pc + len = pc') (H : gm_G k pc' L (st) (hh_wi h a n x) Q) : gm_G k pc L (.int x :: .int i :: .ref a :: st) h Q := by
  subst p
  have q := gm_ix_in hi; obtain ⟨rfl, -, -⟩ := hi; exact gm_G_one e H (fun K => (if_neg (fun z => by rw [ht] at z; exact absurd z.1 (by decide))).trans (if_pos ⟨ht, q, hx⟩))
theorem g_lastore {i : Int32} {x : Int64} {a n : Nat} (e : gm_it k pc = (.lastore, len)) (ht : hh_tg h a = 103) (hi : gm_ix i n (hh_ln h a)) (p : pc + len = pc') (H : gm_G k pc' L (st) (hh_wj h a n x) Q) : gm_G k pc L (.long x :: .int i :: .ref a :: st) h Q := by
  subst p
  have q := gm_ix_in hi; obtain ⟨rfl, -, -⟩ := hi; exact gm_G_one e H (fun K => if_pos ⟨ht, q⟩)
theorem g_aastore {i : Int32} {r : Option Nat} {a n : Nat} (e : gm_it k pc = (.aastore, len)) (h2 : 200 ≤ hh_tg h a) (ht : ∀ b, r = some b → gm_as (hh_tg h a) (hh_tg h b) = true) (hi : gm_ix i n (hh_ln h a)) (p : pc + len = pc') (H : gm_G k pc' L (st) (hh_wr h a n r) Q) : gm_G k pc L (va_rf r :: .int i :: .ref a :: st) h Q := by
  subst p
  have q := gm_ix_in hi; obtain ⟨rfl, -, -⟩ := hi; rcases r with _ | b; (exact gm_G_one e H (fun K => if_pos ⟨h2, q⟩)); exact gm_G_one e H (fun K => if_pos ⟨ht b rfl, q⟩)
theorem g_cast {d : Nat} {r : Option Nat} (e : gm_it k pc = (.checkcast d, len)) (ht : ∀ b, r = some b → gm_sub (hh_tg h b) d = true) (p : pc + len = pc') (H : gm_G k pc' L (va_rf r :: st) (h) Q) : gm_G k pc L (va_rf r :: st) h Q := by
  subst p
  rcases r with _ | b; (exact gm_G_one e H (fun K => rfl)); exact gm_G_one e H (fun K => if_pos (ht b rfl))
theorem g_throw {a : Nat} (e : gm_it k pc = (.athrow, len)) (ht : hh_tg h a = 21) (hh : gm_hd k pc = none) (H : Q (.inr a) h) : gm_G k pc L (.ref a :: st) h Q := gm_G_end e H (fun K => by simp only [gm_stI, gm_exc, ht, if_true, hh])
theorem g_throw_c {a q : Nat} (e : gm_it k pc = (.athrow, len)) (ht : hh_tg h a = 21) (hh : gm_hd k pc = some q) (H : gm_G k q L [.ref a] h Q) : gm_G k pc L (.ref a :: st) h Q := gm_G_one e H (fun K => by simp only [gm_stI, gm_exc, ht, if_true, hh])
theorem g_ireturn {x : Int32} (e : gm_it k pc = (.ireturn, len)) (hb : gm_rb k = false ∨ (x = 0 ∨ x = 1)) (H : Q (.inl (some (.int x))) h) : gm_G k pc L [.int x] h Q := gm_G_end e H (fun K => if_pos (fun z => by rcases hb with q | q; (rw [q] at z; cases z); exact q))
theorem g_lreturn {x : Int64} (e : gm_it k pc = (.lreturn, len)) (H : Q (.inl (some (.long x))) h) : gm_G k pc L [.long x] h Q := gm_G_end e H (fun K => rfl)
theorem g_areturn {r : Option Nat} (e : gm_it k pc = (.areturn, len)) (H : Q (.inl (some (va_rf r))) h) : gm_G k pc L [va_rf r] h Q := by cases r <;> exact gm_G_end e H (fun K => rfl)
theorem g_return (e : gm_it k pc = (.return_, len)) (H : Q (.inl none) h) : gm_G k pc L [] h Q := gm_G_end e H (fun K => rfl)
theorem g_objinit {r : Nat} (e : gm_it k pc = (.jsr_w 0, len)) (hs : st.length ≤ 5) (p : pc + len = pc') (H : gm_G k pc' L st h Q) : gm_G k pc L (.ref r :: st) h Q := by
  subst p
  exact gm_G_one e H (fun K => if_pos (show (Value.ref r :: st).length ≤ 6 by simp only [List.length_cons]; omega))
theorem g_rteinit {a : Nat} (e : gm_it k pc = (.jsr_w 1, len)) (hs : st.length ≤ 5) (ht : hh_tg h a = 21) (hr : hh_r h a 1 = none) (p : pc + len = pc') (H : gm_G k pc' L st h Q) : gm_G k pc L (.ref a :: st) h Q := by
  subst p
  exact gm_G_one e H (fun K => if_pos (show hh_tg h a = 21 ∧ hh_r h a 1 = none ∧ (Value.ref a :: st).length ≤ 6 from ⟨ht, hr, by simp only [List.length_cons]; omega⟩))
theorem g_multi {x y : Nat} (e : gm_it k pc = (.multianewarray x y, len)) (p : pc + len = pc') (H : gm_G k pc' L (.ref (hh_sz h) :: st) (hh_wr (hh_al (hh_wr (hh_al (hh_wr (hh_al (hh_al h 104 3 3) 100 6 6) (hh_sz h) 0 (some (hh_sz h + 1))) 100 6 6) (hh_sz h) 1 (some (hh_sz h + 2))) 100 6 6) (hh_sz h) 2 (some (hh_sz h + 3))) Q) : gm_G k pc L (.int 6 :: .int 3 :: st) h Q := by
  subst p
  exact gm_G_one e H (fun K => rfl)
theorem g_switch {d lo hi : Int} {ts : Array Int} {x : Int32} (e : gm_it k pc = (.tableswitch d lo hi ts, len)) (H : ((x.toInt < lo ∨ hi < x.toInt) → gm_G k d.toNat L st h Q) ∧ (¬ (x.toInt < lo ∨ hi < x.toInt) → ∃ t, ts[(x.toInt - lo).toNat]? = some t ∧ gm_G k t.toNat L st h Q)) : gm_G k pc L (.int x :: st) h Q := by
  by_cases hc : x.toInt < lo ∨ hi < x.toInt
  · exact gm_G_one e (H.1 hc) (fun K => if_pos hc)
  · obtain ⟨t, h1, h2⟩ := H.2 hc
    exact gm_G_one e h2 (fun K => (if_neg hc).trans (by rw [h1]))
/-- an exception comes out of a call at pc -/
def gm_E (k pc : Nat) (L : gm_L) (Q : Option Value ⊕ Nat → hh_T → Prop) (a : Nat) (h : hh_T) : Prop := hh_tg h a = 21 ∧ match gm_hd k pc with | some q => gm_G k q L [.ref a] h Q | none => Q (.inr a) h
def gm_A (k pc pc' : Nat) (L : gm_L) (rest : List Value) (Q : Option Value ⊕ Nat → hh_T → Prop) (r : Option Value ⊕ Nat) (h : hh_T) : Prop := match r with
  | .inl none => gm_G k pc' L rest h Q
  | .inl (some v) => gm_G k pc' L (v :: rest) h Q
  | .inr a => gm_E k pc L Q a h
theorem gm_call_G {y n : Nat} {st0 : List Value} {ins : Instr} (e : gm_it k pc = (ins, len)) (hi : ∀ K : gm_K, gm_stI K k pc len ins L st0 h = gm_call K k pc len y n L st0 h) (hc : n ≤ st0.length ∧ st0.length ≤ n + 6 ∧ (gm_ent ((st0.take n).reverse)).length ≤ gm_ml y)
    (H : gm_G y 0 (gm_ent ((st0.take n).reverse)) [] h (gm_A k pc (pc + len) L (st0.drop n) Q)) : gm_G k pc L st0 h Q := by
  obtain ⟨m, r, h1, a1, a2⟩ := H
  have fin : ∀ m2 x, (match r with | .inl none => gm_go m2 k (pc + len) L (st0.drop n) h1 | .inl (some v) => gm_go m2 k (pc + len) L (v :: st0.drop n) h1 | .inr a => gm_exc (gm_go m2) k pc L a h1) = some x → Q x.1 x.2 → gm_G k pc L st0 h Q := by
    intro m2 x b1 b2
    refine gm_G_of e ⟨max m m2, x, ?_, b2⟩
    rw [hi]
    unfold gm_call
    rw [if_pos hc, gm_go_mono (Nat.le_max_left m m2) _ _ _ _ _ _ a1]
    rcases r with (_ | v) | a
    · exact gm_go_mono (Nat.le_max_right m m2) _ _ _ _ _ _ b1
    · exact gm_go_mono (Nat.le_max_right m m2) _ _ _ _ _ _ b1
    · exact gm_exc_mono (gm_go_mono (Nat.le_max_right m m2)) b1
  rcases r with (_ | v) | a
  · obtain ⟨m2, r2, h2, b1, b2⟩ := a2
    exact fin m2 (r2, h2) b1 b2
  · obtain ⟨m2, r2, h2, b1, b2⟩ := a2
    exact fin m2 (r2, h2) b1 b2
  · obtain ⟨t1, t2⟩ := a2
    cases hq : gm_hd k pc with
    | none =>
      rw [hq] at t2
      exact fin 0 (.inr a, h1) (by simp only [gm_exc, t1, if_true, hq]) t2
    | some q =>
      rw [hq] at t2
      obtain ⟨m2, r2, h2, b1, b2⟩ := t2
      exact fin m2 (r2, h2) (by simp only [gm_exc, t1, if_true, hq]; exact b1) b2
end GR
