/-! STAGE 3, 5: the twin's calls about the tape and disks -/
theorem zp_d_c (P : zP) (d : Int32) (hn : zp_nd P ≤ 8) : (zp_d P d = none ∧ (d < (Int32.ofNat 0) ∨ ¬ d < (Int32.ofNat (zp_nd P)))) ∨ ∃ k, k < zp_nd P ∧ d = (Int32.ofNat k) ∧ zp_d P d = some k := by
  unfold zp_d
  by_cases c : d < (Int32.ofNat 0) ∨ ¬ d < (Int32.ofNat (zp_nd P))
  · rw [if_pos c]; exact Or.inl ⟨rfl, c⟩
  · rw [if_neg c]
    obtain ⟨k, hk, rfl⟩ := i_nat (fun z => c (Or.inl z))
    rw [i_tn hk]
    have : k < zp_nd P := by
      by_cases z : k < zp_nd P
      · exact z
      · exact absurd (Or.inr (by rw [i_lt hk (by omega)]; exact z)) c
    exact Or.inr ⟨k, this, rfl, rfl⟩
theorem zp_s_c (P : zP) (d : Nat) (s : Int32) (hn : zp_sec P d ≤ 64) : (zp_s P d s = none ∧ (s < (Int32.ofNat 0) ∨ ¬ s < (Int32.ofNat (zp_sec P d)))) ∨ ∃ k, k < zp_sec P d ∧ s = (Int32.ofNat k) ∧ zp_s P d s = some k := by
  unfold zp_s
  by_cases c : s < (Int32.ofNat 0) ∨ ¬ s < (Int32.ofNat (zp_sec P d))
  · rw [if_pos c]; exact Or.inl ⟨rfl, c⟩
  · rw [if_neg c]
    obtain ⟨k, hk, rfl⟩ := i_nat (fun z => c (Or.inl z))
    rw [i_tn hk]
    have : k < zp_sec P d := by
      by_cases z : k < zp_sec P d
      · exact z
      · exact absurd (Or.inr (by rw [i_lt hk (by omega)]; exact z)) c
    exact Or.inr ⟨k, this, rfl, rfl⟩
theorem bi_inj {a b : Bool} : bi a = bi b ↔ a = b := by cases a <;> cases b <;> simp [bi]
theorem bi_1 {a : Bool} : bi a = (Int32.ofNat 1) ↔ a = true := by cases a <;> simp [bi]
theorem bi_01 (b : Bool) : bi b = 0 ∨ bi b = 1 := by cases b <;> simp [bi]
theorem i_m1lt {n : Int32} (a : ¬ n < Int32.ofInt (-1)) (c : n < (Int32.ofNat 0)) : n = Int32.ofInt (-1) := by
  rw [Int32.lt_iff_toInt_lt] at a c
  apply Int32.toInt.inj
  have e1 : (Int32.ofInt (-1)).toInt = -1 := by decide
  have e2 : ((Int32.ofNat 0)).toInt = 0 := by decide
  rw [e1] at a ⊢
  rw [e2] at c
  omega
section TT
variable {h : hh_T} {m : Nat} {Q : Option Value ⊕ Nat → hh_T → Prop} {S : zS}
theorem t_end {n : Int32} (R : rT h m S) : gm_G 104 0 [some (.ref m), some (.int n)] [] h (rI (zq_end S n).2 fun h' => rT h' m (zq_end S n).1) := by
  obtain ⟨r1, r2, r3, r4⟩ := id R.2.1
  refine w_104_0 R.1 ?_
  unfold zq_end zs_w
  rcases i_cases n with c | ⟨k, hk, rfl⟩
  · simp (disch := omega) only [forall_eq, exists_eq_left, exists_eq_left', Option.some.injEq, ex_ix, i_add, i_mul, i_sub, i_lt, i_le, i_eq, i_tn, hi_e, hi_n, hj_e, hj_n, hi_wj, hj_wi, hr_wi, hr_wj, ht_wi, ht_wj, hl_wi, hl_wj, hz_wi, hz_wj, hs_wi, hs_wj, hi_wr, hj_wr, hr_e, hr_n, ht_wr, hl_wr, hz_wr, hs_wr, n_lt_t, n_lt_f, n_le_t, n_le_f, n_eq_t, n_eq_f, true_and, and_true, false_and, and_false, true_or, or_true, false_or, or_false, not_true_eq_false, not_false_eq_true, forall_const, implies_true, true_imp_iff, false_imp_iff, gs_t, reduceIte, ite_true, ite_false, c, rI]
    exact R
  · by_cases d : (za_tape (zs_A S)).length < k
    · simp (disch := omega) only [forall_eq, exists_eq_left, exists_eq_left', Option.some.injEq, ex_ix, i_add, i_mul, i_sub, i_lt, i_le, i_eq, i_tn, hi_e, hi_n, hj_e, hj_n, hi_wj, hj_wi, hr_wi, hr_wj, ht_wi, ht_wj, hl_wi, hl_wj, hz_wi, hz_wj, hs_wi, hs_wj, hi_wr, hj_wr, hr_e, hr_n, ht_wr, hl_wr, hz_wr, hs_wr, n_lt_t, n_lt_f, n_le_t, n_le_f, n_eq_t, n_eq_f, true_and, and_true, false_and, and_false, true_or, or_true, false_or, or_false, not_true_eq_false, not_false_eq_true, forall_const, implies_true, true_imp_iff, false_imp_iff, gs_t, reduceIte, ite_true, ite_false, rI, r1]
      exact R
    · simp (disch := omega) only [forall_eq, exists_eq_left, exists_eq_left', Option.some.injEq, ex_ix, i_add, i_mul, i_sub, i_lt, i_le, i_eq, i_tn, hi_e, hi_n, hj_e, hj_n, hi_wj, hj_wi, hr_wi, hr_wj, ht_wi, ht_wj, hl_wi, hl_wj, hz_wi, hz_wj, hs_wi, hs_wj, hi_wr, hj_wr, hr_e, hr_n, ht_wr, hl_wr, hz_wr, hs_wr, n_lt_t, n_lt_f, n_le_t, n_le_f, n_eq_t, n_eq_f, true_and, and_true, false_and, and_false, true_or, or_true, false_or, or_false, not_true_eq_false, not_false_eq_true, forall_const, implies_true, true_imp_iff, false_imp_iff, gs_t, reduceIte, ite_true, ite_false, rI, r1]
      have g : fr (tO m [] [2]) h (hh_wi h m 2 (Int32.ofNat k)) := fr.f rfl
      refine R.oA (g.up rfl rfl) ⟨?_, ?_, fun i hi => ?_, ?_⟩
      · show _ = (Int32.ofNat (((za_tape (zs_A S)).take k).length))
        simp (disch := omega) only [forall_eq, exists_eq_left, exists_eq_left', Option.some.injEq, ex_ix, i_add, i_mul, i_sub, i_lt, i_le, i_eq, i_tn, hi_e, hi_n, hj_e, hj_n, hi_wj, hj_wi, hr_wi, hr_wj, ht_wi, ht_wj, hl_wi, hl_wj, hz_wi, hz_wj, hs_wi, hs_wj, hi_wr, hj_wr, hr_e, hr_n, ht_wr, hl_wr, hz_wr, hs_wr, n_lt_t, n_lt_f, n_le_t, n_le_f, n_eq_t, n_eq_f, true_and, and_true, false_and, and_false, true_or, or_true, false_or, or_false, not_true_eq_false, not_false_eq_true, forall_const, implies_true, true_imp_iff, false_imp_iff, gs_t, reduceIte, ite_true, ite_false, List.length_take, Nat.min_eq_left]
      · show ((za_tape (zs_A S)).take k).length ≤ 320
        rw [List.length_take]; omega
      · have hi' : i < ((za_tape (zs_A S)).take k).length := hi
        rw [List.length_take] at hi'
        rw [g.arr rfl, r3 i (by omega)]
        show lf (za_tape (zs_A S)) i = lf ((za_tape (zs_A S)).take k) i
        unfold lf
        rw [List.getD_eq_getElem?_getD, List.getD_eq_getElem?_getD, List.getElem?_take, if_pos (by omega)]
      · simp only [g.arr (o := 2) rfl, g.arr (o := 3) rfl, g.fld (f := 3) rfl, g.fld (f := 4) rfl, g.fld (f := 5) rfl]
        exact r4
theorem t_octet {n : Int32} (R : rT h m S) : gm_G 141 0 [some (.ref m), some (.int n)] [] h (rI (zq_octet S n).2 fun h' => rT h' m (zq_octet S n).1) := by
  obtain ⟨-, -, -, r4, r5, r6, -⟩ := id R.2.1
  refine w_141_0 R.1 ?_
  unfold zq_octet
  by_cases e : n = Int32.ofInt (-1)
  · subst e
    simp (disch := omega) only [forall_eq, exists_eq_left, exists_eq_left', Option.some.injEq, ex_ix, i_add, i_mul, i_sub, i_lt, i_le, i_eq, i_tn, hi_e, hi_n, hj_e, hj_n, hi_wj, hj_wi, hr_wi, hr_wj, ht_wi, ht_wj, hl_wi, hl_wj, hz_wi, hz_wj, hs_wi, hs_wj, hi_wr, hj_wr, hr_e, hr_n, ht_wr, hl_wr, hz_wr, hs_wr, n_lt_t, n_lt_f, n_le_t, n_le_f, n_eq_t, n_eq_f, true_and, and_true, false_and, and_false, true_or, or_true, false_or, or_false, not_true_eq_false, not_false_eq_true, forall_const, implies_true, true_imp_iff, false_imp_iff, gs_t, reduceIte, ite_true, ite_false, rI, r4]
    exact R
  · rcases i_cases n with c | ⟨k, hk, rfl⟩
    · simp (disch := omega) only [forall_eq, exists_eq_left, exists_eq_left', Option.some.injEq, ex_ix, i_add, i_mul, i_sub, i_lt, i_le, i_eq, i_tn, hi_e, hi_n, hj_e, hj_n, hi_wj, hj_wi, hr_wi, hr_wj, ht_wi, ht_wj, hl_wi, hl_wj, hz_wi, hz_wj, hs_wi, hs_wj, hi_wr, hj_wr, hr_e, hr_n, ht_wr, hl_wr, hz_wr, hs_wr, n_lt_t, n_lt_f, n_le_t, n_le_f, n_eq_t, n_eq_f, true_and, and_true, false_and, and_false, true_or, or_true, false_or, or_false, not_true_eq_false, not_false_eq_true, forall_const, implies_true, true_imp_iff, false_imp_iff, gs_t, reduceIte, ite_true, ite_false, e, c]
      exact w_141_22 R.1 ⟨rfl, R⟩
    · by_cases d : k < (za_out (zs_A S)).length
      · simp (disch := omega) only [forall_eq, exists_eq_left, exists_eq_left', Option.some.injEq, ex_ix, i_add, i_mul, i_sub, i_lt, i_le, i_eq, i_tn, hi_e, hi_n, hj_e, hj_n, hi_wj, hj_wi, hr_wi, hr_wj, ht_wi, ht_wj, hl_wi, hl_wj, hz_wi, hz_wj, hs_wi, hs_wj, hi_wr, hj_wr, hr_e, hr_n, ht_wr, hl_wr, hz_wr, hs_wr, n_lt_t, n_lt_f, n_le_t, n_le_f, n_eq_t, n_eq_f, true_and, and_true, false_and, and_false, true_or, or_true, false_or, or_false, not_true_eq_false, not_false_eq_true, forall_const, implies_true, true_imp_iff, false_imp_iff, gs_t, reduceIte, ite_true, ite_false, e, r4, rI, i_n0, r6 k d]
        exact R
      · simp (disch := omega) only [forall_eq, exists_eq_left, exists_eq_left', Option.some.injEq, ex_ix, i_add, i_mul, i_sub, i_lt, i_le, i_eq, i_tn, hi_e, hi_n, hj_e, hj_n, hi_wj, hj_wi, hr_wi, hr_wj, ht_wi, ht_wj, hl_wi, hl_wj, hz_wi, hz_wj, hs_wi, hs_wj, hi_wr, hj_wr, hr_e, hr_n, ht_wr, hl_wr, hz_wr, hs_wr, n_lt_t, n_lt_f, n_le_t, n_le_f, n_eq_t, n_eq_f, true_and, and_true, false_and, and_false, true_or, or_true, false_or, or_false, not_true_eq_false, not_false_eq_true, forall_const, implies_true, true_imp_iff, false_imp_iff, gs_t, reduceIte, ite_true, ite_false, e, r4, i_n0]
        exact w_141_22 R.1 ⟨rfl, R⟩
theorem t_who {u : Int32} (R : rT h m S) : gm_G 164 0 [some (.ref m), some (.int u)] [] h (rI (zq_who S u).2 fun h' => rT h' m (zq_who S u).1) := by
  obtain ⟨r1, r2, r3, r4, r5, r6, r7, r8, r9, r10, r11⟩ := id R.2.1
  refine w_164_0 R.1 ?_
  unfold zq_who
  rcases i_cases u with c | ⟨k, hk, rfl⟩
  · simp (disch := omega) only [forall_eq, exists_eq_left, exists_eq_left', Option.some.injEq, ex_ix, i_add, i_mul, i_sub, i_lt, i_le, i_eq, i_tn, hi_e, hi_n, hj_e, hj_n, hi_wj, hj_wi, hr_wi, hr_wj, ht_wi, ht_wj, hl_wi, hl_wj, hz_wi, hz_wj, hs_wi, hs_wj, hi_wr, hj_wr, hr_e, hr_n, ht_wr, hl_wr, hz_wr, hs_wr, n_lt_t, n_lt_f, n_le_t, n_le_f, n_eq_t, n_eq_f, true_and, and_true, false_and, and_false, true_or, or_true, false_or, or_false, not_true_eq_false, not_false_eq_true, forall_const, implies_true, true_imp_iff, false_imp_iff, gs_t, reduceIte, ite_true, ite_false, c, rI]
    exact R
  · by_cases d : 7 < k
    · simp (disch := omega) only [forall_eq, exists_eq_left, exists_eq_left', Option.some.injEq, ex_ix, i_add, i_mul, i_sub, i_lt, i_le, i_eq, i_tn, hi_e, hi_n, hj_e, hj_n, hi_wj, hj_wi, hr_wi, hr_wj, ht_wi, ht_wj, hl_wi, hl_wj, hz_wi, hz_wj, hs_wi, hs_wj, hi_wr, hj_wr, hr_e, hr_n, ht_wr, hl_wr, hz_wr, hs_wr, n_lt_t, n_lt_f, n_le_t, n_le_f, n_eq_t, n_eq_f, true_and, and_true, false_and, and_false, true_or, or_true, false_or, or_false, not_true_eq_false, not_false_eq_true, forall_const, implies_true, true_imp_iff, false_imp_iff, gs_t, reduceIte, ite_true, ite_false, rI]
      exact R
    · simp (disch := omega) only [forall_eq, exists_eq_left, exists_eq_left', Option.some.injEq, ex_ix, i_add, i_mul, i_sub, i_lt, i_le, i_eq, i_tn, hi_e, hi_n, hj_e, hj_n, hi_wj, hj_wi, hr_wi, hr_wj, ht_wi, ht_wj, hl_wi, hl_wj, hz_wi, hz_wj, hs_wi, hs_wj, hi_wr, hj_wr, hr_e, hr_n, ht_wr, hl_wr, hz_wr, hs_wr, n_lt_t, n_lt_f, n_le_t, n_le_f, n_eq_t, n_eq_f, true_and, and_true, false_and, and_false, true_or, or_true, false_or, or_false, not_true_eq_false, not_false_eq_true, forall_const, implies_true, true_imp_iff, false_imp_iff, gs_t, reduceIte, ite_true, ite_false, rI, r9, zs_ac]
      have g : fr (tO m [] [5]) h (hh_wi h m 5 (Int32.ofNat k)) := fr.f rfl
      refine R.oA (g.up rfl rfl) ?_
      unfold rT_A
      simp only [g.arr (o := 1) rfl, g.arr (o := 2) rfl, g.arr (o := 3) rfl, g.fld (f := 2) rfl, g.fld (f := 3) rfl, g.fld (f := 4) rfl]
      exact ⟨r1, r2, r3, r4, r5, r6, r7, r8, hi_e ⟨rfl, rfl⟩, by show k < 8; omega, r11⟩
theorem t_member {u c : Int32} {on : Bool} (R : rT h m S) : gm_G 132 0 [some (.ref m), some (.int u), some (.int c), some (.int (bi on))] [] h (rI (zq_member S u c on).2 fun h' => rT h' m (zq_member S u c on).1) := by
  obtain ⟨r1, r2, r3, r4, r5, r6, r7, r8, r9, r10, r11⟩ := id R.2.1
  refine w_132_0 R.1 ?_
  unfold zq_member
  rcases i_cases u with c1 | ⟨k, hk, rfl⟩
  · simp (disch := omega) only [forall_eq, exists_eq_left, exists_eq_left', Option.some.injEq, ex_ix, i_add, i_mul, i_sub, i_lt, i_le, i_eq, i_tn, hi_e, hi_n, hj_e, hj_n, hi_wj, hj_wi, hr_wi, hr_wj, ht_wi, ht_wj, hl_wi, hl_wj, hz_wi, hz_wj, hs_wi, hs_wj, hi_wr, hj_wr, hr_e, hr_n, ht_wr, hl_wr, hz_wr, hs_wr, n_lt_t, n_lt_f, n_le_t, n_le_f, n_eq_t, n_eq_f, true_and, and_true, false_and, and_false, true_or, or_true, false_or, or_false, not_true_eq_false, not_false_eq_true, forall_const, implies_true, true_imp_iff, false_imp_iff, gs_t, reduceIte, ite_true, ite_false, c1, rI]
    exact R
  by_cases d : 7 < k
  · simp (disch := omega) only [forall_eq, exists_eq_left, exists_eq_left', Option.some.injEq, ex_ix, i_add, i_mul, i_sub, i_lt, i_le, i_eq, i_tn, hi_e, hi_n, hj_e, hj_n, hi_wj, hj_wi, hr_wi, hr_wj, ht_wi, ht_wj, hl_wi, hl_wj, hz_wi, hz_wj, hs_wi, hs_wj, hi_wr, hj_wr, hr_e, hr_n, ht_wr, hl_wr, hz_wr, hs_wr, n_lt_t, n_lt_f, n_le_t, n_le_f, n_eq_t, n_eq_f, true_and, and_true, false_and, and_false, true_or, or_true, false_or, or_false, not_true_eq_false, not_false_eq_true, forall_const, implies_true, true_imp_iff, false_imp_iff, gs_t, reduceIte, ite_true, ite_false, rI]
    exact R
  rcases i_cases c with c1 | ⟨j, hj, rfl⟩
  · simp (disch := omega) only [forall_eq, exists_eq_left, exists_eq_left', Option.some.injEq, ex_ix, i_add, i_mul, i_sub, i_lt, i_le, i_eq, i_tn, hi_e, hi_n, hj_e, hj_n, hi_wj, hj_wi, hr_wi, hr_wj, ht_wi, ht_wj, hl_wi, hl_wj, hz_wi, hz_wj, hs_wi, hs_wj, hi_wr, hj_wr, hr_e, hr_n, ht_wr, hl_wr, hz_wr, hs_wr, n_lt_t, n_lt_f, n_le_t, n_le_f, n_eq_t, n_eq_f, true_and, and_true, false_and, and_false, true_or, or_true, false_or, or_false, not_true_eq_false, not_false_eq_true, forall_const, implies_true, true_imp_iff, false_imp_iff, gs_t, reduceIte, ite_true, ite_false, c1, rI]
    exact R
  by_cases e : 7 < j
  · simp (disch := omega) only [forall_eq, exists_eq_left, exists_eq_left', Option.some.injEq, ex_ix, i_add, i_mul, i_sub, i_lt, i_le, i_eq, i_tn, hi_e, hi_n, hj_e, hj_n, hi_wj, hj_wi, hr_wi, hr_wj, ht_wi, ht_wj, hl_wi, hl_wj, hz_wi, hz_wj, hs_wi, hs_wj, hi_wr, hj_wr, hr_e, hr_n, ht_wr, hl_wr, hz_wr, hs_wr, n_lt_t, n_lt_f, n_le_t, n_le_f, n_eq_t, n_eq_f, true_and, and_true, false_and, and_false, true_or, or_true, false_or, or_false, not_true_eq_false, not_false_eq_true, forall_const, implies_true, true_imp_iff, false_imp_iff, gs_t, reduceIte, ite_true, ite_false, rI]
    exact R
  have hR : rT (hh_wi h (m + 3) (8 * k + j) (bi on)) m (zs_A_ S (za_cls_ (zs_A S) (fu (za_cls (zs_A S)) (8 * k + j) on))) := by
    have g : fr (tO m [3] []) h (hh_wi h (m + 3) (8 * k + j) (bi on)) := fr.a rfl
    refine R.oA (g.up rfl rfl) ?_
    unfold rT_A
    simp only [g.arr (o := 1) rfl, g.arr (o := 2) rfl, g.fld (f := 2) rfl, g.fld (f := 3) rfl, g.fld (f := 4) rfl, g.fld (f := 5) rfl]
    refine ⟨r1, r2, r3, r4, r5, r6, r7, r8, r9, r10, fun i hi => ?_⟩
    show _ = bi (fu (za_cls (zs_A S)) (8 * k + j) on i)
    unfold fu
    by_cases z : i = 8 * k + j
    · simp (disch := omega) only [forall_eq, exists_eq_left, exists_eq_left', Option.some.injEq, ex_ix, i_add, i_mul, i_sub, i_lt, i_le, i_eq, i_tn, hi_e, hi_n, hj_e, hj_n, hi_wj, hj_wi, hr_wi, hr_wj, ht_wi, ht_wj, hl_wi, hl_wj, hz_wi, hz_wj, hs_wi, hs_wj, hi_wr, hj_wr, hr_e, hr_n, ht_wr, hl_wr, hz_wr, hs_wr, n_lt_t, n_lt_f, n_le_t, n_le_f, n_eq_t, n_eq_f, true_and, and_true, false_and, and_false, true_or, or_true, false_or, or_false, not_true_eq_false, not_false_eq_true, forall_const, implies_true, true_imp_iff, false_imp_iff, gs_t, reduceIte, ite_true, ite_false, z]
    · simp (disch := omega) only [forall_eq, exists_eq_left, exists_eq_left', Option.some.injEq, ex_ix, i_add, i_mul, i_sub, i_lt, i_le, i_eq, i_tn, hi_e, hi_n, hj_e, hj_n, hi_wj, hj_wi, hr_wi, hr_wj, ht_wi, ht_wj, hl_wi, hl_wj, hz_wi, hz_wj, hs_wi, hs_wj, hi_wr, hj_wr, hr_e, hr_n, ht_wr, hl_wr, hz_wr, hs_wr, n_lt_t, n_lt_f, n_le_t, n_le_f, n_eq_t, n_eq_f, true_and, and_true, false_and, and_false, true_or, or_true, false_or, or_false, not_true_eq_false, not_false_eq_true, forall_const, implies_true, true_imp_iff, false_imp_iff, gs_t, reduceIte, ite_true, ite_false, z]
      exact r11 i hi
  simp (disch := omega) only [forall_eq, exists_eq_left, exists_eq_left', Option.some.injEq, ex_ix, i_add, i_mul, i_sub, i_lt, i_le, i_eq, i_tn, hi_e, hi_n, hj_e, hj_n, hi_wj, hj_wi, hr_wi, hr_wj, ht_wi, ht_wj, hl_wi, hl_wj, hz_wi, hz_wj, hs_wi, hs_wj, hi_wr, hj_wr, hr_e, hr_n, ht_wr, hl_wr, hz_wr, hs_wr, n_lt_t, n_lt_f, n_le_t, n_le_f, n_eq_t, n_eq_f, true_and, and_true, false_and, and_false, true_or, or_true, false_or, or_false, not_true_eq_false, not_false_eq_true, forall_const, implies_true, true_imp_iff, false_imp_iff, gs_t, reduceIte, ite_true, ite_false, rI, r11, bi_01, bi_inj]
  by_cases z : za_cls (zs_A S) (8 * k + j) = on
  · simp (disch := omega) only [forall_eq, exists_eq_left, exists_eq_left', Option.some.injEq, ex_ix, i_add, i_mul, i_sub, i_lt, i_le, i_eq, i_tn, hi_e, hi_n, hj_e, hj_n, hi_wj, hj_wi, hr_wi, hr_wj, ht_wi, ht_wj, hl_wi, hl_wj, hz_wi, hz_wj, hs_wi, hs_wj, hi_wr, hj_wr, hr_e, hr_n, ht_wr, hl_wr, hz_wr, hs_wr, n_lt_t, n_lt_f, n_le_t, n_le_f, n_eq_t, n_eq_f, true_and, and_true, false_and, and_false, true_or, or_true, false_or, or_false, not_true_eq_false, not_false_eq_true, forall_const, implies_true, true_imp_iff, false_imp_iff, gs_t, reduceIte, ite_true, ite_false, z]
    exact hR
  · simp (disch := omega) only [forall_eq, exists_eq_left, exists_eq_left', Option.some.injEq, ex_ix, i_add, i_mul, i_sub, i_lt, i_le, i_eq, i_tn, hi_e, hi_n, hj_e, hj_n, hi_wj, hj_wi, hr_wi, hr_wj, ht_wi, ht_wj, hl_wi, hl_wj, hz_wi, hz_wj, hs_wi, hs_wj, hi_wr, hj_wr, hr_e, hr_n, ht_wr, hl_wr, hz_wr, hs_wr, n_lt_t, n_lt_f, n_le_t, n_le_f, n_eq_t, n_eq_f, true_and, and_true, false_and, and_false, true_or, or_true, false_or, or_false, not_true_eq_false, not_false_eq_true, forall_const, implies_true, true_imp_iff, false_imp_iff, gs_t, reduceIte, ite_true, ite_false, z]
    exact hR
theorem t_power {n t : Int32} (R : rT h m S) : gm_G 144 0 [some (.ref m), some (.int n), some (.int t)] [] h (rI (zq_power S n t).2 fun h' => rT h' m (zq_power S n t).1) := by
  obtain ⟨r1, r2, r3, r4, r5, r6, r7, r8, r9⟩ := id R.2.2.1
  refine w_144_0 R.1 ?_
  unfold zq_power
  by_cases a : n < Int32.ofInt (-1)
  · simp (disch := omega) only [forall_eq, exists_eq_left, exists_eq_left', Option.some.injEq, ex_ix, i_add, i_mul, i_sub, i_lt, i_le, i_eq, i_tn, hi_e, hi_n, hj_e, hj_n, hi_wj, hj_wi, hr_wi, hr_wj, ht_wi, ht_wj, hl_wi, hl_wj, hz_wi, hz_wj, hs_wi, hs_wj, hi_wr, hj_wr, hr_e, hr_n, ht_wr, hl_wr, hz_wr, hs_wr, n_lt_t, n_lt_f, n_le_t, n_le_f, n_eq_t, n_eq_f, true_and, and_true, false_and, and_false, true_or, or_true, false_or, or_false, not_true_eq_false, not_false_eq_true, forall_const, implies_true, true_imp_iff, false_imp_iff, gs_t, reduceIte, ite_true, ite_false, a, rI]
    exact R
  by_cases b : (Int32.ofNat 4000) < n
  · simp (disch := omega) only [forall_eq, exists_eq_left, exists_eq_left', Option.some.injEq, ex_ix, i_add, i_mul, i_sub, i_lt, i_le, i_eq, i_tn, hi_e, hi_n, hj_e, hj_n, hi_wj, hj_wi, hr_wi, hr_wj, ht_wi, ht_wj, hl_wi, hl_wj, hz_wi, hz_wj, hs_wi, hs_wj, hi_wr, hj_wr, hr_e, hr_n, ht_wr, hl_wr, hz_wr, hs_wr, n_lt_t, n_lt_f, n_le_t, n_le_f, n_eq_t, n_eq_f, true_and, and_true, false_and, and_false, true_or, or_true, false_or, or_false, not_true_eq_false, not_false_eq_true, forall_const, implies_true, true_imp_iff, false_imp_iff, gs_t, reduceIte, ite_true, ite_false, a, b, rI]
    exact R
  rcases i_cases t with c | ⟨k, hk, rfl⟩
  · simp (disch := omega) only [forall_eq, exists_eq_left, exists_eq_left', Option.some.injEq, ex_ix, i_add, i_mul, i_sub, i_lt, i_le, i_eq, i_tn, hi_e, hi_n, hj_e, hj_n, hi_wj, hj_wi, hr_wi, hr_wj, ht_wi, ht_wj, hl_wi, hl_wj, hz_wi, hz_wj, hs_wi, hs_wj, hi_wr, hj_wr, hr_e, hr_n, ht_wr, hl_wr, hz_wr, hs_wr, n_lt_t, n_lt_f, n_le_t, n_le_f, n_eq_t, n_eq_f, true_and, and_true, false_and, and_false, true_or, or_true, false_or, or_false, not_true_eq_false, not_false_eq_true, forall_const, implies_true, true_imp_iff, false_imp_iff, gs_t, reduceIte, ite_true, ite_false, a, b, c, rI]
    exact R
  by_cases d : 7 < k
  · simp (disch := omega) only [forall_eq, exists_eq_left, exists_eq_left', Option.some.injEq, ex_ix, i_add, i_mul, i_sub, i_lt, i_le, i_eq, i_tn, hi_e, hi_n, hj_e, hj_n, hi_wj, hj_wi, hr_wi, hr_wj, ht_wi, ht_wj, hl_wi, hl_wj, hz_wi, hz_wj, hs_wi, hs_wj, hi_wr, hj_wr, hr_e, hr_n, ht_wr, hl_wr, hz_wr, hs_wr, n_lt_t, n_lt_f, n_le_t, n_le_f, n_eq_t, n_eq_f, true_and, and_true, false_and, and_false, true_or, or_true, false_or, or_false, not_true_eq_false, not_false_eq_true, forall_const, implies_true, true_imp_iff, false_imp_iff, gs_t, reduceIte, ite_true, ite_false, a, b, rI, i_n0]
    exact R
  · simp (disch := omega) only [forall_eq, exists_eq_left, exists_eq_left', Option.some.injEq, ex_ix, i_add, i_mul, i_sub, i_lt, i_le, i_eq, i_tn, hi_e, hi_n, hj_e, hj_n, hi_wj, hj_wi, hr_wi, hr_wj, ht_wi, ht_wj, hl_wi, hl_wj, hz_wi, hz_wj, hs_wi, hs_wj, hi_wr, hj_wr, hr_e, hr_n, ht_wr, hl_wr, hz_wr, hs_wr, n_lt_t, n_lt_f, n_le_t, n_le_f, n_eq_t, n_eq_f, true_and, and_true, false_and, and_false, true_or, or_true, false_or, or_false, not_true_eq_false, not_false_eq_true, forall_const, implies_true, true_imp_iff, false_imp_iff, gs_t, reduceIte, ite_true, ite_false, a, b, rI, i_n0]
    have g : fr (tO m [] [15, 16]) h (hh_wi (hh_wi h m 15 n) m 16 (Int32.ofNat k)) := (fr.f rfl).trans (fr.f rfl)
    refine R.oP (g.up rfl rfl) ?_
    unfold rT_P
    simp only [g.arr (o := 4) rfl, g.arr (o := 6) rfl, g.arr (o := 7) rfl, g.arr (o := 8) rfl, g.arr (o := 9) rfl, g.arr (o := 10) rfl, g.fld (f := 7) rfl, g.fld (f := 17) rfl, g.fld (f := 18) rfl]
    refine ⟨r1, r2, r3, r4, ?_, fun j hj => ?_, hi_e ⟨rfl, rfl⟩, by show k < 8; omega, r9⟩
    · simp (disch := omega) only [forall_eq, exists_eq_left, exists_eq_left', Option.some.injEq, ex_ix, i_add, i_mul, i_sub, i_lt, i_le, i_eq, i_tn, hi_e, hi_n, hj_e, hj_n, hi_wj, hj_wi, hr_wi, hr_wj, ht_wi, ht_wj, hl_wi, hl_wj, hz_wi, hz_wj, hs_wi, hs_wj, hi_wr, hj_wr, hr_e, hr_n, ht_wr, hl_wr, hz_wr, hs_wr, n_lt_t, n_lt_f, n_le_t, n_le_f, n_eq_t, n_eq_f, true_and, and_true, false_and, and_false, true_or, or_true, false_or, or_false, not_true_eq_false, not_false_eq_true, forall_const, implies_true, true_imp_iff, false_imp_iff, gs_t, reduceIte, ite_true, ite_false]
      show n = oi (Int32.ofInt (-1)) (zi_n n)
      unfold zi_n oi
      rcases i_cases n with c | ⟨j, hj, rfl⟩
      · simp (disch := omega) only [forall_eq, exists_eq_left, exists_eq_left', Option.some.injEq, ex_ix, i_add, i_mul, i_sub, i_lt, i_le, i_eq, i_tn, hi_e, hi_n, hj_e, hj_n, hi_wj, hj_wi, hr_wi, hr_wj, ht_wi, ht_wj, hl_wi, hl_wj, hz_wi, hz_wj, hs_wi, hs_wj, hi_wr, hj_wr, hr_e, hr_n, ht_wr, hl_wr, hz_wr, hs_wr, n_lt_t, n_lt_f, n_le_t, n_le_f, n_eq_t, n_eq_f, true_and, and_true, false_and, and_false, true_or, or_true, false_or, or_false, not_true_eq_false, not_false_eq_true, forall_const, implies_true, true_imp_iff, false_imp_iff, gs_t, reduceIte, ite_true, ite_false, c]
        exact i_m1lt a c
      · simp (disch := omega) only [forall_eq, exists_eq_left, exists_eq_left', Option.some.injEq, ex_ix, i_add, i_mul, i_sub, i_lt, i_le, i_eq, i_tn, hi_e, hi_n, hj_e, hj_n, hi_wj, hj_wi, hr_wi, hr_wj, ht_wi, ht_wj, hl_wi, hl_wj, hz_wi, hz_wj, hs_wi, hs_wj, hi_wr, hj_wr, hr_e, hr_n, ht_wr, hl_wr, hz_wr, hs_wr, n_lt_t, n_lt_f, n_le_t, n_le_f, n_eq_t, n_eq_f, true_and, and_true, false_and, and_false, true_or, or_true, false_or, or_false, not_true_eq_false, not_false_eq_true, forall_const, implies_true, true_imp_iff, false_imp_iff, gs_t, reduceIte, ite_true, ite_false, i_n0]
    · have hj' : zi_n n = some j := hj
      unfold zi_n at hj'
      split at hj'
      · cases hj'
      · rename_i q
        obtain ⟨i, hi, rfl⟩ := i_nat q
        rw [i_tn hi] at hj'
        cases hj'
        rw [i_lt (by decide) hi] at b
        omega
theorem t_noDisk {P : zP} {d : Int32} (hT : tw_ok h m) (R : rT_P h m P) (H1 : zp_d P d = none → Q (.inl (some (.int (Int32.ofNat 1)))) h) (H2 : ∀ k, k < zp_nd P → d = (Int32.ofNat k) → zp_d P d = some k → Q (.inl (some (.int (Int32.ofNat 0)))) h) : gm_G 135 0 [some (.ref m), some (.int d)] [] h Q := by
  obtain ⟨r1, r2, -⟩ := R
  rcases zp_d_c P d r2 with ⟨e, c⟩ | ⟨k, hk, rfl, e⟩
  · refine w_135_0 hT ⟨fun _ => w_135_12 hT (H1 e), fun z => ⟨fun y => ?_, fun _ => w_135_12 hT (H1 e)⟩⟩
    rw [r1] at y
    rcases c with c | c
    · exact absurd c z
    · exact absurd y c
  · refine w_135_0 hT ?_
    simp (disch := omega) only [forall_eq, exists_eq_left, exists_eq_left', Option.some.injEq, ex_ix, i_add, i_mul, i_sub, i_lt, i_le, i_eq, i_tn, hi_e, hi_n, hj_e, hj_n, hi_wj, hj_wi, hr_wi, hr_wj, ht_wi, ht_wj, hl_wi, hl_wj, hz_wi, hz_wj, hs_wi, hs_wj, hi_wr, hj_wr, hr_e, hr_n, ht_wr, hl_wr, hz_wr, hs_wr, n_lt_t, n_lt_f, n_le_t, n_le_f, n_eq_t, n_eq_f, true_and, and_true, false_and, and_false, true_or, or_true, false_or, or_false, not_true_eq_false, not_false_eq_true, forall_const, implies_true, true_imp_iff, false_imp_iff, gs_t, reduceIte, ite_true, ite_false, r1, i_n0]
    exact H2 k hk rfl e
theorem t_disk {n : Int32} (R : rT h m S) : gm_G 101 0 [some (.ref m), some (.int n)] [] h (rI (zq_disk S n).2 fun h' => rT h' m (zq_disk S n).1) := by
  obtain ⟨r1, r2, r3, r4, r5⟩ := id R.2.2.1
  refine w_101_0 R.1 ?_
  unfold zq_disk
  by_cases a : n < (Int32.ofNat 8)
  · simp (disch := omega) only [forall_eq, exists_eq_left, exists_eq_left', Option.some.injEq, ex_ix, i_add, i_mul, i_sub, i_lt, i_le, i_eq, i_tn, hi_e, hi_n, hj_e, hj_n, hi_wj, hj_wi, hr_wi, hr_wj, ht_wi, ht_wj, hl_wi, hl_wj, hz_wi, hz_wj, hs_wi, hs_wj, hi_wr, hj_wr, hr_e, hr_n, ht_wr, hl_wr, hz_wr, hs_wr, n_lt_t, n_lt_f, n_le_t, n_le_f, n_eq_t, n_eq_f, true_and, and_true, false_and, and_false, true_or, or_true, false_or, or_false, not_true_eq_false, not_false_eq_true, forall_const, implies_true, true_imp_iff, false_imp_iff, gs_t, reduceIte, ite_true, ite_false, a, rI]
    exact R
  by_cases b : (Int32.ofNat 64) < n
  · simp (disch := omega) only [forall_eq, exists_eq_left, exists_eq_left', Option.some.injEq, ex_ix, i_add, i_mul, i_sub, i_lt, i_le, i_eq, i_tn, hi_e, hi_n, hj_e, hj_n, hi_wj, hj_wi, hr_wi, hr_wj, ht_wi, ht_wj, hl_wi, hl_wj, hz_wi, hz_wj, hs_wi, hs_wj, hi_wr, hj_wr, hr_e, hr_n, ht_wr, hl_wr, hz_wr, hs_wr, n_lt_t, n_lt_f, n_le_t, n_le_f, n_eq_t, n_eq_f, true_and, and_true, false_and, and_false, true_or, or_true, false_or, or_false, not_true_eq_false, not_false_eq_true, forall_const, implies_true, true_imp_iff, false_imp_iff, gs_t, reduceIte, ite_true, ite_false, a, b, rI]
    exact R
  obtain ⟨k, hk, rfl⟩ := i_nat (x := n) (fun z => a (Int32.lt_trans z (by decide)))
  rw [i_lt hk (by decide)] at a
  rw [i_lt (by decide) hk] at b
  by_cases c : zp_nd (zs_P S) = 8
  · simp (disch := omega) only [forall_eq, exists_eq_left, exists_eq_left', Option.some.injEq, ex_ix, i_add, i_mul, i_sub, i_lt, i_le, i_eq, i_tn, hi_e, hi_n, hj_e, hj_n, hi_wj, hj_wi, hr_wi, hr_wj, ht_wi, ht_wj, hl_wi, hl_wj, hz_wi, hz_wj, hs_wi, hs_wj, hi_wr, hj_wr, hr_e, hr_n, ht_wr, hl_wr, hz_wr, hs_wr, n_lt_t, n_lt_f, n_le_t, n_le_f, n_eq_t, n_eq_f, true_and, and_true, false_and, and_false, true_or, or_true, false_or, or_false, not_true_eq_false, not_false_eq_true, forall_const, implies_true, true_imp_iff, false_imp_iff, gs_t, reduceIte, ite_true, ite_false, rI, r1]
    exact R
  · simp (disch := omega) only [forall_eq, exists_eq_left, exists_eq_left', Option.some.injEq, ex_ix, i_add, i_mul, i_sub, i_lt, i_le, i_eq, i_tn, hi_e, hi_n, hj_e, hj_n, hi_wj, hj_wi, hr_wi, hr_wj, ht_wi, ht_wj, hl_wi, hl_wj, hz_wi, hz_wj, hs_wi, hs_wj, hi_wr, hj_wr, hr_e, hr_n, ht_wr, hl_wr, hz_wr, hs_wr, n_lt_t, n_lt_f, n_le_t, n_le_f, n_eq_t, n_eq_f, true_and, and_true, false_and, and_false, true_or, or_true, false_or, or_false, not_true_eq_false, not_false_eq_true, forall_const, implies_true, true_imp_iff, false_imp_iff, gs_t, reduceIte, ite_true, ite_false, rI, r1, Nat.add_sub_cancel]
    have g : fr (tO m [4] [7]) h (hh_wi (hh_wi h (m + 4) (zp_nd (zs_P S)) (Int32.ofNat k)) m 7 (Int32.ofNat (zp_nd (zs_P S) + 1))) := (fr.a rfl).trans (fr.f rfl)
    refine R.oP (g.up rfl rfl) ?_
    unfold rT_P
    simp only [g.arr (o := 6) rfl, g.arr (o := 7) rfl, g.arr (o := 8) rfl, g.arr (o := 9) rfl, g.arr (o := 10) rfl, g.fld (f := 15) rfl, g.fld (f := 16) rfl, g.fld (f := 17) rfl, g.fld (f := 18) rfl]
    refine ⟨hi_e ⟨rfl, rfl⟩, by show zp_nd (zs_P S) + 1 ≤ 8; omega, fun d hd => ?_, r4, r5⟩
    have hd' : d < zp_nd (zs_P S) + 1 := hd
    show hh_i _ _ _ = (Int32.ofNat (fu (zp_sec (zs_P S)) (zp_nd (zs_P S)) k d)) ∧ 8 ≤ fu (zp_sec (zs_P S)) (zp_nd (zs_P S)) k d ∧ fu (zp_sec (zs_P S)) (zp_nd (zs_P S)) k d ≤ 64
    unfold fu
    by_cases z : d = zp_nd (zs_P S)
    · simp (disch := omega) only [forall_eq, exists_eq_left, exists_eq_left', Option.some.injEq, ex_ix, i_add, i_mul, i_sub, i_lt, i_le, i_eq, i_tn, hi_e, hi_n, hj_e, hj_n, hi_wj, hj_wi, hr_wi, hr_wj, ht_wi, ht_wj, hl_wi, hl_wj, hz_wi, hz_wj, hs_wi, hs_wj, hi_wr, hj_wr, hr_e, hr_n, ht_wr, hl_wr, hz_wr, hs_wr, n_lt_t, n_lt_f, n_le_t, n_le_f, n_eq_t, n_eq_f, true_and, and_true, false_and, and_false, true_or, or_true, false_or, or_false, not_true_eq_false, not_false_eq_true, forall_const, implies_true, true_imp_iff, false_imp_iff, gs_t, reduceIte, ite_true, ite_false, z]
    · simp (disch := omega) only [forall_eq, exists_eq_left, exists_eq_left', Option.some.injEq, ex_ix, i_add, i_mul, i_sub, i_lt, i_le, i_eq, i_tn, hi_e, hi_n, hj_e, hj_n, hi_wj, hj_wi, hr_wi, hr_wj, ht_wi, ht_wj, hl_wi, hl_wj, hz_wi, hz_wj, hs_wi, hs_wj, hi_wr, hj_wr, hr_e, hr_n, ht_wr, hl_wr, hz_wr, hs_wr, n_lt_t, n_lt_f, n_le_t, n_le_f, n_eq_t, n_eq_f, true_and, and_true, false_and, and_false, true_or, or_true, false_or, or_false, not_true_eq_false, not_false_eq_true, forall_const, implies_true, true_imp_iff, false_imp_iff, gs_t, reduceIte, ite_true, ite_false, z]
      exact r3 d (by omega)
theorem t_away {d : Int32} {on : Bool} (R : rT h m S) : gm_G 271 0 [some (.ref m), some (.int d), some (.int (bi on))] [] h (rI (zq_away S d on).2 fun h' => rT h' m (zq_away S d on).1) := by
  obtain ⟨r1, r2, r3, r4, r5⟩ := id R.2.2.1
  refine w_271_0 R.1 (t_noDisk R.1 R.2.2.1 (fun e => ?_) (fun k hk ek e => ?_))
  · unfold zq_away
    rw [e]
    exact ⟨fun z => absurd z (by decide), fun _ => ⟨rfl, R⟩⟩
  · subst ek
    unfold zq_away
    rw [e]
    have hR : rT (hh_wi h (m + 7) k (bi on)) m (zs_P_ S (zp_here_ (zs_P S) (fu (zp_here (zs_P S)) k (!on)))) := by
      have g : fr (tO m [7] []) h (hh_wi h (m + 7) k (bi on)) := fr.a rfl
      refine R.oP (g.up rfl rfl) ?_
      unfold rT_P
      simp only [g.arr (o := 4) rfl, g.arr (o := 6) rfl, g.arr (o := 8) rfl, g.arr (o := 9) rfl, g.arr (o := 10) rfl, g.fld (f := 7) rfl, g.fld (f := 15) rfl, g.fld (f := 16) rfl, g.fld (f := 17) rfl, g.fld (f := 18) rfl]
      refine ⟨r1, r2, r3, fun d hd => ⟨?_, (r4 d hd).2⟩, r5⟩
      show _ = bi (!(fu (zp_here (zs_P S)) k (!on) d))
      unfold fu
      by_cases z : d = k
      · simp (disch := omega) only [forall_eq, exists_eq_left, exists_eq_left', Option.some.injEq, ex_ix, i_add, i_mul, i_sub, i_lt, i_le, i_eq, i_tn, hi_e, hi_n, hj_e, hj_n, hi_wj, hj_wi, hr_wi, hr_wj, ht_wi, ht_wj, hl_wi, hl_wj, hz_wi, hz_wj, hs_wi, hs_wj, hi_wr, hj_wr, hr_e, hr_n, ht_wr, hl_wr, hz_wr, hs_wr, n_lt_t, n_lt_f, n_le_t, n_le_f, n_eq_t, n_eq_f, true_and, and_true, false_and, and_false, true_or, or_true, false_or, or_false, not_true_eq_false, not_false_eq_true, forall_const, implies_true, true_imp_iff, false_imp_iff, gs_t, reduceIte, ite_true, ite_false, z, Bool.not_not]
      · simp (disch := omega) only [forall_eq, exists_eq_left, exists_eq_left', Option.some.injEq, ex_ix, i_add, i_mul, i_sub, i_lt, i_le, i_eq, i_tn, hi_e, hi_n, hj_e, hj_n, hi_wj, hj_wi, hr_wi, hr_wj, ht_wi, ht_wj, hl_wi, hl_wj, hz_wi, hz_wj, hs_wi, hs_wj, hi_wr, hj_wr, hr_e, hr_n, ht_wr, hl_wr, hz_wr, hs_wr, n_lt_t, n_lt_f, n_le_t, n_le_f, n_eq_t, n_eq_f, true_and, and_true, false_and, and_false, true_or, or_true, false_or, or_false, not_true_eq_false, not_false_eq_true, forall_const, implies_true, true_imp_iff, false_imp_iff, gs_t, reduceIte, ite_true, ite_false, z]
        exact (r4 d hd).1
    show (_ → _) ∧ (_ → _)
    simp (disch := omega) only [forall_eq, exists_eq_left, exists_eq_left', Option.some.injEq, ex_ix, i_add, i_mul, i_sub, i_lt, i_le, i_eq, i_tn, hi_e, hi_n, hj_e, hj_n, hi_wj, hj_wi, hr_wi, hr_wj, ht_wi, ht_wj, hl_wi, hl_wj, hz_wi, hz_wj, hs_wi, hs_wj, hi_wr, hj_wr, hr_e, hr_n, ht_wr, hl_wr, hz_wr, hs_wr, n_lt_t, n_lt_f, n_le_t, n_le_f, n_eq_t, n_eq_f, true_and, and_true, false_and, and_false, true_or, or_true, false_or, or_false, not_true_eq_false, not_false_eq_true, forall_const, implies_true, true_imp_iff, false_imp_iff, gs_t, reduceIte, ite_true, ite_false, rI, (r4 k (by omega)).1, bi_01, bi_inj]
    by_cases z : zp_here (zs_P S) k = !on
    · simp (disch := omega) only [forall_eq, exists_eq_left, exists_eq_left', Option.some.injEq, ex_ix, i_add, i_mul, i_sub, i_lt, i_le, i_eq, i_tn, hi_e, hi_n, hj_e, hj_n, hi_wj, hj_wi, hr_wi, hr_wj, ht_wi, ht_wj, hl_wi, hl_wj, hz_wi, hz_wj, hs_wi, hs_wj, hi_wr, hj_wr, hr_e, hr_n, ht_wr, hl_wr, hz_wr, hs_wr, n_lt_t, n_lt_f, n_le_t, n_le_f, n_eq_t, n_eq_f, true_and, and_true, false_and, and_false, true_or, or_true, false_or, or_false, not_true_eq_false, not_false_eq_true, forall_const, implies_true, true_imp_iff, false_imp_iff, gs_t, reduceIte, ite_true, ite_false, z, Bool.not_not]
      exact hR
    · have z2 : ¬ (!zp_here (zs_P S) k) = on := fun y => z (by rw [← y, Bool.not_not])
      simp (disch := omega) only [forall_eq, exists_eq_left, exists_eq_left', Option.some.injEq, ex_ix, i_add, i_mul, i_sub, i_lt, i_le, i_eq, i_tn, hi_e, hi_n, hj_e, hj_n, hi_wj, hj_wi, hr_wi, hr_wj, ht_wi, ht_wj, hl_wi, hl_wj, hz_wi, hz_wj, hs_wi, hs_wj, hi_wr, hj_wr, hr_e, hr_n, ht_wr, hl_wr, hz_wr, hs_wr, n_lt_t, n_lt_f, n_le_t, n_le_f, n_eq_t, n_eq_f, true_and, and_true, false_and, and_false, true_or, or_true, false_or, or_false, not_true_eq_false, not_false_eq_true, forall_const, implies_true, true_imp_iff, false_imp_iff, gs_t, reduceIte, ite_true, ite_false, z, z2]
      exact hR
theorem t_dead {d s : Int32} (R : rT h m S) : gm_G 277 0 [some (.ref m), some (.int d), some (.int s)] [] h (rI (zq_dead S d s).2 fun h' => rT h' m (zq_dead S d s).1) := by
  obtain ⟨r1, r2, r3, r4, r5⟩ := id R.2.2.1
  refine w_277_0 R.1 (t_noDisk R.1 R.2.2.1 (fun e => ?_) (fun k hk ek e => ?_))
  · unfold zq_dead
    rw [e]
    exact ⟨fun _ => ⟨rfl, R⟩, fun z => absurd z (by decide)⟩
  · subst ek
    unfold zq_dead
    rw [e]
    obtain ⟨s1, s2, s3⟩ := r3 k hk
    show (_ → _) ∧ (_ → _)
    rcases zp_s_c (zs_P S) k s s3 with ⟨e2, c⟩ | ⟨j, hj, rfl, e2⟩
    · simp (disch := omega) only [forall_eq, exists_eq_left, exists_eq_left', Option.some.injEq, ex_ix, i_add, i_mul, i_sub, i_lt, i_le, i_eq, i_tn, hi_e, hi_n, hj_e, hj_n, hi_wj, hj_wi, hr_wi, hr_wj, ht_wi, ht_wj, hl_wi, hl_wj, hz_wi, hz_wj, hs_wi, hs_wj, hi_wr, hj_wr, hr_e, hr_n, ht_wr, hl_wr, hz_wr, hs_wr, n_lt_t, n_lt_f, n_le_t, n_le_f, n_eq_t, n_eq_f, true_and, and_true, false_and, and_false, true_or, or_true, false_or, or_false, not_true_eq_false, not_false_eq_true, forall_const, implies_true, true_imp_iff, false_imp_iff, gs_t, reduceIte, ite_true, ite_false, e2, rI, s1]
      by_cases z : s < (Int32.ofNat 0)
      · simp (disch := omega) only [forall_eq, exists_eq_left, exists_eq_left', Option.some.injEq, ex_ix, i_add, i_mul, i_sub, i_lt, i_le, i_eq, i_tn, hi_e, hi_n, hj_e, hj_n, hi_wj, hj_wi, hr_wi, hr_wj, ht_wi, ht_wj, hl_wi, hl_wj, hz_wi, hz_wj, hs_wi, hs_wj, hi_wr, hj_wr, hr_e, hr_n, ht_wr, hl_wr, hz_wr, hs_wr, n_lt_t, n_lt_f, n_le_t, n_le_f, n_eq_t, n_eq_f, true_and, and_true, false_and, and_false, true_or, or_true, false_or, or_false, not_true_eq_false, not_false_eq_true, forall_const, implies_true, true_imp_iff, false_imp_iff, gs_t, reduceIte, ite_true, ite_false, z]
        exact R
      · have z2 : ¬ s < (Int32.ofNat (zp_sec (zs_P S) k)) := by rcases c with c | c; exact absurd c z; exact c
        simp (disch := omega) only [forall_eq, exists_eq_left, exists_eq_left', Option.some.injEq, ex_ix, i_add, i_mul, i_sub, i_lt, i_le, i_eq, i_tn, hi_e, hi_n, hj_e, hj_n, hi_wj, hj_wi, hr_wi, hr_wj, ht_wi, ht_wj, hl_wi, hl_wj, hz_wi, hz_wj, hs_wi, hs_wj, hi_wr, hj_wr, hr_e, hr_n, ht_wr, hl_wr, hz_wr, hs_wr, n_lt_t, n_lt_f, n_le_t, n_le_f, n_eq_t, n_eq_f, true_and, and_true, false_and, and_false, true_or, or_true, false_or, or_false, not_true_eq_false, not_false_eq_true, forall_const, implies_true, true_imp_iff, false_imp_iff, gs_t, reduceIte, ite_true, ite_false, z, z2]
        exact R
    · have hR : rT (hh_wi h (m + 8) (64 * k + j) (Int32.ofNat 1)) m (zs_P_ S (zp_dead_ (zs_P S) (fu2 (zp_dead (zs_P S)) k j true))) := by
        have g : fr (tO m [8] []) h (hh_wi h (m + 8) (64 * k + j) (Int32.ofNat 1)) := fr.a rfl
        refine R.oP (g.up rfl rfl) ?_
        unfold rT_P
        simp only [g.arr (o := 4) rfl, g.arr (o := 6) rfl, g.arr (o := 7) rfl, g.arr (o := 9) rfl, g.arr (o := 10) rfl, g.fld (f := 7) rfl, g.fld (f := 15) rfl, g.fld (f := 16) rfl, g.fld (f := 17) rfl, g.fld (f := 18) rfl]
        refine ⟨r1, r2, r3, fun d hd => ⟨(r4 d hd).1, (r4 d hd).2.1, fun s hs => ⟨?_, ((r4 d hd).2.2.1 s hs).2⟩, (r4 d hd).2.2.2⟩, r5⟩
        show _ = bi (fu2 (zp_dead (zs_P S)) k j true d s)
        unfold fu2
        by_cases z : d = k ∧ s = j
        · obtain ⟨rfl, rfl⟩ := z
          simp (disch := omega) only [forall_eq, exists_eq_left, exists_eq_left', Option.some.injEq, ex_ix, i_add, i_mul, i_sub, i_lt, i_le, i_eq, i_tn, hi_e, hi_n, hj_e, hj_n, hi_wj, hj_wi, hr_wi, hr_wj, ht_wi, ht_wj, hl_wi, hl_wj, hz_wi, hz_wj, hs_wi, hs_wj, hi_wr, hj_wr, hr_e, hr_n, ht_wr, hl_wr, hz_wr, hs_wr, n_lt_t, n_lt_f, n_le_t, n_le_f, n_eq_t, n_eq_f, true_and, and_true, false_and, and_false, true_or, or_true, false_or, or_false, not_true_eq_false, not_false_eq_true, forall_const, implies_true, true_imp_iff, false_imp_iff, gs_t, reduceIte, ite_true, ite_false]
          rfl
        · rw [if_neg z]
          simp (disch := omega) only [forall_eq, exists_eq_left, exists_eq_left', Option.some.injEq, ex_ix, i_add, i_mul, i_sub, i_lt, i_le, i_eq, i_tn, hi_e, hi_n, hj_e, hj_n, hi_wj, hj_wi, hr_wi, hr_wj, ht_wi, ht_wj, hl_wi, hl_wj, hz_wi, hz_wj, hs_wi, hs_wj, hi_wr, hj_wr, hr_e, hr_n, ht_wr, hl_wr, hz_wr, hs_wr, n_lt_t, n_lt_f, n_le_t, n_le_f, n_eq_t, n_eq_f, true_and, and_true, false_and, and_false, true_or, or_true, false_or, or_false, not_true_eq_false, not_false_eq_true, forall_const, implies_true, true_imp_iff, false_imp_iff, gs_t, reduceIte, ite_true, ite_false]
          exact ((r4 d hd).2.2.1 s hs).1
      simp (disch := omega) only [forall_eq, exists_eq_left, exists_eq_left', Option.some.injEq, ex_ix, i_add, i_mul, i_sub, i_lt, i_le, i_eq, i_tn, hi_e, hi_n, hj_e, hj_n, hi_wj, hj_wi, hr_wi, hr_wj, ht_wi, ht_wj, hl_wi, hl_wj, hz_wi, hz_wj, hs_wi, hs_wj, hi_wr, hj_wr, hr_e, hr_n, ht_wr, hl_wr, hz_wr, hs_wr, n_lt_t, n_lt_f, n_le_t, n_le_f, n_eq_t, n_eq_f, true_and, and_true, false_and, and_false, true_or, or_true, false_or, or_false, not_true_eq_false, not_false_eq_true, forall_const, implies_true, true_imp_iff, false_imp_iff, gs_t, reduceIte, ite_true, ite_false, e2, rI, s1, i_n0, ((r4 k (by omega)).2.2.1 j (by omega)).1, bi_0, bi_n]
      cases z : zp_dead (zs_P S) k j with
      | true => simp; exact hR
      | false => simp; exact hR
theorem t_poke {d s i k : Int32} (R : rT h m S) : gm_G 295 0 [some (.ref m), some (.int d), some (.int s), some (.int i), some (.int k)] [] h (rI (zq_poke S d s i k).2 fun h' => rT h' m (zq_poke S d s i k).1) := by
  obtain ⟨r1, r2, r3, r4, r5⟩ := id R.2.2.1
  refine w_295_0 R.1 (t_noDisk R.1 R.2.2.1 (fun e => ?_) (fun q hq eq e => ?_))
  · unfold zq_poke
    rw [e]
    exact ⟨fun _ => ⟨rfl, R⟩, fun z => absurd z (by decide)⟩
  · subst eq
    unfold zq_poke
    rw [e]
    obtain ⟨s1, s2, s3⟩ := r3 q hq
    show (_ → _) ∧ (_ → _)
    rcases zp_s_c (zs_P S) q s s3 with ⟨e2, c⟩ | ⟨j, hj, rfl, e2⟩
    · simp (disch := omega) only [forall_eq, exists_eq_left, exists_eq_left', Option.some.injEq, ex_ix, i_add, i_mul, i_sub, i_lt, i_le, i_eq, i_tn, hi_e, hi_n, hj_e, hj_n, hi_wj, hj_wi, hr_wi, hr_wj, ht_wi, ht_wj, hl_wi, hl_wj, hz_wi, hz_wj, hs_wi, hs_wj, hi_wr, hj_wr, hr_e, hr_n, ht_wr, hl_wr, hz_wr, hs_wr, n_lt_t, n_lt_f, n_le_t, n_le_f, n_eq_t, n_eq_f, true_and, and_true, false_and, and_false, true_or, or_true, false_or, or_false, not_true_eq_false, not_false_eq_true, forall_const, implies_true, true_imp_iff, false_imp_iff, gs_t, reduceIte, ite_true, ite_false, e2, rI, s1]
      by_cases z : s < (Int32.ofNat 0)
      · simp (disch := omega) only [forall_eq, exists_eq_left, exists_eq_left', Option.some.injEq, ex_ix, i_add, i_mul, i_sub, i_lt, i_le, i_eq, i_tn, hi_e, hi_n, hj_e, hj_n, hi_wj, hj_wi, hr_wi, hr_wj, ht_wi, ht_wj, hl_wi, hl_wj, hz_wi, hz_wj, hs_wi, hs_wj, hi_wr, hj_wr, hr_e, hr_n, ht_wr, hl_wr, hz_wr, hs_wr, n_lt_t, n_lt_f, n_le_t, n_le_f, n_eq_t, n_eq_f, true_and, and_true, false_and, and_false, true_or, or_true, false_or, or_false, not_true_eq_false, not_false_eq_true, forall_const, implies_true, true_imp_iff, false_imp_iff, gs_t, reduceIte, ite_true, ite_false, z]
        exact R
      · have z2 : ¬ s < (Int32.ofNat (zp_sec (zs_P S) q)) := by rcases c with c | c; exact absurd c z; exact c
        simp (disch := omega) only [forall_eq, exists_eq_left, exists_eq_left', Option.some.injEq, ex_ix, i_add, i_mul, i_sub, i_lt, i_le, i_eq, i_tn, hi_e, hi_n, hj_e, hj_n, hi_wj, hj_wi, hr_wi, hr_wj, ht_wi, ht_wj, hl_wi, hl_wj, hz_wi, hz_wj, hs_wi, hs_wj, hi_wr, hj_wr, hr_e, hr_n, ht_wr, hl_wr, hz_wr, hs_wr, n_lt_t, n_lt_f, n_le_t, n_le_f, n_eq_t, n_eq_f, true_and, and_true, false_and, and_false, true_or, or_true, false_or, or_false, not_true_eq_false, not_false_eq_true, forall_const, implies_true, true_imp_iff, false_imp_iff, gs_t, reduceIte, ite_true, ite_false, z, z2]
        exact R
    · rcases i_cases i with c1 | ⟨a, ha, rfl⟩
      · simp (disch := omega) only [forall_eq, exists_eq_left, exists_eq_left', Option.some.injEq, ex_ix, i_add, i_mul, i_sub, i_lt, i_le, i_eq, i_tn, hi_e, hi_n, hj_e, hj_n, hi_wj, hj_wi, hr_wi, hr_wj, ht_wi, ht_wj, hl_wi, hl_wj, hz_wi, hz_wj, hs_wi, hs_wj, hi_wr, hj_wr, hr_e, hr_n, ht_wr, hl_wr, hz_wr, hs_wr, n_lt_t, n_lt_f, n_le_t, n_le_f, n_eq_t, n_eq_f, true_and, and_true, false_and, and_false, true_or, or_true, false_or, or_false, not_true_eq_false, not_false_eq_true, forall_const, implies_true, true_imp_iff, false_imp_iff, gs_t, reduceIte, ite_true, ite_false, e2, rI, s1, i_n0, c1]
        exact R
      by_cases a7 : 7 < a
      · simp (disch := omega) only [forall_eq, exists_eq_left, exists_eq_left', Option.some.injEq, ex_ix, i_add, i_mul, i_sub, i_lt, i_le, i_eq, i_tn, hi_e, hi_n, hj_e, hj_n, hi_wj, hj_wi, hr_wi, hr_wj, ht_wi, ht_wj, hl_wi, hl_wj, hz_wi, hz_wj, hs_wi, hs_wj, hi_wr, hj_wr, hr_e, hr_n, ht_wr, hl_wr, hz_wr, hs_wr, n_lt_t, n_lt_f, n_le_t, n_le_f, n_eq_t, n_eq_f, true_and, and_true, false_and, and_false, true_or, or_true, false_or, or_false, not_true_eq_false, not_false_eq_true, forall_const, implies_true, true_imp_iff, false_imp_iff, gs_t, reduceIte, ite_true, ite_false, e2, rI, s1, i_n0]
        exact R
      rcases i_cases k with c1 | ⟨b, hb, rfl⟩
      · simp (disch := omega) only [forall_eq, exists_eq_left, exists_eq_left', Option.some.injEq, ex_ix, i_add, i_mul, i_sub, i_lt, i_le, i_eq, i_tn, hi_e, hi_n, hj_e, hj_n, hi_wj, hj_wi, hr_wi, hr_wj, ht_wi, ht_wj, hl_wi, hl_wj, hz_wi, hz_wj, hs_wi, hs_wj, hi_wr, hj_wr, hr_e, hr_n, ht_wr, hl_wr, hz_wr, hs_wr, n_lt_t, n_lt_f, n_le_t, n_le_f, n_eq_t, n_eq_f, true_and, and_true, false_and, and_false, true_or, or_true, false_or, or_false, not_true_eq_false, not_false_eq_true, forall_const, implies_true, true_imp_iff, false_imp_iff, gs_t, reduceIte, ite_true, ite_false, e2, rI, s1, i_n0, c1]
        exact R
      by_cases b7 : 255 < b
      · simp (disch := omega) only [forall_eq, exists_eq_left, exists_eq_left', Option.some.injEq, ex_ix, i_add, i_mul, i_sub, i_lt, i_le, i_eq, i_tn, hi_e, hi_n, hj_e, hj_n, hi_wj, hj_wi, hr_wi, hr_wj, ht_wi, ht_wj, hl_wi, hl_wj, hz_wi, hz_wj, hs_wi, hs_wj, hi_wr, hj_wr, hr_e, hr_n, ht_wr, hl_wr, hz_wr, hs_wr, n_lt_t, n_lt_f, n_le_t, n_le_f, n_eq_t, n_eq_f, true_and, and_true, false_and, and_false, true_or, or_true, false_or, or_false, not_true_eq_false, not_false_eq_true, forall_const, implies_true, true_imp_iff, false_imp_iff, gs_t, reduceIte, ite_true, ite_false, e2, rI, s1, i_n0]
        exact R
      · simp (disch := omega) only [forall_eq, exists_eq_left, exists_eq_left', Option.some.injEq, ex_ix, i_add, i_mul, i_sub, i_lt, i_le, i_eq, i_tn, hi_e, hi_n, hj_e, hj_n, hi_wj, hj_wi, hr_wi, hr_wj, ht_wi, ht_wj, hl_wi, hl_wj, hz_wi, hz_wj, hs_wi, hs_wj, hi_wr, hj_wr, hr_e, hr_n, ht_wr, hl_wr, hz_wr, hs_wr, n_lt_t, n_lt_f, n_le_t, n_le_f, n_eq_t, n_eq_f, true_and, and_true, false_and, and_false, true_or, or_true, false_or, or_false, not_true_eq_false, not_false_eq_true, forall_const, implies_true, true_imp_iff, false_imp_iff, gs_t, reduceIte, ite_true, ite_false, e2, rI, s1, i_n0]
        have ev := (r4 q (by omega)).2.2.2 (8 * j + a) (by omega)
        have e3 : 512 * q + 8 * j + a = 512 * q + (8 * j + a) := by omega
        rw [e3, ev]
        generalize hv : ((zp_by (zs_P S) q (8 * j + a) ^^^ ((Int32.ofNat b)).toInt8.toInt32).toInt8.toInt32).toInt8.toInt32 = v
        have hv2 : v = byt (zp_by (zs_P S) q (8 * j + a) ^^^ byt (Int32.ofNat b)) := by rw [← hv]; exact byt_byt _
        have g : fr (tO m [10] []) h (hh_wi h (m + 10) (512 * q + (8 * j + a)) v) := fr.a rfl
        refine R.oP (g.up rfl rfl) ?_
        unfold rT_P
        simp only [g.arr (o := 4) rfl, g.arr (o := 6) rfl, g.arr (o := 7) rfl, g.arr (o := 8) rfl, g.arr (o := 9) rfl, g.fld (f := 7) rfl, g.fld (f := 15) rfl, g.fld (f := 16) rfl, g.fld (f := 17) rfl, g.fld (f := 18) rfl]
        refine ⟨r1, r2, r3, fun d hd => ⟨(r4 d hd).1, (r4 d hd).2.1, (r4 d hd).2.2.1, fun p hp => ?_⟩, r5⟩
        show _ = fu2 (zp_by (zs_P S)) q (8 * j + a) _ d p
        unfold fu2
        by_cases z : d = q ∧ p = 8 * j + a
        · rw [if_pos z, ← hv2, z.1, z.2, hi_e ⟨rfl, rfl⟩]
        · rw [if_neg z]
          simp (disch := omega) only [forall_eq, exists_eq_left, exists_eq_left', Option.some.injEq, ex_ix, i_add, i_mul, i_sub, i_lt, i_le, i_eq, i_tn, hi_e, hi_n, hj_e, hj_n, hi_wj, hj_wi, hr_wi, hr_wj, ht_wi, ht_wj, hl_wi, hl_wj, hz_wi, hz_wj, hs_wi, hs_wj, hi_wr, hj_wr, hr_e, hr_n, ht_wr, hl_wr, hz_wr, hs_wr, n_lt_t, n_lt_f, n_le_t, n_le_f, n_eq_t, n_eq_f, true_and, and_true, false_and, and_false, true_or, or_true, false_or, or_false, not_true_eq_false, not_false_eq_true, forall_const, implies_true, true_imp_iff, false_imp_iff, gs_t, reduceIte, ite_true, ite_false]
          exact (r4 d hd).2.2.2 p hp
/-- what is fed, byte by byte -/
def zq_fd (a b c d : Int32) : zBy := zq_b4 a ++ zq_b4 b ++ zq_b4 c ++ zq_b4 d
theorem zq_fd_k (a b c d : Int32) {k : Nat} (hk : k < 16) : byt (byt ((if k < 4 then a else if k < 8 then b else if k < 12 then c else d) >>> (((Int32.ofNat 24) - (Int32.ofNat 8) * ((Int32.ofNat k) &&& (Int32.ofNat 3))) &&& 31))) = lf (zq_fd a b c d) k := by
  have e : k = 0 ∨ k = 1 ∨ k = 2 ∨ k = 3 ∨ k = 4 ∨ k = 5 ∨ k = 6 ∨ k = 7 ∨ k = 8 ∨ k = 9 ∨ k = 10 ∨ k = 11 ∨ k = 12 ∨ k = 13 ∨ k = 14 ∨ k = 15 := by omega
  have s : (((Int32.ofNat 24) - (Int32.ofNat 8) * ((Int32.ofNat k) &&& (Int32.ofNat 3))) &&& 31) = (if k % 4 = 0 then (Int32.ofNat 24) &&& 31 else if k % 4 = 1 then (Int32.ofNat 16) &&& 31 else if k % 4 = 2 then (Int32.ofNat 8) &&& 31 else 0) := by
    rcases e with rfl | rfl | rfl | rfl | rfl | rfl | rfl | rfl | rfl | rfl | rfl | rfl | rfl | rfl | rfl | rfl <;> decide
  rw [s, byt_byt]
  clear s hk
  rcases e with rfl | rfl | rfl | rfl | rfl | rfl | rfl | rfl | rfl | rfl | rfl | rfl | rfl | rfl | rfl | rfl <;> simp [zq_fd, zq_b4, lf]
theorem i_sb (a b : Nat) (ha : a ≤ 2000000000) (hb : b ≤ 2000000000) : ((Int32.ofNat a) - (Int32.ofNat b)).toInt = (a : Int) - b := by
  rw [Int32.toInt_sub, Int32.toInt_ofNat_of_lt (by omega), Int32.toInt_ofNat_of_lt (by omega)]
  rw [Int.bmod_eq_of_le] <;> omega
theorem t_feed {a b c d : Int32} (R : rT h m S) : gm_G 110 0 [some (.ref m), some (.int a), some (.int b), some (.int c), some (.int d)] [] h (rI (zq_feed S a b c d).2 fun h' => rT h' m (zq_feed S a b c d).1) := by
  obtain ⟨r1, r2, r3, r4⟩ := id R.2.1
  refine w_110_0 R.1 ?_
  unfold zq_feed zs_w
  by_cases c1 : 320 < (za_tape (zs_A S)).length + 16
  · simp (disch := omega) only [forall_eq, exists_eq_left, exists_eq_left', Option.some.injEq, ex_ix, i_add, i_mul, i_sub, i_lt, i_le, i_eq, i_tn, hi_e, hi_n, hj_e, hj_n, hi_wj, hj_wi, hr_wi, hr_wj, ht_wi, ht_wj, hl_wi, hl_wj, hz_wi, hz_wj, hs_wi, hs_wj, hi_wr, hj_wr, hr_e, hr_n, ht_wr, hl_wr, hz_wr, hs_wr, n_lt_t, n_lt_f, n_le_t, n_le_f, n_eq_t, n_eq_f, true_and, and_true, false_and, and_false, true_or, or_true, false_or, or_false, not_true_eq_false, not_false_eq_true, forall_const, implies_true, true_imp_iff, false_imp_iff, gs_t, reduceIte, ite_true, ite_false, r1, rI]
    exact R
  simp (disch := omega) only [forall_eq, exists_eq_left, exists_eq_left', Option.some.injEq, ex_ix, i_add, i_mul, i_sub, i_lt, i_le, i_eq, i_tn, hi_e, hi_n, hj_e, hj_n, hi_wj, hj_wi, hr_wi, hr_wj, ht_wi, ht_wj, hl_wi, hl_wj, hz_wi, hz_wj, hs_wi, hs_wj, hi_wr, hj_wr, hr_e, hr_n, ht_wr, hl_wr, hz_wr, hs_wr, n_lt_t, n_lt_f, n_le_t, n_le_f, n_eq_t, n_eq_f, true_and, and_true, false_and, and_false, true_or, or_true, false_or, or_false, not_true_eq_false, not_false_eq_true, forall_const, implies_true, true_imp_iff, false_imp_iff, gs_t, reduceIte, ite_true, ite_false, r1]
  have lp : ∀ e k h1, k + e = 16 → fr (tO m [1] []) h h1 → (∀ i, i < (za_tape (zs_A S)).length + k → hh_i h1 (m + 1) i = lf (za_tape (zs_A S) ++ zq_fd a b c d) i) → gm_G 110 19 [some (.ref m), some (.int a), some (.int b), some (.int c), some (.int d), some (.int (Int32.ofNat k))] [] h1 (rI (Int32.ofNat ((za_tape (zs_A S)).length + 16)) fun h' => rT h' m (zs_tp S (za_tape (zs_A S) ++ zq_fd a b c d))) := by
    intro e
    induction e with
    | zero =>
      intro k h1 ek g hk
      have ek : k = 16 := by omega
      subst ek
      refine w_110_19 (R.1.fr g) ?_
      simp (disch := omega) only [forall_eq, exists_eq_left, exists_eq_left', Option.some.injEq, ex_ix, i_add, i_mul, i_sub, i_lt, i_le, i_eq, i_tn, hi_e, hi_n, hj_e, hj_n, hi_wj, hj_wi, hr_wi, hr_wj, ht_wi, ht_wj, hl_wi, hl_wj, hz_wi, hz_wj, hs_wi, hs_wj, hi_wr, hj_wr, hr_e, hr_n, ht_wr, hl_wr, hz_wr, hs_wr, n_lt_t, n_lt_f, n_le_t, n_le_f, n_eq_t, n_eq_f, true_and, and_true, false_and, and_false, true_or, or_true, false_or, or_false, not_true_eq_false, not_false_eq_true, forall_const, implies_true, true_imp_iff, false_imp_iff, gs_t, reduceIte, ite_true, ite_false, g.fld (f := 2) rfl, r1, rI]
      have g2 : fr (tO m [1] [2]) h (hh_wi h1 m 2 (Int32.ofNat ((za_tape (zs_A S)).length + 16))) := (g.up rfl rfl).trans (fr.f rfl)
      refine R.oA (g2.up rfl rfl) ?_
      have el : (za_tape (zs_A S) ++ zq_fd a b c d).length = (za_tape (zs_A S)).length + 16 := by rw [List.length_append]; rfl
      unfold rT_A
      simp only [g2.arr (o := 2) rfl, g2.arr (o := 3) rfl, g2.fld (f := 3) rfl, g2.fld (f := 4) rfl, g2.fld (f := 5) rfl]
      refine ⟨?_, ?_, fun i hi => ?_, r4⟩
      · show _ = (Int32.ofNat ((za_tape (zs_A S) ++ zq_fd a b c d).length))
        simp (disch := omega) only [forall_eq, exists_eq_left, exists_eq_left', Option.some.injEq, ex_ix, i_add, i_mul, i_sub, i_lt, i_le, i_eq, i_tn, hi_e, hi_n, hj_e, hj_n, hi_wj, hj_wi, hr_wi, hr_wj, ht_wi, ht_wj, hl_wi, hl_wj, hz_wi, hz_wj, hs_wi, hs_wj, hi_wr, hj_wr, hr_e, hr_n, ht_wr, hl_wr, hz_wr, hs_wr, n_lt_t, n_lt_f, n_le_t, n_le_f, n_eq_t, n_eq_f, true_and, and_true, false_and, and_false, true_or, or_true, false_or, or_false, not_true_eq_false, not_false_eq_true, forall_const, implies_true, true_imp_iff, false_imp_iff, gs_t, reduceIte, ite_true, ite_false, el]
      · show (za_tape (zs_A S) ++ zq_fd a b c d).length ≤ 320
        omega
      · have hi' : i < (za_tape (zs_A S) ++ zq_fd a b c d).length := hi
        simp (disch := omega) only [forall_eq, exists_eq_left, exists_eq_left', Option.some.injEq, ex_ix, i_add, i_mul, i_sub, i_lt, i_le, i_eq, i_tn, hi_e, hi_n, hj_e, hj_n, hi_wj, hj_wi, hr_wi, hr_wj, ht_wi, ht_wj, hl_wi, hl_wj, hz_wi, hz_wj, hs_wi, hs_wj, hi_wr, hj_wr, hr_e, hr_n, ht_wr, hl_wr, hz_wr, hs_wr, n_lt_t, n_lt_f, n_le_t, n_le_f, n_eq_t, n_eq_f, true_and, and_true, false_and, and_false, true_or, or_true, false_or, or_false, not_true_eq_false, not_false_eq_true, forall_const, implies_true, true_imp_iff, false_imp_iff, gs_t, reduceIte, ite_true, ite_false]
        exact hk i (by omega)
    | succ e ih =>
      intro k h1 ek g hk
      refine w_110_19 (R.1.fr g) ?_
      have st : gm_G 110 60 [some (.ref m), some (.int a), some (.int b), some (.int c), some (.int d), some (.int (Int32.ofNat k))] [.int (if k < 4 then a else if k < 8 then b else if k < 12 then c else d)] h1 (rI (Int32.ofNat ((za_tape (zs_A S)).length + 16)) fun h' => rT h' m (zs_tp S (za_tape (zs_A S) ++ zq_fd a b c d))) := by
        refine w_110_60 (R.1.fr g) ?_
        simp (disch := omega) only [forall_eq, exists_eq_left, exists_eq_left', Option.some.injEq, ex_ix, i_add, i_mul, i_sub, i_lt, i_le, i_eq, i_tn, hi_e, hi_n, hj_e, hj_n, hi_wj, hj_wi, hr_wi, hr_wj, ht_wi, ht_wj, hl_wi, hl_wj, hz_wi, hz_wj, hs_wi, hs_wj, hi_wr, hj_wr, hr_e, hr_n, ht_wr, hl_wr, hz_wr, hs_wr, n_lt_t, n_lt_f, n_le_t, n_le_f, n_eq_t, n_eq_f, true_and, and_true, false_and, and_false, true_or, or_true, false_or, or_false, not_true_eq_false, not_false_eq_true, forall_const, implies_true, true_imp_iff, false_imp_iff, gs_t, reduceIte, ite_true, ite_false, g.fld (f := 2) rfl, r1]
        refine ih (k + 1) _ (by omega) (g.trans (fr.a rfl)) (fun i hi => ?_)
        by_cases z : i = (za_tape (zs_A S)).length + k
        · subst z
          rw [hi_e ⟨rfl, rfl⟩]
          have := zq_fd_k a b c d (k := k) (by omega)
          refine Eq.trans this ?_
          unfold lf
          rw [List.getD_eq_getElem?_getD, List.getD_eq_getElem?_getD, List.getElem?_append_right (by omega), show (za_tape (zs_A S)).length + k - (za_tape (zs_A S)).length = k by omega]
        · simp (disch := omega) only [forall_eq, exists_eq_left, exists_eq_left', Option.some.injEq, ex_ix, i_add, i_mul, i_sub, i_lt, i_le, i_eq, i_tn, hi_e, hi_n, hj_e, hj_n, hi_wj, hj_wi, hr_wi, hr_wj, ht_wi, ht_wj, hl_wi, hl_wj, hz_wi, hz_wj, hs_wi, hs_wj, hi_wr, hj_wr, hr_e, hr_n, ht_wr, hl_wr, hz_wr, hs_wr, n_lt_t, n_lt_f, n_le_t, n_le_f, n_eq_t, n_eq_f, true_and, and_true, false_and, and_false, true_or, or_true, false_or, or_false, not_true_eq_false, not_false_eq_true, forall_const, implies_true, true_imp_iff, false_imp_iff, gs_t, reduceIte, ite_true, ite_false]
          exact hk i (by omega)
      by_cases k4 : k < 4
      · simp (disch := omega) only [forall_eq, exists_eq_left, exists_eq_left', Option.some.injEq, ex_ix, i_add, i_mul, i_sub, i_lt, i_le, i_eq, i_tn, hi_e, hi_n, hj_e, hj_n, hi_wj, hj_wi, hr_wi, hr_wj, ht_wi, ht_wj, hl_wi, hl_wj, hz_wi, hz_wj, hs_wi, hs_wj, hi_wr, hj_wr, hr_e, hr_n, ht_wr, hl_wr, hz_wr, hs_wr, n_lt_t, n_lt_f, n_le_t, n_le_f, n_eq_t, n_eq_f, true_and, and_true, false_and, and_false, true_or, or_true, false_or, or_false, not_true_eq_false, not_false_eq_true, forall_const, implies_true, true_imp_iff, false_imp_iff, gs_t, reduceIte, ite_true, ite_false]; simpa only [if_pos k4] using st
      by_cases k8 : k < 8
      · simp (disch := omega) only [forall_eq, exists_eq_left, exists_eq_left', Option.some.injEq, ex_ix, i_add, i_mul, i_sub, i_lt, i_le, i_eq, i_tn, hi_e, hi_n, hj_e, hj_n, hi_wj, hj_wi, hr_wi, hr_wj, ht_wi, ht_wj, hl_wi, hl_wj, hz_wi, hz_wj, hs_wi, hs_wj, hi_wr, hj_wr, hr_e, hr_n, ht_wr, hl_wr, hz_wr, hs_wr, n_lt_t, n_lt_f, n_le_t, n_le_f, n_eq_t, n_eq_f, true_and, and_true, false_and, and_false, true_or, or_true, false_or, or_false, not_true_eq_false, not_false_eq_true, forall_const, implies_true, true_imp_iff, false_imp_iff, gs_t, reduceIte, ite_true, ite_false]; simpa only [if_neg k4, if_pos k8] using st
      by_cases k12 : k < 12
      · simp (disch := omega) only [forall_eq, exists_eq_left, exists_eq_left', Option.some.injEq, ex_ix, i_add, i_mul, i_sub, i_lt, i_le, i_eq, i_tn, hi_e, hi_n, hj_e, hj_n, hi_wj, hj_wi, hr_wi, hr_wj, ht_wi, ht_wj, hl_wi, hl_wj, hz_wi, hz_wj, hs_wi, hs_wj, hi_wr, hj_wr, hr_e, hr_n, ht_wr, hl_wr, hz_wr, hs_wr, n_lt_t, n_lt_f, n_le_t, n_le_f, n_eq_t, n_eq_f, true_and, and_true, false_and, and_false, true_or, or_true, false_or, or_false, not_true_eq_false, not_false_eq_true, forall_const, implies_true, true_imp_iff, false_imp_iff, gs_t, reduceIte, ite_true, ite_false]; simpa only [if_neg k4, if_neg k8, if_pos k12] using st
      · simp (disch := omega) only [forall_eq, exists_eq_left, exists_eq_left', Option.some.injEq, ex_ix, i_add, i_mul, i_sub, i_lt, i_le, i_eq, i_tn, hi_e, hi_n, hj_e, hj_n, hi_wj, hj_wi, hr_wi, hr_wj, ht_wi, ht_wj, hl_wi, hl_wj, hz_wi, hz_wj, hs_wi, hs_wj, hi_wr, hj_wr, hr_e, hr_n, ht_wr, hl_wr, hz_wr, hs_wr, n_lt_t, n_lt_f, n_le_t, n_le_f, n_eq_t, n_eq_f, true_and, and_true, false_and, and_false, true_or, or_true, false_or, or_false, not_true_eq_false, not_false_eq_true, forall_const, implies_true, true_imp_iff, false_imp_iff, gs_t, reduceIte, ite_true, ite_false]; simpa only [if_neg k4, if_neg k8, if_neg k12] using st
  refine lp 16 0 h rfl (fr.refl _ _) (fun i hi => ?_)
  rw [r3 i (by omega)]
  unfold lf
  rw [List.getD_eq_getElem?_getD, List.getD_eq_getElem?_getD, List.getElem?_append_left (by omega)]
/-- an open file's lease ends -/
theorem t_endLease {f : Nat} (hT : tw_ok h m) (hf : f < 8) (H : ∀ h', h' = hh_wi (hh_wi h (m + 94) f (Int32.ofNat 0)) (m + 89) f (Int32.ofNat 0) → Q (.inl none) h') : gm_G 105 0 [some (.ref m), some (.int (Int32.ofNat f))] [] h Q := by
  refine w_105_0 hT ?_
  simp (disch := omega) only [forall_eq, exists_eq_left, exists_eq_left', Option.some.injEq, ex_ix, i_add, i_mul, i_sub, i_lt, i_le, i_eq, i_tn, hi_e, hi_n, hj_e, hj_n, hi_wj, hj_wi, hr_wi, hr_wj, ht_wi, ht_wj, hl_wi, hl_wj, hz_wi, hz_wj, hs_wi, hs_wj, hi_wr, hj_wr, hr_e, hr_n, ht_wr, hl_wr, hz_wr, hs_wr, n_lt_t, n_lt_f, n_le_t, n_le_f, n_eq_t, n_eq_f, true_and, and_true, false_and, and_false, true_or, or_true, false_or, or_false, not_true_eq_false, not_false_eq_true, forall_const, implies_true, true_imp_iff, false_imp_iff, gs_t, reduceIte, ite_true, ite_false]
  exact H _ rfl
theorem t_clock {n : Int32} (R : rT h m S) : gm_G 273 0 [some (.ref m), some (.int n)] [] h (rI (zq_clock S n).2 fun h' => rT h' m (zq_clock S n).1) := by
  obtain ⟨r1, r2, r3, r4, r5, r6, r7, r8, r9⟩ := id R.2.1
  obtain ⟨f1, f2⟩ := id R.2.2.2.2.2.2.2.1
  refine w_273_0 R.1 ?_
  unfold zq_clock zs_ck
  rcases i_cases n with c | ⟨k, hk, rfl⟩
  · simp (disch := omega) only [forall_eq, exists_eq_left, exists_eq_left', Option.some.injEq, ex_ix, i_add, i_mul, i_sub, i_lt, i_le, i_eq, i_tn, hi_e, hi_n, hj_e, hj_n, hi_wj, hj_wi, hr_wi, hr_wj, ht_wi, ht_wj, hl_wi, hl_wj, hz_wi, hz_wj, hs_wi, hs_wj, hi_wr, hj_wr, hr_e, hr_n, ht_wr, hl_wr, hz_wr, hs_wr, n_lt_t, n_lt_f, n_le_t, n_le_f, n_eq_t, n_eq_f, true_and, and_true, false_and, and_false, true_or, or_true, false_or, or_false, not_true_eq_false, not_false_eq_true, forall_const, implies_true, true_imp_iff, false_imp_iff, gs_t, reduceIte, ite_true, ite_false, c, rI]
    exact R
  by_cases d : 1000 < k
  · simp (disch := omega) only [forall_eq, exists_eq_left, exists_eq_left', Option.some.injEq, ex_ix, i_add, i_mul, i_sub, i_lt, i_le, i_eq, i_tn, hi_e, hi_n, hj_e, hj_n, hi_wj, hj_wi, hr_wi, hr_wj, ht_wi, ht_wj, hl_wi, hl_wj, hz_wi, hz_wj, hs_wi, hs_wj, hi_wr, hj_wr, hr_e, hr_n, ht_wr, hl_wr, hz_wr, hs_wr, n_lt_t, n_lt_f, n_le_t, n_le_f, n_eq_t, n_eq_f, true_and, and_true, false_and, and_false, true_or, or_true, false_or, or_false, not_true_eq_false, not_false_eq_true, forall_const, implies_true, true_imp_iff, false_imp_iff, gs_t, reduceIte, ite_true, ite_false, rI]
    exact R
  have key : ∀ t, t = min 2000000000 (za_clock (zs_A S) + k) → gm_G 273 38 [some (.ref m)] [.int (Int32.ofNat t), .ref m] h (rI (Int32.ofNat t) fun h' => rT h' m (zs_fl (zs_A_ S (za_clock_ (zs_A S) t)) (fun f => (zs_fo S f).map (zo_tick t)))) := by
    intro t ht
    refine w_273_38 R.1 ?_
    simp (disch := omega) only [forall_eq, exists_eq_left, exists_eq_left', Option.some.injEq, ex_ix, i_add, i_mul, i_sub, i_lt, i_le, i_eq, i_tn, hi_e, hi_n, hj_e, hj_n, hi_wj, hj_wi, hr_wi, hr_wj, ht_wi, ht_wj, hl_wi, hl_wj, hz_wi, hz_wj, hs_wi, hs_wj, hi_wr, hj_wr, hr_e, hr_n, ht_wr, hl_wr, hz_wr, hs_wr, n_lt_t, n_lt_f, n_le_t, n_le_f, n_eq_t, n_eq_f, true_and, and_true, false_and, and_false, true_or, or_true, false_or, or_false, not_true_eq_false, not_false_eq_true, forall_const, implies_true, true_imp_iff, false_imp_iff, gs_t, reduceIte, ite_true, ite_false]
    have g0 : fr (tO m [] [4]) h (hh_wi h m 4 (Int32.ofNat t)) := fr.f rfl
    have R0 : rT (hh_wi h m 4 (Int32.ofNat t)) m (zs_A_ S (za_clock_ (zs_A S) t)) := by
      refine R.oA (g0.up rfl rfl) ?_
      unfold rT_A
      simp only [g0.arr (o := 1) rfl, g0.arr (o := 2) rfl, g0.arr (o := 3) rfl, g0.fld (f := 2) rfl, g0.fld (f := 3) rfl, g0.fld (f := 5) rfl]
      exact ⟨r1, r2, r3, r4, r5, r6, hi_e ⟨rfl, rfl⟩, by show t ≤ 2000000000; omega, r9⟩
    generalize hg : hh_wi h m 4 (Int32.ofNat t) = h0 at R0
    have e4 : hh_i h0 m 4 = (Int32.ofNat t) := by rw [← hg]; exact hi_e ⟨rfl, rfl⟩
    clear hg g0
    have lp : ∀ e j h1, j + e = 8 → fr (tO m [89, 94] []) h0 h1 → (∀ f, f < 8 → tw_of h1 m f (if f < j then (zs_fo S f).map (zo_tick t) else zs_fo S f)) → gm_G 273 43 [some (.ref m), none, some (.int (Int32.ofNat j))] [] h1 (rI (Int32.ofNat t) fun h' => rT h' m (zs_fl (zs_A_ S (za_clock_ (zs_A S) t)) (fun f => (zs_fo S f).map (zo_tick t)))) := by
      intro e
      induction e with
      | zero =>
        intro j h1 ej g hf
        have ej : j = 8 := by omega
        subst ej
        refine w_273_43 (R0.1.fr g) ?_
        simp (disch := omega) only [forall_eq, exists_eq_left, exists_eq_left', Option.some.injEq, ex_ix, i_add, i_mul, i_sub, i_lt, i_le, i_eq, i_tn, hi_e, hi_n, hj_e, hj_n, hi_wj, hj_wi, hr_wi, hr_wj, ht_wi, ht_wj, hl_wi, hl_wj, hz_wi, hz_wj, hs_wi, hs_wj, hi_wr, hj_wr, hr_e, hr_n, ht_wr, hl_wr, hz_wr, hs_wr, n_lt_t, n_lt_f, n_le_t, n_le_f, n_eq_t, n_eq_f, true_and, and_true, false_and, and_false, true_or, or_true, false_or, or_false, not_true_eq_false, not_false_eq_true, forall_const, implies_true, true_imp_iff, false_imp_iff, gs_t, reduceIte, ite_true, ite_false, g.fld (f := 4) rfl, e4, rI]
        obtain ⟨f1, f2⟩ := id R0.2.2.2.2.2.2.2.1
        refine R0.oF (g.up rfl rfl) ⟨fun f hf8 => ?_, ?_⟩
        · have := hf f hf8
          rw [if_pos hf8] at this
          exact this
        · have gs : tsm m (fun o => oF o && !([89, 94].contains o)) f0 h0 h1 := g.sm rfl rfl
          refine ⟨fun w hw => ?_, fun c hc => ?_, ?_⟩
          · have q := f2.1 w hw
            show tw_wa h1 m w (zf_wt (zs_F S) w)
            have q : tw_wa h0 m w (zf_wt (zs_F S) w) := q
            cases hx : zf_wt (zs_F S) w with
            | none => rw [hx] at q; unfold tw_wa at q ⊢; simp only [g.arr (o := 97) rfl]; exact q
            | some o => rw [hx] at q; unfold tw_wa at q ⊢; simp only [g.arr (o := 97) rfl, g.arr (o := 98) rfl, g.arr (o := 99) rfl, g.arr (o := 100) rfl, g.arr (o := 101) rfl, g.arr (o := 102) rfl]; exact q
          · have q : tw_kp h0 m c (zf_kp (zs_F S) c) := f2.2.1 c hc
            show tw_kp h1 m c (zf_kp (zs_F S) c)
            cases hx : zf_kp (zs_F S) c with
            | none => rw [hx] at q; unfold tw_kp at q ⊢; simp only [g.arr (o := 117) rfl]; exact q
            | some o => rw [hx] at q; unfold tw_kp at q ⊢; simp only [g.arr (o := 117) rfl, g.arr (o := 118) rfl, g.arr (o := 119) rfl, g.arr (o := 120) rfl]; exact q
          · rw [g.arr (o := 116) rfl, g.arr (o := 59) rfl]
            exact f2.2.2
      | succ e ih =>
        intro j h1 ej g hf
        have hj := hf j (by omega)
        rw [if_neg (by omega)] at hj
        have nx : ∀ h2, fr (tO m [89, 94] []) h1 h2 → (∀ f, f < 8 → ¬ f = j → hh_i h2 (m + 89) f = hh_i h1 (m + 89) f ∧ hh_i h2 (m + 94) f = hh_i h1 (m + 94) f) → tw_of h2 m j ((zs_fo S j).map (zo_tick t)) → gm_G 273 97 [some (.ref m), none, some (.int (Int32.ofNat j))] [] h2 (rI (Int32.ofNat t) fun h' => rT h' m (zs_fl (zs_A_ S (za_clock_ (zs_A S) t)) (fun f => (zs_fo S f).map (zo_tick t)))) := by
          intro h2 g2 h89 hj2
          refine w_273_97 (R0.1.fr (g.trans g2)) ?_
          simp (disch := omega) only [forall_eq, exists_eq_left, exists_eq_left', Option.some.injEq, ex_ix, i_add, i_mul, i_sub, i_lt, i_le, i_eq, i_tn, hi_e, hi_n, hj_e, hj_n, hi_wj, hj_wi, hr_wi, hr_wj, ht_wi, ht_wj, hl_wi, hl_wj, hz_wi, hz_wj, hs_wi, hs_wj, hi_wr, hj_wr, hr_e, hr_n, ht_wr, hl_wr, hz_wr, hs_wr, n_lt_t, n_lt_f, n_le_t, n_le_f, n_eq_t, n_eq_f, true_and, and_true, false_and, and_false, true_or, or_true, false_or, or_false, not_true_eq_false, not_false_eq_true, forall_const, implies_true, true_imp_iff, false_imp_iff, gs_t, reduceIte, ite_true, ite_false]
          refine ih (j + 1) h2 (by omega) (g.trans g2) (fun f hf8 => ?_)
          by_cases z : f = j
          · subst z
            rw [if_pos (by omega)]
            exact hj2
          · have q := hf f hf8
            have e1 : (if f < j + 1 then (zs_fo S f).map (zo_tick t) else zs_fo S f) = (if f < j then (zs_fo S f).map (zo_tick t) else zs_fo S f) := by
              by_cases y : f < j
              · rw [if_pos y, if_pos (by omega)]
              · rw [if_neg y, if_neg (by omega)]
            rw [e1]
            revert q
            generalize (if f < j then (zs_fo S f).map (zo_tick t) else zs_fo S f) = x
            intro q
            cases x with
            | none => unfold tw_of at q ⊢; simp only [g2.arr (o := 88) rfl]; exact q
            | some o =>
              unfold tw_of at q ⊢
              simp only [g2.arr (o := 88) rfl, g2.arr (o := 90) rfl, g2.arr (o := 91) rfl, g2.arr (o := 92) rfl, g2.arr (o := 93) rfl, g2.arr (o := 95) rfl, g2.arr (o := 96) rfl, (h89 f hf8 z).1, (h89 f hf8 z).2]
              exact q
        have same : tw_of h1 m j ((zs_fo S j).map (zo_tick t)) → gm_G 273 97 [some (.ref m), none, some (.int (Int32.ofNat j))] [] h1 (rI (Int32.ofNat t) fun h' => rT h' m (zs_fl (zs_A_ S (za_clock_ (zs_A S) t)) (fun f => (zs_fo S f).map (zo_tick t)))) := fun z => nx h1 (fr.refl _ _) (fun _ _ _ => ⟨rfl, rfl⟩) z
        refine w_273_43 (R0.1.fr g) ?_
        cases ho : zs_fo S j with
        | none =>
          rw [ho] at hj same
          have hj' : hh_i h1 (m + 88) j = (Int32.ofNat 0) := hj
          simp (disch := omega) only [forall_eq, exists_eq_left, exists_eq_left', Option.some.injEq, ex_ix, i_add, i_mul, i_sub, i_lt, i_le, i_eq, i_tn, hi_e, hi_n, hj_e, hj_n, hi_wj, hj_wi, hr_wi, hr_wj, ht_wi, ht_wj, hl_wi, hl_wj, hz_wi, hz_wj, hs_wi, hs_wj, hi_wr, hj_wr, hr_e, hr_n, ht_wr, hl_wr, hz_wr, hs_wr, n_lt_t, n_lt_f, n_le_t, n_le_f, n_eq_t, n_eq_f, true_and, and_true, false_and, and_false, true_or, or_true, false_or, or_false, not_true_eq_false, not_false_eq_true, forall_const, implies_true, true_imp_iff, false_imp_iff, gs_t, reduceIte, ite_true, ite_false, hj']
          exact same hj
        | some o =>
          rw [ho] at hj same nx
          obtain ⟨o1, o2, o3, o4, o5, o6, o7, o8, o9, o10, o11, o12, o13, o14⟩ := id hj
          simp (disch := omega) only [forall_eq, exists_eq_left, exists_eq_left', Option.some.injEq, ex_ix, i_add, i_mul, i_sub, i_lt, i_le, i_eq, i_tn, hi_e, hi_n, hj_e, hj_n, hi_wj, hj_wi, hr_wi, hr_wj, ht_wi, ht_wj, hl_wi, hl_wj, hz_wi, hz_wj, hs_wi, hs_wj, hi_wr, hj_wr, hr_e, hr_n, ht_wr, hl_wr, hz_wr, hs_wr, n_lt_t, n_lt_f, n_le_t, n_le_f, n_eq_t, n_eq_f, true_and, and_true, false_and, and_false, true_or, or_true, false_or, or_false, not_true_eq_false, not_false_eq_true, forall_const, implies_true, true_imp_iff, false_imp_iff, gs_t, reduceIte, ite_true, ite_false, o1]
          cases hr : zo_rec o with
          | none =>
            have hs : tw_of h1 m j (Option.map (zo_tick t) (some o)) := by
              show tw_of h1 m j (some (zo_tick t o))
              unfold zo_tick
              rw [hr]
              exact hj
            rw [hr] at o12
            have o12' : hh_i h1 (m + 89) j = (Int32.ofNat 0) := o12
            by_cases z : 0 < zo_lease o
            · simp (disch := omega) only [forall_eq, exists_eq_left, exists_eq_left', Option.some.injEq, ex_ix, i_add, i_mul, i_sub, i_lt, i_le, i_eq, i_tn, hi_e, hi_n, hj_e, hj_n, hi_wj, hj_wi, hr_wi, hr_wj, ht_wi, ht_wj, hl_wi, hl_wj, hz_wi, hz_wj, hs_wi, hs_wj, hi_wr, hj_wr, hr_e, hr_n, ht_wr, hl_wr, hz_wr, hs_wr, n_lt_t, n_lt_f, n_le_t, n_le_f, n_eq_t, n_eq_f, true_and, and_true, false_and, and_false, true_or, or_true, false_or, or_false, not_true_eq_false, not_false_eq_true, forall_const, implies_true, true_imp_iff, false_imp_iff, gs_t, reduceIte, ite_true, ite_false, o10, o12']
              exact same hs
            · simp (disch := omega) only [forall_eq, exists_eq_left, exists_eq_left', Option.some.injEq, ex_ix, i_add, i_mul, i_sub, i_lt, i_le, i_eq, i_tn, hi_e, hi_n, hj_e, hj_n, hi_wj, hj_wi, hr_wi, hr_wj, ht_wi, ht_wj, hl_wi, hl_wj, hz_wi, hz_wj, hs_wi, hs_wj, hi_wr, hj_wr, hr_e, hr_n, ht_wr, hl_wr, hz_wr, hs_wr, n_lt_t, n_lt_f, n_le_t, n_le_f, n_eq_t, n_eq_f, true_and, and_true, false_and, and_false, true_or, or_true, false_or, or_false, not_true_eq_false, not_false_eq_true, forall_const, implies_true, true_imp_iff, false_imp_iff, gs_t, reduceIte, ite_true, ite_false, o10]
              exact same hs
          | some rr =>
            rw [hr] at o12
            have o12' : hh_i h1 (m + 89) j = (Int32.ofNat 1) := o12
            obtain ⟨p1, p2, p3⟩ := o13 rr hr
            by_cases z : rr + 10 ≤ t
            · have zl : ¬ (Int32.ofNat t) - (Int32.ofNat rr) < (Int32.ofNat 10) := by simp (disch := omega) only [forall_eq, exists_eq_left, exists_eq_left', Option.some.injEq, ex_ix, i_add, i_mul, i_sub, i_lt, i_le, i_eq, i_tn, hi_e, hi_n, hj_e, hj_n, hi_wj, hj_wi, hr_wi, hr_wj, ht_wi, ht_wj, hl_wi, hl_wj, hz_wi, hz_wj, hs_wi, hs_wj, hi_wr, hj_wr, hr_e, hr_n, ht_wr, hl_wr, hz_wr, hs_wr, n_lt_t, n_lt_f, n_le_t, n_le_f, n_eq_t, n_eq_f, true_and, and_true, false_and, and_false, true_or, or_true, false_or, or_false, not_true_eq_false, not_false_eq_true, forall_const, implies_true, true_imp_iff, false_imp_iff, gs_t, reduceIte, ite_true, ite_false]
              simp (disch := omega) only [forall_eq, exists_eq_left, exists_eq_left', Option.some.injEq, ex_ix, i_add, i_mul, i_sub, i_lt, i_le, i_eq, i_tn, hi_e, hi_n, hj_e, hj_n, hi_wj, hj_wi, hr_wi, hr_wj, ht_wi, ht_wj, hl_wi, hl_wj, hz_wi, hz_wj, hs_wi, hs_wj, hi_wr, hj_wr, hr_e, hr_n, ht_wr, hl_wr, hz_wr, hs_wr, n_lt_t, n_lt_f, n_le_t, n_le_f, n_eq_t, n_eq_f, true_and, and_true, false_and, and_false, true_or, or_true, false_or, or_false, not_true_eq_false, not_false_eq_true, forall_const, implies_true, true_imp_iff, false_imp_iff, gs_t, reduceIte, ite_true, ite_false, o10, o12', p1, g.fld (f := 4) rfl, e4]
              refine t_endLease (R0.1.fr g) (by omega) (fun h2 e2 => ?_)
              subst e2
              refine nx _ ((fr.a rfl).trans (fr.a rfl)) (fun f hf8 y => ⟨by simp (disch := omega) only [forall_eq, exists_eq_left, exists_eq_left', Option.some.injEq, ex_ix, i_add, i_mul, i_sub, i_lt, i_le, i_eq, i_tn, hi_e, hi_n, hj_e, hj_n, hi_wj, hj_wi, hr_wi, hr_wj, ht_wi, ht_wj, hl_wi, hl_wj, hz_wi, hz_wj, hs_wi, hs_wj, hi_wr, hj_wr, hr_e, hr_n, ht_wr, hl_wr, hz_wr, hs_wr, n_lt_t, n_lt_f, n_le_t, n_le_f, n_eq_t, n_eq_f, true_and, and_true, false_and, and_false, true_or, or_true, false_or, or_false, not_true_eq_false, not_false_eq_true, forall_const, implies_true, true_imp_iff, false_imp_iff, gs_t, reduceIte, ite_true, ite_false], by simp (disch := omega) only [forall_eq, exists_eq_left, exists_eq_left', Option.some.injEq, ex_ix, i_add, i_mul, i_sub, i_lt, i_le, i_eq, i_tn, hi_e, hi_n, hj_e, hj_n, hi_wj, hj_wi, hr_wi, hr_wj, ht_wi, ht_wj, hl_wi, hl_wj, hz_wi, hz_wj, hs_wi, hs_wj, hi_wr, hj_wr, hr_e, hr_n, ht_wr, hl_wr, hz_wr, hs_wr, n_lt_t, n_lt_f, n_le_t, n_le_f, n_eq_t, n_eq_f, true_and, and_true, false_and, and_false, true_or, or_true, false_or, or_false, not_true_eq_false, not_false_eq_true, forall_const, implies_true, true_imp_iff, false_imp_iff, gs_t, reduceIte, ite_true, ite_false]⟩) ?_
              show tw_of _ m j (some (zo_tick t o))
              unfold zo_tick
              rw [hr]
              simp only [if_pos z]
              unfold tw_of
              simp (disch := omega) only [forall_eq, exists_eq_left, exists_eq_left', Option.some.injEq, ex_ix, i_add, i_mul, i_sub, i_lt, i_le, i_eq, i_tn, hi_e, hi_n, hj_e, hj_n, hi_wj, hj_wi, hr_wi, hr_wj, ht_wi, ht_wj, hl_wi, hl_wj, hz_wi, hz_wj, hs_wi, hs_wj, hi_wr, hj_wr, hr_e, hr_n, ht_wr, hl_wr, hz_wr, hs_wr, n_lt_t, n_lt_f, n_le_t, n_le_f, n_eq_t, n_eq_f, true_and, and_true, false_and, and_false, true_or, or_true, false_or, or_false, not_true_eq_false, not_false_eq_true, forall_const, implies_true, true_imp_iff, false_imp_iff, gs_t, reduceIte, ite_true, ite_false]
              exact ⟨o1, o2, o3, o4, o5, o6, o7, o8, o9, rfl, Nat.zero_le 2, rfl, (fun r (hr : (none : Option Nat) = some r) => nomatch hr), o14⟩
            · have hs : tw_of h1 m j (Option.map (zo_tick t) (some o)) := by
                show tw_of h1 m j (some (zo_tick t o))
                unfold zo_tick
                rw [hr]
                simp only [if_neg z]
                exact hj
              have e : (Int32.ofNat t) - (Int32.ofNat rr) < (Int32.ofNat 10) := by
                by_cases y : rr ≤ t
                · simp (disch := omega) only [forall_eq, exists_eq_left, exists_eq_left', Option.some.injEq, ex_ix, i_add, i_mul, i_sub, i_lt, i_le, i_eq, i_tn, hi_e, hi_n, hj_e, hj_n, hi_wj, hj_wi, hr_wi, hr_wj, ht_wi, ht_wj, hl_wi, hl_wj, hz_wi, hz_wj, hs_wi, hs_wj, hi_wr, hj_wr, hr_e, hr_n, ht_wr, hl_wr, hz_wr, hs_wr, n_lt_t, n_lt_f, n_le_t, n_le_f, n_eq_t, n_eq_f, true_and, and_true, false_and, and_false, true_or, or_true, false_or, or_false, not_true_eq_false, not_false_eq_true, forall_const, implies_true, true_imp_iff, false_imp_iff, gs_t, reduceIte, ite_true, ite_false]
                · rw [Int32.lt_iff_toInt_lt, i_sb _ _ (by omega) p2, Int32.toInt_ofNat_of_lt (by omega)]; omega
              simp (disch := omega) only [forall_eq, exists_eq_left, exists_eq_left', Option.some.injEq, ex_ix, i_add, i_mul, i_sub, i_lt, i_le, i_eq, i_tn, hi_e, hi_n, hj_e, hj_n, hi_wj, hj_wi, hr_wi, hr_wj, ht_wi, ht_wj, hl_wi, hl_wj, hz_wi, hz_wj, hs_wi, hs_wj, hi_wr, hj_wr, hr_e, hr_n, ht_wr, hl_wr, hz_wr, hs_wr, n_lt_t, n_lt_f, n_le_t, n_le_f, n_eq_t, n_eq_f, true_and, and_true, false_and, and_false, true_or, or_true, false_or, or_false, not_true_eq_false, not_false_eq_true, forall_const, implies_true, true_imp_iff, false_imp_iff, gs_t, reduceIte, ite_true, ite_false, o10, o12', p1, g.fld (f := 4) rfl, e4, e]
              exact same hs
    refine lp 8 0 h0 rfl (fr.refl _ _) (fun f hf => ?_)
    rw [if_neg (by omega)]
    exact R0.2.2.2.2.2.2.2.1.1 f hf
  by_cases z : 2000000000 < za_clock (zs_A S) + k
  · simp (disch := omega) only [forall_eq, exists_eq_left, exists_eq_left', Option.some.injEq, ex_ix, i_add, i_mul, i_sub, i_lt, i_le, i_eq, i_tn, hi_e, hi_n, hj_e, hj_n, hi_wj, hj_wi, hr_wi, hr_wj, ht_wi, ht_wj, hl_wi, hl_wj, hz_wi, hz_wj, hs_wi, hs_wj, hi_wr, hj_wr, hr_e, hr_n, ht_wr, hl_wr, hz_wr, hs_wr, n_lt_t, n_lt_f, n_le_t, n_le_f, n_eq_t, n_eq_f, true_and, and_true, false_and, and_false, true_or, or_true, false_or, or_false, not_true_eq_false, not_false_eq_true, forall_const, implies_true, true_imp_iff, false_imp_iff, gs_t, reduceIte, ite_true, ite_false, r7]
    rw [Nat.min_eq_left (by omega)]
    exact key 2000000000 (by omega)
  · simp (disch := omega) only [forall_eq, exists_eq_left, exists_eq_left', Option.some.injEq, ex_ix, i_add, i_mul, i_sub, i_lt, i_le, i_eq, i_tn, hi_e, hi_n, hj_e, hj_n, hi_wj, hj_wi, hr_wi, hr_wj, ht_wi, ht_wj, hl_wi, hl_wj, hz_wi, hz_wj, hs_wi, hs_wj, hi_wr, hj_wr, hr_e, hr_n, ht_wr, hl_wr, hz_wr, hs_wr, n_lt_t, n_lt_f, n_le_t, n_le_f, n_eq_t, n_eq_f, true_and, and_true, false_and, and_false, true_or, or_true, false_or, or_false, not_true_eq_false, not_false_eq_true, forall_const, implies_true, true_imp_iff, false_imp_iff, gs_t, reduceIte, ite_true, ite_false, r7]
    rw [Nat.min_eq_right (by omega)]
    exact key _ (by omega)
end TT
