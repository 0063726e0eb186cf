/-! STAGE 3, 7: loops that fill; the twin goes down -/
/-- a loop that fills n places of an array from b on -/
theorem lp_fill {k pc m o b n : Nat} {h : hh_T} {Q : Option Value ⊕ Nat → hh_T → Prop} (L : Nat → gm_L) (v : Nat → Int32) (ho : ¬ o = 0) (step : ∀ i h1, i < n → fr (tO m [o] []) h h1 → (∀ j, hh_i h1 (m + o) j = if b ≤ j ∧ j < b + i then v (j - b) else hh_i h (m + o) j) → gm_G k pc (L (i + 1)) [] (hh_wi h1 (m + o) (b + i) (v i)) Q → gm_G k pc (L i) [] h1 Q)
    (fin : ∀ h', fr (tO m [o] []) h h' → (∀ j, hh_i h' (m + o) j = if b ≤ j ∧ j < b + n then v (j - b) else hh_i h (m + o) j) → gm_G k pc (L n) [] h' Q) : gm_G k pc (L 0) [] h Q := by
  have lp : ∀ e i h1, i + e = n → fr (tO m [o] []) h h1 → (∀ j, hh_i h1 (m + o) j = if b ≤ j ∧ j < b + i then v (j - b) else hh_i h (m + o) j) → gm_G k pc (L i) [] h1 Q := by
    intro e
    induction e with
    | zero =>
      intro i h1 ei g hv
      have ei : i = n := by omega
      subst ei
      exact fin h1 g hv
    | succ e ih =>
      intro i h1 ei g hv
      refine step i h1 (by omega) g hv (ih (i + 1) _ (by omega) (g.trans (fr.wi (tO.a (by simp) ho))) (fun j => ?_))
      by_cases z : j = b + i
      · rw [hi_e ⟨rfl, z⟩, if_pos (by omega), z, show b + i - b = i by omega]
      · rw [hi_n (by omega), hv j]
        by_cases y : b ≤ j ∧ j < b + i
        · rw [if_pos y, if_pos (by omega)]
        · rw [if_neg y, if_neg (by omega)]
  exact lp n 0 h (by omega) (fr.refl _ _) (fun j => by rw [if_neg (by omega)])
section TF
variable {h : hh_T} {m : Nat} {Q : Option Value ⊕ Nat → hh_T → Prop} {P : zP}
theorem t_fails (hT : tw_ok h m) (R : rT_P h m P) (H : Q (.inl (some (.int (bi (decide (zp_arm P = some 0)))))) h) : gm_G 108 0 [some (.ref m)] [] h Q := by
  obtain ⟨-, -, -, -, r5, r6, -⟩ := R
  refine w_108_0 hT ?_
  cases e : zp_arm P with
  | none =>
    rw [e] at r5 H
    have r5 : hh_i h m 15 = Int32.ofInt (-1) := r5
    have : ¬ Int32.ofInt (-1) = (Int32.ofNat 0) := by decide
    simp (disch := omega) only [forall_eq, exists_eq_left, exists_eq_left', Option.some.injEq, ex_ix, i_add, i_mul, i_sub, i_lt, i_le, i_eq, i_tn, hi_e, hi_n, hj_e, hj_n, hi_wj, hj_wi, hr_wi, hr_wj, ht_wi, ht_wj, hl_wi, hl_wj, hz_wi, hz_wj, hs_wi, hs_wj, hi_wr, hj_wr, hr_e, hr_n, ht_wr, hl_wr, hz_wr, hs_wr, n_lt_t, n_lt_f, n_le_t, n_le_f, n_eq_t, n_eq_f, true_and, and_true, false_and, and_false, true_or, or_true, false_or, or_false, not_true_eq_false, not_false_eq_true, forall_const, implies_true, true_imp_iff, false_imp_iff, gs_t, reduceIte, ite_true, ite_false, r5, this]
    exact H
  | some n =>
    rw [e] at r5 H
    have r5 : hh_i h m 15 = (Int32.ofNat n) := r5
    have := r6 n e
    by_cases z : n = 0
    · subst z
      simp (disch := omega) only [forall_eq, exists_eq_left, exists_eq_left', Option.some.injEq, ex_ix, i_add, i_mul, i_sub, i_lt, i_le, i_eq, i_tn, hi_e, hi_n, hj_e, hj_n, hi_wj, hj_wi, hr_wi, hr_wj, ht_wi, ht_wj, hl_wi, hl_wj, hz_wi, hz_wj, hs_wi, hs_wj, hi_wr, hj_wr, hr_e, hr_n, ht_wr, hl_wr, hz_wr, hs_wr, n_lt_t, n_lt_f, n_le_t, n_le_f, n_eq_t, n_eq_f, true_and, and_true, false_and, and_false, true_or, or_true, false_or, or_false, not_true_eq_false, not_false_eq_true, forall_const, implies_true, true_imp_iff, false_imp_iff, gs_t, reduceIte, ite_true, ite_false, r5]
      exact (by simpa using H : Q (.inl (some (.int (bi true)))) h)
    · simp (disch := omega) only [forall_eq, exists_eq_left, exists_eq_left', Option.some.injEq, ex_ix, i_add, i_mul, i_sub, i_lt, i_le, i_eq, i_tn, hi_e, hi_n, hj_e, hj_n, hi_wj, hj_wi, hr_wi, hr_wj, ht_wi, ht_wj, hl_wi, hl_wj, hz_wi, hz_wj, hs_wi, hs_wj, hi_wr, hj_wr, hr_e, hr_n, ht_wr, hl_wr, hz_wr, hs_wr, n_lt_t, n_lt_f, n_le_t, n_le_f, n_eq_t, n_eq_f, true_and, and_true, false_and, and_false, true_or, or_true, false_or, or_false, not_true_eq_false, not_false_eq_true, forall_const, implies_true, true_imp_iff, false_imp_iff, gs_t, reduceIte, ite_true, ite_false, r5]
      simpa [z, bi] using H
/-- one more least write -/
theorem t_wrote (hT : tw_ok h m) (R : rT_P h m P) (hz : ¬ zp_arm P = some 0) (H : ∀ h', fr (tO m [] [15, 17]) h h' → rT_P h' m (zp_wrote P) → Q (.inl none) h') : gm_G 165 0 [some (.ref m)] [] h Q := by
  obtain ⟨r1, r2, r3, r4, r5, r6, r7, r8, r9, r10⟩ := R
  refine w_165_0 hT ?_
  have key : ∀ h1, fr (tO m [] [15]) h h1 → hh_i h1 m 15 = oi (Int32.ofInt (-1)) ((zp_arm P).map (fun n => n - 1)) → gm_G 165 17 [some (.ref m)] [] h1 Q := by
    intro h1 g e
    refine w_165_17 (hT.fr g) ?_
    simp (disch := omega) only [forall_eq, exists_eq_left, exists_eq_left', Option.some.injEq, ex_ix, i_add, i_mul, i_sub, i_lt, i_le, i_eq, i_tn, hi_e, hi_n, hj_e, hj_n, hi_wj, hj_wi, hr_wi, hr_wj, ht_wi, ht_wj, hl_wi, hl_wj, hz_wi, hz_wj, hs_wi, hs_wj, hi_wr, hj_wr, hr_e, hr_n, ht_wr, hl_wr, hz_wr, hs_wr, n_lt_t, n_lt_f, n_le_t, n_le_f, n_eq_t, n_eq_f, true_and, and_true, false_and, and_false, true_or, or_true, false_or, or_false, not_true_eq_false, not_false_eq_true, forall_const, implies_true, true_imp_iff, false_imp_iff, gs_t, reduceIte, ite_true, ite_false, g.fld (f := 17) rfl, r9]
    have g2 : fr (tO m [] [15, 17]) h (hh_wi h1 m 17 (zp_writes P + (Int32.ofNat 1))) := (g.up rfl rfl).trans (fr.f rfl)
    refine H _ g2 ?_
    unfold rT_P
    simp only [g2.arr (o := 4) rfl, g2.arr (o := 6) rfl, g2.arr (o := 7) rfl, g2.arr (o := 8) rfl, g2.arr (o := 9) rfl, g2.arr (o := 10) rfl, g2.fld (f := 7) rfl, g2.fld (f := 16) rfl, g2.fld (f := 18) rfl]
    refine ⟨r1, r2, r3, r4, ?_, fun n hn => ?_, r7, r8, hi_e ⟨rfl, rfl⟩, r10⟩
    · simp (disch := omega) only [forall_eq, exists_eq_left, exists_eq_left', Option.some.injEq, ex_ix, i_add, i_mul, i_sub, i_lt, i_le, i_eq, i_tn, hi_e, hi_n, hj_e, hj_n, hi_wj, hj_wi, hr_wi, hr_wj, ht_wi, ht_wj, hl_wi, hl_wj, hz_wi, hz_wj, hs_wi, hs_wj, hi_wr, hj_wr, hr_e, hr_n, ht_wr, hl_wr, hz_wr, hs_wr, n_lt_t, n_lt_f, n_le_t, n_le_f, n_eq_t, n_eq_f, true_and, and_true, false_and, and_false, true_or, or_true, false_or, or_false, not_true_eq_false, not_false_eq_true, forall_const, implies_true, true_imp_iff, false_imp_iff, gs_t, reduceIte, ite_true, ite_false]
      exact e
    · have hn' : (zp_arm P).map (fun n => n - 1) = some n := hn
      cases q : zp_arm P with
      | none => rw [q] at hn'; cases hn'
      | some k =>
        rw [q] at hn'
        have := r6 k q
        cases hn'
        show k - 1 ≤ 4000
        omega
  cases e : zp_arm P with
  | none =>
    rw [e] at r5
    have r5 : hh_i h m 15 = Int32.ofInt (-1) := r5
    have : ¬ (Int32.ofNat 0) < Int32.ofInt (-1) := by decide
    simp (disch := omega) only [forall_eq, exists_eq_left, exists_eq_left', Option.some.injEq, ex_ix, i_add, i_mul, i_sub, i_lt, i_le, i_eq, i_tn, hi_e, hi_n, hj_e, hj_n, hi_wj, hj_wi, hr_wi, hr_wj, ht_wi, ht_wj, hl_wi, hl_wj, hz_wi, hz_wj, hs_wi, hs_wj, hi_wr, hj_wr, hr_e, hr_n, ht_wr, hl_wr, hz_wr, hs_wr, n_lt_t, n_lt_f, n_le_t, n_le_f, n_eq_t, n_eq_f, true_and, and_true, false_and, and_false, true_or, or_true, false_or, or_false, not_true_eq_false, not_false_eq_true, forall_const, implies_true, true_imp_iff, false_imp_iff, gs_t, reduceIte, ite_true, ite_false, r5, this]
    refine key h (fr.refl _ _) ?_
    rw [e]
    exact r5
  | some n =>
    rw [e] at r5
    have r5 : hh_i h m 15 = (Int32.ofNat n) := r5
    have := r6 n e
    have hn : 0 < n := by
      cases n with
      | zero => exact absurd e hz
      | succ n => omega
    simp (disch := omega) only [forall_eq, exists_eq_left, exists_eq_left', Option.some.injEq, ex_ix, i_add, i_mul, i_sub, i_lt, i_le, i_eq, i_tn, hi_e, hi_n, hj_e, hj_n, hi_wj, hj_wi, hr_wi, hr_wj, ht_wi, ht_wj, hl_wi, hl_wj, hz_wi, hz_wj, hs_wi, hs_wj, hi_wr, hj_wr, hr_e, hr_n, ht_wr, hl_wr, hz_wr, hs_wr, n_lt_t, n_lt_f, n_le_t, n_le_f, n_eq_t, n_eq_f, true_and, and_true, false_and, and_false, true_or, or_true, false_or, or_false, not_true_eq_false, not_false_eq_true, forall_const, implies_true, true_imp_iff, false_imp_iff, gs_t, reduceIte, ite_true, ite_false, r5]
    refine key _ (fr.f rfl) ?_
    rw [e, hi_e ⟨rfl, rfl⟩]
    rfl
def fl (m : Nat) (h : hh_T) (a b c d e f : Nat) (h1 : hh_T) : Prop := (∀ j, j < a → hh_i h1 (m + 80) j = hh_i h (m + 81) j) ∧ (∀ j, j < b → hh_i h1 (m + 88) j = (Int32.ofNat 0)) ∧ (∀ j, j < c → hh_i h1 (m + 97) j = (Int32.ofNat 0)) ∧ (∀ j, j < d → hh_i h1 (m + 117) j = Int32.ofInt (-1)) ∧ (∀ j, j < e → hh_i h1 (m + 116) j = (Int32.ofNat 0)) ∧ (∀ j, j < f → hh_i h1 (m + 33) j = (Int32.ofNat 0))
/-- what going down leaves -/
theorem t_falls (hT : tw_ok h m) (H : ∀ h', fr (tO m [33, 80, 88, 94, 97, 116, 117] [15, 41, 46, 77, 110, 112]) h h' → hh_i h' m 77 = (Int32.ofNat 0) → hh_i h' m 15 = Int32.ofInt (-1) → hh_i h' m 112 = (Int32.ofNat 0) → hh_i h' m 110 = (Int32.ofNat 0) → hh_i h' m 46 = (Int32.ofNat 0) → (∀ i, i < 8 → hh_i h' (m + 80) i = hh_i h (m + 81) i) → (∀ i, i < 8 → hh_i h' (m + 88) i = (Int32.ofNat 0)) → (∀ i, i < 4 → hh_i h' (m + 97) i = (Int32.ofNat 0)) → (∀ i, i < 4 → hh_i h' (m + 117) i = Int32.ofInt (-1)) → (∀ i, i < 32 → hh_i h' (m + 116) i = (Int32.ofNat 0)) → (∀ i, i < 4 → hh_i h' (m + 33) i = (Int32.ofNat 0)) → Q (.inl none) h') : gm_G 109 0 [some (.ref m)] [] h Q := by
  refine w_109_0 hT ?_
  simp (disch := omega) only [forall_eq, exists_eq_left, exists_eq_left', Option.some.injEq, ex_ix, i_add, i_mul, i_sub, i_lt, i_le, i_eq, i_tn, hi_e, hi_n, hj_e, hj_n, hi_wj, hj_wi, hr_wi, hr_wj, ht_wi, ht_wj, hl_wi, hl_wj, hz_wi, hz_wj, hs_wi, hs_wj, hi_wr, hj_wr, hr_e, hr_n, ht_wr, hl_wr, hz_wr, hs_wr, n_lt_t, n_lt_f, n_le_t, n_le_f, n_eq_t, n_eq_f, true_and, and_true, false_and, and_false, true_or, or_true, false_or, or_false, not_true_eq_false, not_false_eq_true, forall_const, implies_true, true_imp_iff, false_imp_iff, gs_t, reduceIte, ite_true, ite_false]
  have l137 : ∀ e i h1, i + e = 4 → fr (tO m [33, 80, 88, 94, 97, 116, 117] [15, 41, 46, 77, 110, 112]) h h1 → hh_i h1 m 77 = (Int32.ofNat 0) → hh_i h1 m 15 = Int32.ofInt (-1) → hh_i h1 m 112 = (Int32.ofNat 0) → hh_i h1 m 110 = (Int32.ofNat 0) → fl m h 8 8 4 4 32 i h1 → gm_G 109 137 [some (.ref m), some (.int (Int32.ofNat i))] [] h1 Q := by
    intro e
    induction e with
    | zero =>
      intro i h1 ei g e77 e15 e112 e110 F
      have ei : i = 4 := by omega
      subst ei
      refine w_109_137 (hT.fr g) ?_
      simp (disch := omega) only [forall_eq, exists_eq_left, exists_eq_left', Option.some.injEq, ex_ix, i_add, i_mul, i_sub, i_lt, i_le, i_eq, i_tn, hi_e, hi_n, hj_e, hj_n, hi_wj, hj_wi, hr_wi, hr_wj, ht_wi, ht_wj, hl_wi, hl_wj, hz_wi, hz_wj, hs_wi, hs_wj, hi_wr, hj_wr, hr_e, hr_n, ht_wr, hl_wr, hz_wr, hs_wr, n_lt_t, n_lt_f, n_le_t, n_le_f, n_eq_t, n_eq_f, true_and, and_true, false_and, and_false, true_or, or_true, false_or, or_false, not_true_eq_false, not_false_eq_true, forall_const, implies_true, true_imp_iff, false_imp_iff, gs_t, reduceIte, ite_true, ite_false]
      obtain ⟨F1, F2, F3, F4, F5, F6⟩ := F
      refine H _ (g.trans ((fr.f rfl).trans (fr.f rfl))) ?_ ?_ ?_ ?_ ?_ ?_ ?_ ?_ ?_ ?_ ?_
      all_goals simp (disch := omega) only [forall_eq, exists_eq_left, exists_eq_left', Option.some.injEq, ex_ix, i_add, i_mul, i_sub, i_lt, i_le, i_eq, i_tn, hi_e, hi_n, hj_e, hj_n, hi_wj, hj_wi, hr_wi, hr_wj, ht_wi, ht_wj, hl_wi, hl_wj, hz_wi, hz_wj, hs_wi, hs_wj, hi_wr, hj_wr, hr_e, hr_n, ht_wr, hl_wr, hz_wr, hs_wr, n_lt_t, n_lt_f, n_le_t, n_le_f, n_eq_t, n_eq_f, true_and, and_true, false_and, and_false, true_or, or_true, false_or, or_false, not_true_eq_false, not_false_eq_true, forall_const, implies_true, true_imp_iff, false_imp_iff, gs_t, reduceIte, ite_true, ite_false]
      all_goals assumption
    | succ e ih =>
      intro i h1 ei g e77 e15 e112 e110 F
      refine w_109_137 (hT.fr g) ?_
      simp (disch := omega) only [forall_eq, exists_eq_left, exists_eq_left', Option.some.injEq, ex_ix, i_add, i_mul, i_sub, i_lt, i_le, i_eq, i_tn, hi_e, hi_n, hj_e, hj_n, hi_wj, hj_wi, hr_wi, hr_wj, ht_wi, ht_wj, hl_wi, hl_wj, hz_wi, hz_wj, hs_wi, hs_wj, hi_wr, hj_wr, hr_e, hr_n, ht_wr, hl_wr, hz_wr, hs_wr, n_lt_t, n_lt_f, n_le_t, n_le_f, n_eq_t, n_eq_f, true_and, and_true, false_and, and_false, true_or, or_true, false_or, or_false, not_true_eq_false, not_false_eq_true, forall_const, implies_true, true_imp_iff, false_imp_iff, gs_t, reduceIte, ite_true, ite_false]
      obtain ⟨F1, F2, F3, F4, F5, F6⟩ := F
      refine ih (i + 1) _ (by omega) (g.trans (fr.a rfl)) (by simp (disch := omega) only [forall_eq, exists_eq_left, exists_eq_left', Option.some.injEq, ex_ix, i_add, i_mul, i_sub, i_lt, i_le, i_eq, i_tn, hi_e, hi_n, hj_e, hj_n, hi_wj, hj_wi, hr_wi, hr_wj, ht_wi, ht_wj, hl_wi, hl_wj, hz_wi, hz_wj, hs_wi, hs_wj, hi_wr, hj_wr, hr_e, hr_n, ht_wr, hl_wr, hz_wr, hs_wr, n_lt_t, n_lt_f, n_le_t, n_le_f, n_eq_t, n_eq_f, true_and, and_true, false_and, and_false, true_or, or_true, false_or, or_false, not_true_eq_false, not_false_eq_true, forall_const, implies_true, true_imp_iff, false_imp_iff, gs_t, reduceIte, ite_true, ite_false]; exact e77) (by simp (disch := omega) only [forall_eq, exists_eq_left, exists_eq_left', Option.some.injEq, ex_ix, i_add, i_mul, i_sub, i_lt, i_le, i_eq, i_tn, hi_e, hi_n, hj_e, hj_n, hi_wj, hj_wi, hr_wi, hr_wj, ht_wi, ht_wj, hl_wi, hl_wj, hz_wi, hz_wj, hs_wi, hs_wj, hi_wr, hj_wr, hr_e, hr_n, ht_wr, hl_wr, hz_wr, hs_wr, n_lt_t, n_lt_f, n_le_t, n_le_f, n_eq_t, n_eq_f, true_and, and_true, false_and, and_false, true_or, or_true, false_or, or_false, not_true_eq_false, not_false_eq_true, forall_const, implies_true, true_imp_iff, false_imp_iff, gs_t, reduceIte, ite_true, ite_false]; exact e15) (by simp (disch := omega) only [forall_eq, exists_eq_left, exists_eq_left', Option.some.injEq, ex_ix, i_add, i_mul, i_sub, i_lt, i_le, i_eq, i_tn, hi_e, hi_n, hj_e, hj_n, hi_wj, hj_wi, hr_wi, hr_wj, ht_wi, ht_wj, hl_wi, hl_wj, hz_wi, hz_wj, hs_wi, hs_wj, hi_wr, hj_wr, hr_e, hr_n, ht_wr, hl_wr, hz_wr, hs_wr, n_lt_t, n_lt_f, n_le_t, n_le_f, n_eq_t, n_eq_f, true_and, and_true, false_and, and_false, true_or, or_true, false_or, or_false, not_true_eq_false, not_false_eq_true, forall_const, implies_true, true_imp_iff, false_imp_iff, gs_t, reduceIte, ite_true, ite_false]; exact e112) (by simp (disch := omega) only [forall_eq, exists_eq_left, exists_eq_left', Option.some.injEq, ex_ix, i_add, i_mul, i_sub, i_lt, i_le, i_eq, i_tn, hi_e, hi_n, hj_e, hj_n, hi_wj, hj_wi, hr_wi, hr_wj, ht_wi, ht_wj, hl_wi, hl_wj, hz_wi, hz_wj, hs_wi, hs_wj, hi_wr, hj_wr, hr_e, hr_n, ht_wr, hl_wr, hz_wr, hs_wr, n_lt_t, n_lt_f, n_le_t, n_le_f, n_eq_t, n_eq_f, true_and, and_true, false_and, and_false, true_or, or_true, false_or, or_false, not_true_eq_false, not_false_eq_true, forall_const, implies_true, true_imp_iff, false_imp_iff, gs_t, reduceIte, ite_true, ite_false]; exact e110) ⟨?_, ?_, ?_, ?_, ?_, ?_⟩
      · intro j hj; rw [hi_n (by omega)]; exact F1 j hj
      · intro j hj; rw [hi_n (by omega)]; exact F2 j hj
      · intro j hj; rw [hi_n (by omega)]; exact F3 j hj
      · intro j hj; rw [hi_n (by omega)]; exact F4 j hj
      · intro j hj; rw [hi_n (by omega)]; exact F5 j hj
      · intro j hj
        by_cases z : j = i
        · subst z; rw [hi_e ⟨rfl, rfl⟩]
        · rw [hi_n (by omega)]; exact F6 j (by omega)
  have l116 : ∀ e i h1, i + e = 32 → fr (tO m [33, 80, 88, 94, 97, 116, 117] [15, 41, 46, 77, 110, 112]) h h1 → hh_i h1 m 77 = (Int32.ofNat 0) → hh_i h1 m 15 = Int32.ofInt (-1) → hh_i h1 m 112 = (Int32.ofNat 0) → hh_i h1 m 110 = (Int32.ofNat 0) → fl m h 8 8 4 4 i 0 h1 → gm_G 109 116 [some (.ref m), some (.int (Int32.ofNat i))] [] h1 Q := by
    intro e
    induction e with
    | zero =>
      intro i h1 ei g e77 e15 e112 e110 F
      have ei : i = 32 := by omega
      subst ei
      refine w_109_116 (hT.fr g) ?_
      simp (disch := omega) only [forall_eq, exists_eq_left, exists_eq_left', Option.some.injEq, ex_ix, i_add, i_mul, i_sub, i_lt, i_le, i_eq, i_tn, hi_e, hi_n, hj_e, hj_n, hi_wj, hj_wi, hr_wi, hr_wj, ht_wi, ht_wj, hl_wi, hl_wj, hz_wi, hz_wj, hs_wi, hs_wj, hi_wr, hj_wr, hr_e, hr_n, ht_wr, hl_wr, hz_wr, hs_wr, n_lt_t, n_lt_f, n_le_t, n_le_f, n_eq_t, n_eq_f, true_and, and_true, false_and, and_false, true_or, or_true, false_or, or_false, not_true_eq_false, not_false_eq_true, forall_const, implies_true, true_imp_iff, false_imp_iff, gs_t, reduceIte, ite_true, ite_false]
      exact l137 4 0 h1 rfl g e77 e15 e112 e110 F
    | succ e ih =>
      intro i h1 ei g e77 e15 e112 e110 F
      refine w_109_116 (hT.fr g) ?_
      simp (disch := omega) only [forall_eq, exists_eq_left, exists_eq_left', Option.some.injEq, ex_ix, i_add, i_mul, i_sub, i_lt, i_le, i_eq, i_tn, hi_e, hi_n, hj_e, hj_n, hi_wj, hj_wi, hr_wi, hr_wj, ht_wi, ht_wj, hl_wi, hl_wj, hz_wi, hz_wj, hs_wi, hs_wj, hi_wr, hj_wr, hr_e, hr_n, ht_wr, hl_wr, hz_wr, hs_wr, n_lt_t, n_lt_f, n_le_t, n_le_f, n_eq_t, n_eq_f, true_and, and_true, false_and, and_false, true_or, or_true, false_or, or_false, not_true_eq_false, not_false_eq_true, forall_const, implies_true, true_imp_iff, false_imp_iff, gs_t, reduceIte, ite_true, ite_false]
      obtain ⟨F1, F2, F3, F4, F5, F6⟩ := F
      refine ih (i + 1) _ (by omega) (g.trans (fr.a rfl)) (by simp (disch := omega) only [forall_eq, exists_eq_left, exists_eq_left', Option.some.injEq, ex_ix, i_add, i_mul, i_sub, i_lt, i_le, i_eq, i_tn, hi_e, hi_n, hj_e, hj_n, hi_wj, hj_wi, hr_wi, hr_wj, ht_wi, ht_wj, hl_wi, hl_wj, hz_wi, hz_wj, hs_wi, hs_wj, hi_wr, hj_wr, hr_e, hr_n, ht_wr, hl_wr, hz_wr, hs_wr, n_lt_t, n_lt_f, n_le_t, n_le_f, n_eq_t, n_eq_f, true_and, and_true, false_and, and_false, true_or, or_true, false_or, or_false, not_true_eq_false, not_false_eq_true, forall_const, implies_true, true_imp_iff, false_imp_iff, gs_t, reduceIte, ite_true, ite_false]; exact e77) (by simp (disch := omega) only [forall_eq, exists_eq_left, exists_eq_left', Option.some.injEq, ex_ix, i_add, i_mul, i_sub, i_lt, i_le, i_eq, i_tn, hi_e, hi_n, hj_e, hj_n, hi_wj, hj_wi, hr_wi, hr_wj, ht_wi, ht_wj, hl_wi, hl_wj, hz_wi, hz_wj, hs_wi, hs_wj, hi_wr, hj_wr, hr_e, hr_n, ht_wr, hl_wr, hz_wr, hs_wr, n_lt_t, n_lt_f, n_le_t, n_le_f, n_eq_t, n_eq_f, true_and, and_true, false_and, and_false, true_or, or_true, false_or, or_false, not_true_eq_false, not_false_eq_true, forall_const, implies_true, true_imp_iff, false_imp_iff, gs_t, reduceIte, ite_true, ite_false]; exact e15) (by simp (disch := omega) only [forall_eq, exists_eq_left, exists_eq_left', Option.some.injEq, ex_ix, i_add, i_mul, i_sub, i_lt, i_le, i_eq, i_tn, hi_e, hi_n, hj_e, hj_n, hi_wj, hj_wi, hr_wi, hr_wj, ht_wi, ht_wj, hl_wi, hl_wj, hz_wi, hz_wj, hs_wi, hs_wj, hi_wr, hj_wr, hr_e, hr_n, ht_wr, hl_wr, hz_wr, hs_wr, n_lt_t, n_lt_f, n_le_t, n_le_f, n_eq_t, n_eq_f, true_and, and_true, false_and, and_false, true_or, or_true, false_or, or_false, not_true_eq_false, not_false_eq_true, forall_const, implies_true, true_imp_iff, false_imp_iff, gs_t, reduceIte, ite_true, ite_false]; exact e112) (by simp (disch := omega) only [forall_eq, exists_eq_left, exists_eq_left', Option.some.injEq, ex_ix, i_add, i_mul, i_sub, i_lt, i_le, i_eq, i_tn, hi_e, hi_n, hj_e, hj_n, hi_wj, hj_wi, hr_wi, hr_wj, ht_wi, ht_wj, hl_wi, hl_wj, hz_wi, hz_wj, hs_wi, hs_wj, hi_wr, hj_wr, hr_e, hr_n, ht_wr, hl_wr, hz_wr, hs_wr, n_lt_t, n_lt_f, n_le_t, n_le_f, n_eq_t, n_eq_f, true_and, and_true, false_and, and_false, true_or, or_true, false_or, or_false, not_true_eq_false, not_false_eq_true, forall_const, implies_true, true_imp_iff, false_imp_iff, gs_t, reduceIte, ite_true, ite_false]; exact e110) ⟨?_, ?_, ?_, ?_, ?_, ?_⟩
      · intro j hj; rw [hi_n (by omega)]; exact F1 j hj
      · intro j hj; rw [hi_n (by omega)]; exact F2 j hj
      · intro j hj; rw [hi_n (by omega)]; exact F3 j hj
      · intro j hj; rw [hi_n (by omega)]; exact F4 j hj
      · intro j hj
        by_cases z : j = i
        · subst z; rw [hi_e ⟨rfl, rfl⟩]
        · rw [hi_n (by omega)]; exact F5 j (by omega)
      · intro j hj; rw [hi_n (by omega)]; exact F6 j hj
  have l96 : ∀ e i h1, i + e = 4 → fr (tO m [33, 80, 88, 94, 97, 116, 117] [15, 41, 46, 77, 110, 112]) h h1 → hh_i h1 m 77 = (Int32.ofNat 0) → hh_i h1 m 15 = Int32.ofInt (-1) → hh_i h1 m 112 = (Int32.ofNat 0) → hh_i h1 m 110 = (Int32.ofNat 0) → fl m h 8 8 4 i 0 0 h1 → gm_G 109 96 [some (.ref m), some (.int (Int32.ofNat i))] [] h1 Q := by
    intro e
    induction e with
    | zero =>
      intro i h1 ei g e77 e15 e112 e110 F
      have ei : i = 4 := by omega
      subst ei
      refine w_109_96 (hT.fr g) ?_
      simp (disch := omega) only [forall_eq, exists_eq_left, exists_eq_left', Option.some.injEq, ex_ix, i_add, i_mul, i_sub, i_lt, i_le, i_eq, i_tn, hi_e, hi_n, hj_e, hj_n, hi_wj, hj_wi, hr_wi, hr_wj, ht_wi, ht_wj, hl_wi, hl_wj, hz_wi, hz_wj, hs_wi, hs_wj, hi_wr, hj_wr, hr_e, hr_n, ht_wr, hl_wr, hz_wr, hs_wr, n_lt_t, n_lt_f, n_le_t, n_le_f, n_eq_t, n_eq_f, true_and, and_true, false_and, and_false, true_or, or_true, false_or, or_false, not_true_eq_false, not_false_eq_true, forall_const, implies_true, true_imp_iff, false_imp_iff, gs_t, reduceIte, ite_true, ite_false]
      exact l116 32 0 h1 rfl g e77 e15 e112 e110 F
    | succ e ih =>
      intro i h1 ei g e77 e15 e112 e110 F
      refine w_109_96 (hT.fr g) ?_
      simp (disch := omega) only [forall_eq, exists_eq_left, exists_eq_left', Option.some.injEq, ex_ix, i_add, i_mul, i_sub, i_lt, i_le, i_eq, i_tn, hi_e, hi_n, hj_e, hj_n, hi_wj, hj_wi, hr_wi, hr_wj, ht_wi, ht_wj, hl_wi, hl_wj, hz_wi, hz_wj, hs_wi, hs_wj, hi_wr, hj_wr, hr_e, hr_n, ht_wr, hl_wr, hz_wr, hs_wr, n_lt_t, n_lt_f, n_le_t, n_le_f, n_eq_t, n_eq_f, true_and, and_true, false_and, and_false, true_or, or_true, false_or, or_false, not_true_eq_false, not_false_eq_true, forall_const, implies_true, true_imp_iff, false_imp_iff, gs_t, reduceIte, ite_true, ite_false]
      obtain ⟨F1, F2, F3, F4, F5, F6⟩ := F
      refine ih (i + 1) _ (by omega) (g.trans (fr.a rfl)) (by simp (disch := omega) only [forall_eq, exists_eq_left, exists_eq_left', Option.some.injEq, ex_ix, i_add, i_mul, i_sub, i_lt, i_le, i_eq, i_tn, hi_e, hi_n, hj_e, hj_n, hi_wj, hj_wi, hr_wi, hr_wj, ht_wi, ht_wj, hl_wi, hl_wj, hz_wi, hz_wj, hs_wi, hs_wj, hi_wr, hj_wr, hr_e, hr_n, ht_wr, hl_wr, hz_wr, hs_wr, n_lt_t, n_lt_f, n_le_t, n_le_f, n_eq_t, n_eq_f, true_and, and_true, false_and, and_false, true_or, or_true, false_or, or_false, not_true_eq_false, not_false_eq_true, forall_const, implies_true, true_imp_iff, false_imp_iff, gs_t, reduceIte, ite_true, ite_false]; exact e77) (by simp (disch := omega) only [forall_eq, exists_eq_left, exists_eq_left', Option.some.injEq, ex_ix, i_add, i_mul, i_sub, i_lt, i_le, i_eq, i_tn, hi_e, hi_n, hj_e, hj_n, hi_wj, hj_wi, hr_wi, hr_wj, ht_wi, ht_wj, hl_wi, hl_wj, hz_wi, hz_wj, hs_wi, hs_wj, hi_wr, hj_wr, hr_e, hr_n, ht_wr, hl_wr, hz_wr, hs_wr, n_lt_t, n_lt_f, n_le_t, n_le_f, n_eq_t, n_eq_f, true_and, and_true, false_and, and_false, true_or, or_true, false_or, or_false, not_true_eq_false, not_false_eq_true, forall_const, implies_true, true_imp_iff, false_imp_iff, gs_t, reduceIte, ite_true, ite_false]; exact e15) (by simp (disch := omega) only [forall_eq, exists_eq_left, exists_eq_left', Option.some.injEq, ex_ix, i_add, i_mul, i_sub, i_lt, i_le, i_eq, i_tn, hi_e, hi_n, hj_e, hj_n, hi_wj, hj_wi, hr_wi, hr_wj, ht_wi, ht_wj, hl_wi, hl_wj, hz_wi, hz_wj, hs_wi, hs_wj, hi_wr, hj_wr, hr_e, hr_n, ht_wr, hl_wr, hz_wr, hs_wr, n_lt_t, n_lt_f, n_le_t, n_le_f, n_eq_t, n_eq_f, true_and, and_true, false_and, and_false, true_or, or_true, false_or, or_false, not_true_eq_false, not_false_eq_true, forall_const, implies_true, true_imp_iff, false_imp_iff, gs_t, reduceIte, ite_true, ite_false]; exact e112) (by simp (disch := omega) only [forall_eq, exists_eq_left, exists_eq_left', Option.some.injEq, ex_ix, i_add, i_mul, i_sub, i_lt, i_le, i_eq, i_tn, hi_e, hi_n, hj_e, hj_n, hi_wj, hj_wi, hr_wi, hr_wj, ht_wi, ht_wj, hl_wi, hl_wj, hz_wi, hz_wj, hs_wi, hs_wj, hi_wr, hj_wr, hr_e, hr_n, ht_wr, hl_wr, hz_wr, hs_wr, n_lt_t, n_lt_f, n_le_t, n_le_f, n_eq_t, n_eq_f, true_and, and_true, false_and, and_false, true_or, or_true, false_or, or_false, not_true_eq_false, not_false_eq_true, forall_const, implies_true, true_imp_iff, false_imp_iff, gs_t, reduceIte, ite_true, ite_false]; exact e110) ⟨?_, ?_, ?_, ?_, ?_, ?_⟩
      · intro j hj; rw [hi_n (by omega)]; exact F1 j hj
      · intro j hj; rw [hi_n (by omega)]; exact F2 j hj
      · intro j hj; rw [hi_n (by omega)]; exact F3 j hj
      · intro j hj
        by_cases z : j = i
        · subst z; rw [hi_e ⟨rfl, rfl⟩]
        · rw [hi_n (by omega)]; exact F4 j (by omega)
      · intro j hj; rw [hi_n (by omega)]; exact F5 j hj
      · intro j hj; rw [hi_n (by omega)]; exact F6 j hj
  have l76 : ∀ e i h1, i + e = 4 → fr (tO m [33, 80, 88, 94, 97, 116, 117] [15, 41, 46, 77, 110, 112]) h h1 → hh_i h1 m 77 = (Int32.ofNat 0) → hh_i h1 m 15 = Int32.ofInt (-1) → hh_i h1 m 112 = (Int32.ofNat 0) → hh_i h1 m 110 = (Int32.ofNat 0) → fl m h 8 8 i 0 0 0 h1 → gm_G 109 76 [some (.ref m), some (.int (Int32.ofNat i))] [] h1 Q := by
    intro e
    induction e with
    | zero =>
      intro i h1 ei g e77 e15 e112 e110 F
      have ei : i = 4 := by omega
      subst ei
      refine w_109_76 (hT.fr g) ?_
      simp (disch := omega) only [forall_eq, exists_eq_left, exists_eq_left', Option.some.injEq, ex_ix, i_add, i_mul, i_sub, i_lt, i_le, i_eq, i_tn, hi_e, hi_n, hj_e, hj_n, hi_wj, hj_wi, hr_wi, hr_wj, ht_wi, ht_wj, hl_wi, hl_wj, hz_wi, hz_wj, hs_wi, hs_wj, hi_wr, hj_wr, hr_e, hr_n, ht_wr, hl_wr, hz_wr, hs_wr, n_lt_t, n_lt_f, n_le_t, n_le_f, n_eq_t, n_eq_f, true_and, and_true, false_and, and_false, true_or, or_true, false_or, or_false, not_true_eq_false, not_false_eq_true, forall_const, implies_true, true_imp_iff, false_imp_iff, gs_t, reduceIte, ite_true, ite_false]
      exact l96 4 0 h1 rfl g e77 e15 e112 e110 F
    | succ e ih =>
      intro i h1 ei g e77 e15 e112 e110 F
      refine w_109_76 (hT.fr g) ?_
      simp (disch := omega) only [forall_eq, exists_eq_left, exists_eq_left', Option.some.injEq, ex_ix, i_add, i_mul, i_sub, i_lt, i_le, i_eq, i_tn, hi_e, hi_n, hj_e, hj_n, hi_wj, hj_wi, hr_wi, hr_wj, ht_wi, ht_wj, hl_wi, hl_wj, hz_wi, hz_wj, hs_wi, hs_wj, hi_wr, hj_wr, hr_e, hr_n, ht_wr, hl_wr, hz_wr, hs_wr, n_lt_t, n_lt_f, n_le_t, n_le_f, n_eq_t, n_eq_f, true_and, and_true, false_and, and_false, true_or, or_true, false_or, or_false, not_true_eq_false, not_false_eq_true, forall_const, implies_true, true_imp_iff, false_imp_iff, gs_t, reduceIte, ite_true, ite_false]
      obtain ⟨F1, F2, F3, F4, F5, F6⟩ := F
      refine ih (i + 1) _ (by omega) (g.trans (fr.a rfl)) (by simp (disch := omega) only [forall_eq, exists_eq_left, exists_eq_left', Option.some.injEq, ex_ix, i_add, i_mul, i_sub, i_lt, i_le, i_eq, i_tn, hi_e, hi_n, hj_e, hj_n, hi_wj, hj_wi, hr_wi, hr_wj, ht_wi, ht_wj, hl_wi, hl_wj, hz_wi, hz_wj, hs_wi, hs_wj, hi_wr, hj_wr, hr_e, hr_n, ht_wr, hl_wr, hz_wr, hs_wr, n_lt_t, n_lt_f, n_le_t, n_le_f, n_eq_t, n_eq_f, true_and, and_true, false_and, and_false, true_or, or_true, false_or, or_false, not_true_eq_false, not_false_eq_true, forall_const, implies_true, true_imp_iff, false_imp_iff, gs_t, reduceIte, ite_true, ite_false]; exact e77) (by simp (disch := omega) only [forall_eq, exists_eq_left, exists_eq_left', Option.some.injEq, ex_ix, i_add, i_mul, i_sub, i_lt, i_le, i_eq, i_tn, hi_e, hi_n, hj_e, hj_n, hi_wj, hj_wi, hr_wi, hr_wj, ht_wi, ht_wj, hl_wi, hl_wj, hz_wi, hz_wj, hs_wi, hs_wj, hi_wr, hj_wr, hr_e, hr_n, ht_wr, hl_wr, hz_wr, hs_wr, n_lt_t, n_lt_f, n_le_t, n_le_f, n_eq_t, n_eq_f, true_and, and_true, false_and, and_false, true_or, or_true, false_or, or_false, not_true_eq_false, not_false_eq_true, forall_const, implies_true, true_imp_iff, false_imp_iff, gs_t, reduceIte, ite_true, ite_false]; exact e15) (by simp (disch := omega) only [forall_eq, exists_eq_left, exists_eq_left', Option.some.injEq, ex_ix, i_add, i_mul, i_sub, i_lt, i_le, i_eq, i_tn, hi_e, hi_n, hj_e, hj_n, hi_wj, hj_wi, hr_wi, hr_wj, ht_wi, ht_wj, hl_wi, hl_wj, hz_wi, hz_wj, hs_wi, hs_wj, hi_wr, hj_wr, hr_e, hr_n, ht_wr, hl_wr, hz_wr, hs_wr, n_lt_t, n_lt_f, n_le_t, n_le_f, n_eq_t, n_eq_f, true_and, and_true, false_and, and_false, true_or, or_true, false_or, or_false, not_true_eq_false, not_false_eq_true, forall_const, implies_true, true_imp_iff, false_imp_iff, gs_t, reduceIte, ite_true, ite_false]; exact e112) (by simp (disch := omega) only [forall_eq, exists_eq_left, exists_eq_left', Option.some.injEq, ex_ix, i_add, i_mul, i_sub, i_lt, i_le, i_eq, i_tn, hi_e, hi_n, hj_e, hj_n, hi_wj, hj_wi, hr_wi, hr_wj, ht_wi, ht_wj, hl_wi, hl_wj, hz_wi, hz_wj, hs_wi, hs_wj, hi_wr, hj_wr, hr_e, hr_n, ht_wr, hl_wr, hz_wr, hs_wr, n_lt_t, n_lt_f, n_le_t, n_le_f, n_eq_t, n_eq_f, true_and, and_true, false_and, and_false, true_or, or_true, false_or, or_false, not_true_eq_false, not_false_eq_true, forall_const, implies_true, true_imp_iff, false_imp_iff, gs_t, reduceIte, ite_true, ite_false]; exact e110) ⟨?_, ?_, ?_, ?_, ?_, ?_⟩
      · intro j hj; rw [hi_n (by omega)]; exact F1 j hj
      · intro j hj; rw [hi_n (by omega)]; exact F2 j hj
      · intro j hj
        by_cases z : j = i
        · subst z; rw [hi_e ⟨rfl, rfl⟩]
        · rw [hi_n (by omega)]; exact F3 j (by omega)
      · intro j hj; rw [hi_n (by omega)]; exact F4 j hj
      · intro j hj; rw [hi_n (by omega)]; exact F5 j hj
      · intro j hj; rw [hi_n (by omega)]; exact F6 j hj
  have l48 : ∀ e i h1, i + e = 8 → fr (tO m [33, 80, 88, 94, 97, 116, 117] [15, 41, 46, 77, 110, 112]) h h1 → hh_i h1 m 77 = (Int32.ofNat 0) → hh_i h1 m 15 = Int32.ofInt (-1) → hh_i h1 m 112 = (Int32.ofNat 0) → hh_i h1 m 110 = (Int32.ofNat 0) → fl m h 8 i 0 0 0 0 h1 → gm_G 109 48 [some (.ref m), some (.int (Int32.ofNat i))] [] h1 Q := by
    intro e
    induction e with
    | zero =>
      intro i h1 ei g e77 e15 e112 e110 F
      have ei : i = 8 := by omega
      subst ei
      refine w_109_48 (hT.fr g) ?_
      simp (disch := omega) only [forall_eq, exists_eq_left, exists_eq_left', Option.some.injEq, ex_ix, i_add, i_mul, i_sub, i_lt, i_le, i_eq, i_tn, hi_e, hi_n, hj_e, hj_n, hi_wj, hj_wi, hr_wi, hr_wj, ht_wi, ht_wj, hl_wi, hl_wj, hz_wi, hz_wj, hs_wi, hs_wj, hi_wr, hj_wr, hr_e, hr_n, ht_wr, hl_wr, hz_wr, hs_wr, n_lt_t, n_lt_f, n_le_t, n_le_f, n_eq_t, n_eq_f, true_and, and_true, false_and, and_false, true_or, or_true, false_or, or_false, not_true_eq_false, not_false_eq_true, forall_const, implies_true, true_imp_iff, false_imp_iff, gs_t, reduceIte, ite_true, ite_false]
      exact l76 4 0 h1 rfl g e77 e15 e112 e110 F
    | succ e ih =>
      intro i h1 ei g e77 e15 e112 e110 F
      refine w_109_48 (hT.fr g) ?_
      simp (disch := omega) only [forall_eq, exists_eq_left, exists_eq_left', Option.some.injEq, ex_ix, i_add, i_mul, i_sub, i_lt, i_le, i_eq, i_tn, hi_e, hi_n, hj_e, hj_n, hi_wj, hj_wi, hr_wi, hr_wj, ht_wi, ht_wj, hl_wi, hl_wj, hz_wi, hz_wj, hs_wi, hs_wj, hi_wr, hj_wr, hr_e, hr_n, ht_wr, hl_wr, hz_wr, hs_wr, n_lt_t, n_lt_f, n_le_t, n_le_f, n_eq_t, n_eq_f, true_and, and_true, false_and, and_false, true_or, or_true, false_or, or_false, not_true_eq_false, not_false_eq_true, forall_const, implies_true, true_imp_iff, false_imp_iff, gs_t, reduceIte, ite_true, ite_false]
      obtain ⟨F1, F2, F3, F4, F5, F6⟩ := F
      refine ih (i + 1) _ (by omega) (g.trans ((fr.a rfl).trans (fr.a rfl))) (by simp (disch := omega) only [forall_eq, exists_eq_left, exists_eq_left', Option.some.injEq, ex_ix, i_add, i_mul, i_sub, i_lt, i_le, i_eq, i_tn, hi_e, hi_n, hj_e, hj_n, hi_wj, hj_wi, hr_wi, hr_wj, ht_wi, ht_wj, hl_wi, hl_wj, hz_wi, hz_wj, hs_wi, hs_wj, hi_wr, hj_wr, hr_e, hr_n, ht_wr, hl_wr, hz_wr, hs_wr, n_lt_t, n_lt_f, n_le_t, n_le_f, n_eq_t, n_eq_f, true_and, and_true, false_and, and_false, true_or, or_true, false_or, or_false, not_true_eq_false, not_false_eq_true, forall_const, implies_true, true_imp_iff, false_imp_iff, gs_t, reduceIte, ite_true, ite_false]; exact e77) (by simp (disch := omega) only [forall_eq, exists_eq_left, exists_eq_left', Option.some.injEq, ex_ix, i_add, i_mul, i_sub, i_lt, i_le, i_eq, i_tn, hi_e, hi_n, hj_e, hj_n, hi_wj, hj_wi, hr_wi, hr_wj, ht_wi, ht_wj, hl_wi, hl_wj, hz_wi, hz_wj, hs_wi, hs_wj, hi_wr, hj_wr, hr_e, hr_n, ht_wr, hl_wr, hz_wr, hs_wr, n_lt_t, n_lt_f, n_le_t, n_le_f, n_eq_t, n_eq_f, true_and, and_true, false_and, and_false, true_or, or_true, false_or, or_false, not_true_eq_false, not_false_eq_true, forall_const, implies_true, true_imp_iff, false_imp_iff, gs_t, reduceIte, ite_true, ite_false]; exact e15) (by simp (disch := omega) only [forall_eq, exists_eq_left, exists_eq_left', Option.some.injEq, ex_ix, i_add, i_mul, i_sub, i_lt, i_le, i_eq, i_tn, hi_e, hi_n, hj_e, hj_n, hi_wj, hj_wi, hr_wi, hr_wj, ht_wi, ht_wj, hl_wi, hl_wj, hz_wi, hz_wj, hs_wi, hs_wj, hi_wr, hj_wr, hr_e, hr_n, ht_wr, hl_wr, hz_wr, hs_wr, n_lt_t, n_lt_f, n_le_t, n_le_f, n_eq_t, n_eq_f, true_and, and_true, false_and, and_false, true_or, or_true, false_or, or_false, not_true_eq_false, not_false_eq_true, forall_const, implies_true, true_imp_iff, false_imp_iff, gs_t, reduceIte, ite_true, ite_false]; exact e112) (by simp (disch := omega) only [forall_eq, exists_eq_left, exists_eq_left', Option.some.injEq, ex_ix, i_add, i_mul, i_sub, i_lt, i_le, i_eq, i_tn, hi_e, hi_n, hj_e, hj_n, hi_wj, hj_wi, hr_wi, hr_wj, ht_wi, ht_wj, hl_wi, hl_wj, hz_wi, hz_wj, hs_wi, hs_wj, hi_wr, hj_wr, hr_e, hr_n, ht_wr, hl_wr, hz_wr, hs_wr, n_lt_t, n_lt_f, n_le_t, n_le_f, n_eq_t, n_eq_f, true_and, and_true, false_and, and_false, true_or, or_true, false_or, or_false, not_true_eq_false, not_false_eq_true, forall_const, implies_true, true_imp_iff, false_imp_iff, gs_t, reduceIte, ite_true, ite_false]; exact e110) ⟨?_, ?_, ?_, ?_, ?_, ?_⟩
      · intro j hj; rw [hi_n (by omega), hi_n (by omega)]; exact F1 j hj
      · intro j hj
        by_cases z : j = i
        · subst z; rw [hi_n (by omega), hi_e ⟨rfl, rfl⟩]
        · rw [hi_n (by omega), hi_n (by omega)]; exact F2 j (by omega)
      · intro j hj; rw [hi_n (by omega), hi_n (by omega)]; exact F3 j hj
      · intro j hj; rw [hi_n (by omega), hi_n (by omega)]; exact F4 j hj
      · intro j hj; rw [hi_n (by omega), hi_n (by omega)]; exact F5 j hj
      · intro j hj; rw [hi_n (by omega), hi_n (by omega)]; exact F6 j hj
  have l12 : ∀ e i h1, i + e = 8 → fr (tO m [33, 80, 88, 94, 97, 116, 117] [15, 41, 46, 77, 110, 112]) h h1 → hh_i h1 m 77 = (Int32.ofNat 0) → hh_i h1 m 15 = Int32.ofInt (-1) → fl m h i 0 0 0 0 0 h1 → gm_G 109 12 [some (.ref m), some (.int (Int32.ofNat i))] [] h1 Q := by
    intro e
    induction e with
    | zero =>
      intro i h1 ei g e77 e15 F
      have ei : i = 8 := by omega
      subst ei
      refine w_109_12 (hT.fr g) ?_
      simp (disch := omega) only [forall_eq, exists_eq_left, exists_eq_left', Option.some.injEq, ex_ix, i_add, i_mul, i_sub, i_lt, i_le, i_eq, i_tn, hi_e, hi_n, hj_e, hj_n, hi_wj, hj_wi, hr_wi, hr_wj, ht_wi, ht_wj, hl_wi, hl_wj, hz_wi, hz_wj, hs_wi, hs_wj, hi_wr, hj_wr, hr_e, hr_n, ht_wr, hl_wr, hz_wr, hs_wr, n_lt_t, n_lt_f, n_le_t, n_le_f, n_eq_t, n_eq_f, true_and, and_true, false_and, and_false, true_or, or_true, false_or, or_false, not_true_eq_false, not_false_eq_true, forall_const, implies_true, true_imp_iff, false_imp_iff, gs_t, reduceIte, ite_true, ite_false]
      obtain ⟨F1, F2, F3, F4, F5, F6⟩ := F
      refine l48 8 0 _ rfl (g.trans ((fr.f rfl).trans (fr.f rfl))) (by simp (disch := omega) only [forall_eq, exists_eq_left, exists_eq_left', Option.some.injEq, ex_ix, i_add, i_mul, i_sub, i_lt, i_le, i_eq, i_tn, hi_e, hi_n, hj_e, hj_n, hi_wj, hj_wi, hr_wi, hr_wj, ht_wi, ht_wj, hl_wi, hl_wj, hz_wi, hz_wj, hs_wi, hs_wj, hi_wr, hj_wr, hr_e, hr_n, ht_wr, hl_wr, hz_wr, hs_wr, n_lt_t, n_lt_f, n_le_t, n_le_f, n_eq_t, n_eq_f, true_and, and_true, false_and, and_false, true_or, or_true, false_or, or_false, not_true_eq_false, not_false_eq_true, forall_const, implies_true, true_imp_iff, false_imp_iff, gs_t, reduceIte, ite_true, ite_false]; exact e77) (by simp (disch := omega) only [forall_eq, exists_eq_left, exists_eq_left', Option.some.injEq, ex_ix, i_add, i_mul, i_sub, i_lt, i_le, i_eq, i_tn, hi_e, hi_n, hj_e, hj_n, hi_wj, hj_wi, hr_wi, hr_wj, ht_wi, ht_wj, hl_wi, hl_wj, hz_wi, hz_wj, hs_wi, hs_wj, hi_wr, hj_wr, hr_e, hr_n, ht_wr, hl_wr, hz_wr, hs_wr, n_lt_t, n_lt_f, n_le_t, n_le_f, n_eq_t, n_eq_f, true_and, and_true, false_and, and_false, true_or, or_true, false_or, or_false, not_true_eq_false, not_false_eq_true, forall_const, implies_true, true_imp_iff, false_imp_iff, gs_t, reduceIte, ite_true, ite_false]; exact e15) (by simp (disch := omega) only [forall_eq, exists_eq_left, exists_eq_left', Option.some.injEq, ex_ix, i_add, i_mul, i_sub, i_lt, i_le, i_eq, i_tn, hi_e, hi_n, hj_e, hj_n, hi_wj, hj_wi, hr_wi, hr_wj, ht_wi, ht_wj, hl_wi, hl_wj, hz_wi, hz_wj, hs_wi, hs_wj, hi_wr, hj_wr, hr_e, hr_n, ht_wr, hl_wr, hz_wr, hs_wr, n_lt_t, n_lt_f, n_le_t, n_le_f, n_eq_t, n_eq_f, true_and, and_true, false_and, and_false, true_or, or_true, false_or, or_false, not_true_eq_false, not_false_eq_true, forall_const, implies_true, true_imp_iff, false_imp_iff, gs_t, reduceIte, ite_true, ite_false]) (by simp (disch := omega) only [forall_eq, exists_eq_left, exists_eq_left', Option.some.injEq, ex_ix, i_add, i_mul, i_sub, i_lt, i_le, i_eq, i_tn, hi_e, hi_n, hj_e, hj_n, hi_wj, hj_wi, hr_wi, hr_wj, ht_wi, ht_wj, hl_wi, hl_wj, hz_wi, hz_wj, hs_wi, hs_wj, hi_wr, hj_wr, hr_e, hr_n, ht_wr, hl_wr, hz_wr, hs_wr, n_lt_t, n_lt_f, n_le_t, n_le_f, n_eq_t, n_eq_f, true_and, and_true, false_and, and_false, true_or, or_true, false_or, or_false, not_true_eq_false, not_false_eq_true, forall_const, implies_true, true_imp_iff, false_imp_iff, gs_t, reduceIte, ite_true, ite_false]) ⟨?_, ?_, ?_, ?_, ?_, ?_⟩
      all_goals simp (disch := omega) only [forall_eq, exists_eq_left, exists_eq_left', Option.some.injEq, ex_ix, i_add, i_mul, i_sub, i_lt, i_le, i_eq, i_tn, hi_e, hi_n, hj_e, hj_n, hi_wj, hj_wi, hr_wi, hr_wj, ht_wi, ht_wj, hl_wi, hl_wj, hz_wi, hz_wj, hs_wi, hs_wj, hi_wr, hj_wr, hr_e, hr_n, ht_wr, hl_wr, hz_wr, hs_wr, n_lt_t, n_lt_f, n_le_t, n_le_f, n_eq_t, n_eq_f, true_and, and_true, false_and, and_false, true_or, or_true, false_or, or_false, not_true_eq_false, not_false_eq_true, forall_const, implies_true, true_imp_iff, false_imp_iff, gs_t, reduceIte, ite_true, ite_false]
      all_goals first | assumption | (intro j hj; omega)
    | succ e ih =>
      intro i h1 ei g e77 e15 F
      refine w_109_12 (hT.fr g) ?_
      simp (disch := omega) only [forall_eq, exists_eq_left, exists_eq_left', Option.some.injEq, ex_ix, i_add, i_mul, i_sub, i_lt, i_le, i_eq, i_tn, hi_e, hi_n, hj_e, hj_n, hi_wj, hj_wi, hr_wi, hr_wj, ht_wi, ht_wj, hl_wi, hl_wj, hz_wi, hz_wj, hs_wi, hs_wj, hi_wr, hj_wr, hr_e, hr_n, ht_wr, hl_wr, hz_wr, hs_wr, n_lt_t, n_lt_f, n_le_t, n_le_f, n_eq_t, n_eq_f, true_and, and_true, false_and, and_false, true_or, or_true, false_or, or_false, not_true_eq_false, not_false_eq_true, forall_const, implies_true, true_imp_iff, false_imp_iff, gs_t, reduceIte, ite_true, ite_false]
      obtain ⟨F1, F2, F3, F4, F5, F6⟩ := F
      refine ih (i + 1) _ (by omega) (g.trans (fr.a rfl)) (by simp (disch := omega) only [forall_eq, exists_eq_left, exists_eq_left', Option.some.injEq, ex_ix, i_add, i_mul, i_sub, i_lt, i_le, i_eq, i_tn, hi_e, hi_n, hj_e, hj_n, hi_wj, hj_wi, hr_wi, hr_wj, ht_wi, ht_wj, hl_wi, hl_wj, hz_wi, hz_wj, hs_wi, hs_wj, hi_wr, hj_wr, hr_e, hr_n, ht_wr, hl_wr, hz_wr, hs_wr, n_lt_t, n_lt_f, n_le_t, n_le_f, n_eq_t, n_eq_f, true_and, and_true, false_and, and_false, true_or, or_true, false_or, or_false, not_true_eq_false, not_false_eq_true, forall_const, implies_true, true_imp_iff, false_imp_iff, gs_t, reduceIte, ite_true, ite_false]; exact e77) (by simp (disch := omega) only [forall_eq, exists_eq_left, exists_eq_left', Option.some.injEq, ex_ix, i_add, i_mul, i_sub, i_lt, i_le, i_eq, i_tn, hi_e, hi_n, hj_e, hj_n, hi_wj, hj_wi, hr_wi, hr_wj, ht_wi, ht_wj, hl_wi, hl_wj, hz_wi, hz_wj, hs_wi, hs_wj, hi_wr, hj_wr, hr_e, hr_n, ht_wr, hl_wr, hz_wr, hs_wr, n_lt_t, n_lt_f, n_le_t, n_le_f, n_eq_t, n_eq_f, true_and, and_true, false_and, and_false, true_or, or_true, false_or, or_false, not_true_eq_false, not_false_eq_true, forall_const, implies_true, true_imp_iff, false_imp_iff, gs_t, reduceIte, ite_true, ite_false]; exact e15) ⟨?_, ?_, ?_, ?_, ?_, ?_⟩
      · intro j hj
        by_cases z : j = i
        · subst z; rw [hi_e ⟨rfl, rfl⟩, g.arr (o := 81) rfl]
        · rw [hi_n (by omega)]; exact F1 j (by omega)
      · intro j hj; rw [hi_n (by omega)]; exact F2 j hj
      · intro j hj; rw [hi_n (by omega)]; exact F3 j hj
      · intro j hj; rw [hi_n (by omega)]; exact F4 j hj
      · intro j hj; rw [hi_n (by omega)]; exact F5 j hj
      · intro j hj; rw [hi_n (by omega)]; exact F6 j hj
  refine l12 8 0 _ rfl ((fr.f rfl).trans (fr.f rfl)) (by simp (disch := omega) only [forall_eq, exists_eq_left, exists_eq_left', Option.some.injEq, ex_ix, i_add, i_mul, i_sub, i_lt, i_le, i_eq, i_tn, hi_e, hi_n, hj_e, hj_n, hi_wj, hj_wi, hr_wi, hr_wj, ht_wi, ht_wj, hl_wi, hl_wj, hz_wi, hz_wj, hs_wi, hs_wj, hi_wr, hj_wr, hr_e, hr_n, ht_wr, hl_wr, hz_wr, hs_wr, n_lt_t, n_lt_f, n_le_t, n_le_f, n_eq_t, n_eq_f, true_and, and_true, false_and, and_false, true_or, or_true, false_or, or_false, not_true_eq_false, not_false_eq_true, forall_const, implies_true, true_imp_iff, false_imp_iff, gs_t, reduceIte, ite_true, ite_false]) (by simp (disch := omega) only [forall_eq, exists_eq_left, exists_eq_left', Option.some.injEq, ex_ix, i_add, i_mul, i_sub, i_lt, i_le, i_eq, i_tn, hi_e, hi_n, hj_e, hj_n, hi_wj, hj_wi, hr_wi, hr_wj, ht_wi, ht_wj, hl_wi, hl_wj, hz_wi, hz_wj, hs_wi, hs_wj, hi_wr, hj_wr, hr_e, hr_n, ht_wr, hl_wr, hz_wr, hs_wr, n_lt_t, n_lt_f, n_le_t, n_le_f, n_eq_t, n_eq_f, true_and, and_true, false_and, and_false, true_or, or_true, false_or, or_false, not_true_eq_false, not_false_eq_true, forall_const, implies_true, true_imp_iff, false_imp_iff, gs_t, reduceIte, ite_true, ite_false]) ⟨?_, ?_, ?_, ?_, ?_, ?_⟩
  all_goals (intro j hj; omega)
end TF
