/-! STAGE 3: who holds a tree -/
def fc (P : Nat → Bool) (n : Nat) : Nat := ((List.range n).filter P).length
theorem fc_S (P : Nat → Bool) (n : Nat) : fc P (n + 1) = fc P n + (if P n then 1 else 0) := by
  unfold fc
  rw [List.range_succ, List.filter_append, List.length_append]
  congr 1
  by_cases z : P n = true
  · rw [List.filter_cons_of_pos z, if_pos z]; rfl
  · rw [List.filter_cons_of_neg z, if_neg z]; rfl
theorem fc_le (P : Nat → Bool) (n : Nat) : fc P n ≤ n := Nat.le_trans (List.length_filter_le ..) (by rw [List.length_range]; exact Nat.le_refl _)
theorem fc_pos {P : Nat → Bool} {n : Nat} : 0 < fc P n ↔ ∃ k, k < n ∧ P k = true := by
  unfold fc
  constructor
  · intro h
    obtain ⟨x, hx⟩ := List.exists_mem_of_length_pos h
    rw [List.mem_filter, List.mem_range] at hx
    exact ⟨x, hx⟩
  · rintro ⟨k, h1, h2⟩
    exact List.length_pos_of_mem (List.mem_filter.mpr ⟨List.mem_range.mpr h1, h2⟩)
/-- how often a state holds a slot -/
def tr_a (h : hh_T) (m j t k : Nat) : Bool := decide (¬ hh_i h (m + 59) (8 * j + k) < (Int32.ofNat 0)) && decide (hh_i h (m + 63) (8 * j + k) = (Int32.ofNat t))
def tr_b (h : hh_T) (m j t k : Nat) : Bool := decide (¬ hh_i h (m + 69) (12 * j + k) < (Int32.ofNat 0)) && decide (hh_i h (m + 74) (12 * j + k) = (Int32.ofNat t))
def tr_c (h : hh_T) (m j t : Nat) : Nat := fc (tr_a h m j t) 8 + fc (tr_b h m j t) 12
def tr_h (h : hh_T) (m t : Nat) : Nat → Nat
  | 0 => 0
  | k + 1 => tr_h h m t k + tr_c h m (hh_i h (m + 78) k).toNatClampNeg t
/-- how often a slot is held -/
def tr_n (h : hh_T) (m t : Nat) : Nat := (if hh_i h m 77 = (Int32.ofNat 0) then 0 else tr_c h m 0 t) + tr_h h m t (hh_i h m 99).toNatClampNeg
theorem tr_c_le (h : hh_T) (m j t : Nat) : tr_c h m j t ≤ 20 := by
  have h1 := fc_le (tr_a h m j t) 8
  have h2 := fc_le (tr_b h m j t) 12
  unfold tr_c
  omega
theorem tr_h_le (h : hh_T) (m t : Nat) : ∀ n, tr_h h m t n ≤ 20 * n
  | 0 => Nat.le_refl _
  | n + 1 => by
    have h1 := tr_h_le h m t n
    have h2 := tr_c_le h m (hh_i h (m + 78) n).toNatClampNeg t
    show tr_h h m t n + tr_c h m (hh_i h (m + 78) n).toNatClampNeg t ≤ _
    omega
section TRf
variable {h : hh_T} {m : Nat} {Q : Option Value ⊕ Nat → hh_T → Prop}
theorem t_refs1 {j t : Nat} (hT : tw_ok h m) (hj : j < 4) (H : Q (.inl (some (.int (Int32.ofNat (tr_c h m j t))))) h) : gm_G 148 0 [some (.ref m), some (.int (Int32.ofNat j)), some (.int (Int32.ofNat t))] [] h Q := by
  have lb : ∀ d k, k + d = 12 → gm_G 148 61 [some (.ref m), some (.int (Int32.ofNat j)), some (.int (Int32.ofNat t)), some (.int (Int32.ofNat ((fc (tr_a h m j t) 8 + fc (tr_b h m j t) k)))), some (.int (Int32.ofNat ((12 * j + k))))] [] h Q := by
    intro d
    induction d with
    | zero =>
      intro k ek
      have ek : k = 12 := by omega
      subst ek
      refine w_148_61 hT ?_
      simp (disch := omega) only [forall_eq, exists_eq_left, exists_eq_left', Option.some.injEq, ex_ix, i_add, i_mul, i_sub, i_lt, i_le, i_eq, i_tn, hi_e, hi_n, hj_e, hj_n, hi_wj, hj_wi, hr_wi, hr_wj, ht_wi, ht_wj, hl_wi, hl_wj, hz_wi, hz_wj, hs_wi, hs_wj, hi_wr, hj_wr, hr_e, hr_n, ht_wr, hl_wr, hz_wr, hs_wr, n_lt_t, n_lt_f, n_le_t, n_le_f, n_eq_t, n_eq_f, true_and, and_true, false_and, and_false, true_or, or_true, false_or, or_false, not_true_eq_false, not_false_eq_true, forall_const, implies_true, true_imp_iff, false_imp_iff, gs_t, reduceIte, ite_true, ite_false]
      exact H
    | succ d ih =>
      intro k ek
      have hs := fc_S (tr_b h m j t) k
      refine w_148_61 hT ?_
      by_cases z : hh_i h (m + 69) (12 * j + k) < (Int32.ofNat 0)
      · have e : tr_b h m j t k = false := by unfold tr_b; rw [decide_eq_false (fun u => u z)]; rfl
        rw [e] at hs
        simp (disch := omega) only [forall_eq, exists_eq_left, exists_eq_left', Option.some.injEq, ex_ix, i_add, i_mul, i_sub, i_lt, i_le, i_eq, i_tn, hi_e, hi_n, hj_e, hj_n, hi_wj, hj_wi, hr_wi, hr_wj, ht_wi, ht_wj, hl_wi, hl_wj, hz_wi, hz_wj, hs_wi, hs_wj, hi_wr, hj_wr, hr_e, hr_n, ht_wr, hl_wr, hz_wr, hs_wr, n_lt_t, n_lt_f, n_le_t, n_le_f, n_eq_t, n_eq_f, true_and, and_true, false_and, and_false, true_or, or_true, false_or, or_false, not_true_eq_false, not_false_eq_true, forall_const, implies_true, true_imp_iff, false_imp_iff, gs_t, reduceIte, ite_true, ite_false, z]
        refine w_148_99 hT (w_148_100 hT ?_)
        rw [i_add, i_add]
        have := ih (k + 1) (by omega)
        rw [hs] at this
        exact this
      · by_cases y : hh_i h (m + 74) (12 * j + k) = (Int32.ofNat t)
        · have e : tr_b h m j t k = true := by unfold tr_b; rw [decide_eq_true z, decide_eq_true y]; rfl
          rw [e] at hs
          simp (disch := omega) only [forall_eq, exists_eq_left, exists_eq_left', Option.some.injEq, ex_ix, i_add, i_mul, i_sub, i_lt, i_le, i_eq, i_tn, hi_e, hi_n, hj_e, hj_n, hi_wj, hj_wi, hr_wi, hr_wj, ht_wi, ht_wj, hl_wi, hl_wj, hz_wi, hz_wj, hs_wi, hs_wj, hi_wr, hj_wr, hr_e, hr_n, ht_wr, hl_wr, hz_wr, hs_wr, n_lt_t, n_lt_f, n_le_t, n_le_f, n_eq_t, n_eq_f, true_and, and_true, false_and, and_false, true_or, or_true, false_or, or_false, not_true_eq_false, not_false_eq_true, forall_const, implies_true, true_imp_iff, false_imp_iff, gs_t, reduceIte, ite_true, ite_false, z, y]
          refine w_148_100 hT ?_
          rw [i_add, i_add]
          have := ih (k + 1) (by omega)
          rw [hs] at this
          exact this
        · have e : tr_b h m j t k = false := by unfold tr_b; rw [decide_eq_false y, Bool.and_false]
          rw [e] at hs
          simp (disch := omega) only [forall_eq, exists_eq_left, exists_eq_left', Option.some.injEq, ex_ix, i_add, i_mul, i_sub, i_lt, i_le, i_eq, i_tn, hi_e, hi_n, hj_e, hj_n, hi_wj, hj_wi, hr_wi, hr_wj, ht_wi, ht_wj, hl_wi, hl_wj, hz_wi, hz_wj, hs_wi, hs_wj, hi_wr, hj_wr, hr_e, hr_n, ht_wr, hl_wr, hz_wr, hs_wr, n_lt_t, n_lt_f, n_le_t, n_le_f, n_eq_t, n_eq_f, true_and, and_true, false_and, and_false, true_or, or_true, false_or, or_false, not_true_eq_false, not_false_eq_true, forall_const, implies_true, true_imp_iff, false_imp_iff, gs_t, reduceIte, ite_true, ite_false, z, y]
          refine w_148_99 hT (w_148_100 hT ?_)
          rw [i_add, i_add]
          have := ih (k + 1) (by omega)
          rw [hs] at this
          exact this
  have la : ∀ d k, k + d = 8 → gm_G 148 8 [some (.ref m), some (.int (Int32.ofNat j)), some (.int (Int32.ofNat t)), some (.int (Int32.ofNat ((fc (tr_a h m j t) k)))), some (.int (Int32.ofNat ((8 * j + k))))] [] h Q := by
    intro d
    induction d with
    | zero =>
      intro k ek
      have ek : k = 8 := by omega
      subst ek
      refine w_148_8 hT ?_
      simp (disch := omega) only [forall_eq, exists_eq_left, exists_eq_left', Option.some.injEq, ex_ix, i_add, i_mul, i_sub, i_lt, i_le, i_eq, i_tn, hi_e, hi_n, hj_e, hj_n, hi_wj, hj_wi, hr_wi, hr_wj, ht_wi, ht_wj, hl_wi, hl_wj, hz_wi, hz_wj, hs_wi, hs_wj, hi_wr, hj_wr, hr_e, hr_n, ht_wr, hl_wr, hz_wr, hs_wr, n_lt_t, n_lt_f, n_le_t, n_le_f, n_eq_t, n_eq_f, true_and, and_true, false_and, and_false, true_or, or_true, false_or, or_false, not_true_eq_false, not_false_eq_true, forall_const, implies_true, true_imp_iff, false_imp_iff, gs_t, reduceIte, ite_true, ite_false]
      exact lb 12 0 rfl
    | succ d ih =>
      intro k ek
      have hs := fc_S (tr_a h m j t) k
      refine w_148_8 hT ?_
      by_cases z : hh_i h (m + 59) (8 * j + k) < (Int32.ofNat 0)
      · have e : tr_a h m j t k = false := by unfold tr_a; rw [decide_eq_false (fun u => u z)]; rfl
        rw [e] at hs
        simp (disch := omega) only [forall_eq, exists_eq_left, exists_eq_left', Option.some.injEq, ex_ix, i_add, i_mul, i_sub, i_lt, i_le, i_eq, i_tn, hi_e, hi_n, hj_e, hj_n, hi_wj, hj_wi, hr_wi, hr_wj, ht_wi, ht_wj, hl_wi, hl_wj, hz_wi, hz_wj, hs_wi, hs_wj, hi_wr, hj_wr, hr_e, hr_n, ht_wr, hl_wr, hz_wr, hs_wr, n_lt_t, n_lt_f, n_le_t, n_le_f, n_eq_t, n_eq_f, true_and, and_true, false_and, and_false, true_or, or_true, false_or, or_false, not_true_eq_false, not_false_eq_true, forall_const, implies_true, true_imp_iff, false_imp_iff, gs_t, reduceIte, ite_true, ite_false, z]
        refine w_148_46 hT (w_148_47 hT ?_)
        rw [i_add, i_add]
        have := ih (k + 1) (by omega)
        rw [hs] at this
        exact this
      · by_cases y : hh_i h (m + 63) (8 * j + k) = (Int32.ofNat t)
        · have e : tr_a h m j t k = true := by unfold tr_a; rw [decide_eq_true z, decide_eq_true y]; rfl
          rw [e] at hs
          simp (disch := omega) only [forall_eq, exists_eq_left, exists_eq_left', Option.some.injEq, ex_ix, i_add, i_mul, i_sub, i_lt, i_le, i_eq, i_tn, hi_e, hi_n, hj_e, hj_n, hi_wj, hj_wi, hr_wi, hr_wj, ht_wi, ht_wj, hl_wi, hl_wj, hz_wi, hz_wj, hs_wi, hs_wj, hi_wr, hj_wr, hr_e, hr_n, ht_wr, hl_wr, hz_wr, hs_wr, n_lt_t, n_lt_f, n_le_t, n_le_f, n_eq_t, n_eq_f, true_and, and_true, false_and, and_false, true_or, or_true, false_or, or_false, not_true_eq_false, not_false_eq_true, forall_const, implies_true, true_imp_iff, false_imp_iff, gs_t, reduceIte, ite_true, ite_false, z, y]
          refine w_148_47 hT ?_
          rw [i_add, i_add]
          have := ih (k + 1) (by omega)
          rw [hs] at this
          exact this
        · have e : tr_a h m j t k = false := by unfold tr_a; rw [decide_eq_false y, Bool.and_false]
          rw [e] at hs
          simp (disch := omega) only [forall_eq, exists_eq_left, exists_eq_left', Option.some.injEq, ex_ix, i_add, i_mul, i_sub, i_lt, i_le, i_eq, i_tn, hi_e, hi_n, hj_e, hj_n, hi_wj, hj_wi, hr_wi, hr_wj, ht_wi, ht_wj, hl_wi, hl_wj, hz_wi, hz_wj, hs_wi, hs_wj, hi_wr, hj_wr, hr_e, hr_n, ht_wr, hl_wr, hz_wr, hs_wr, n_lt_t, n_lt_f, n_le_t, n_le_f, n_eq_t, n_eq_f, true_and, and_true, false_and, and_false, true_or, or_true, false_or, or_false, not_true_eq_false, not_false_eq_true, forall_const, implies_true, true_imp_iff, false_imp_iff, gs_t, reduceIte, ite_true, ite_false, z, y]
          refine w_148_46 hT (w_148_47 hT ?_)
          rw [i_add, i_add]
          have := ih (k + 1) (by omega)
          rw [hs] at this
          exact this
  refine w_148_0 hT ?_
  rw [i_mul]
  exact la 8 0 rfl
theorem t_refs {t nh : Nat} (hT : tw_ok h m) (e99 : hh_i h m 99 = (Int32.ofNat nh)) (hn : nh ≤ 3) (hs : ∀ k, k < nh → ∃ j, j < 4 ∧ hh_i h (m + 78) k = (Int32.ofNat j)) (H : tr_n h m t ≤ 80 → Q (.inl (some (.int (Int32.ofNat (tr_n h m t))))) h) : gm_G 300 0 [some (.ref m), some (.int (Int32.ofNat t))] [] h Q := by
  have en : (hh_i h m 99).toNatClampNeg = nh := by rw [e99, i_tn (by omega)]
  have lp : ∀ d k c, k + d = nh → c = (if hh_i h m 77 = (Int32.ofNat 0) then 0 else tr_c h m 0 t) + tr_h h m t k → gm_G 300 20 [some (.ref m), some (.int (Int32.ofNat t)), some (.int (Int32.ofNat c)), some (.int (Int32.ofNat k))] [] h Q := by
    intro d
    induction d with
    | zero =>
      intro k c ek hc
      have ek : k = nh := by omega
      subst ek
      refine w_300_20 hT ?_
      simp (disch := omega) only [forall_eq, exists_eq_left, exists_eq_left', Option.some.injEq, ex_ix, i_add, i_mul, i_sub, i_lt, i_le, i_eq, i_tn, hi_e, hi_n, hj_e, hj_n, hi_wj, hj_wi, hr_wi, hr_wj, ht_wi, ht_wj, hl_wi, hl_wj, hz_wi, hz_wj, hs_wi, hs_wj, hi_wr, hj_wr, hr_e, hr_n, ht_wr, hl_wr, hz_wr, hs_wr, n_lt_t, n_lt_f, n_le_t, n_le_f, n_eq_t, n_eq_f, true_and, and_true, false_and, and_false, true_or, or_true, false_or, or_false, not_true_eq_false, not_false_eq_true, forall_const, implies_true, true_imp_iff, false_imp_iff, gs_t, reduceIte, ite_true, ite_false, e99]
      unfold tr_n at H
      rw [en, ← hc] at H
      refine H ?_
      have h1 := tr_h_le h m t k
      have h2 := tr_c_le h m 0 t
      rw [hc]
      split <;> omega
    | succ d ih =>
      intro k c ek hc
      obtain ⟨j, hj, ej⟩ := hs k (by omega)
      refine w_300_20 hT ⟨fun z => absurd (by rw [e99, i_lt (by omega) (by omega)]; omega) z, fun _ => ⟨k, ix_n (by omega) (by omega), ?_⟩⟩
      rw [ej]
      refine t_refs1 hT hj ?_
      show gm_G 300 20 _ [] h Q
      rw [i_add, i_add]
      refine ih (k + 1) _ (by omega) ?_
      show _ = _ + (tr_h h m t k + tr_c h m (hh_i h (m + 78) k).toNatClampNeg t)
      rw [hc, ej, i_tn (by omega)]
      omega
  refine w_300_0 hT ⟨fun z => w_300_17 hT (lp nh 0 0 (Nat.zero_add _) (by rw [if_pos z]; rfl)), fun z => ?_⟩
  refine t_refs1 hT (by decide) ?_
  exact w_300_17 hT (lp nh 0 _ (Nat.zero_add _) (by rw [if_neg z]; rfl))
end TRf
