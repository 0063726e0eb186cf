/-! STAGE 3: objects of the twin -/
def oCl : List Nat := [40, 44, 45, 48, 49, 55]
section TOb
variable {h : hh_T} {m : Nat} {Q : Option Value ⊕ Nat → hh_T → Prop}
theorem t_clearObject {q : Nat} (hT : tw_ok h m) (hq : q < 1536) (H : ∀ h', fr (tO m oCl []) h h' → hh_i h' (m + 40) q = (Int32.ofNat 0) → (∀ o x, ([40, 44, 45, 48, 49].contains o) = true → ¬ x = q → hh_i h' (m + o) x = hh_i h (m + o) x) → (∀ x, hh_i h' (m + 55) x = if 8 * q ≤ x ∧ x < 8 * q + 8 then Int32.ofInt (-1) else hh_i h (m + 55) x) → Q (.inl none) h') : gm_G 95 0 [some (.ref m), some (.int (Int32.ofNat q))] [] h Q := by
  refine w_95_0 hT ?_
  simp (disch := omega) only [forall_eq, exists_eq_left, exists_eq_left', Option.some.injEq, ex_ix, i_add, i_mul, i_sub, i_lt, i_le, i_eq, i_tn, hi_e, hi_n, hj_e, hj_n, hi_wj, hj_wi, hr_wi, hr_wj, ht_wi, ht_wj, hl_wi, hl_wj, hz_wi, hz_wj, hs_wi, hs_wj, hi_wr, hj_wr, hr_e, hr_n, ht_wr, hl_wr, hz_wr, hs_wr, n_lt_t, n_lt_f, n_le_t, n_le_f, n_eq_t, n_eq_f, true_and, and_true, false_and, and_false, true_or, or_true, false_or, or_false, not_true_eq_false, not_false_eq_true, forall_const, implies_true, true_imp_iff, false_imp_iff, gs_t, reduceIte, ite_true, ite_false]
  have g0 : fr (tO m oCl []) h (hh_wi (hh_wi (hh_wi (hh_wi (hh_wi h (m + 40) q (Int32.ofNat 0)) (m + 49) q (Int32.ofNat 0)) (m + 45) q (Int32.ofNat 0)) (m + 44) q (Int32.ofNat 0)) (m + 48) q (Int32.ofNat 0)) := ((((fr.a rfl).trans (fr.a rfl)).trans (fr.a rfl)).trans (fr.a rfl)).trans (fr.a rfl)
  refine lp_fill (m := m) (o := 55) (b := 8 * q) (n := 8) (fun i => [some (.ref m), some (.int (Int32.ofNat q)), some (.int (Int32.ofNat i))]) (fun _ => Int32.ofInt (-1)) (by decide) (fun i h1 hi g1 _ k => ?_) (fun h1 g1 e => ?_)
  · refine w_95_37 ((hT.fr g0).fr g1) ?_
    simp (disch := omega) only [forall_eq, exists_eq_left, exists_eq_left', Option.some.injEq, ex_ix, i_add, i_mul, i_sub, i_lt, i_le, i_eq, i_tn, hi_e, hi_n, hj_e, hj_n, hi_wj, hj_wi, hr_wi, hr_wj, ht_wi, ht_wj, hl_wi, hl_wj, hz_wi, hz_wj, hs_wi, hs_wj, hi_wr, hj_wr, hr_e, hr_n, ht_wr, hl_wr, hz_wr, hs_wr, n_lt_t, n_lt_f, n_le_t, n_le_f, n_eq_t, n_eq_f, true_and, and_true, false_and, and_false, true_or, or_true, false_or, or_false, not_true_eq_false, not_false_eq_true, forall_const, implies_true, true_imp_iff, false_imp_iff, gs_t, reduceIte, ite_true, ite_false]
    exact k
  · refine w_95_37 ((hT.fr g0).fr g1) ⟨fun _ => ?_, fun z => absurd z (by decide)⟩
    refine H h1 (g0.trans (g1.up rfl rfl)) ?_ (fun o x ho hx => ?_) (fun x => ?_)
    · rw [g1.arr (o := 40) rfl, hi_n (by omega), hi_n (by omega), hi_n (by omega), hi_n (by omega), hi_e ⟨rfl, rfl⟩]
    · have : o = 40 ∨ o = 44 ∨ o = 45 ∨ o = 48 ∨ o = 49 := by simpa using ho
      rw [g1.arrs (P := fun o => !(Nat.beq o 55)) rfl (by rcases this with u | u | u | u | u <;> rw [u] <;> rfl) (by omega), hi_n (by omega), hi_n (by omega), hi_n (by omega), hi_n (by omega), hi_n (by omega)]
    · rw [e x]
      split
      · rfl
      · rw [hi_n (by omega), hi_n (by omega), hi_n (by omega), hi_n (by omega), hi_n (by omega)]
end TOb
