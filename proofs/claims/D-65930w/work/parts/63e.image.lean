/-! STAGE 3, 9: the twin's image of a copy -/
theorem nq_div {q n r : Nat} (h : r < n) : (q * n + r) / n = q ∧ (q * n + r) % n = r := by
  rw [Nat.mul_comm]
  refine ⟨?_, ?_⟩
  · rw [Nat.mul_add_div (by omega), Nat.div_eq_of_lt h]; omega
  · rw [Nat.mul_add_mod, Nat.mod_eq_of_lt h]
/-- byte i of sector j of a copy, of any group -/
def zg_im (G : zG) (g k : Nat) (f : Nat → Int32) (j i : Nat) : Int32 := if zg_par G g then zi_x (zg_chk G g) (zg_many G g - zg_chk G g) k f j i else f (8 * j + i)
theorem zi_x_c {m w k : Nat} {f : Nat → Int32} {q o i : Nat} (ho : o < m) : zi_x m w k f (q * (m + w) + o) i = byt (Int32.ofNat (zi_c o (fun e => vz (f (8 * (q * w + e) + i))) (min w (k - q * w)))) := by
  obtain ⟨e1, e2⟩ := nq_div (q := q) (n := m + w) (r := o) (by omega)
  unfold zi_x
  rw [e1, e2, if_pos ho]
theorem zi_x_d {m w k : Nat} {f : Nat → Int32} {q o i : Nat} (ho : o < w) : zi_x m w k f (q * (m + w) + (m + o)) i = f (8 * (q * w + o) + i) := by
  obtain ⟨e1, e2⟩ := nq_div (q := q) (n := m + w) (r := m + o) (by omega)
  unfold zi_x
  rw [e1, e2, if_neg (by omega), show m + o - m = o by omega]
theorem zi_c_lt (j : Nat) (v : Nat → Nat) : ∀ r, zi_c j v r < 256
  | 0 => by show 0 < 256; decide
  | r + 1 => xor_256 (zi_c_lt j v r) (gt_lt (pw_lt _))
section TI
variable {h : hh_T} {m : Nat} {Q : Option Value ⊕ Nat → hh_T → Prop} {P : zP} {G : zG}
theorem t_makeImage {g b a p k : Nat} (hT : tw_ok h m) (R : rT_G h m G) (K : zg_ok P G) (hg : g < zg_ng G) (hb : b < 640) (hk : hh_i h (m + 21) b = (Int32.ofNat k)) (hk1 : 1 ≤ k) (hk4 : k ≤ 4) (ht : hh_tg h a = 101) (hl : p + 8 * k ≤ hh_ln h a) (hl2 : hh_ln h a < 2000000) (hB : ∀ i, gy_b (hh_i h a i)) (ha : ¬ a = m + 16)
    (H : ∀ h', fr (tO m [16] []) h h' → (∀ j i, j < zg_sp G g k → i < 8 → hh_i h' (m + 16) (8 * j + i) = zg_im G g k (fun x => hh_i h a (p + x)) j i) → Q (.inl (some (.int (Int32.ofNat (zg_sp G g k))))) h') : gm_G 374 0 [some (.ref m), some (.int (Int32.ofNat g)), some (.int (Int32.ofNat b)), some (.ref a), some (.int (Int32.ofNat p))] [] h Q := by
  obtain ⟨k0, k1, k2⟩ := K
  obtain ⟨c1, c2, c3, c4, c5, c6, c7⟩ := k1 g hg
  obtain ⟨r1, r2, r3, r4⟩ := R
  obtain ⟨s1, s2, s3, s4, s5⟩ := r3 g hg
  have hk2 := zg_ki_le G g
  have ao : ∀ h1, fr (tO m [16] []) h h1 → hh_i h1 a = hh_i h a := fun h1 f => f.out (by
    by_cases z : a < m
    · exact Or.inl z
    · exact Or.inr ⟨fun o ho => by simp at ho; omega, fun e => by have := hT.1; rw [← e, ht] at this; cases this⟩)
  refine w_374_0 hT ?_
  cases z : zg_par G g with
  | false =>
    have e2 : ¬ zg_ki G g = 2 := fun q => by rw [zg_ki_2, z] at q; cases q
    have esp : zg_sp G g k = k := by unfold zg_sp; rw [z]; rfl
    simp (disch := omega) only [forall_eq, exists_eq_left, exists_eq_left', Option.some.injEq, ex_ix, i_add, i_mul, i_sub, i_lt, i_le, i_eq, i_tn, hi_e, hi_n, hj_e, hj_n, hi_wj, hj_wi, hr_wi, hr_wj, ht_wi, ht_wj, hl_wi, hl_wj, hz_wi, hz_wj, hs_wi, hs_wj, hi_wr, hj_wr, hr_e, hr_n, ht_wr, hl_wr, hz_wr, hs_wr, n_lt_t, n_lt_f, n_le_t, n_le_f, n_eq_t, n_eq_f, true_and, and_true, false_and, and_false, true_or, or_true, false_or, or_false, not_true_eq_false, not_false_eq_true, forall_const, implies_true, true_imp_iff, false_imp_iff, gs_t, reduceIte, ite_true, ite_false, hk, s1]
    refine lp_fill (m := m) (o := 16) (b := 0) (n := 8 * k) (fun i => [some (.ref m), none, none, some (.ref a), some (.int (Int32.ofNat p)), some (.int (Int32.ofNat k)), some (.int (Int32.ofNat i))]) (fun i => hh_i h a (p + i)) (by decide) (fun i h1 hi f _ K2 => ?_) (fun h1 f hv => ?_)
    · refine w_374_21 (hT.fr f) ?_
      have ey : (hh_i h a (p + i)).toInt8.toInt32 = hh_i h a (p + i) := hB _
      simp (disch := omega) only [forall_eq, exists_eq_left, exists_eq_left', Option.some.injEq, ex_ix, i_add, i_mul, i_sub, i_lt, i_le, i_eq, i_tn, hi_e, hi_n, hj_e, hj_n, hi_wj, hj_wi, hr_wi, hr_wj, ht_wi, ht_wj, hl_wi, hl_wj, hz_wi, hz_wj, hs_wi, hs_wj, hi_wr, hj_wr, hr_e, hr_n, ht_wr, hl_wr, hz_wr, hs_wr, n_lt_t, n_lt_f, n_le_t, n_le_f, n_eq_t, n_eq_f, true_and, and_true, false_and, and_false, true_or, or_true, false_or, or_false, not_true_eq_false, not_false_eq_true, forall_const, implies_true, true_imp_iff, false_imp_iff, gs_t, reduceIte, ite_true, ite_false, f.tg, f.ln, ht, ao h1 f, ey]
      simpa using K2
    · refine w_374_21 (hT.fr f) ?_
      simp (disch := omega) only [forall_eq, exists_eq_left, exists_eq_left', Option.some.injEq, ex_ix, i_add, i_mul, i_sub, i_lt, i_le, i_eq, i_tn, hi_e, hi_n, hj_e, hj_n, hi_wj, hj_wi, hr_wi, hr_wj, ht_wi, ht_wj, hl_wi, hl_wj, hz_wi, hz_wj, hs_wi, hs_wj, hi_wr, hj_wr, hr_e, hr_n, ht_wr, hl_wr, hz_wr, hs_wr, n_lt_t, n_lt_f, n_le_t, n_le_f, n_eq_t, n_eq_f, true_and, and_true, false_and, and_false, true_or, or_true, false_or, or_false, not_true_eq_false, not_false_eq_true, forall_const, implies_true, true_imp_iff, false_imp_iff, gs_t, reduceIte, ite_true, ite_false]
      rw [esp] at H
      refine H h1 f (fun j i hj hi => ?_)
      unfold zg_im
      rw [z, hv, if_pos (by omega), show 8 * j + i - 0 = 8 * j + i by omega]
      rfl
  | true =>
    obtain ⟨d1, d2, d3⟩ := c5 z
    have e2 : zg_ki G g = 2 := zg_ki_2.mpr z
    obtain ⟨w, hw⟩ : ∃ w, zg_many G g = zg_chk G g + w := ⟨zg_many G g - zg_chk G g, by omega⟩
    obtain ⟨M, hM⟩ : ∃ M, zg_chk G g = M := ⟨_, rfl⟩
    rw [hM] at hw d1 d2 d3 s2
    have ew : zg_many G g - zg_chk G g = w := by omega
    have esp : zg_sp G g k = k + M * ((k + w - 1) / w) := by unfold zg_sp; rw [z, ew, hM]; rfl
    have eim : ∀ f j i, zg_im G g k f j i = zi_x M w k f j i := fun f j i => by unfold zg_im; rw [z, ew, hM]; rfl
    rw [esp] at H
    simp only [eim] at H
    obtain ⟨F, hF⟩ : ∃ F : Nat → Int32, F = fun x => hh_i h a (p + x) := ⟨_, rfl⟩
    rw [← hF] at H
    have hw1 : 1 ≤ w := by omega
    have hw5 : w ≤ 5 := by omega
    have hFv : ∀ h1 x, fr (tO m [16] []) h h1 → hh_i h1 a (p + x) = F x := fun h1 x f => by rw [ao h1 f, hF]
    have hFb : ∀ x, gy_b (F x) := fun x => by rw [hF]; exact hB _
    simp (disch := omega) only [forall_eq, exists_eq_left, exists_eq_left', Option.some.injEq, ex_ix, i_add, i_mul, i_sub, i_lt, i_le, i_eq, i_tn, hi_e, hi_n, hj_e, hj_n, hi_wj, hj_wi, hr_wi, hr_wj, ht_wi, ht_wj, hl_wi, hl_wj, hz_wi, hz_wj, hs_wi, hs_wj, hi_wr, hj_wr, hr_e, hr_n, ht_wr, hl_wr, hz_wr, hs_wr, n_lt_t, n_lt_f, n_le_t, n_le_f, n_eq_t, n_eq_f, true_and, and_true, false_and, and_false, true_or, or_true, false_or, or_false, not_true_eq_false, not_false_eq_true, forall_const, implies_true, true_imp_iff, false_imp_iff, gs_t, reduceIte, ite_true, ite_false, hk, s1, s2, s3, e2, hw, show M + w - M = w by omega]
    -- a row: checks j, bytes i
    have row : ∀ e q h1, q * w + e = k + 5 → q * w < k + w → fr (tO m [16] []) h h1 → (∀ j i, j < (if q * w < k then q * (M + w) else k + M * ((k + w - 1) / w)) → i < 8 → hh_i h1 (m + 16) (8 * j + i) = zi_x M w k F j i) → gm_G 374 79 [some (.ref m), none, none, some (.ref a), some (.int (Int32.ofNat p)), some (.int (Int32.ofNat k)), some (.int (Int32.ofNat M)), some (.int (Int32.ofNat w)), some (.int (Int32.ofNat ((if q * w < k then q * (M + w) else k + M * ((k + w - 1) / w))))), some (.int (Int32.ofNat ((q * w))))] [] h1 Q := by
      intro e
      induction e using Nat.strongRecOn with
      | ind e IH =>
      intro q h1 eq hq f hv
      by_cases c : q * w < k
      · rw [if_pos c] at hv ⊢
        obtain ⟨X, hX⟩ : ∃ X, X = q * w := ⟨_, rfl⟩
        obtain ⟨A, hA⟩ : ∃ A, A = q * (M + w) := ⟨_, rfl⟩
        have hAX : A = q * M + X := by rw [hA, hX, Nat.mul_add]
        have hqk : q ≤ X := by rw [hX]; exact Nat.le_mul_of_pos_right q hw1
        have hqM : q * M ≤ 12 := Nat.le_trans (Nat.mul_le_mul (show q ≤ 4 by omega) d2) (by decide)
        rw [← hX, ← hA]
        rw [← hA] at hv
        rw [← hX] at c eq hq
        obtain ⟨r, hr⟩ : ∃ r, r = min w (k - X) := ⟨_, rfl⟩
        have hr1 : 1 ≤ r := by omega
        have hr4 : r ≤ 4 := by omega
        refine w_374_79 (hT.fr f) ?_
        -- the data of the row
        have dat : ∀ h2, fr (tO m [16] []) h h2 → (∀ j i, j < A + M → i < 8 → hh_i h2 (m + 16) (8 * j + i) = zi_x M w k F j i) → gm_G 374 217 [some (.ref m), none, none, some (.ref a), some (.int (Int32.ofNat p)), some (.int (Int32.ofNat k)), some (.int (Int32.ofNat M)), some (.int (Int32.ofNat w)), some (.int (Int32.ofNat A)), some (.int (Int32.ofNat X)), some (.int (Int32.ofNat r)), some (.int (Int32.ofNat 0))] [] h2 Q := by
          intro h2 f2 hv2
          refine lp_fill (m := m) (o := 16) (b := 8 * (A + M)) (n := 8 * r) (fun i => [some (.ref m), none, none, some (.ref a), some (.int (Int32.ofNat p)), some (.int (Int32.ofNat k)), some (.int (Int32.ofNat M)), some (.int (Int32.ofNat w)), some (.int (Int32.ofNat A)), some (.int (Int32.ofNat X)), some (.int (Int32.ofNat r)), some (.int (Int32.ofNat i))]) (fun i => F (8 * X + i)) (by decide) (fun i h3 hi f3 _ K2 => ?_) (fun h3 f3 hv3 => ?_)
          · refine w_374_217 (hT.fr (f2.trans f3)) ?_
            have ey : (F (8 * X + i)).toInt8.toInt32 = F (8 * X + i) := hFb _
            have ef := hFv h3 (8 * X + i) (f2.trans f3)
            have ea : p + 8 * X + i = p + (8 * X + i) := by omega
            simp (disch := omega) only [forall_eq, exists_eq_left, exists_eq_left', Option.some.injEq, ex_ix, i_add, i_mul, i_sub, i_lt, i_le, i_eq, i_tn, hi_e, hi_n, hj_e, hj_n, hi_wj, hj_wi, hr_wi, hr_wj, ht_wi, ht_wj, hl_wi, hl_wj, hz_wi, hz_wj, hs_wi, hs_wj, hi_wr, hj_wr, hr_e, hr_n, ht_wr, hl_wr, hz_wr, hs_wr, n_lt_t, n_lt_f, n_le_t, n_le_f, n_eq_t, n_eq_f, true_and, and_true, false_and, and_false, true_or, or_true, false_or, or_false, not_true_eq_false, not_false_eq_true, forall_const, implies_true, true_imp_iff, false_imp_iff, gs_t, reduceIte, ite_true, ite_false, (f2.trans f3).tg, (f2.trans f3).ln, ht, ea, ef, ey]
            exact K2
          · refine w_374_217 (hT.fr (f2.trans f3)) ?_
            simp (disch := omega) only [forall_eq, exists_eq_left, exists_eq_left', Option.some.injEq, ex_ix, i_add, i_mul, i_sub, i_lt, i_le, i_eq, i_tn, hi_e, hi_n, hj_e, hj_n, hi_wj, hj_wi, hr_wi, hr_wj, ht_wi, ht_wj, hl_wi, hl_wj, hz_wi, hz_wj, hs_wi, hs_wj, hi_wr, hj_wr, hr_e, hr_n, ht_wr, hl_wr, hz_wr, hs_wr, n_lt_t, n_lt_f, n_le_t, n_le_f, n_eq_t, n_eq_f, true_and, and_true, false_and, and_false, true_or, or_true, false_or, or_false, not_true_eq_false, not_false_eq_true, forall_const, implies_true, true_imp_iff, false_imp_iff, gs_t, reduceIte, ite_true, ite_false]
            have ok3 : ∀ j i, j < A + M + r → i < 8 → hh_i h3 (m + 16) (8 * j + i) = zi_x M w k F j i := by
              intro j i hj hi
              rw [hv3]
              by_cases y : j < A + M
              · rw [if_neg (by omega)]
                exact hv2 j i y hi
              · rw [if_pos (by omega)]
                obtain ⟨o, ho⟩ : ∃ o, j = A + (M + o) := ⟨j - A - M, by omega⟩
                rw [ho, hA, zi_x_d (by omega), ← hX]
                congr 1
                omega
            have e1 : (q + 1) * w = X + w := by rw [Nat.succ_mul, hX]
            have e2' : (q + 1) * (M + w) = A + (M + w) := by rw [Nat.succ_mul, hA]
            have e3 : A + (M + r) = (if (q + 1) * w < k then (q + 1) * (M + w) else k + M * ((k + w - 1) / w)) := by
              rw [e1, e2']
              by_cases y : X + w < k
              · rw [if_pos y]; omega
              · rw [if_neg y]
                have : (k + w - 1) / w = q + 1 := by
                  apply Nat.div_eq_of_lt_le
                  · rw [e1]; omega
                  · rw [Nat.succ_mul (q + 1), e1]; omega
                rw [this, Nat.mul_succ, Nat.mul_comm M q]
                omega
            have := IH (e - w) (by omega) (q + 1) h3 (by rw [e1]; omega) (by rw [e1]; omega) (f2.trans f3) (by rw [← e3]; intro j i hj hi; exact ok3 j i (by omega) hi)
            rw [← e3, e1] at this
            exact this
        -- the checks
        have chk : ∀ d j h2, j + d = M → fr (tO m [16] []) h h2 → (∀ j' i, j' < A + j → i < 8 → hh_i h2 (m + 16) (8 * j' + i) = zi_x M w k F j' i) → gm_G 374 111 [some (.ref m), none, none, some (.ref a), some (.int (Int32.ofNat p)), some (.int (Int32.ofNat k)), some (.int (Int32.ofNat M)), some (.int (Int32.ofNat w)), some (.int (Int32.ofNat A)), some (.int (Int32.ofNat X)), some (.int (Int32.ofNat r)), some (.int (Int32.ofNat j))] [] h2 Q := by
          intro d
          induction d with
          | zero =>
            intro j h2 ej f2 hv2
            have ej : j = M := by omega
            subst ej
            refine w_374_111 (hT.fr f2) ?_
            simp (disch := omega) only [forall_eq, exists_eq_left, exists_eq_left', Option.some.injEq, ex_ix, i_add, i_mul, i_sub, i_lt, i_le, i_eq, i_tn, hi_e, hi_n, hj_e, hj_n, hi_wj, hj_wi, hr_wi, hr_wj, ht_wi, ht_wj, hl_wi, hl_wj, hz_wi, hz_wj, hs_wi, hs_wj, hi_wr, hj_wr, hr_e, hr_n, ht_wr, hl_wr, hz_wr, hs_wr, n_lt_t, n_lt_f, n_le_t, n_le_f, n_eq_t, n_eq_f, true_and, and_true, false_and, and_false, true_or, or_true, false_or, or_false, not_true_eq_false, not_false_eq_true, forall_const, implies_true, true_imp_iff, false_imp_iff, gs_t, reduceIte, ite_true, ite_false]
            exact dat h2 f2 hv2
          | succ d ih =>
            intro j h2 ej f2 hv2
            refine w_374_111 (hT.fr f2) ?_
            simp (disch := omega) only [forall_eq, exists_eq_left, exists_eq_left', Option.some.injEq, ex_ix, i_add, i_mul, i_sub, i_lt, i_le, i_eq, i_tn, hi_e, hi_n, hj_e, hj_n, hi_wj, hj_wi, hr_wi, hr_wj, ht_wi, ht_wj, hl_wi, hl_wj, hz_wi, hz_wj, hs_wi, hs_wj, hi_wr, hj_wr, hr_e, hr_n, ht_wr, hl_wr, hz_wr, hs_wr, n_lt_t, n_lt_f, n_le_t, n_le_f, n_eq_t, n_eq_f, true_and, and_true, false_and, and_false, true_or, or_true, false_or, or_false, not_true_eq_false, not_false_eq_true, forall_const, implies_true, true_imp_iff, false_imp_iff, gs_t, reduceIte, ite_true, ite_false]
            -- the bytes of a check
            have byl : ∀ d' i h3, i + d' = 8 → fr (tO m [16] []) h h3 → (∀ j' i, j' < A + j → i < 8 → hh_i h3 (m + 16) (8 * j' + i) = zi_x M w k F j' i) → (∀ i', i' < i → hh_i h3 (m + 16) (8 * (A + j) + i') = zi_x M w k F (A + j) i') → gm_G 374 121 [some (.ref m), none, none, some (.ref a), some (.int (Int32.ofNat p)), some (.int (Int32.ofNat k)), some (.int (Int32.ofNat M)), some (.int (Int32.ofNat w)), some (.int (Int32.ofNat A)), some (.int (Int32.ofNat X)), some (.int (Int32.ofNat r)), some (.int (Int32.ofNat j)), some (.int (Int32.ofNat i))] [] h3 Q := by
              intro d'
              induction d' with
              | zero =>
                intro i h3 ei f3 hv3 hi3
                have ei : i = 8 := by omega
                subst ei
                refine w_374_121 (hT.fr f3) ?_
                simp (disch := omega) only [forall_eq, exists_eq_left, exists_eq_left', Option.some.injEq, ex_ix, i_add, i_mul, i_sub, i_lt, i_le, i_eq, i_tn, hi_e, hi_n, hj_e, hj_n, hi_wj, hj_wi, hr_wi, hr_wj, ht_wi, ht_wj, hl_wi, hl_wj, hz_wi, hz_wj, hs_wi, hs_wj, hi_wr, hj_wr, hr_e, hr_n, ht_wr, hl_wr, hz_wr, hs_wr, n_lt_t, n_lt_f, n_le_t, n_le_f, n_eq_t, n_eq_f, true_and, and_true, false_and, and_false, true_or, or_true, false_or, or_false, not_true_eq_false, not_false_eq_true, forall_const, implies_true, true_imp_iff, false_imp_iff, gs_t, reduceIte, ite_true, ite_false]
                refine ih (j + 1) h3 (by omega) f3 (fun j' i hj hi => ?_)
                by_cases y : j' = A + j
                · subst y; exact hi3 i hi
                · exact hv3 j' i (by omega) hi
              | succ d' ih2 =>
                intro i h3 ei f3 hv3 hi3
                refine w_374_121 (hT.fr f3) ?_
                simp (disch := omega) only [forall_eq, exists_eq_left, exists_eq_left', Option.some.injEq, ex_ix, i_add, i_mul, i_sub, i_lt, i_le, i_eq, i_tn, hi_e, hi_n, hj_e, hj_n, hi_wj, hj_wi, hr_wi, hr_wj, ht_wi, ht_wj, hl_wi, hl_wj, hz_wi, hz_wj, hs_wi, hs_wj, hi_wr, hj_wr, hr_e, hr_n, ht_wr, hl_wr, hz_wr, hs_wr, n_lt_t, n_lt_f, n_le_t, n_le_f, n_eq_t, n_eq_f, true_and, and_true, false_and, and_false, true_or, or_true, false_or, or_false, not_true_eq_false, not_false_eq_true, forall_const, implies_true, true_imp_iff, false_imp_iff, gs_t, reduceIte, ite_true, ite_false]
                have el : ∀ d3 e, e + d3 = r → gm_G 374 134 [some (.ref m), none, none, some (.ref a), some (.int (Int32.ofNat p)), some (.int (Int32.ofNat k)), some (.int (Int32.ofNat M)), some (.int (Int32.ofNat w)), some (.int (Int32.ofNat A)), some (.int (Int32.ofNat X)), some (.int (Int32.ofNat r)), some (.int (Int32.ofNat j)), some (.int (Int32.ofNat i)), some (.int (Int32.ofNat ((zi_c j (fun e => vz (F (8 * (X + e) + i))) e)))), some (.int (Int32.ofNat e))] [] h3 Q := by
                  intro d3
                  induction d3 with
                  | zero =>
                    intro e ee
                    have ee : e = r := by omega
                    subst ee
                    refine w_374_134 (hT.fr f3) ?_
                    simp (disch := omega) only [forall_eq, exists_eq_left, exists_eq_left', Option.some.injEq, ex_ix, i_add, i_mul, i_sub, i_lt, i_le, i_eq, i_tn, hi_e, hi_n, hj_e, hj_n, hi_wj, hj_wi, hr_wi, hr_wj, ht_wi, ht_wj, hl_wi, hl_wj, hz_wi, hz_wj, hs_wi, hs_wj, hi_wr, hj_wr, hr_e, hr_n, ht_wr, hl_wr, hz_wr, hs_wr, n_lt_t, n_lt_f, n_le_t, n_le_f, n_eq_t, n_eq_f, true_and, and_true, false_and, and_false, true_or, or_true, false_or, or_false, not_true_eq_false, not_false_eq_true, forall_const, implies_true, true_imp_iff, false_imp_iff, gs_t, reduceIte, ite_true, ite_false]
                    have ev : (((Int32.ofNat (zi_c j (fun e => vz (F (8 * (X + e) + i))) e))).toInt8.toInt32).toInt8.toInt32 = zi_x M w k F (A + j) i := by
                      rw [hA, zi_x_c (by omega), ← hX, ← hr]
                      exact byt_byt _
                    rw [ev]
                    refine ih2 (i + 1) _ (by omega) (f3.trans (fr.a rfl)) (fun j' i' hj hi' => ?_) (fun i' hi' => ?_)
                    · rw [hi_n (by omega)]; exact hv3 j' i' hj hi'
                    · by_cases y : i' = i
                      · subst y; rw [hi_e ⟨rfl, rfl⟩]
                      · rw [hi_n (by omega)]; exact hi3 i' (by omega)
                  | succ d3 ih3 =>
                    intro e ee
                    have hje : j * e ≤ 15 := Nat.le_trans (Nat.mul_le_mul (show j ≤ 3 by omega) (show e ≤ 5 by omega)) (by decide)
                    refine w_374_134 (hT.fr f3) ⟨fun y => absurd (by rw [i_lt (by omega) (by omega)]; omega) y, fun _ => ?_⟩
                    rw [i_mul]
                    refine t_power2 (hT.fr f3) (by omega) ?_
                    have ea : p + 8 * (X + e) + i = p + (8 * (X + e) + i) := by omega
                    show (_ ∧ _)
                    simp (disch := omega) only [forall_eq, exists_eq_left, exists_eq_left', Option.some.injEq, ex_ix, i_add, i_mul, i_sub, i_lt, i_le, i_eq, i_tn, hi_e, hi_n, hj_e, hj_n, hi_wj, hj_wi, hr_wi, hr_wj, ht_wi, ht_wj, hl_wi, hl_wj, hz_wi, hz_wj, hs_wi, hs_wj, hi_wr, hj_wr, hr_e, hr_n, ht_wr, hl_wr, hz_wr, hs_wr, n_lt_t, n_lt_f, n_le_t, n_le_f, n_eq_t, n_eq_f, true_and, and_true, false_and, and_false, true_or, or_true, false_or, or_false, not_true_eq_false, not_false_eq_true, forall_const, implies_true, true_imp_iff, false_imp_iff, gs_t, reduceIte, ite_true, ite_false, f3.tg, f3.ln, ht, ea, hFv h3 (8 * (X + e) + i) f3]
                    rw [(vz_of _).1]
                    refine t_times (hT.fr f3) (pw_lt _) (vz_of _).2 ?_
                    have e9 := ih3 (e + 1) (by omega)
                    show gm_G 374 134 _ _ _ _
                    rw [i_xor]
                    exact e9
                exact el r 0 (by omega)
            exact byl 8 0 h2 (by omega) f2 hv2 (fun i' hi' => by omega)
        have go : gm_G 374 106 [some (.ref m), none, none, some (.ref a), some (.int (Int32.ofNat p)), some (.int (Int32.ofNat k)), some (.int (Int32.ofNat M)), some (.int (Int32.ofNat w)), some (.int (Int32.ofNat A)), some (.int (Int32.ofNat X))] [.int (Int32.ofNat r)] h1 Q := w_374_106 (hT.fr f) (chk M 0 h1 (by omega) f (fun j' i hj hi => hv j' i (by omega) hi))
        by_cases y : k - X < w
        · simp (disch := omega) only [forall_eq, exists_eq_left, exists_eq_left', Option.some.injEq, ex_ix, i_add, i_mul, i_sub, i_lt, i_le, i_eq, i_tn, hi_e, hi_n, hj_e, hj_n, hi_wj, hj_wi, hr_wi, hr_wj, ht_wi, ht_wj, hl_wi, hl_wj, hz_wi, hz_wj, hs_wi, hs_wj, hi_wr, hj_wr, hr_e, hr_n, ht_wr, hl_wr, hz_wr, hs_wr, n_lt_t, n_lt_f, n_le_t, n_le_f, n_eq_t, n_eq_f, true_and, and_true, false_and, and_false, true_or, or_true, false_or, or_false, not_true_eq_false, not_false_eq_true, forall_const, implies_true, true_imp_iff, false_imp_iff, gs_t, reduceIte, ite_true, ite_false]
          rw [show k - X = r by omega]
          exact go
        · simp (disch := omega) only [forall_eq, exists_eq_left, exists_eq_left', Option.some.injEq, ex_ix, i_add, i_mul, i_sub, i_lt, i_le, i_eq, i_tn, hi_e, hi_n, hj_e, hj_n, hi_wj, hj_wi, hr_wi, hr_wj, ht_wi, ht_wj, hl_wi, hl_wj, hz_wi, hz_wj, hs_wi, hs_wj, hi_wr, hj_wr, hr_e, hr_n, ht_wr, hl_wr, hz_wr, hs_wr, n_lt_t, n_lt_f, n_le_t, n_le_f, n_eq_t, n_eq_f, true_and, and_true, false_and, and_false, true_or, or_true, false_or, or_false, not_true_eq_false, not_false_eq_true, forall_const, implies_true, true_imp_iff, false_imp_iff, gs_t, reduceIte, ite_true, ite_false]
          rw [show w = r by omega] at go ⊢
          exact go
      · rw [if_neg c] at hv ⊢
        refine w_374_79 (hT.fr f) ?_
        have hwk : q * w < 20 := by omega
        simp (disch := omega) only [forall_eq, exists_eq_left, exists_eq_left', Option.some.injEq, ex_ix, i_add, i_mul, i_sub, i_lt, i_le, i_eq, i_tn, hi_e, hi_n, hj_e, hj_n, hi_wj, hj_wi, hr_wi, hr_wj, ht_wi, ht_wj, hl_wi, hl_wj, hz_wi, hz_wj, hs_wi, hs_wj, hi_wr, hj_wr, hr_e, hr_n, ht_wr, hl_wr, hz_wr, hs_wr, n_lt_t, n_lt_f, n_le_t, n_le_f, n_eq_t, n_eq_f, true_and, and_true, false_and, and_false, true_or, or_true, false_or, or_false, not_true_eq_false, not_false_eq_true, forall_const, implies_true, true_imp_iff, false_imp_iff, gs_t, reduceIte, ite_true, ite_false]
        exact H h1 f hv
    exact row (k + 5) 0 h (by omega) (by omega) (fr.refl _ _) (fun j i hj hi => by rw [if_pos (by omega)] at hj; omega) |> fun z => by
      rw [if_pos (by omega)] at z
      simpa using z
end TI
