/-! STAGE 3: the twin copies an object -/
def cq (h h' : hh_T) (m o w a b n : Nat) : Prop := ∀ x, hh_i h' (m + o) x = if w * b ≤ x ∧ x < w * b + n then hh_i h (m + o) (w * a + (x - w * b)) else hh_i h (m + o) x
theorem cq.z {h h' : hh_T} {m o w a b : Nat} (e : hh_i h' (m + o) = hh_i h (m + o)) : cq h h' m o w a b 0 := fun x => by rw [e, if_neg (by omega)]
theorem cq.s {h h1 h2 : hh_T} {m o w a b n : Nat} (c : cq h h1 m o w a b n) (hn : n < w) (hne : w * a + w ≤ w * b ∨ w * b + w ≤ w * a) (e1 : ∀ x, ¬ x = w * b + n → hh_i h2 (m + o) x = hh_i h1 (m + o) x) (e2 : hh_i h2 (m + o) (w * b + n) = hh_i h1 (m + o) (w * a + n)) : cq h h2 m o w a b (n + 1) := by
  intro x
  by_cases y : x = w * b + n
  · rw [y, e2, if_pos (by omega), c, if_neg (by omega), show w * b + n - w * b = n by omega]
  · rw [e1 x y, c x]
    by_cases z : w * b ≤ x ∧ x < w * b + n
    · rw [if_pos z, if_pos (by omega)]
    · rw [if_neg z, if_neg (by omega)]
def oCo : List Nat := [40, 41, 42, 43, 44, 45, 46, 47, 48, 49, 50, 51, 52, 53, 54, 55, 56, 57]
section TCo
variable {h : hh_T} {m : Nat} {Q : Option Value ⊕ Nat → hh_T → Prop}
theorem t_copyObject {a b : Nat} (hT : tw_ok h m) (w : gy_wf h) (ha : a < 1536) (hb : b < 1536) (hne : ¬ a = b)
    (H : ∀ h', fr (tO m oCo []) h h' → (∀ o, 40 ≤ o → o < 50 → cq h h' m o 1 a b 1) → (∀ o, 50 ≤ o → o < 53 → cq h h' m o 4 a b 4) → (∀ o, 53 ≤ o → o < 56 → cq h h' m o 8 a b 8) → cq h h' m 56 64 a b 64 → cq h h' m 57 24 a b 24 → Q (.inl none) h') : gm_G 98 0 [some (.ref m), some (.int (Int32.ofNat a)), some (.int (Int32.ofNat b))] [] h Q := by
  have gb : ∀ h1 o x, fr (tO m oCo []) h h1 → cq h h1 m o 64 a b x ∨ cq h h1 m o 24 a b x → hh_tg h (m + o) = 101 → ∀ y, (hh_i h1 (m + o) y).toInt8.toInt32 = hh_i h1 (m + o) y := by
    intro h1 o x g1 c ht y
    rcases c with c | c
    · rw [c y]; split <;> exact w.2.1 _ _ ht
    · rw [c y]; split <;> exact w.2.1 _ _ ht
  have l57 : ∀ d k h1, k + d = 24 → fr (tO m oCo []) h h1 → (∀ o, 40 ≤ o → o < 50 → cq h h1 m o 1 a b 1) → (∀ o, 50 ≤ o → o < 53 → cq h h1 m o 4 a b 4) → (∀ o, 53 ≤ o → o < 56 → cq h h1 m o 8 a b 8) → cq h h1 m 56 64 a b 64 → cq h h1 m 57 24 a b k → gm_G 98 311 [some (.ref m), some (.int (Int32.ofNat a)), some (.int (Int32.ofNat b)), some (.int (Int32.ofNat k))] [] h1 Q := by
    intro d
    induction d with
    | zero =>
      intro k h1 ek g1 c1 c2 c3 c4 c5
      have ek : k = 24 := by omega
      subst ek
      exact w_98_311 (hT.fr g1) ⟨fun _ => H h1 g1 c1 c2 c3 c4 c5, fun z => absurd z (by decide)⟩
    | succ d ih =>
      intro k h1 ek g1 c1 c2 c3 c4 c5
      have v := gb h1 57 k g1 (Or.inr c5) (hT.2.2 57 (by decide)).1 (24 * a + k)
      refine w_98_311 (hT.fr g1) ?_
      simp (disch := omega) only [forall_eq, exists_eq_left, exists_eq_left', Option.some.injEq, ex_ix, i_add, i_mul, i_sub, i_lt, i_le, i_eq, i_tn, hi_e, hi_n, hj_e, hj_n, hi_wj, hj_wi, hr_wi, hr_wj, ht_wi, ht_wj, hl_wi, hl_wj, hz_wi, hz_wj, hs_wi, hs_wj, hi_wr, hj_wr, hr_e, hr_n, ht_wr, hl_wr, hz_wr, hs_wr, n_lt_t, n_lt_f, n_le_t, n_le_f, n_eq_t, n_eq_f, true_and, and_true, false_and, and_false, true_or, or_true, false_or, or_false, not_true_eq_false, not_false_eq_true, forall_const, implies_true, true_imp_iff, false_imp_iff, gs_t, reduceIte, ite_true, ite_false, v]
      refine ih (k + 1) _ (by omega) (g1.trans (fr.a rfl)) (fun o h1 h2 x => by rw [hi_n (by omega)]; exact c1 o h1 h2 x) (fun o h1 h2 x => by rw [hi_n (by omega)]; exact c2 o h1 h2 x) (fun o h1 h2 x => by rw [hi_n (by omega)]; exact c3 o h1 h2 x) (fun x => by rw [hi_n (by omega)]; exact c4 x) ?_
      exact c5.s (by omega) (by omega) (fun x hx => by rw [hi_n (by omega)]) (by rw [hi_e ⟨rfl, rfl⟩])
  have l56 : ∀ d k h1, k + d = 64 → fr (tO m oCo []) h h1 → (∀ o, 40 ≤ o → o < 50 → cq h h1 m o 1 a b 1) → (∀ o, 50 ≤ o → o < 53 → cq h h1 m o 4 a b 4) → (∀ o, 53 ≤ o → o < 56 → cq h h1 m o 8 a b 8) → cq h h1 m 56 64 a b k → hh_i h1 (m + 57) = hh_i h (m + 57) → gm_G 98 275 [some (.ref m), some (.int (Int32.ofNat a)), some (.int (Int32.ofNat b)), some (.int (Int32.ofNat k))] [] h1 Q := by
    intro d
    induction d with
    | zero =>
      intro k h1 ek g1 c1 c2 c3 c4 c5
      have ek : k = 64 := by omega
      subst ek
      exact w_98_275 (hT.fr g1) ⟨fun _ => l57 24 0 h1 rfl g1 c1 c2 c3 c4 (cq.z c5), fun z => absurd z (by decide)⟩
    | succ d ih =>
      intro k h1 ek g1 c1 c2 c3 c4 c5
      have v := gb h1 56 k g1 (Or.inl c4) (hT.2.2 56 (by decide)).1 (64 * a + k)
      refine w_98_275 (hT.fr g1) ?_
      simp (disch := omega) only [forall_eq, exists_eq_left, exists_eq_left', Option.some.injEq, ex_ix, i_add, i_mul, i_sub, i_lt, i_le, i_eq, i_tn, hi_e, hi_n, hj_e, hj_n, hi_wj, hj_wi, hr_wi, hr_wj, ht_wi, ht_wj, hl_wi, hl_wj, hz_wi, hz_wj, hs_wi, hs_wj, hi_wr, hj_wr, hr_e, hr_n, ht_wr, hl_wr, hz_wr, hs_wr, n_lt_t, n_lt_f, n_le_t, n_le_f, n_eq_t, n_eq_f, true_and, and_true, false_and, and_false, true_or, or_true, false_or, or_false, not_true_eq_false, not_false_eq_true, forall_const, implies_true, true_imp_iff, false_imp_iff, gs_t, reduceIte, ite_true, ite_false, v]
      refine ih (k + 1) _ (by omega) (g1.trans (fr.a rfl)) (fun o h1 h2 x => by rw [hi_n (by omega)]; exact c1 o h1 h2 x) (fun o h1 h2 x => by rw [hi_n (by omega)]; exact c2 o h1 h2 x) (fun o h1 h2 x => by rw [hi_n (by omega)]; exact c3 o h1 h2 x) ?_ (by funext x; rw [hi_n (by omega), c5])
      exact c4.s (by omega) (by omega) (fun x hx => by rw [hi_n (by omega)]) (by rw [hi_e ⟨rfl, rfl⟩])
  have l53 : ∀ d k h1, k + d = 8 → fr (tO m oCo []) h h1 → (∀ o, 40 ≤ o → o < 50 → cq h h1 m o 1 a b 1) → (∀ o, 50 ≤ o → o < 53 → cq h h1 m o 4 a b 4) → (∀ o, 53 ≤ o → o < 56 → cq h h1 m o 8 a b k) → hh_i h1 (m + 56) = hh_i h (m + 56) → hh_i h1 (m + 57) = hh_i h (m + 57) → gm_G 98 195 [some (.ref m), some (.int (Int32.ofNat a)), some (.int (Int32.ofNat b)), some (.int (Int32.ofNat k))] [] h1 Q := by
    intro d
    induction d with
    | zero =>
      intro k h1 ek g1 c1 c2 c3 c4 c5
      have ek : k = 8 := by omega
      subst ek
      exact w_98_195 (hT.fr g1) ⟨fun _ => l56 64 0 h1 rfl g1 c1 c2 c3 (cq.z c4) c5, fun z => absurd z (by decide)⟩
    | succ d ih =>
      intro k h1 ek g1 c1 c2 c3 c4 c5
      refine w_98_195 (hT.fr g1) ?_
      simp (disch := omega) only [forall_eq, exists_eq_left, exists_eq_left', Option.some.injEq, ex_ix, i_add, i_mul, i_sub, i_lt, i_le, i_eq, i_tn, hi_e, hi_n, hj_e, hj_n, hi_wj, hj_wi, hr_wi, hr_wj, ht_wi, ht_wj, hl_wi, hl_wj, hz_wi, hz_wj, hs_wi, hs_wj, hi_wr, hj_wr, hr_e, hr_n, ht_wr, hl_wr, hz_wr, hs_wr, n_lt_t, n_lt_f, n_le_t, n_le_f, n_eq_t, n_eq_f, true_and, and_true, false_and, and_false, true_or, or_true, false_or, or_false, not_true_eq_false, not_false_eq_true, forall_const, implies_true, true_imp_iff, false_imp_iff, gs_t, reduceIte, ite_true, ite_false]
      refine ih (k + 1) _ (by omega) (((g1.trans (fr.a rfl)).trans (fr.a rfl)).trans (fr.a rfl)) (fun o h1 h2 x => by rw [hi_n (by omega), hi_n (by omega), hi_n (by omega)]; exact c1 o h1 h2 x) (fun o h1 h2 x => by rw [hi_n (by omega), hi_n (by omega), hi_n (by omega)]; exact c2 o h1 h2 x) (fun o h1 h2 => ?_) (by funext x; rw [hi_n (by omega), hi_n (by omega), hi_n (by omega), c4]) (by funext x; rw [hi_n (by omega), hi_n (by omega), hi_n (by omega), c5])
      refine (c3 o h1 h2).s (by omega) (by omega) (fun x hx => by rw [hi_n (by omega), hi_n (by omega), hi_n (by omega)]) ?_
      rcases (show o = 53 ∨ o = 54 ∨ o = 55 by omega) with u | u | u <;> subst u <;> simp (disch := omega) only [hi_e, hi_n]
  have l50 : ∀ d k h1, k + d = 4 → fr (tO m oCo []) h h1 → (∀ o, 40 ≤ o → o < 50 → cq h h1 m o 1 a b 1) → (∀ o, 50 ≤ o → o < 53 → cq h h1 m o 4 a b k) → (∀ o, 53 ≤ o → o < 58 → hh_i h1 (m + o) = hh_i h (m + o)) → gm_G 98 122 [some (.ref m), some (.int (Int32.ofNat a)), some (.int (Int32.ofNat b)), some (.int (Int32.ofNat k))] [] h1 Q := by
    intro d
    induction d with
    | zero =>
      intro k h1 ek g1 c1 c2 c3
      have ek : k = 4 := by omega
      subst ek
      exact w_98_122 (hT.fr g1) ⟨fun _ => l53 8 0 h1 rfl g1 c1 c2 (fun o h1 h2 => cq.z (c3 o h1 (by omega))) (c3 56 (by decide) (by decide)) (c3 57 (by decide) (by decide)), fun z => absurd z (by decide)⟩
    | succ d ih =>
      intro k h1 ek g1 c1 c2 c3
      refine w_98_122 (hT.fr g1) ?_
      simp (disch := omega) only [forall_eq, exists_eq_left, exists_eq_left', Option.some.injEq, ex_ix, i_add, i_mul, i_sub, i_lt, i_le, i_eq, i_tn, hi_e, hi_n, hj_e, hj_n, hi_wj, hj_wi, hr_wi, hr_wj, ht_wi, ht_wj, hl_wi, hl_wj, hz_wi, hz_wj, hs_wi, hs_wj, hi_wr, hj_wr, hr_e, hr_n, ht_wr, hl_wr, hz_wr, hs_wr, n_lt_t, n_lt_f, n_le_t, n_le_f, n_eq_t, n_eq_f, true_and, and_true, false_and, and_false, true_or, or_true, false_or, or_false, not_true_eq_false, not_false_eq_true, forall_const, implies_true, true_imp_iff, false_imp_iff, gs_t, reduceIte, ite_true, ite_false]
      refine ih (k + 1) _ (by omega) (((g1.trans (fr.a rfl)).trans (fr.a rfl)).trans (fr.a rfl)) (fun o h1 h2 x => by rw [hi_n (by omega), hi_n (by omega), hi_n (by omega)]; exact c1 o h1 h2 x) (fun o h1 h2 => ?_) (fun o h1 h2 => by funext x; rw [hi_n (by omega), hi_n (by omega), hi_n (by omega), c3 o h1 h2])
      refine (c2 o h1 h2).s (by omega) (by omega) (fun x hx => by rw [hi_n (by omega), hi_n (by omega), hi_n (by omega)]) ?_
      rcases (show o = 50 ∨ o = 51 ∨ o = 52 by omega) with u | u | u <;> subst u <;> simp (disch := omega) only [hi_e, hi_n]
  refine w_98_0 hT ?_
  simp (disch := omega) only [forall_eq, exists_eq_left, exists_eq_left', Option.some.injEq, ex_ix, i_add, i_mul, i_sub, i_lt, i_le, i_eq, i_tn, hi_e, hi_n, hj_e, hj_n, hi_wj, hj_wi, hr_wi, hr_wj, ht_wi, ht_wj, hl_wi, hl_wj, hz_wi, hz_wj, hs_wi, hs_wj, hi_wr, hj_wr, hr_e, hr_n, ht_wr, hl_wr, hz_wr, hs_wr, n_lt_t, n_lt_f, n_le_t, n_le_f, n_eq_t, n_eq_f, true_and, and_true, false_and, and_false, true_or, or_true, false_or, or_false, not_true_eq_false, not_false_eq_true, forall_const, implies_true, true_imp_iff, false_imp_iff, gs_t, reduceIte, ite_true, ite_false]
  refine l50 4 0 _ rfl ((((((((((fr.a (O := oCo) (F := []) rfl).trans (fr.a rfl)).trans (fr.a rfl)).trans (fr.a rfl)).trans (fr.a rfl)).trans (fr.a rfl)).trans (fr.a rfl)).trans (fr.a rfl)).trans (fr.a rfl)).trans (fr.a rfl)) (fun o h1 h2 x => ?_) (fun o h1 h2 => cq.z ?_) (fun o h1 h2 => ?_)
  · rcases (show o = 40 ∨ o = 41 ∨ o = 42 ∨ o = 43 ∨ o = 44 ∨ o = 45 ∨ o = 46 ∨ o = 47 ∨ o = 48 ∨ o = 49 by omega) with u | u | u | u | u | u | u | u | u | u <;> subst u <;>
    (by_cases y : x = b
     · subst y
       rw [if_pos (by omega), show 1 * a + (x - 1 * x) = a by omega]
       simp (disch := omega) only [hi_e, hi_n]
     · rw [if_neg (by omega)]
       simp (disch := omega) only [hi_n])
  · funext x
    simp (disch := omega) only [hi_n]
  · funext x
    simp (disch := omega) only [hi_n]
end TCo
