/-! STAGE 3, 6: the twin's groups -/
def zg_ok (P : zP) (G : zG) : Prop := zg_ng G ≤ 3 ∧ (∀ g, g < zg_ng G → 1 ≤ zg_many G g ∧ zg_many G g ≤ 6 ∧ 8 ≤ zg_len G g ∧ zg_len G g ≤ 64 ∧ (zg_par G g = true → 1 ≤ zg_chk G g ∧ zg_chk G g ≤ 3 ∧ zg_chk G g < zg_many G g) ∧ (zg_par G g = false → zg_chk G g = 0 ∧ zg_many G g ≤ 3)
    ∧ ∀ x, x < zg_many G g → zg_dsk G g x < zp_nd P ∧ zg_len G g ≤ zp_sec P (zg_dsk G g x) ∧ zg_gof G (zg_dsk G g x) = some g)
  ∧ (∀ g x y, g < zg_ng G → x < zg_many G g → y < zg_many G g → zg_dsk G g x = zg_dsk G g y → x = y) ∧ (∀ d g, zg_gof G d = some g → g < zg_ng G ∧ d < 8 ∧ ∃ x, x < zg_many G g ∧ zg_dsk G g x = d) ∧ zp_nd P ≤ 8 ∧ (∀ d, d < zp_nd P → 8 ≤ zp_sec P d ∧ zp_sec P d ≤ 64)
theorem zs_gr_c (S : zS) (g : Int32) (hn : zg_ng (zs_G S) ≤ 3) : (zs_gr S g = none ∧ (g < (Int32.ofNat 0) ∨ ¬ g < (Int32.ofNat (zg_ng (zs_G S))))) ∨ ∃ k, k < zg_ng (zs_G S) ∧ g = (Int32.ofNat k) ∧ zs_gr S g = some k := by
  unfold zs_gr
  by_cases c : g < (Int32.ofNat 0) ∨ ¬ g < (Int32.ofNat (zg_ng (zs_G S)))
  · rw [if_pos c]; exact Or.inl ⟨rfl, c⟩
  · rw [if_neg c]
    obtain ⟨k, hk, rfl⟩ := i_nat (fun z => c (Or.inl z))
    rw [i_tn hk]
    have : k < zg_ng (zs_G S) := by
      by_cases z : k < zg_ng (zs_G S)
      · exact z
      · exact absurd (Or.inr (by rw [i_lt hk (by omega)]; exact z)) c
    exact Or.inr ⟨k, this, rfl, rfl⟩
theorem zg_ki_2 {G : zG} {g : Nat} : zg_ki G g = 2 ↔ zg_par G g = true := by
  unfold zg_ki
  cases zg_par G g
  · simp; split <;> omega
  · simp
theorem zg_ki_le (G : zG) (g : Nat) : zg_ki G g ≤ 2 := by
  unfold zg_ki
  split
  · exact Nat.le_refl _
  · split <;> omega
section TG
variable {h : hh_T} {m : Nat} {Q : Option Value ⊕ Nat → hh_T → Prop} {P : zP} {G : zG} {g : Nat}
theorem t_places (hT : tw_ok h m) (R : rT_G h m G) (K : zg_ok P G) (hg : g < zg_ng G) (H : Q (.inl (some (.int (Int32.ofNat (zg_pl G g))))) h) : gm_G 143 0 [some (.ref m), some (.int (Int32.ofNat g))] [] h Q := by
  obtain ⟨k0, k1, k2⟩ := K
  obtain ⟨c1, c2, c3, c4, c5⟩ := k1 g hg
  obtain ⟨r1, r2, r3, r4⟩ := R
  obtain ⟨s1, s2, s3, s4, s5⟩ := r3 g hg
  have := zg_ki_le G g
  refine w_143_0 hT ?_
  unfold zg_pl at H
  simp (disch := omega) only [forall_eq, exists_eq_left, exists_eq_left', Option.some.injEq, ex_ix, i_add, i_mul, i_sub, i_lt, i_le, i_eq, i_tn, hi_e, hi_n, hj_e, hj_n, hi_wj, hj_wi, hr_wi, hr_wj, ht_wi, ht_wj, hl_wi, hl_wj, hz_wi, hz_wj, hs_wi, hs_wj, hi_wr, hj_wr, hr_e, hr_n, ht_wr, hl_wr, hz_wr, hs_wr, n_lt_t, n_lt_f, n_le_t, n_le_f, n_eq_t, n_eq_f, true_and, and_true, false_and, and_false, true_or, or_true, false_or, or_false, not_true_eq_false, not_false_eq_true, forall_const, implies_true, true_imp_iff, false_imp_iff, gs_t, reduceIte, ite_true, ite_false, s1, s3, s4, zg_ki_2]
  cases z : zg_par G g with
  | true => rw [z] at H; simp (disch := omega) only [forall_eq, exists_eq_left, exists_eq_left', Option.some.injEq, ex_ix, i_add, i_mul, i_sub, i_lt, i_le, i_eq, i_tn, hi_e, hi_n, hj_e, hj_n, hi_wj, hj_wi, hr_wi, hr_wj, ht_wi, ht_wj, hl_wi, hl_wj, hz_wi, hz_wj, hs_wi, hs_wj, hi_wr, hj_wr, hr_e, hr_n, ht_wr, hl_wr, hz_wr, hs_wr, n_lt_t, n_lt_f, n_le_t, n_le_f, n_eq_t, n_eq_f, true_and, and_true, false_and, and_false, true_or, or_true, false_or, or_false, not_true_eq_false, not_false_eq_true, forall_const, implies_true, true_imp_iff, false_imp_iff, gs_t, reduceIte, ite_true, ite_false]; simpa using H
  | false => rw [z] at H; simpa using H
theorem t_noGroup {S : zS} {x : Int32} (hT : tw_ok h m) (R : rT_G h m (zs_G S)) (H1 : zs_gr S x = none → Q (.inl (some (.int (Int32.ofNat 1)))) h) (H2 : ∀ k, k < zg_ng (zs_G S) → x = (Int32.ofNat k) → zs_gr S x = some k → Q (.inl (some (.int (Int32.ofNat 0)))) h) : gm_G 136 0 [some (.ref m), some (.int x)] [] h Q := by
  obtain ⟨r1, r2, -⟩ := R
  rcases zs_gr_c S x r2 with ⟨e, c⟩ | ⟨k, hk, rfl, e⟩
  · refine w_136_0 hT ⟨fun _ => w_136_12 hT (H1 e), fun z => ⟨fun y => ?_, fun _ => w_136_12 hT (H1 e)⟩⟩
    rw [r1] at y
    rcases c with c | c
    · exact absurd c z
    · exact absurd y c
  · refine w_136_0 hT ?_
    simp (disch := omega) only [forall_eq, exists_eq_left, exists_eq_left', Option.some.injEq, ex_ix, i_add, i_mul, i_sub, i_lt, i_le, i_eq, i_tn, hi_e, hi_n, hj_e, hj_n, hi_wj, hj_wi, hr_wi, hr_wj, ht_wi, ht_wj, hl_wi, hl_wj, hz_wi, hz_wj, hs_wi, hs_wj, hi_wr, hj_wr, hr_e, hr_n, ht_wr, hl_wr, hz_wr, hs_wr, n_lt_t, n_lt_f, n_le_t, n_le_f, n_eq_t, n_eq_f, true_and, and_true, false_and, and_false, true_or, or_true, false_or, or_false, not_true_eq_false, not_false_eq_true, forall_const, implies_true, true_imp_iff, false_imp_iff, gs_t, reduceIte, ite_true, ite_false, r1, i_n0]
    exact H2 k hk rfl e
theorem t_isMissing {d s : Nat} (hT : tw_ok h m) (R : rT_P h m P) (hd : d < 8) (hs : s < 64) (H : Q (.inl (some (.int (bi (zp_mi P d s))))) h) : gm_G 122 0 [some (.ref m), some (.int (Int32.ofNat d)), some (.int (Int32.ofNat s))] [] h Q := by
  obtain ⟨-, -, -, r4, -⟩ := R
  obtain ⟨a1, -, a3, -⟩ := r4 d hd
  obtain ⟨b1, b2⟩ := a3 s hs
  refine w_122_0 hT ?_
  unfold zp_mi at H
  simp (disch := omega) only [forall_eq, exists_eq_left, exists_eq_left', Option.some.injEq, ex_ix, i_add, i_mul, i_sub, i_lt, i_le, i_eq, i_tn, hi_e, hi_n, hj_e, hj_n, hi_wj, hj_wi, hr_wi, hr_wj, ht_wi, ht_wj, hl_wi, hl_wj, hz_wi, hz_wj, hs_wi, hs_wj, hi_wr, hj_wr, hr_e, hr_n, ht_wr, hl_wr, hz_wr, hs_wr, n_lt_t, n_lt_f, n_le_t, n_le_f, n_eq_t, n_eq_f, true_and, and_true, false_and, and_false, true_or, or_true, false_or, or_false, not_true_eq_false, not_false_eq_true, forall_const, implies_true, true_imp_iff, false_imp_iff, gs_t, reduceIte, ite_true, ite_false, a1, b1, b2, bi_0, bi_n]
  cases z1 : zp_here P d <;> cases z2 : zp_dead P d s <;> cases z3 : zp_stale P d s <;> rw [z1, z2, z3] at H <;> simp <;> first | exact H | exact w_122_37 hT H
theorem zg_aw_S (P : zP) (G : zG) (g k : Nat) : ((List.range (k + 1)).filter (fun x => !(zp_here P (zg_dsk G g x)))).length = ((List.range k).filter (fun x => !(zp_here P (zg_dsk G g x)))).length + (if zp_here P (zg_dsk G g k) then 0 else 1) := by
  rw [List.range_succ, List.filter_append, List.length_append]
  cases z : zp_here P (zg_dsk G g k) <;> simp [z]
theorem t_isFit (hT : tw_ok h m) (R : rT_G h m G) (RP : rT_P h m P) (K : zg_ok P G) (hg : g < zg_ng G) (H : Q (.inl (some (.int (bi (zg_fit P G g))))) h) : gm_G 120 0 [some (.ref m), some (.int (Int32.ofNat g))] [] h Q := by
  obtain ⟨k0, k1, k2⟩ := K
  obtain ⟨c1, c2, c3, c4, c5, c6, c7⟩ := k1 g hg
  obtain ⟨r1, r2, r3, r4⟩ := R
  obtain ⟨s1, s2, s3, s4, s5⟩ := r3 g hg
  obtain ⟨p1, p2, -, p4, -⟩ := RP
  have hk2 := zg_ki_le G g
  have hch : zg_chk G g < 6 := by
    cases z : zg_par G g with
    | true => have := c5 z; omega
    | false => have := c6 z; omega
  refine w_120_0 hT ?_
  have lp : ∀ e k, k + e = zg_many G g → gm_G 120 4 [some (.ref m), some (.int (Int32.ofNat g)), some (.int (Int32.ofNat (((List.range k).filter (fun x => !(zp_here P (zg_dsk G g x)))).length))), some (.int (Int32.ofNat k))] [] h Q := by
    intro e
    induction e with
    | zero =>
      intro k ek
      have ek : k = zg_many G g := by omega
      subst ek
      have hle : ((List.range (zg_many G g)).filter (fun x => !(zp_here P (zg_dsk G g x)))).length ≤ zg_many G g := by
        have := List.length_filter_le (fun x => !(zp_here P (zg_dsk G g x))) (List.range (zg_many G g))
        rwa [List.length_range] at this
      refine w_120_4 hT ?_
      unfold zg_fit zg_aw at H
      revert H hle
      generalize ((List.range (zg_many G g)).filter (fun x => !(zp_here P (zg_dsk G g x)))).length = n
      intro H hle
      simp (disch := omega) only [forall_eq, exists_eq_left, exists_eq_left', Option.some.injEq, ex_ix, i_add, i_mul, i_sub, i_lt, i_le, i_eq, i_tn, hi_e, hi_n, hj_e, hj_n, hi_wj, hj_wi, hr_wi, hr_wj, ht_wi, ht_wj, hl_wi, hl_wj, hz_wi, hz_wj, hs_wi, hs_wj, hi_wr, hj_wr, hr_e, hr_n, ht_wr, hl_wr, hz_wr, hs_wr, n_lt_t, n_lt_f, n_le_t, n_le_f, n_eq_t, n_eq_f, true_and, and_true, false_and, and_false, true_or, or_true, false_or, or_false, not_true_eq_false, not_false_eq_true, forall_const, implies_true, true_imp_iff, false_imp_iff, gs_t, reduceIte, ite_true, ite_false, s1, s2, s3, zg_ki_2]
      cases z : zg_par G g with
      | true =>
        rw [z] at H
        by_cases y : zg_chk G g < n
        · simp [y] at H ⊢; exact (by simpa [Nat.not_le.mpr y] using H : Q (.inl (some (.int (bi false)))) h)
        · simp [y] at H ⊢; exact (by simpa [Nat.not_lt.mp y] using H : Q (.inl (some (.int (bi true)))) h)
      | false =>
        rw [z] at H
        by_cases y : n < zg_many G g
        · simp [y] at H ⊢; exact H
        · simp [y] at H ⊢; exact H
    | succ e ih =>
      intro k ek
      have hk : k < zg_many G g := by omega
      obtain ⟨d1, d2, d3⟩ := c7 k hk
      have := (p4 (zg_dsk G g k) (by omega)).1
      have hle : ((List.range k).filter (fun x => !(zp_here P (zg_dsk G g x)))).length ≤ k := by
        have := List.length_filter_le (fun x => !(zp_here P (zg_dsk G g x))) (List.range k)
        rwa [List.length_range] at this
      refine w_120_4 hT ?_
      simp (disch := omega) only [forall_eq, exists_eq_left, exists_eq_left', Option.some.injEq, ex_ix, i_add, i_mul, i_sub, i_lt, i_le, i_eq, i_tn, hi_e, hi_n, hj_e, hj_n, hi_wj, hj_wi, hr_wi, hr_wj, ht_wi, ht_wj, hl_wi, hl_wj, hz_wi, hz_wj, hs_wi, hs_wj, hi_wr, hj_wr, hr_e, hr_n, ht_wr, hl_wr, hz_wr, hs_wr, n_lt_t, n_lt_f, n_le_t, n_le_f, n_eq_t, n_eq_f, true_and, and_true, false_and, and_false, true_or, or_true, false_or, or_false, not_true_eq_false, not_false_eq_true, forall_const, implies_true, true_imp_iff, false_imp_iff, gs_t, reduceIte, ite_true, ite_false, s3, s5 k hk, this, bi_0, bi_n]
      have ih' := ih (k + 1) (by omega)
      rw [zg_aw_S] at ih'
      cases z : zp_here P (zg_dsk G g k) with
      | true =>
        rw [z] at ih'
        simp
        refine w_120_39 hT ?_
        simpa using ih'
      | false =>
        rw [z] at ih'
        simp
        refine w_120_39 hT ?_
        have e1 : ∀ a : Nat, (Int32.ofNat a + 1) = (Int32.ofNat (a + 1)) := fun a => i_add a 1
        simp only [e1]
        simpa [i_add] using ih'
  exact lp (zg_many G g) 0 (by omega)
theorem t_room {k : Nat} (hT : tw_ok h m) (R : rT_G h m G) (K : zg_ok P G) (hg : g < zg_ng G) (hk : k ≤ 100) (H : Q (.inl (some (.int (Int32.ofNat (zg_sp G g k))))) h) : gm_G 149 0 [some (.ref m), some (.int (Int32.ofNat g)), some (.int (Int32.ofNat k))] [] h Q := by
  obtain ⟨k0, k1, k2⟩ := K
  obtain ⟨c1, c2, c3, c4, c5, c6, c7⟩ := k1 g hg
  obtain ⟨r1, r2, r3, r4⟩ := R
  obtain ⟨s1, s2, s3, s4, s5⟩ := r3 g hg
  have hk2 := zg_ki_le G g
  refine w_149_0 hT ?_
  unfold zg_sp at H
  simp (disch := omega) only [forall_eq, exists_eq_left, exists_eq_left', Option.some.injEq, ex_ix, i_add, i_mul, i_sub, i_lt, i_le, i_eq, i_tn, hi_e, hi_n, hj_e, hj_n, hi_wj, hj_wi, hr_wi, hr_wj, ht_wi, ht_wj, hl_wi, hl_wj, hz_wi, hz_wj, hs_wi, hs_wj, hi_wr, hj_wr, hr_e, hr_n, ht_wr, hl_wr, hz_wr, hs_wr, n_lt_t, n_lt_f, n_le_t, n_le_f, n_eq_t, n_eq_f, true_and, and_true, false_and, and_false, true_or, or_true, false_or, or_false, not_true_eq_false, not_false_eq_true, forall_const, implies_true, true_imp_iff, false_imp_iff, gs_t, reduceIte, ite_true, ite_false, s1, s2, s3]
  cases z : zg_par G g with
  | true =>
    obtain ⟨d1, d2, d3⟩ := c5 z
    have e2 : zg_ki G g = 2 := zg_ki_2.mpr z
    rw [z] at H
    have e0 : ¬ (Int32.ofNat (zg_many G g - zg_chk G g)) = 0 := fun q => by
      have : zg_many G g - zg_chk G g = 0 := (i_eq (by omega) (by decide)).mp q
      omega
    simp (disch := omega) only [forall_eq, exists_eq_left, exists_eq_left', Option.some.injEq, ex_ix, i_add, i_mul, i_sub, i_lt, i_le, i_eq, i_tn, hi_e, hi_n, hj_e, hj_n, hi_wj, hj_wi, hr_wi, hr_wj, ht_wi, ht_wj, hl_wi, hl_wj, hz_wi, hz_wj, hs_wi, hs_wj, hi_wr, hj_wr, hr_e, hr_n, ht_wr, hl_wr, hz_wr, hs_wr, n_lt_t, n_lt_f, n_le_t, n_le_f, n_eq_t, n_eq_f, true_and, and_true, false_and, and_false, true_or, or_true, false_or, or_false, not_true_eq_false, not_false_eq_true, forall_const, implies_true, true_imp_iff, false_imp_iff, gs_t, reduceIte, ite_true, ite_false, e2, ne_eq, e0, i_div]
    simpa using H
  | false =>
    have e2 : ¬ zg_ki G g = 2 := fun q => by rw [zg_ki_2, z] at q; cases q
    rw [z] at H
    simp (disch := omega) only [forall_eq, exists_eq_left, exists_eq_left', Option.some.injEq, ex_ix, i_add, i_mul, i_sub, i_lt, i_le, i_eq, i_tn, hi_e, hi_n, hj_e, hj_n, hi_wj, hj_wi, hr_wi, hr_wj, ht_wi, ht_wj, hl_wi, hl_wj, hz_wi, hz_wj, hs_wi, hs_wj, hi_wr, hj_wr, hr_e, hr_n, ht_wr, hl_wr, hz_wr, hs_wr, n_lt_t, n_lt_f, n_le_t, n_le_f, n_eq_t, n_eq_f, true_and, and_true, false_and, and_false, true_or, or_true, false_or, or_false, not_true_eq_false, not_false_eq_true, forall_const, implies_true, true_imp_iff, false_imp_iff, gs_t, reduceIte, ite_true, ite_false]
    simpa using H
theorem t_makeStale {d : Nat} (hT : tw_ok h m) (RP : rT_P h m P) (hg : g < 3) (hm : hh_i h (m + 14) g = (Int32.ofNat (zg_len G g))) (hl : zg_len G g ≤ 64) (hd : d < 8) (H : ∀ h', fr (tO m [9] []) h h' → rT_P h' m (zp_ms P d (zg_len G g)) → Q (.inl none) h') : gm_G 131 0 [some (.ref m), some (.int (Int32.ofNat g)), some (.int (Int32.ofNat d))] [] h Q := by
  obtain ⟨p1, p2, p3, p4, p5⟩ := RP
  refine w_131_0 hT ?_
  have lp : ∀ e k h1, k + e = zg_len G g → fr (tO m [9] []) h h1 → (∀ d', d' < 8 → ∀ s, s < 64 → hh_i h1 (m + 9) (64 * d' + s) = bi (if d' = d ∧ s < k then true else zp_stale P d' s)) → gm_G 131 2 [some (.ref m), some (.int (Int32.ofNat g)), some (.int (Int32.ofNat d)), some (.int (Int32.ofNat k))] [] h1 Q := by
    intro e
    induction e with
    | zero =>
      intro k h1 ek f hs
      have ek : k = zg_len G g := by omega
      subst ek
      refine w_131_2 (hT.fr f) ?_
      simp (disch := omega) only [forall_eq, exists_eq_left, exists_eq_left', Option.some.injEq, ex_ix, i_add, i_mul, i_sub, i_lt, i_le, i_eq, i_tn, hi_e, hi_n, hj_e, hj_n, hi_wj, hj_wi, hr_wi, hr_wj, ht_wi, ht_wj, hl_wi, hl_wj, hz_wi, hz_wj, hs_wi, hs_wj, hi_wr, hj_wr, hr_e, hr_n, ht_wr, hl_wr, hz_wr, hs_wr, n_lt_t, n_lt_f, n_le_t, n_le_f, n_eq_t, n_eq_f, true_and, and_true, false_and, and_false, true_or, or_true, false_or, or_false, not_true_eq_false, not_false_eq_true, forall_const, implies_true, true_imp_iff, false_imp_iff, gs_t, reduceIte, ite_true, ite_false, f.arr (o := 14) rfl, hm]
      refine H h1 f ?_
      unfold rT_P
      simp only [f.arr (o := 4) rfl, f.arr (o := 6) rfl, f.arr (o := 7) rfl, f.arr (o := 8) rfl, f.arr (o := 10) rfl, f.fld (f := 7) rfl, f.fld (f := 15) rfl, f.fld (f := 16) rfl, f.fld (f := 17) rfl, f.fld (f := 18) rfl]
      exact ⟨p1, p2, p3, fun d' hd' => ⟨(p4 d' hd').1, (p4 d' hd').2.1, fun s hs' => ⟨((p4 d' hd').2.2.1 s hs').1, hs d' hd' s hs'⟩, (p4 d' hd').2.2.2⟩, p5⟩
    | succ e ih =>
      intro k h1 ek f hs
      refine w_131_2 (hT.fr f) ?_
      simp (disch := omega) only [forall_eq, exists_eq_left, exists_eq_left', Option.some.injEq, ex_ix, i_add, i_mul, i_sub, i_lt, i_le, i_eq, i_tn, hi_e, hi_n, hj_e, hj_n, hi_wj, hj_wi, hr_wi, hr_wj, ht_wi, ht_wj, hl_wi, hl_wj, hz_wi, hz_wj, hs_wi, hs_wj, hi_wr, hj_wr, hr_e, hr_n, ht_wr, hl_wr, hz_wr, hs_wr, n_lt_t, n_lt_f, n_le_t, n_le_f, n_eq_t, n_eq_f, true_and, and_true, false_and, and_false, true_or, or_true, false_or, or_false, not_true_eq_false, not_false_eq_true, forall_const, implies_true, true_imp_iff, false_imp_iff, gs_t, reduceIte, ite_true, ite_false, f.arr (o := 14) rfl, hm]
      refine ih (k + 1) _ (by omega) (f.trans (fr.a rfl)) (fun d' hd' s hs' => ?_)
      by_cases z : d' = d ∧ s = k
      · rw [hi_e (by omega), if_pos (by omega)]; rfl
      · rw [hi_n (by omega), hs d' hd' s hs']
        by_cases y : d' = d ∧ s < k
        · rw [if_pos y, if_pos (by omega)]
        · rw [if_neg y, if_neg (by omega)]
  exact lp (zg_len G g) 0 h (by omega) (fr.refl _ _) (fun d' hd' s hs' => by rw [if_neg (by omega)]; exact ((p4 d' hd').2.2.1 s hs').2)
end TG
section TG2
variable {h : hh_T} {m : Nat} {Q : Option Value ⊕ Nat → hh_T → Prop} {S : zS}
theorem rT.up {S : zS} (R : rT h m S) : hh_i h m 77 = bi (zs_up S) := R.2.2.2.2.1.2.1
theorem rT.oPG {h' : hh_T} {S : zS} {P : zP} {G : zG} (R : rT h m S) (g : fr (tO m [4, 5, 6, 7, 8, 9, 10, 11, 12, 13, 14, 15] [7, 15, 16, 17, 18, 19]) h h') (N : rT_P h' m P) (N2 : rT_G h' m G) : rT h' m (zs_P_ (zs_G_ S G) P) := by
  obtain ⟨r0, r1, r2, r3, r4, r5, r6, r7, r8, r9, r10, r11, r12⟩ := R
  exact ⟨r0.fr g, r1.fr g rfl rfl, N, N2, r4.fr g rfl rfl, r5.fr g rfl rfl, r6.fr g rfl, r7.fr g rfl, r8.fr g rfl, r9.fr g rfl rfl, by rw [g.fld rfl]; exact r10, by rw [g.fld rfl]; exact r11, by rw [g.fld rfl]; exact r12⟩
theorem oi_n {o : Option Nat} (ho : ∀ n, o = some n → n < 2147483648) : (oi (Int32.ofInt (-1)) o < (Int32.ofNat 0)) ↔ o = none := by
  cases o with
  | none => exact ⟨fun _ => rfl, fun _ => by decide⟩
  | some n => exact ⟨fun z => absurd z (by show ¬ (Int32.ofNat n) < (Int32.ofNat 0); rw [i_lt (ho n rfl) (by decide)]; omega), fun z => by cases z⟩
theorem t_attach {g d : Int32} (R : rT h m S) (K : zg_ok (zs_P S) (zs_G S)) : gm_G 270 0 [some (.ref m), some (.int g), some (.int d)] [] h (rI (zq_attach S g d).2 fun h' => rT h' m (zq_attach S g d).1) := by
  obtain ⟨k0, k1, k2, k3, k4⟩ := id K
  have hup := R.up
  obtain ⟨p1, p2, p3, p4, p5⟩ := id R.2.2.1
  obtain ⟨q1, q2, q3, q4⟩ := id R.2.2.2.1
  refine w_270_0 R.1 ?_
  unfold zq_attach
  cases hu : zs_up S with
  | false => rw [hu] at hup; simp (disch := omega) only [forall_eq, exists_eq_left, exists_eq_left', Option.some.injEq, ex_ix, i_add, i_mul, i_sub, i_lt, i_le, i_eq, i_tn, hi_e, hi_n, hj_e, hj_n, hi_wj, hj_wi, hr_wi, hr_wj, ht_wi, ht_wj, hl_wi, hl_wj, hz_wi, hz_wj, hs_wi, hs_wj, hi_wr, hj_wr, hr_e, hr_n, ht_wr, hl_wr, hz_wr, hs_wr, n_lt_t, n_lt_f, n_le_t, n_le_f, n_eq_t, n_eq_f, true_and, and_true, false_and, and_false, true_or, or_true, false_or, or_false, not_true_eq_false, not_false_eq_true, forall_const, implies_true, true_imp_iff, false_imp_iff, gs_t, reduceIte, ite_true, ite_false, hup, bi_f, rI]; exact R
  | true =>
    rw [hu] at hup
    refine ⟨fun _ => ?_, fun z => absurd (hup.symm.trans z) (by decide)⟩
    rw [if_neg (by decide)]
    refine t_noGroup (S := S) R.1 R.2.2.2.1 (fun e => ?_) (fun g' hg' eg e => ?_)
    · rw [e]
      exact ⟨fun _ => ⟨rfl, R⟩, fun z => absurd z (by decide)⟩
    subst eg
    refine ⟨fun z => absurd rfl z, fun _ => t_noDisk R.1 R.2.2.1 (fun e2 => ?_) (fun d' hd' ed e2 => ?_)⟩
    · rw [e, e2]
      exact ⟨fun z => absurd z (by decide), fun _ => ⟨rfl, R⟩⟩
    subst ed
    rw [e, e2]
    obtain ⟨c1, c2, c3, c4, c5, c6, c7⟩ := k1 g' hg'
    obtain ⟨s1, s2, s3, s4, s5⟩ := q3 g' hg'
    have hk2 := zg_ki_le (zs_G S) g'
    show (_ → _) ∧ (_ → _)
    have a5 := q4 d' (by omega)
    have hof : (oi (Int32.ofInt (-1)) (zg_gof (zs_G S) d') < (Int32.ofNat 0)) ↔ zg_gof (zs_G S) d' = none := oi_n (fun n hn => by have := (k3 d' n hn).1; omega)
    have sd := p3 d' hd'
    cases z : zg_par (zs_G S) g' with
    | true => simp (disch := omega) only [forall_eq, exists_eq_left, exists_eq_left', Option.some.injEq, ex_ix, i_add, i_mul, i_sub, i_lt, i_le, i_eq, i_tn, hi_e, hi_n, hj_e, hj_n, hi_wj, hj_wi, hr_wi, hr_wj, ht_wi, ht_wj, hl_wi, hl_wj, hz_wi, hz_wj, hs_wi, hs_wj, hi_wr, hj_wr, hr_e, hr_n, ht_wr, hl_wr, hz_wr, hs_wr, n_lt_t, n_lt_f, n_le_t, n_le_f, n_eq_t, n_eq_f, true_and, and_true, false_and, and_false, true_or, or_true, false_or, or_false, not_true_eq_false, not_false_eq_true, forall_const, implies_true, true_imp_iff, false_imp_iff, gs_t, reduceIte, ite_true, ite_false, s1, zg_ki_2, z, rI]; exact R
    | false =>
      have hm3 := (c6 z).2
      by_cases z3 : zg_many (zs_G S) g' = 3
      · simp (disch := omega) only [forall_eq, exists_eq_left, exists_eq_left', Option.some.injEq, ex_ix, i_add, i_mul, i_sub, i_lt, i_le, i_eq, i_tn, hi_e, hi_n, hj_e, hj_n, hi_wj, hj_wi, hr_wi, hr_wj, ht_wi, ht_wj, hl_wi, hl_wj, hz_wi, hz_wj, hs_wi, hs_wj, hi_wr, hj_wr, hr_e, hr_n, ht_wr, hl_wr, hz_wr, hs_wr, n_lt_t, n_lt_f, n_le_t, n_le_f, n_eq_t, n_eq_f, true_and, and_true, false_and, and_false, true_or, or_true, false_or, or_false, not_true_eq_false, not_false_eq_true, forall_const, implies_true, true_imp_iff, false_imp_iff, gs_t, reduceIte, ite_true, ite_false, s1, s3, zg_ki_2, z, rI, Bool.false_eq_true]; exact R
      cases zh : zp_here (zs_P S) d' with
      | false =>
        have a7 := (p4 d' (by omega)).1
        rw [zh] at a7
        have a7 : hh_i h (m + 7) d' = (Int32.ofNat 1) := a7
        simp (disch := omega) only [forall_eq, exists_eq_left, exists_eq_left', Option.some.injEq, ex_ix, i_add, i_mul, i_sub, i_lt, i_le, i_eq, i_tn, hi_e, hi_n, hj_e, hj_n, hi_wj, hj_wi, hr_wi, hr_wj, ht_wi, ht_wj, hl_wi, hl_wj, hz_wi, hz_wj, hs_wi, hs_wj, hi_wr, hj_wr, hr_e, hr_n, ht_wr, hl_wr, hz_wr, hs_wr, n_lt_t, n_lt_f, n_le_t, n_le_f, n_eq_t, n_eq_f, true_and, and_true, false_and, and_false, true_or, or_true, false_or, or_false, not_true_eq_false, not_false_eq_true, forall_const, implies_true, true_imp_iff, false_imp_iff, gs_t, reduceIte, ite_true, ite_false, s1, s3, zg_ki_2, z, zh, rI, Bool.false_eq_true, a7]; exact R
      | true =>
        have a7 := (p4 d' (by omega)).1
        rw [zh] at a7
        have a7 : hh_i h (m + 7) d' = (Int32.ofNat 0) := a7
        cases zo : zg_gof (zs_G S) d' with
        | some x =>
          rw [zo] at hof
          have hof' : ¬ oi (Int32.ofInt (-1)) (some x) < (Int32.ofNat 0) := fun y => by cases hof.mp y
          rw [zo] at a5
          simp (disch := omega) only [forall_eq, exists_eq_left, exists_eq_left', Option.some.injEq, ex_ix, i_add, i_mul, i_sub, i_lt, i_le, i_eq, i_tn, hi_e, hi_n, hj_e, hj_n, hi_wj, hj_wi, hr_wi, hr_wj, ht_wi, ht_wj, hl_wi, hl_wj, hz_wi, hz_wj, hs_wi, hs_wj, hi_wr, hj_wr, hr_e, hr_n, ht_wr, hl_wr, hz_wr, hs_wr, n_lt_t, n_lt_f, n_le_t, n_le_f, n_eq_t, n_eq_f, true_and, and_true, false_and, and_false, true_or, or_true, false_or, or_false, not_true_eq_false, not_false_eq_true, forall_const, implies_true, true_imp_iff, false_imp_iff, gs_t, reduceIte, ite_true, ite_false, s1, s3, zg_ki_2, z, zh, zo, rI, Bool.false_eq_true, Bool.true_eq_false, a7, a5, hof', Option.isSome_some]; exact R
        | none =>
          rw [zo] at a5
          have a5 : hh_i h (m + 5) d' = Int32.ofInt (-1) := a5
          have a5' : (Int32.ofInt (-1) < (Int32.ofNat 0)) = True := eq_true (by decide)
          by_cases zl : zp_sec (zs_P S) d' < zg_len (zs_G S) g'
          · simp (disch := omega) only [forall_eq, exists_eq_left, exists_eq_left', Option.some.injEq, ex_ix, i_add, i_mul, i_sub, i_lt, i_le, i_eq, i_tn, hi_e, hi_n, hj_e, hj_n, hi_wj, hj_wi, hr_wi, hr_wj, ht_wi, ht_wj, hl_wi, hl_wj, hz_wi, hz_wj, hs_wi, hs_wj, hi_wr, hj_wr, hr_e, hr_n, ht_wr, hl_wr, hz_wr, hs_wr, n_lt_t, n_lt_f, n_le_t, n_le_f, n_eq_t, n_eq_f, true_and, and_true, false_and, and_false, true_or, or_true, false_or, or_false, not_true_eq_false, not_false_eq_true, forall_const, implies_true, true_imp_iff, false_imp_iff, gs_t, reduceIte, ite_true, ite_false, s1, s3, s4, zg_ki_2, z, zh, zo, rI, Bool.false_eq_true, Bool.true_eq_false, a7, a5, a5', Option.isSome_none, sd.1]; exact R
          · simp (disch := omega) only [forall_eq, exists_eq_left, exists_eq_left', Option.some.injEq, ex_ix, i_add, i_mul, i_sub, i_lt, i_le, i_eq, i_tn, hi_e, hi_n, hj_e, hj_n, hi_wj, hj_wi, hr_wi, hr_wj, ht_wi, ht_wj, hl_wi, hl_wj, hz_wi, hz_wj, hs_wi, hs_wj, hi_wr, hj_wr, hr_e, hr_n, ht_wr, hl_wr, hz_wr, hs_wr, n_lt_t, n_lt_f, n_le_t, n_le_f, n_eq_t, n_eq_f, true_and, and_true, false_and, and_false, true_or, or_true, false_or, or_false, not_true_eq_false, not_false_eq_true, forall_const, implies_true, true_imp_iff, false_imp_iff, gs_t, reduceIte, ite_true, ite_false, s1, s3, s4, zg_ki_2, z, zh, zo, rI, Bool.false_eq_true, Bool.true_eq_false, a7, a5, a5', Option.isSome_none, sd.1]
            have gf : fr (tO m [5, 11, 13, 15] []) h (hh_wi (hh_wi (hh_wi (hh_wi h (m + 15) (6 * g' + zg_many (zs_G S) g') (Int32.ofNat d')) (m + 13) g' (Int32.ofNat (zg_many (zs_G S) g' + 1))) (m + 11) g' (Int32.ofNat 1)) (m + 5) d' (Int32.ofNat g')) := (((fr.a rfl).trans (fr.a rfl)).trans (fr.a rfl)).trans (fr.a rfl)
            have NG : rT_G (hh_wi (hh_wi (hh_wi (hh_wi h (m + 15) (6 * g' + zg_many (zs_G S) g') (Int32.ofNat d')) (m + 13) g' (Int32.ofNat (zg_many (zs_G S) g' + 1))) (m + 11) g' (Int32.ofNat 1)) (m + 5) d' (Int32.ofNat g')) m (zg_gof_ (zg_many_ (zg_dsk_ (zs_G S) (fu2 (zg_dsk (zs_G S)) g' (zg_many (zs_G S) g') d')) (fu (zg_many (zs_G S)) g' (zg_many (zs_G S) g' + 1))) (fu (zg_gof (zs_G S)) d' (some g'))) := by
              refine ⟨by rw [gf.fld rfl]; exact q1, q2, fun x hx => ?_, fun y hy => ?_⟩
              · obtain ⟨t1, t2, t3, t4, t5⟩ := q3 x hx
                rw [gf.arr (o := 12) rfl, gf.arr (o := 14) rfl]
                refine ⟨?_, t2, ?_, t4, fun y hy => ?_⟩
                · show _ = (Int32.ofNat (if zg_par (zs_G S) x then 2 else if fu (zg_many (zs_G S)) g' (zg_many (zs_G S) g' + 1) x = 1 then 0 else 1))
                  unfold fu
                  by_cases e3 : x = g'
                  · subst e3
                    simp (disch := omega) only [forall_eq, exists_eq_left, exists_eq_left', Option.some.injEq, ex_ix, i_add, i_mul, i_sub, i_lt, i_le, i_eq, i_tn, hi_e, hi_n, hj_e, hj_n, hi_wj, hj_wi, hr_wi, hr_wj, ht_wi, ht_wj, hl_wi, hl_wj, hz_wi, hz_wj, hs_wi, hs_wj, hi_wr, hj_wr, hr_e, hr_n, ht_wr, hl_wr, hz_wr, hs_wr, n_lt_t, n_lt_f, n_le_t, n_le_f, n_eq_t, n_eq_f, true_and, and_true, false_and, and_false, true_or, or_true, false_or, or_false, not_true_eq_false, not_false_eq_true, forall_const, implies_true, true_imp_iff, false_imp_iff, gs_t, reduceIte, ite_true, ite_false, z, Bool.false_eq_true]
                  · simp (disch := omega) only [forall_eq, exists_eq_left, exists_eq_left', Option.some.injEq, ex_ix, i_add, i_mul, i_sub, i_lt, i_le, i_eq, i_tn, hi_e, hi_n, hj_e, hj_n, hi_wj, hj_wi, hr_wi, hr_wj, ht_wi, ht_wj, hl_wi, hl_wj, hz_wi, hz_wj, hs_wi, hs_wj, hi_wr, hj_wr, hr_e, hr_n, ht_wr, hl_wr, hz_wr, hs_wr, n_lt_t, n_lt_f, n_le_t, n_le_f, n_eq_t, n_eq_f, true_and, and_true, false_and, and_false, true_or, or_true, false_or, or_false, not_true_eq_false, not_false_eq_true, forall_const, implies_true, true_imp_iff, false_imp_iff, gs_t, reduceIte, ite_true, ite_false, e3]
                    exact t1
                · show _ = (Int32.ofNat (fu (zg_many (zs_G S)) g' (zg_many (zs_G S) g' + 1) x))
                  unfold fu
                  by_cases e3 : x = g'
                  · simp (disch := omega) only [forall_eq, exists_eq_left, exists_eq_left', Option.some.injEq, ex_ix, i_add, i_mul, i_sub, i_lt, i_le, i_eq, i_tn, hi_e, hi_n, hj_e, hj_n, hi_wj, hj_wi, hr_wi, hr_wj, ht_wi, ht_wj, hl_wi, hl_wj, hz_wi, hz_wj, hs_wi, hs_wj, hi_wr, hj_wr, hr_e, hr_n, ht_wr, hl_wr, hz_wr, hs_wr, n_lt_t, n_lt_f, n_le_t, n_le_f, n_eq_t, n_eq_f, true_and, and_true, false_and, and_false, true_or, or_true, false_or, or_false, not_true_eq_false, not_false_eq_true, forall_const, implies_true, true_imp_iff, false_imp_iff, gs_t, reduceIte, ite_true, ite_false, e3]
                  · simp (disch := omega) only [forall_eq, exists_eq_left, exists_eq_left', Option.some.injEq, ex_ix, i_add, i_mul, i_sub, i_lt, i_le, i_eq, i_tn, hi_e, hi_n, hj_e, hj_n, hi_wj, hj_wi, hr_wi, hr_wj, ht_wi, ht_wj, hl_wi, hl_wj, hz_wi, hz_wj, hs_wi, hs_wj, hi_wr, hj_wr, hr_e, hr_n, ht_wr, hl_wr, hz_wr, hs_wr, n_lt_t, n_lt_f, n_le_t, n_le_f, n_eq_t, n_eq_f, true_and, and_true, false_and, and_false, true_or, or_true, false_or, or_false, not_true_eq_false, not_false_eq_true, forall_const, implies_true, true_imp_iff, false_imp_iff, gs_t, reduceIte, ite_true, ite_false, e3]
                    exact t3
                · show _ = (Int32.ofNat (fu2 (zg_dsk (zs_G S)) g' (zg_many (zs_G S) g') d' x y))
                  have hy' : y < fu (zg_many (zs_G S)) g' (zg_many (zs_G S) g' + 1) x := hy
                  unfold fu at hy'
                  unfold fu2
                  by_cases e3 : x = g'
                  · subst e3
                    rw [if_pos rfl] at hy'
                    by_cases e4 : y = zg_many (zs_G S) x
                    · simp (disch := omega) only [forall_eq, exists_eq_left, exists_eq_left', Option.some.injEq, ex_ix, i_add, i_mul, i_sub, i_lt, i_le, i_eq, i_tn, hi_e, hi_n, hj_e, hj_n, hi_wj, hj_wi, hr_wi, hr_wj, ht_wi, ht_wj, hl_wi, hl_wj, hz_wi, hz_wj, hs_wi, hs_wj, hi_wr, hj_wr, hr_e, hr_n, ht_wr, hl_wr, hz_wr, hs_wr, n_lt_t, n_lt_f, n_le_t, n_le_f, n_eq_t, n_eq_f, true_and, and_true, false_and, and_false, true_or, or_true, false_or, or_false, not_true_eq_false, not_false_eq_true, forall_const, implies_true, true_imp_iff, false_imp_iff, gs_t, reduceIte, ite_true, ite_false, e4]
                    · simp (disch := omega) only [forall_eq, exists_eq_left, exists_eq_left', Option.some.injEq, ex_ix, i_add, i_mul, i_sub, i_lt, i_le, i_eq, i_tn, hi_e, hi_n, hj_e, hj_n, hi_wj, hj_wi, hr_wi, hr_wj, ht_wi, ht_wj, hl_wi, hl_wj, hz_wi, hz_wj, hs_wi, hs_wj, hi_wr, hj_wr, hr_e, hr_n, ht_wr, hl_wr, hz_wr, hs_wr, n_lt_t, n_lt_f, n_le_t, n_le_f, n_eq_t, n_eq_f, true_and, and_true, false_and, and_false, true_or, or_true, false_or, or_false, not_true_eq_false, not_false_eq_true, forall_const, implies_true, true_imp_iff, false_imp_iff, gs_t, reduceIte, ite_true, ite_false]
                      exact t5 y (by omega)
                  · rw [if_neg e3] at hy'
                    have := (k1 x hx).2.1
                    simp (disch := omega) only [forall_eq, exists_eq_left, exists_eq_left', Option.some.injEq, ex_ix, i_add, i_mul, i_sub, i_lt, i_le, i_eq, i_tn, hi_e, hi_n, hj_e, hj_n, hi_wj, hj_wi, hr_wi, hr_wj, ht_wi, ht_wj, hl_wi, hl_wj, hz_wi, hz_wj, hs_wi, hs_wj, hi_wr, hj_wr, hr_e, hr_n, ht_wr, hl_wr, hz_wr, hs_wr, n_lt_t, n_lt_f, n_le_t, n_le_f, n_eq_t, n_eq_f, true_and, and_true, false_and, and_false, true_or, or_true, false_or, or_false, not_true_eq_false, not_false_eq_true, forall_const, implies_true, true_imp_iff, false_imp_iff, gs_t, reduceIte, ite_true, ite_false, e3]
                    exact t5 y hy'
              · show _ = oi (Int32.ofInt (-1)) (fu (zg_gof (zs_G S)) d' (some g') y)
                unfold fu
                by_cases e3 : y = d'
                · simp (disch := omega) only [forall_eq, exists_eq_left, exists_eq_left', Option.some.injEq, ex_ix, i_add, i_mul, i_sub, i_lt, i_le, i_eq, i_tn, hi_e, hi_n, hj_e, hj_n, hi_wj, hj_wi, hr_wi, hr_wj, ht_wi, ht_wj, hl_wi, hl_wj, hz_wi, hz_wj, hs_wi, hs_wj, hi_wr, hj_wr, hr_e, hr_n, ht_wr, hl_wr, hz_wr, hs_wr, n_lt_t, n_lt_f, n_le_t, n_le_f, n_eq_t, n_eq_f, true_and, and_true, false_and, and_false, true_or, or_true, false_or, or_false, not_true_eq_false, not_false_eq_true, forall_const, implies_true, true_imp_iff, false_imp_iff, gs_t, reduceIte, ite_true, ite_false, e3]
                  rfl
                · simp (disch := omega) only [forall_eq, exists_eq_left, exists_eq_left', Option.some.injEq, ex_ix, i_add, i_mul, i_sub, i_lt, i_le, i_eq, i_tn, hi_e, hi_n, hj_e, hj_n, hi_wj, hj_wi, hr_wi, hr_wj, ht_wi, ht_wj, hl_wi, hl_wj, hz_wi, hz_wj, hs_wi, hs_wj, hi_wr, hj_wr, hr_e, hr_n, ht_wr, hl_wr, hz_wr, hs_wr, n_lt_t, n_lt_f, n_le_t, n_le_f, n_eq_t, n_eq_f, true_and, and_true, false_and, and_false, true_or, or_true, false_or, or_false, not_true_eq_false, not_false_eq_true, forall_const, implies_true, true_imp_iff, false_imp_iff, gs_t, reduceIte, ite_true, ite_false, e3]
                  exact q4 y hy
            refine t_makeStale (G := zs_G S) (P := zs_P S) (g := g') (d := d') (R.1.fr gf) (R.2.2.1.fr gf rfl rfl) (by omega) (by simp (disch := omega) only [forall_eq, exists_eq_left, exists_eq_left', Option.some.injEq, ex_ix, i_add, i_mul, i_sub, i_lt, i_le, i_eq, i_tn, hi_e, hi_n, hj_e, hj_n, hi_wj, hj_wi, hr_wi, hr_wj, ht_wi, ht_wj, hl_wi, hl_wj, hz_wi, hz_wj, hs_wi, hs_wj, hi_wr, hj_wr, hr_e, hr_n, ht_wr, hl_wr, hz_wr, hs_wr, n_lt_t, n_lt_f, n_le_t, n_le_f, n_eq_t, n_eq_f, true_and, and_true, false_and, and_false, true_or, or_true, false_or, or_false, not_true_eq_false, not_false_eq_true, forall_const, implies_true, true_imp_iff, false_imp_iff, gs_t, reduceIte, ite_true, ite_false]; exact s4) (by omega) (by omega) (fun h2 g2 N2 => ?_)
            have ev : hh_i h2 (m + 13) g' = (Int32.ofNat (zg_many (zs_G S) g' + 1)) := by rw [g2.arr (o := 13) rfl]; simp (disch := omega) only [forall_eq, exists_eq_left, exists_eq_left', Option.some.injEq, ex_ix, i_add, i_mul, i_sub, i_lt, i_le, i_eq, i_tn, hi_e, hi_n, hj_e, hj_n, hi_wj, hj_wi, hr_wi, hr_wj, ht_wi, ht_wj, hl_wi, hl_wj, hz_wi, hz_wj, hs_wi, hs_wj, hi_wr, hj_wr, hr_e, hr_n, ht_wr, hl_wr, hz_wr, hs_wr, n_lt_t, n_lt_f, n_le_t, n_le_f, n_eq_t, n_eq_f, true_and, and_true, false_and, and_false, true_or, or_true, false_or, or_false, not_true_eq_false, not_false_eq_true, forall_const, implies_true, true_imp_iff, false_imp_iff, gs_t, reduceIte, ite_true, ite_false]
            exact ⟨by rw [ev], R.oPG ((gf.up rfl rfl).trans (g2.up rfl rfl)) N2 (NG.fr g2 rfl rfl)⟩
theorem t_replace {d e : Int32} (R : rT h m S) (K : zg_ok (zs_P S) (zs_G S)) : gm_G 301 0 [some (.ref m), some (.int d), some (.int e)] [] h (rI (zq_replace S d e).2 fun h' => rT h' m (zq_replace S d e).1) := by
  obtain ⟨k0, k1, k2, k3, k4⟩ := id K
  have hup := R.up
  obtain ⟨p1, p2, p3, p4, p5⟩ := id R.2.2.1
  obtain ⟨q1, q2, q3, q4⟩ := id R.2.2.2.1
  refine w_301_0 R.1 ?_
  unfold zq_replace
  cases hu : zs_up S with
  | false =>
    rw [hu] at hup
    exact ⟨fun z => absurd hup z, fun _ => ⟨rfl, R⟩⟩
  | true =>
    rw [hu] at hup
    refine ⟨fun _ => ?_, fun z => absurd (hup.symm.trans z) (by decide)⟩
    rw [if_neg (by decide)]
    refine t_noDisk R.1 R.2.2.1 (fun e1 => ?_) (fun d' hd' ed e1 => ?_)
    · rw [e1]
      exact ⟨fun _ => ⟨rfl, R⟩, fun z => absurd z (by decide)⟩
    subst ed
    refine ⟨fun z => absurd rfl z, fun _ => t_noDisk R.1 R.2.2.1 (fun e2 => ?_) (fun e' he' ee e2 => ?_)⟩
    · rw [e1, e2]
      exact ⟨fun z => absurd z (by decide), fun _ => ⟨rfl, R⟩⟩
    subst ee
    rw [e1, e2]
    have a5 := q4 d' (by omega)
    have b5 := q4 e' (by omega)
    have sd := p3 e' he'
    have a7 := (p4 e' (by omega)).1
    show (_ → _) ∧ (_ → _)
    cases zo : zg_gof (zs_G S) d' with
    | none =>
      rw [zo] at a5
      have a5 : hh_i h (m + 5) d' = Int32.ofInt (-1) := a5
      have a5' : (Int32.ofInt (-1) < (Int32.ofNat 0)) = True := eq_true (by decide)
      simp (disch := omega) only [forall_eq, exists_eq_left, exists_eq_left', Option.some.injEq, ex_ix, i_add, i_mul, i_sub, i_lt, i_le, i_eq, i_tn, hi_e, hi_n, hj_e, hj_n, hi_wj, hj_wi, hr_wi, hr_wj, ht_wi, ht_wj, hl_wi, hl_wj, hz_wi, hz_wj, hs_wi, hs_wj, hi_wr, hj_wr, hr_e, hr_n, ht_wr, hl_wr, hz_wr, hs_wr, n_lt_t, n_lt_f, n_le_t, n_le_f, n_eq_t, n_eq_f, true_and, and_true, false_and, and_false, true_or, or_true, false_or, or_false, not_true_eq_false, not_false_eq_true, forall_const, implies_true, true_imp_iff, false_imp_iff, gs_t, reduceIte, ite_true, ite_false, a5, a5', rI, zo]
      exact R
    | some g' =>
      rw [zo] at a5
      have a5 : hh_i h (m + 5) d' = (Int32.ofNat g') := a5
      have hg' := (k3 d' g' zo).1
      obtain ⟨c1, c2, c3, c4, c5, c6, c7⟩ := k1 g' hg'
      obtain ⟨s1, s2, s3, s4, s5⟩ := q3 g' hg'
      cases zh : zp_here (zs_P S) e' with
      | false =>
        rw [zh] at a7
        have a7 : hh_i h (m + 7) e' = (Int32.ofNat 1) := a7
        simp (disch := omega) only [forall_eq, exists_eq_left, exists_eq_left', Option.some.injEq, ex_ix, i_add, i_mul, i_sub, i_lt, i_le, i_eq, i_tn, hi_e, hi_n, hj_e, hj_n, hi_wj, hj_wi, hr_wi, hr_wj, ht_wi, ht_wj, hl_wi, hl_wj, hz_wi, hz_wj, hs_wi, hs_wj, hi_wr, hj_wr, hr_e, hr_n, ht_wr, hl_wr, hz_wr, hs_wr, n_lt_t, n_lt_f, n_le_t, n_le_f, n_eq_t, n_eq_f, true_and, and_true, false_and, and_false, true_or, or_true, false_or, or_false, not_true_eq_false, not_false_eq_true, forall_const, implies_true, true_imp_iff, false_imp_iff, gs_t, reduceIte, ite_true, ite_false, a5, a7, rI, i_n0, zo, zh]; exact R
      | true =>
        rw [zh] at a7
        have a7 : hh_i h (m + 7) e' = (Int32.ofNat 0) := a7
        cases zb : zg_gof (zs_G S) e' with
        | some x =>
          rw [zb] at b5
          have b5 : hh_i h (m + 5) e' = (Int32.ofNat x) := b5
          have := (k3 e' x zb).1
          simp (disch := omega) only [forall_eq, exists_eq_left, exists_eq_left', Option.some.injEq, ex_ix, i_add, i_mul, i_sub, i_lt, i_le, i_eq, i_tn, hi_e, hi_n, hj_e, hj_n, hi_wj, hj_wi, hr_wi, hr_wj, ht_wi, ht_wj, hl_wi, hl_wj, hz_wi, hz_wj, hs_wi, hs_wj, hi_wr, hj_wr, hr_e, hr_n, ht_wr, hl_wr, hz_wr, hs_wr, n_lt_t, n_lt_f, n_le_t, n_le_f, n_eq_t, n_eq_f, true_and, and_true, false_and, and_false, true_or, or_true, false_or, or_false, not_true_eq_false, not_false_eq_true, forall_const, implies_true, true_imp_iff, false_imp_iff, gs_t, reduceIte, ite_true, ite_false, a5, a7, b5, rI, i_n0, zo, zh, zb, Option.isSome_some, Bool.true_eq_false]; exact R
        | none =>
          rw [zb] at b5
          have b5 : hh_i h (m + 5) e' = Int32.ofInt (-1) := b5
          have a5' : (Int32.ofInt (-1) < (Int32.ofNat 0)) = True := eq_true (by decide)
          by_cases zl : zp_sec (zs_P S) e' < zg_len (zs_G S) g'
          · simp (disch := omega) only [forall_eq, exists_eq_left, exists_eq_left', Option.some.injEq, ex_ix, i_add, i_mul, i_sub, i_lt, i_le, i_eq, i_tn, hi_e, hi_n, hj_e, hj_n, hi_wj, hj_wi, hr_wi, hr_wj, ht_wi, ht_wj, hl_wi, hl_wj, hz_wi, hz_wj, hs_wi, hs_wj, hi_wr, hj_wr, hr_e, hr_n, ht_wr, hl_wr, hz_wr, hs_wr, n_lt_t, n_lt_f, n_le_t, n_le_f, n_eq_t, n_eq_f, true_and, and_true, false_and, and_false, true_or, or_true, false_or, or_false, not_true_eq_false, not_false_eq_true, forall_const, implies_true, true_imp_iff, false_imp_iff, gs_t, reduceIte, ite_true, ite_false, a5, a7, b5, a5', zo, zh, zb, rI, i_n0, Option.isSome_none, Bool.true_eq_false, Bool.false_eq_true, s4, sd.1]; exact R
          · have lp : ∀ j k h1, k + j = zg_many (zs_G S) g' → fr (tO m [15] []) h h1 → (∀ g x, g < zg_ng (zs_G S) → x < zg_many (zs_G S) g → hh_i h1 (m + 15) (6 * g + x) = (Int32.ofNat (if g = g' ∧ zg_dsk (zs_G S) g' x = d' ∧ x < k then e' else zg_dsk (zs_G S) g x))) → gm_G 301 81 [some (.ref m), some (.int (Int32.ofNat d')), some (.int (Int32.ofNat e')), some (.int (Int32.ofNat g')), some (.int (Int32.ofNat k))] [] h1 (rI (Int32.ofNat g') fun h' => rT h' m (zs_P_ (zs_G_ S (zg_gof_ (zg_dsk_ (zs_G S) (fun h x => if h = g' ∧ zg_dsk (zs_G S) g' x = d' then e' else zg_dsk (zs_G S) h x)) (fu (fu (zg_gof (zs_G S)) e' (some g')) d' none))) (zp_ms (zs_P S) e' (zg_len (zs_G S) g')))) := by
              intro j
              induction j with
              | zero =>
                intro k h1 ek f hs
                have ek : k = zg_many (zs_G S) g' := by omega
                subst ek
                refine w_301_81 (R.1.fr f) ?_
                simp (disch := omega) only [forall_eq, exists_eq_left, exists_eq_left', Option.some.injEq, ex_ix, i_add, i_mul, i_sub, i_lt, i_le, i_eq, i_tn, hi_e, hi_n, hj_e, hj_n, hi_wj, hj_wi, hr_wi, hr_wj, ht_wi, ht_wj, hl_wi, hl_wj, hz_wi, hz_wj, hs_wi, hs_wj, hi_wr, hj_wr, hr_e, hr_n, ht_wr, hl_wr, hz_wr, hs_wr, n_lt_t, n_lt_f, n_le_t, n_le_f, n_eq_t, n_eq_f, true_and, and_true, false_and, and_false, true_or, or_true, false_or, or_false, not_true_eq_false, not_false_eq_true, forall_const, implies_true, true_imp_iff, false_imp_iff, gs_t, reduceIte, ite_true, ite_false, f.arr (o := 13) rfl, s3]
                have gf : fr (tO m [5, 15] []) h (hh_wi (hh_wi h1 (m + 5) e' (Int32.ofNat g')) (m + 5) d' (Int32.ofInt (-1))) := ((f.up rfl rfl).trans (fr.a rfl)).trans (fr.a rfl)
                have hne : ¬ d' = e' := fun q => by rw [q, zb] at zo; cases zo
                have NG : rT_G (hh_wi (hh_wi h1 (m + 5) e' (Int32.ofNat g')) (m + 5) d' (Int32.ofInt (-1))) m (zg_gof_ (zg_dsk_ (zs_G S) (fun h x => if h = g' ∧ zg_dsk (zs_G S) g' x = d' then e' else zg_dsk (zs_G S) h x)) (fu (fu (zg_gof (zs_G S)) e' (some g')) d' none)) := by
                  refine ⟨by rw [gf.fld rfl]; exact q1, q2, fun x hx => ?_, fun y hy => ?_⟩
                  · obtain ⟨t1, t2, t3, t4, t5⟩ := q3 x hx
                    rw [gf.arr (o := 11) rfl, gf.arr (o := 12) rfl, gf.arr (o := 13) rfl, gf.arr (o := 14) rfl]
                    refine ⟨t1, t2, t3, t4, fun y hy => ?_⟩
                    show _ = (Int32.ofNat (if x = g' ∧ zg_dsk (zs_G S) g' y = d' then e' else zg_dsk (zs_G S) x y))
                    simp (disch := omega) only [forall_eq, exists_eq_left, exists_eq_left', Option.some.injEq, ex_ix, i_add, i_mul, i_sub, i_lt, i_le, i_eq, i_tn, hi_e, hi_n, hj_e, hj_n, hi_wj, hj_wi, hr_wi, hr_wj, ht_wi, ht_wj, hl_wi, hl_wj, hz_wi, hz_wj, hs_wi, hs_wj, hi_wr, hj_wr, hr_e, hr_n, ht_wr, hl_wr, hz_wr, hs_wr, n_lt_t, n_lt_f, n_le_t, n_le_f, n_eq_t, n_eq_f, true_and, and_true, false_and, and_false, true_or, or_true, false_or, or_false, not_true_eq_false, not_false_eq_true, forall_const, implies_true, true_imp_iff, false_imp_iff, gs_t, reduceIte, ite_true, ite_false]
                    rw [hs x y hx hy]
                    by_cases q : x = g' ∧ zg_dsk (zs_G S) g' y = d'
                    · have hy' : y < zg_many (zs_G S) x := hy
                      rw [q.1] at hy'
                      rw [if_pos q, if_pos ⟨q.1, q.2, hy'⟩]
                    · rw [if_neg q, if_neg (fun z => q ⟨z.1, z.2.1⟩)]
                  · show _ = oi (Int32.ofInt (-1)) (fu (fu (zg_gof (zs_G S)) e' (some g')) d' none y)
                    unfold fu
                    by_cases z1 : y = d'
                    · simp (disch := omega) only [forall_eq, exists_eq_left, exists_eq_left', Option.some.injEq, ex_ix, i_add, i_mul, i_sub, i_lt, i_le, i_eq, i_tn, hi_e, hi_n, hj_e, hj_n, hi_wj, hj_wi, hr_wi, hr_wj, ht_wi, ht_wj, hl_wi, hl_wj, hz_wi, hz_wj, hs_wi, hs_wj, hi_wr, hj_wr, hr_e, hr_n, ht_wr, hl_wr, hz_wr, hs_wr, n_lt_t, n_lt_f, n_le_t, n_le_f, n_eq_t, n_eq_f, true_and, and_true, false_and, and_false, true_or, or_true, false_or, or_false, not_true_eq_false, not_false_eq_true, forall_const, implies_true, true_imp_iff, false_imp_iff, gs_t, reduceIte, ite_true, ite_false, z1]
                      rfl
                    · by_cases z2 : y = e'
                      · simp (disch := omega) only [forall_eq, exists_eq_left, exists_eq_left', Option.some.injEq, ex_ix, i_add, i_mul, i_sub, i_lt, i_le, i_eq, i_tn, hi_e, hi_n, hj_e, hj_n, hi_wj, hj_wi, hr_wi, hr_wj, ht_wi, ht_wj, hl_wi, hl_wj, hz_wi, hz_wj, hs_wi, hs_wj, hi_wr, hj_wr, hr_e, hr_n, ht_wr, hl_wr, hz_wr, hs_wr, n_lt_t, n_lt_f, n_le_t, n_le_f, n_eq_t, n_eq_f, true_and, and_true, false_and, and_false, true_or, or_true, false_or, or_false, not_true_eq_false, not_false_eq_true, forall_const, implies_true, true_imp_iff, false_imp_iff, gs_t, reduceIte, ite_true, ite_false]
                        rfl
                      · simp (disch := omega) only [forall_eq, exists_eq_left, exists_eq_left', Option.some.injEq, ex_ix, i_add, i_mul, i_sub, i_lt, i_le, i_eq, i_tn, hi_e, hi_n, hj_e, hj_n, hi_wj, hj_wi, hr_wi, hr_wj, ht_wi, ht_wj, hl_wi, hl_wj, hz_wi, hz_wj, hs_wi, hs_wj, hi_wr, hj_wr, hr_e, hr_n, ht_wr, hl_wr, hz_wr, hs_wr, n_lt_t, n_lt_f, n_le_t, n_le_f, n_eq_t, n_eq_f, true_and, and_true, false_and, and_false, true_or, or_true, false_or, or_false, not_true_eq_false, not_false_eq_true, forall_const, implies_true, true_imp_iff, false_imp_iff, gs_t, reduceIte, ite_true, ite_false, f.arr (o := 5) rfl]
                        exact q4 y hy
                refine t_makeStale (G := zs_G S) (P := zs_P S) (g := g') (d := e') (R.1.fr gf) (R.2.2.1.fr gf rfl rfl) (by omega) (by rw [gf.arr (o := 14) rfl]; exact s4) (by omega) (by omega) (fun h2 g2 N2 => ?_)
                exact ⟨rfl, R.oPG ((gf.up rfl rfl).trans (g2.up rfl rfl)) N2 (NG.fr g2 rfl rfl)⟩
              | succ j ih =>
                intro k h1 ek f hs
                have hk : k < zg_many (zs_G S) g' := by omega
                have hv := hs g' k hg' hk
                rw [if_neg (by omega)] at hv
                have := (c7 k hk).1
                refine w_301_81 (R.1.fr f) ?_
                simp (disch := omega) only [forall_eq, exists_eq_left, exists_eq_left', Option.some.injEq, ex_ix, i_add, i_mul, i_sub, i_lt, i_le, i_eq, i_tn, hi_e, hi_n, hj_e, hj_n, hi_wj, hj_wi, hr_wi, hr_wj, ht_wi, ht_wj, hl_wi, hl_wj, hz_wi, hz_wj, hs_wi, hs_wj, hi_wr, hj_wr, hr_e, hr_n, ht_wr, hl_wr, hz_wr, hs_wr, n_lt_t, n_lt_f, n_le_t, n_le_f, n_eq_t, n_eq_f, true_and, and_true, false_and, and_false, true_or, or_true, false_or, or_false, not_true_eq_false, not_false_eq_true, forall_const, implies_true, true_imp_iff, false_imp_iff, gs_t, reduceIte, ite_true, ite_false, f.arr (o := 13) rfl, s3, hv]
                by_cases q : zg_dsk (zs_G S) g' k = d'
                · simp (disch := omega) only [forall_eq, exists_eq_left, exists_eq_left', Option.some.injEq, ex_ix, i_add, i_mul, i_sub, i_lt, i_le, i_eq, i_tn, hi_e, hi_n, hj_e, hj_n, hi_wj, hj_wi, hr_wi, hr_wj, ht_wi, ht_wj, hl_wi, hl_wj, hz_wi, hz_wj, hs_wi, hs_wj, hi_wr, hj_wr, hr_e, hr_n, ht_wr, hl_wr, hz_wr, hs_wr, n_lt_t, n_lt_f, n_le_t, n_le_f, n_eq_t, n_eq_f, true_and, and_true, false_and, and_false, true_or, or_true, false_or, or_false, not_true_eq_false, not_false_eq_true, forall_const, implies_true, true_imp_iff, false_imp_iff, gs_t, reduceIte, ite_true, ite_false, q]
                  refine w_301_121 (R.1.fr (f.trans (fr.a rfl))) ?_
                  simp (disch := omega) only [forall_eq, exists_eq_left, exists_eq_left', Option.some.injEq, ex_ix, i_add, i_mul, i_sub, i_lt, i_le, i_eq, i_tn, hi_e, hi_n, hj_e, hj_n, hi_wj, hj_wi, hr_wi, hr_wj, ht_wi, ht_wj, hl_wi, hl_wj, hz_wi, hz_wj, hs_wi, hs_wj, hi_wr, hj_wr, hr_e, hr_n, ht_wr, hl_wr, hz_wr, hs_wr, n_lt_t, n_lt_f, n_le_t, n_le_f, n_eq_t, n_eq_f, true_and, and_true, false_and, and_false, true_or, or_true, false_or, or_false, not_true_eq_false, not_false_eq_true, forall_const, implies_true, true_imp_iff, false_imp_iff, gs_t, reduceIte, ite_true, ite_false]
                  refine ih (k + 1) _ (by omega) (f.trans (fr.a rfl)) (fun g x hg hx => ?_)
                  have := (k1 g hg).2.1
                  by_cases y : g = g' ∧ x = k
                  · obtain ⟨rfl, rfl⟩ := y
                    rw [hi_e ⟨rfl, rfl⟩, if_pos ⟨rfl, q, by omega⟩]
                  · rw [hi_n (by omega), hs g x hg hx]
                    by_cases w : g = g' ∧ zg_dsk (zs_G S) g' x = d' ∧ x < k
                    · rw [if_pos w, if_pos ⟨w.1, w.2.1, by omega⟩]
                    · rw [if_neg w, if_neg (fun z => w ⟨z.1, z.2.1, by omega⟩)]
                · simp (disch := omega) only [forall_eq, exists_eq_left, exists_eq_left', Option.some.injEq, ex_ix, i_add, i_mul, i_sub, i_lt, i_le, i_eq, i_tn, hi_e, hi_n, hj_e, hj_n, hi_wj, hj_wi, hr_wi, hr_wj, ht_wi, ht_wj, hl_wi, hl_wj, hz_wi, hz_wj, hs_wi, hs_wj, hi_wr, hj_wr, hr_e, hr_n, ht_wr, hl_wr, hz_wr, hs_wr, n_lt_t, n_lt_f, n_le_t, n_le_f, n_eq_t, n_eq_f, true_and, and_true, false_and, and_false, true_or, or_true, false_or, or_false, not_true_eq_false, not_false_eq_true, forall_const, implies_true, true_imp_iff, false_imp_iff, gs_t, reduceIte, ite_true, ite_false]
                  refine w_301_121 (R.1.fr f) ?_
                  simp (disch := omega) only [forall_eq, exists_eq_left, exists_eq_left', Option.some.injEq, ex_ix, i_add, i_mul, i_sub, i_lt, i_le, i_eq, i_tn, hi_e, hi_n, hj_e, hj_n, hi_wj, hj_wi, hr_wi, hr_wj, ht_wi, ht_wj, hl_wi, hl_wj, hz_wi, hz_wj, hs_wi, hs_wj, hi_wr, hj_wr, hr_e, hr_n, ht_wr, hl_wr, hz_wr, hs_wr, n_lt_t, n_lt_f, n_le_t, n_le_f, n_eq_t, n_eq_f, true_and, and_true, false_and, and_false, true_or, or_true, false_or, or_false, not_true_eq_false, not_false_eq_true, forall_const, implies_true, true_imp_iff, false_imp_iff, gs_t, reduceIte, ite_true, ite_false]
                  refine ih (k + 1) _ (by omega) f (fun g x hg hx => ?_)
                  rw [hs g x hg hx]
                  by_cases w : g = g' ∧ zg_dsk (zs_G S) g' x = d' ∧ x < k
                  · rw [if_pos w, if_pos ⟨w.1, w.2.1, by omega⟩]
                  · rw [if_neg w, if_neg (fun z => w ⟨z.1, z.2.1, by
                      by_cases y : x = k
                      · rw [y] at z; exact absurd z.2.1 q
                      · omega⟩)]
            simp (disch := omega) only [forall_eq, exists_eq_left, exists_eq_left', Option.some.injEq, ex_ix, i_add, i_mul, i_sub, i_lt, i_le, i_eq, i_tn, hi_e, hi_n, hj_e, hj_n, hi_wj, hj_wi, hr_wi, hr_wj, ht_wi, ht_wj, hl_wi, hl_wj, hz_wi, hz_wj, hs_wi, hs_wj, hi_wr, hj_wr, hr_e, hr_n, ht_wr, hl_wr, hz_wr, hs_wr, n_lt_t, n_lt_f, n_le_t, n_le_f, n_eq_t, n_eq_f, true_and, and_true, false_and, and_false, true_or, or_true, false_or, or_false, not_true_eq_false, not_false_eq_true, forall_const, implies_true, true_imp_iff, false_imp_iff, gs_t, reduceIte, ite_true, ite_false, a5, a7, b5, a5', zo, zh, zb, i_n0, Option.isSome_none, Bool.true_eq_false, Bool.false_eq_true, s4, sd.1]
            exact lp (zg_many (zs_G S) g') 0 h (by omega) (fr.refl _ _) (fun g x hg hx => by rw [if_neg (by omega)]; exact (q3 g hg).2.2.2.2 x hx)
end TG2
