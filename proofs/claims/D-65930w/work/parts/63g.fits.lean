/-! STAGE 3, 11: the twin decodes; a block that fits; errors; mending -/
theorem ta_c.fr {A : Nat → Nat → Prop} {h h' : hh_T} {a : Nat} {l : List Int32} (c : ta_c h a l) (e : hh_i h' a = hh_i h a) : ta_c h' a l := fun i hi => by rw [e]; exact c i hi
theorem lm_get (f : Nat → Int32) : ∀ n s x, x < n → (lm f s n).getD x 0 = f (s + x)
  | 0, _, _, h => by omega
  | n + 1, s, 0, _ => rfl
  | n + 1, s, x + 1, h => by
    show (lm f (s + 1) n).getD x 0 = _
    rw [lm_get f n (s + 1) x (by omega)]
    congr 1
    omega
theorem lm_zero (f : Nat → Int32) (s : Nat) : lm f s 0 = [] := rfl
section TDc
variable {h : hh_T} {m : Nat} {Q : Option Value ⊕ Nat → hh_T → Prop}
theorem t_decode {n co : Nat} (hT : tw_ok h m) (w : gy_wf h) (hn : n ≤ 32) (hco : co ≤ 2)
    (H1 : zd_c co (hh_i h (m + 35)) n = none → ∀ h', fr (tO m [29] []) h h' → Q (.inl (some (.int (Int32.ofNat 0)))) h')
    (H2 : ∀ o, zd_c co (hh_i h (m + 35)) n = some o → o.length = 32 → ∀ h', fr (tO m [29] []) h h' → ta_c h' (m + 29) o → Q (.inl (some (.int (Int32.ofNat 1)))) h') : gm_G 100 0 [some (.ref m), some (.ref (m + 35)), some (.int (Int32.ofNat 0)), some (.int (Int32.ofNat n)), some (.int (Int32.ofNat co))] [] h Q := by
  obtain ⟨f, hf⟩ : ∃ f, f = hh_i h (m + 35) := ⟨_, rfl⟩
  rw [← hf] at H1 H2
  have hfb : ∀ x, gy_b (f x) := fun x => by rw [hf]; exact w.2.1 _ _ (hT.2.2 35 (by decide)).1
  have t35 : hh_tg h (m + 35) = 101 ∧ hh_ln h (m + 35) = 32 := hT.2.2 35 (by decide)
  have h35 : ∀ h1, fr (tO m [29] []) h h1 → hh_i h1 (m + 35) = f := fun h1 g => by rw [g.arr (o := 35) rfl, hf]
  -- the end: 32 bytes were made of t
  have tail : ∀ o t h1, fr (tO m [29] []) h h1 → ta_c h1 (m + 29) o → o.length = 32 → t ≤ n → zd_r co f n = some (o, t) → gm_G 100 307 [none, some (.ref (m + 35)), some (.int (Int32.ofNat 0)), some (.int (Int32.ofNat n)), none, some (.int (Int32.ofNat 32)), some (.int (Int32.ofNat t))] [] h1 Q := by
    intro o t h1 g c hl ht hz
    have hT1 := hT.fr g
    refine w_100_307 hT1 ?_
    by_cases c8 : n - t < 8
    · simp (disch := omega) only [forall_eq, exists_eq_left, exists_eq_left', Option.some.injEq, ex_ix, i_add, i_mul, i_sub, i_lt, i_le, i_eq, i_tn, hi_e, hi_n, hj_e, hj_n, hi_wj, hj_wi, hr_wi, hr_wj, ht_wi, ht_wj, hl_wi, hl_wj, hz_wi, hz_wj, hs_wi, hs_wj, hi_wr, hj_wr, hr_e, hr_n, ht_wr, hl_wr, hz_wr, hs_wr, n_lt_t, n_lt_f, n_le_t, n_le_f, n_eq_t, n_eq_f, true_and, and_true, false_and, and_false, true_or, or_true, false_or, or_false, not_true_eq_false, not_false_eq_true, forall_const, implies_true, true_imp_iff, false_imp_iff, gs_t, reduceIte, ite_true, ite_false]
      have lp : ∀ e i, i + e = n → t ≤ i → (∀ j, t ≤ j → j < i → f j = (Int32.ofNat 0)) → gm_G 100 325 [none, some (.ref (m + 35)), some (.int (Int32.ofNat 0)), some (.int (Int32.ofNat n)), none, none, some (.int (Int32.ofNat i))] [] h1 Q := by
        intro e
        induction e with
        | zero =>
          intro i ei hi hz2
          have ei : i = n := by omega
          subst ei
          refine w_100_325 hT1 ?_
          simp (disch := omega) only [forall_eq, exists_eq_left, exists_eq_left', Option.some.injEq, ex_ix, i_add, i_mul, i_sub, i_lt, i_le, i_eq, i_tn, hi_e, hi_n, hj_e, hj_n, hi_wj, hj_wi, hr_wi, hr_wj, ht_wi, ht_wj, hl_wi, hl_wj, hz_wi, hz_wj, hs_wi, hs_wj, hi_wr, hj_wr, hr_e, hr_n, ht_wr, hl_wr, hz_wr, hs_wr, n_lt_t, n_lt_f, n_le_t, n_le_f, n_eq_t, n_eq_f, true_and, and_true, false_and, and_false, true_or, or_true, false_or, or_false, not_true_eq_false, not_false_eq_true, forall_const, implies_true, true_imp_iff, false_imp_iff, gs_t, reduceIte, ite_true, ite_false]
          refine H2 o ?_ hl h1 g c
          unfold zd_c
          rw [hz]
          simp only
          rw [if_pos]
          refine ⟨c8, ?_⟩
          unfold zd_tail
          rw [List.all_eq_true]
          intro j hj
          rw [List.mem_range] at hj
          rw [Bool.or_eq_true, decide_eq_true_eq, decide_eq_true_eq]
          by_cases y : j < t
          · exact Or.inl y
          · exact Or.inr (hz2 j (by omega) hj)
        | succ e ih =>
          intro i ei hi hz2
          refine w_100_325 hT1 ?_
          have e0 : 0 + i = i := Nat.zero_add i
          simp (disch := omega) only [forall_eq, exists_eq_left, exists_eq_left', Option.some.injEq, ex_ix, i_add, i_mul, i_sub, i_lt, i_le, i_eq, i_tn, hi_e, hi_n, hj_e, hj_n, hi_wj, hj_wi, hr_wi, hr_wj, ht_wi, ht_wj, hl_wi, hl_wj, hz_wi, hz_wj, hs_wi, hs_wj, hi_wr, hj_wr, hr_e, hr_n, ht_wr, hl_wr, hz_wr, hs_wr, n_lt_t, n_lt_f, n_le_t, n_le_f, n_eq_t, n_eq_f, true_and, and_true, false_and, and_false, true_or, or_true, false_or, or_false, not_true_eq_false, not_false_eq_true, forall_const, implies_true, true_imp_iff, false_imp_iff, gs_t, reduceIte, ite_true, ite_false, g.tg, g.ln, t35.1, t35.2, e0, h35 h1 g]
          by_cases y : f i = (Int32.ofNat 0)
          · simp (disch := omega) only [forall_eq, exists_eq_left, exists_eq_left', Option.some.injEq, ex_ix, i_add, i_mul, i_sub, i_lt, i_le, i_eq, i_tn, hi_e, hi_n, hj_e, hj_n, hi_wj, hj_wi, hr_wi, hr_wj, ht_wi, ht_wj, hl_wi, hl_wj, hz_wi, hz_wj, hs_wi, hs_wj, hi_wr, hj_wr, hr_e, hr_n, ht_wr, hl_wr, hz_wr, hs_wr, n_lt_t, n_lt_f, n_le_t, n_le_f, n_eq_t, n_eq_f, true_and, and_true, false_and, and_false, true_or, or_true, false_or, or_false, not_true_eq_false, not_false_eq_true, forall_const, implies_true, true_imp_iff, false_imp_iff, gs_t, reduceIte, ite_true, ite_false, y]
            refine ih (i + 1) (by omega) (by omega) (fun j hj1 hj2 => ?_)
            by_cases z : j = i
            · subst z; exact y
            · exact hz2 j hj1 (by omega)
          · simp (disch := omega) only [forall_eq, exists_eq_left, exists_eq_left', Option.some.injEq, ex_ix, i_add, i_mul, i_sub, i_lt, i_le, i_eq, i_tn, hi_e, hi_n, hj_e, hj_n, hi_wj, hj_wi, hr_wi, hr_wj, ht_wi, ht_wj, hl_wi, hl_wj, hz_wi, hz_wj, hs_wi, hs_wj, hi_wr, hj_wr, hr_e, hr_n, ht_wr, hl_wr, hz_wr, hs_wr, n_lt_t, n_lt_f, n_le_t, n_le_f, n_eq_t, n_eq_f, true_and, and_true, false_and, and_false, true_or, or_true, false_or, or_false, not_true_eq_false, not_false_eq_true, forall_const, implies_true, true_imp_iff, false_imp_iff, gs_t, reduceIte, ite_true, ite_false, y]
            refine H1 ?_ h1 g
            unfold zd_c
            rw [hz]
            simp only
            rw [if_neg]
            rintro ⟨-, z⟩
            unfold zd_tail at z
            have := List.all_eq_true.mp z i (List.mem_range.mpr (by omega))
            rw [Bool.or_eq_true, decide_eq_true_eq, decide_eq_true_eq] at this
            rcases this with z | z
            · omega
            · exact y z
      exact lp (n - t) t (by omega) (Nat.le_refl _) (fun j h1 h2 => by omega)
    · simp (disch := omega) only [forall_eq, exists_eq_left, exists_eq_left', Option.some.injEq, ex_ix, i_add, i_mul, i_sub, i_lt, i_le, i_eq, i_tn, hi_e, hi_n, hj_e, hj_n, hi_wj, hj_wi, hr_wi, hr_wj, ht_wi, ht_wj, hl_wi, hl_wj, hz_wi, hz_wj, hs_wi, hs_wj, hi_wr, hj_wr, hr_e, hr_n, ht_wr, hl_wr, hz_wr, hs_wr, n_lt_t, n_lt_f, n_le_t, n_le_f, n_eq_t, n_eq_f, true_and, and_true, false_and, and_false, true_or, or_true, false_or, or_false, not_true_eq_false, not_false_eq_true, forall_const, implies_true, true_imp_iff, false_imp_iff, gs_t, reduceIte, ite_true, ite_false]
      refine H1 ?_ h1 g
      unfold zd_c
      rw [hz]
      simp only
      rw [if_neg (fun z => c8 z.1)]
  have bad : zd_r co f n = none → ∀ h1, fr (tO m [29] []) h h1 → Q (.inl (some (.int (Int32.ofNat 0)))) h1 := fun z h1 g => H1 (by unfold zd_c; rw [z]) h1 g
  have short : ∀ (o : List Int32) t h1, fr (tO m [29] []) h h1 → o.length < 32 → zd_r co f n = none → gm_G 100 307 [none, some (.ref (m + 35)), some (.int (Int32.ofNat 0)), some (.int (Int32.ofNat n)), none, some (.int (Int32.ofNat o.length)), some (.int (Int32.ofNat t))] [] h1 Q := by
    intro o t h1 g hl hz
    refine w_100_307 (hT.fr g) ?_
    simp (disch := omega) only [forall_eq, exists_eq_left, exists_eq_left', Option.some.injEq, ex_ix, i_add, i_mul, i_sub, i_lt, i_le, i_eq, i_tn, hi_e, hi_n, hj_e, hj_n, hi_wj, hj_wi, hr_wi, hr_wj, ht_wi, ht_wj, hl_wi, hl_wj, hz_wi, hz_wj, hs_wi, hs_wj, hi_wr, hj_wr, hr_e, hr_n, ht_wr, hl_wr, hz_wr, hs_wr, n_lt_t, n_lt_f, n_le_t, n_le_f, n_eq_t, n_eq_f, true_and, and_true, false_and, and_false, true_or, or_true, false_or, or_false, not_true_eq_false, not_false_eq_true, forall_const, implies_true, true_imp_iff, false_imp_iff, gs_t, reduceIte, ite_true, ite_false]
    exact bad hz h1 g
  refine w_100_0 hT ?_
  have c3 : co = 0 ∨ co = 1 ∨ co = 2 := by omega
  rcases c3 with rfl | rfl | rfl
  · -- plainly
    have lp : ∀ e (i : Nat) h1, i + e = 32 → i ≤ n → fr (tO m [29] []) h h1 → ta_c h1 (m + 29) (lm f 0 i) → gm_G 100 6 [some (.ref m), some (.ref (m + 35)), some (.int (Int32.ofNat 0)), some (.int (Int32.ofNat n)), some (.int (Int32.ofNat 0)), some (.int (Int32.ofNat i)), some (.int (Int32.ofNat i))] [] h1 Q := by
      intro e
      induction e with
      | zero =>
        intro i h1 ei hi g c
        have ei : i = 32 := by omega
        subst ei
        refine w_100_6 (hT.fr g) ?_
        simp (disch := omega) only [forall_eq, exists_eq_left, exists_eq_left', Option.some.injEq, ex_ix, i_add, i_mul, i_sub, i_lt, i_le, i_eq, i_tn, hi_e, hi_n, hj_e, hj_n, hi_wj, hj_wi, hr_wi, hr_wj, ht_wi, ht_wj, hl_wi, hl_wj, hz_wi, hz_wj, hs_wi, hs_wj, hi_wr, hj_wr, hr_e, hr_n, ht_wr, hl_wr, hz_wr, hs_wr, n_lt_t, n_lt_f, n_le_t, n_le_f, n_eq_t, n_eq_f, true_and, and_true, false_and, and_false, true_or, or_true, false_or, or_false, not_true_eq_false, not_false_eq_true, forall_const, implies_true, true_imp_iff, false_imp_iff, gs_t, reduceIte, ite_true, ite_false]
        refine tail (lm f 0 32) 32 h1 g c (lm_len f 32 0) hi ?_
        show (if 0 = 0 then (if n < 32 then none else some (lm f 0 32, 32)) else _) = _
        rw [if_pos rfl, if_neg (by omega)]
      | succ e ih =>
        intro i h1 ei hi g c
        refine w_100_6 (hT.fr g) ?_
        by_cases y : i < n
        · have e0 : 0 + i = i := Nat.zero_add i
          simp (disch := omega) only [forall_eq, exists_eq_left, exists_eq_left', Option.some.injEq, ex_ix, i_add, i_mul, i_sub, i_lt, i_le, i_eq, i_tn, hi_e, hi_n, hj_e, hj_n, hi_wj, hj_wi, hr_wi, hr_wj, ht_wi, ht_wj, hl_wi, hl_wj, hz_wi, hz_wj, hs_wi, hs_wj, hi_wr, hj_wr, hr_e, hr_n, ht_wr, hl_wr, hz_wr, hs_wr, n_lt_t, n_lt_f, n_le_t, n_le_f, n_eq_t, n_eq_f, true_and, and_true, false_and, and_false, true_or, or_true, false_or, or_false, not_true_eq_false, not_false_eq_true, forall_const, implies_true, true_imp_iff, false_imp_iff, gs_t, reduceIte, ite_true, ite_false, g.tg, g.ln, t35.1, t35.2, e0, h35 h1 g]
          refine w_100_50 (hT.fr g) ?_
          have ev : ((f i &&& (Int32.ofNat 255)).toInt8.toInt32).toInt8.toInt32 = f i := (byt_byt _).trans (byt_and (hfb i))
          simp (disch := omega) only [forall_eq, exists_eq_left, exists_eq_left', Option.some.injEq, ex_ix, i_add, i_mul, i_sub, i_lt, i_le, i_eq, i_tn, hi_e, hi_n, hj_e, hj_n, hi_wj, hj_wi, hr_wi, hr_wj, ht_wi, ht_wj, hl_wi, hl_wj, hz_wi, hz_wj, hs_wi, hs_wj, hi_wr, hj_wr, hr_e, hr_n, ht_wr, hl_wr, hz_wr, hs_wr, n_lt_t, n_lt_f, n_le_t, n_le_f, n_eq_t, n_eq_f, true_and, and_true, false_and, and_false, true_or, or_true, false_or, or_false, not_true_eq_false, not_false_eq_true, forall_const, implies_true, true_imp_iff, false_imp_iff, gs_t, reduceIte, ite_true, ite_false, ev]
          refine ih (i + 1) _ (by omega) (by omega) (g.trans (fr.a rfl)) ?_
          rw [lm_S, Nat.zero_add]
          exact c.put (lm_len f i 0).symm
        · have : i = n := by omega
          simp (disch := omega) only [forall_eq, exists_eq_left, exists_eq_left', Option.some.injEq, ex_ix, i_add, i_mul, i_sub, i_lt, i_le, i_eq, i_tn, hi_e, hi_n, hj_e, hj_n, hi_wj, hj_wi, hr_wi, hr_wj, ht_wi, ht_wj, hl_wi, hl_wj, hz_wi, hz_wj, hs_wi, hs_wj, hi_wr, hj_wr, hr_e, hr_n, ht_wr, hl_wr, hz_wr, hs_wr, n_lt_t, n_lt_f, n_le_t, n_le_f, n_eq_t, n_eq_f, true_and, and_true, false_and, and_false, true_or, or_true, false_or, or_false, not_true_eq_false, not_false_eq_true, forall_const, implies_true, true_imp_iff, false_imp_iff, gs_t, reduceIte, ite_true, ite_false]
          have := short (lm f 0 i) i h1 g (by rw [lm_len]; omega) (by show (if 0 = 0 then (if n < 32 then none else some (lm f 0 32, 32)) else _) = _; rw [if_pos rfl, if_pos (by omega)])
          rw [lm_len] at this
          exact this
    exact lp 32 0 h (by omega) (by omega) (fr.refl _ _) (fun i hi => by rw [lm_len] at hi; omega)
  · -- zeros
    have hr : zd_r 1 f n = dz f n 33 0 [] := rfl
    have lp : ∀ F p (o : List Int32) h1, 33 ≤ F + o.length → o.length ≤ 32 → p ≤ n → fr (tO m [29] []) h h1 → ta_c h1 (m + 29) o → dz f n F p o = dz f n 33 0 [] → gm_G 100 6 [some (.ref m), some (.ref (m + 35)), some (.int (Int32.ofNat 0)), some (.int (Int32.ofNat n)), some (.int (Int32.ofNat 1)), some (.int (Int32.ofNat o.length)), some (.int (Int32.ofNat p))] [] h1 Q := by
      intro F
      induction F with
      | zero => intro p o h1 hF hl; omega
      | succ F ih =>
        intro p o h1 hF hl hp g c hd
        rw [dz_S] at hd
        refine w_100_6 (hT.fr g) ?_
        by_cases c32 : 32 ≤ o.length
        · rw [if_pos c32] at hd
          simp (disch := omega) only [forall_eq, exists_eq_left, exists_eq_left', Option.some.injEq, ex_ix, i_add, i_mul, i_sub, i_lt, i_le, i_eq, i_tn, hi_e, hi_n, hj_e, hj_n, hi_wj, hj_wi, hr_wi, hr_wj, ht_wi, ht_wj, hl_wi, hl_wj, hz_wi, hz_wj, hs_wi, hs_wj, hi_wr, hj_wr, hr_e, hr_n, ht_wr, hl_wr, hz_wr, hs_wr, n_lt_t, n_lt_f, n_le_t, n_le_f, n_eq_t, n_eq_f, true_and, and_true, false_and, and_false, true_or, or_true, false_or, or_false, not_true_eq_false, not_false_eq_true, forall_const, implies_true, true_imp_iff, false_imp_iff, gs_t, reduceIte, ite_true, ite_false, show o.length = 32 by omega]
          exact tail o p h1 g c (by omega) hp (by rw [hr, ← hd])
        rw [if_neg c32] at hd
        by_cases cn : n ≤ p
        · rw [if_pos cn] at hd
          simp (disch := omega) only [forall_eq, exists_eq_left, exists_eq_left', Option.some.injEq, ex_ix, i_add, i_mul, i_sub, i_lt, i_le, i_eq, i_tn, hi_e, hi_n, hj_e, hj_n, hi_wj, hj_wi, hr_wi, hr_wj, ht_wi, ht_wj, hl_wi, hl_wj, hz_wi, hz_wj, hs_wi, hs_wj, hi_wr, hj_wr, hr_e, hr_n, ht_wr, hl_wr, hz_wr, hs_wr, n_lt_t, n_lt_f, n_le_t, n_le_f, n_eq_t, n_eq_f, true_and, and_true, false_and, and_false, true_or, or_true, false_or, or_false, not_true_eq_false, not_false_eq_true, forall_const, implies_true, true_imp_iff, false_imp_iff, gs_t, reduceIte, ite_true, ite_false]
          exact short o p h1 g (by omega) (by rw [hr, ← hd])
        rw [if_neg cn] at hd
        have e0 : 0 + p = p := Nat.zero_add p
        have v1 := vz_of (f p)
        have hv1 := v1.2
        by_cases cz : vz (f p) = 0
        · rw [if_pos cz] at hd
          simp (disch := omega) only [forall_eq, exists_eq_left, exists_eq_left', Option.some.injEq, ex_ix, i_add, i_mul, i_sub, i_lt, i_le, i_eq, i_tn, hi_e, hi_n, hj_e, hj_n, hi_wj, hj_wi, hr_wi, hr_wj, ht_wi, ht_wj, hl_wi, hl_wj, hz_wi, hz_wj, hs_wi, hs_wj, hi_wr, hj_wr, hr_e, hr_n, ht_wr, hl_wr, hz_wr, hs_wr, n_lt_t, n_lt_f, n_le_t, n_le_f, n_eq_t, n_eq_f, true_and, and_true, false_and, and_false, true_or, or_true, false_or, or_false, not_true_eq_false, not_false_eq_true, forall_const, implies_true, true_imp_iff, false_imp_iff, gs_t, reduceIte, ite_true, ite_false, g.tg, g.ln, t35.1, t35.2, e0, h35 h1 g, v1.1]
          refine w_100_66 (hT.fr g) ?_
          by_cases cn2 : n ≤ p + 1
          · rw [if_pos cn2] at hd
            simp (disch := omega) only [forall_eq, exists_eq_left, exists_eq_left', Option.some.injEq, ex_ix, i_add, i_mul, i_sub, i_lt, i_le, i_eq, i_tn, hi_e, hi_n, hj_e, hj_n, hi_wj, hj_wi, hr_wi, hr_wj, ht_wi, ht_wj, hl_wi, hl_wj, hz_wi, hz_wj, hs_wi, hs_wj, hi_wr, hj_wr, hr_e, hr_n, ht_wr, hl_wr, hz_wr, hs_wr, n_lt_t, n_lt_f, n_le_t, n_le_f, n_eq_t, n_eq_f, true_and, and_true, false_and, and_false, true_or, or_true, false_or, or_false, not_true_eq_false, not_false_eq_true, forall_const, implies_true, true_imp_iff, false_imp_iff, gs_t, reduceIte, ite_true, ite_false]
            exact bad (by rw [hr, ← hd]) h1 g
          rw [if_neg cn2] at hd
          have v2 := vz_of (f (p + 1))
          have hv2 := v2.2
          have e1 : 0 + (p + 1) = p + 1 := Nat.zero_add _
          by_cases cc : vz (f (p + 1)) < 1 ∨ 32 - o.length < vz (f (p + 1))
          · rw [if_pos cc] at hd
            by_cases c1 : vz (f (p + 1)) < 1
            · simp (disch := omega) only [forall_eq, exists_eq_left, exists_eq_left', Option.some.injEq, ex_ix, i_add, i_mul, i_sub, i_lt, i_le, i_eq, i_tn, hi_e, hi_n, hj_e, hj_n, hi_wj, hj_wi, hr_wi, hr_wj, ht_wi, ht_wj, hl_wi, hl_wj, hz_wi, hz_wj, hs_wi, hs_wj, hi_wr, hj_wr, hr_e, hr_n, ht_wr, hl_wr, hz_wr, hs_wr, n_lt_t, n_lt_f, n_le_t, n_le_f, n_eq_t, n_eq_f, true_and, and_true, false_and, and_false, true_or, or_true, false_or, or_false, not_true_eq_false, not_false_eq_true, forall_const, implies_true, true_imp_iff, false_imp_iff, gs_t, reduceIte, ite_true, ite_false, g.tg, g.ln, t35.1, t35.2, e1, h35 h1 g, v2.1]
              exact bad (by rw [hr, ← hd]) h1 g
            · simp (disch := omega) only [forall_eq, exists_eq_left, exists_eq_left', Option.some.injEq, ex_ix, i_add, i_mul, i_sub, i_lt, i_le, i_eq, i_tn, hi_e, hi_n, hj_e, hj_n, hi_wj, hj_wi, hr_wi, hr_wj, ht_wi, ht_wj, hl_wi, hl_wj, hz_wi, hz_wj, hs_wi, hs_wj, hi_wr, hj_wr, hr_e, hr_n, ht_wr, hl_wr, hz_wr, hs_wr, n_lt_t, n_lt_f, n_le_t, n_le_f, n_eq_t, n_eq_f, true_and, and_true, false_and, and_false, true_or, or_true, false_or, or_false, not_true_eq_false, not_false_eq_true, forall_const, implies_true, true_imp_iff, false_imp_iff, gs_t, reduceIte, ite_true, ite_false, g.tg, g.ln, t35.1, t35.2, e1, h35 h1 g, v2.1]
              exact bad (by rw [hr, ← hd]) h1 g
          rw [if_neg cc] at hd
          obtain ⟨z, hz⟩ : ∃ z, z = vz (f (p + 1)) := ⟨_, rfl⟩
          rw [← hz] at hd cc
          have fl : ∀ e j (o1 : List Int32) h2, j + e = z → o1.length + e ≤ 32 → fr (tO m [29] []) h h2 → ta_c h2 (m + 29) o1 → o1 ++ List.replicate e (Int32.ofNat 0) = o ++ List.replicate z (Int32.ofNat 0) → gm_G 100 116 [some (.ref m), some (.ref (m + 35)), some (.int (Int32.ofNat 0)), some (.int (Int32.ofNat n)), some (.int (Int32.ofNat 1)), some (.int (Int32.ofNat o1.length)), some (.int (Int32.ofNat ((p + 2)))), none, some (.int (Int32.ofNat z)), some (.int (Int32.ofNat j))] [] h2 Q := by
            intro e
            induction e with
            | zero =>
              intro j o1 h2 ej hl1 g2 c2 eo
              refine w_100_116 (hT.fr g2) ?_
              simp (disch := omega) only [forall_eq, exists_eq_left, exists_eq_left', Option.some.injEq, ex_ix, i_add, i_mul, i_sub, i_lt, i_le, i_eq, i_tn, hi_e, hi_n, hj_e, hj_n, hi_wj, hj_wi, hr_wi, hr_wj, ht_wi, ht_wj, hl_wi, hl_wj, hz_wi, hz_wj, hs_wi, hs_wj, hi_wr, hj_wr, hr_e, hr_n, ht_wr, hl_wr, hz_wr, hs_wr, n_lt_t, n_lt_f, n_le_t, n_le_f, n_eq_t, n_eq_f, true_and, and_true, false_and, and_false, true_or, or_true, false_or, or_false, not_true_eq_false, not_false_eq_true, forall_const, implies_true, true_imp_iff, false_imp_iff, gs_t, reduceIte, ite_true, ite_false]
              rw [List.replicate_zero, List.append_nil] at eo
              refine w_100_304 (hT.fr g2) (ih (p + 2) o1 h2 ?_ (by omega) (by omega) g2 c2 (by rw [eo]; exact hd))
              rw [eo, List.length_append, List.length_replicate]
              omega
            | succ e ihe =>
              intro j o1 h2 ej hl1 g2 c2 eo
              refine w_100_116 (hT.fr g2) ?_
              have ez : ((Int32.ofNat 0)).toInt8.toInt32 = (Int32.ofNat 0) := by decide
              simp (disch := omega) only [forall_eq, exists_eq_left, exists_eq_left', Option.some.injEq, ex_ix, i_add, i_mul, i_sub, i_lt, i_le, i_eq, i_tn, hi_e, hi_n, hj_e, hj_n, hi_wj, hj_wi, hr_wi, hr_wj, ht_wi, ht_wj, hl_wi, hl_wj, hz_wi, hz_wj, hs_wi, hs_wj, hi_wr, hj_wr, hr_e, hr_n, ht_wr, hl_wr, hz_wr, hs_wr, n_lt_t, n_lt_f, n_le_t, n_le_f, n_eq_t, n_eq_f, true_and, and_true, false_and, and_false, true_or, or_true, false_or, or_false, not_true_eq_false, not_false_eq_true, forall_const, implies_true, true_imp_iff, false_imp_iff, gs_t, reduceIte, ite_true, ite_false, ez]
              have := ihe (j + 1) (o1 ++ [(Int32.ofNat 0)]) _ (by omega) (by rw [List.length_append, List.length_singleton]; omega) (g2.trans (fr.a rfl)) (c2.put rfl) (by rw [List.append_assoc]; exact eo)
              rw [List.length_append, List.length_singleton] at this
              exact this
          simp (disch := omega) only [forall_eq, exists_eq_left, exists_eq_left', Option.some.injEq, ex_ix, i_add, i_mul, i_sub, i_lt, i_le, i_eq, i_tn, hi_e, hi_n, hj_e, hj_n, hi_wj, hj_wi, hr_wi, hr_wj, ht_wi, ht_wj, hl_wi, hl_wj, hz_wi, hz_wj, hs_wi, hs_wj, hi_wr, hj_wr, hr_e, hr_n, ht_wr, hl_wr, hz_wr, hs_wr, n_lt_t, n_lt_f, n_le_t, n_le_f, n_eq_t, n_eq_f, true_and, and_true, false_and, and_false, true_or, or_true, false_or, or_false, not_true_eq_false, not_false_eq_true, forall_const, implies_true, true_imp_iff, false_imp_iff, gs_t, reduceIte, ite_true, ite_false, g.tg, g.ln, t35.1, t35.2, e1, h35 h1 g, v2.1]
          rw [← hz]
          exact fl z 0 o h1 (by omega) (by omega) g c rfl
        · rw [if_neg cz] at hd
          simp (disch := omega) only [forall_eq, exists_eq_left, exists_eq_left', Option.some.injEq, ex_ix, i_add, i_mul, i_sub, i_lt, i_le, i_eq, i_tn, hi_e, hi_n, hj_e, hj_n, hi_wj, hj_wi, hr_wi, hr_wj, ht_wi, ht_wj, hl_wi, hl_wj, hz_wi, hz_wj, hs_wi, hs_wj, hi_wr, hj_wr, hr_e, hr_n, ht_wr, hl_wr, hz_wr, hs_wr, n_lt_t, n_lt_f, n_le_t, n_le_f, n_eq_t, n_eq_f, true_and, and_true, false_and, and_false, true_or, or_true, false_or, or_false, not_true_eq_false, not_false_eq_true, forall_const, implies_true, true_imp_iff, false_imp_iff, gs_t, reduceIte, ite_true, ite_false, g.tg, g.ln, t35.1, t35.2, e0, h35 h1 g, v1.1]
          refine w_100_50 (hT.fr g) ?_
          have ev : (((Int32.ofNat (vz (f p)))).toInt8.toInt32).toInt8.toInt32 = f p := by rw [← v1.1]; exact (byt_byt _).trans (byt_and (hfb p))
          simp (disch := omega) only [forall_eq, exists_eq_left, exists_eq_left', Option.some.injEq, ex_ix, i_add, i_mul, i_sub, i_lt, i_le, i_eq, i_tn, hi_e, hi_n, hj_e, hj_n, hi_wj, hj_wi, hr_wi, hr_wj, ht_wi, ht_wj, hl_wi, hl_wj, hz_wi, hz_wj, hs_wi, hs_wj, hi_wr, hj_wr, hr_e, hr_n, ht_wr, hl_wr, hz_wr, hs_wr, n_lt_t, n_lt_f, n_le_t, n_le_f, n_eq_t, n_eq_f, true_and, and_true, false_and, and_false, true_or, or_true, false_or, or_false, not_true_eq_false, not_false_eq_true, forall_const, implies_true, true_imp_iff, false_imp_iff, gs_t, reduceIte, ite_true, ite_false, ev]
          have := ih (p + 1) (o ++ [f p]) _ (by rw [List.length_append, List.length_singleton]; omega) (by rw [List.length_append, List.length_singleton]; omega) (by omega) (g.trans (fr.a rfl)) (c.put rfl) hd
          rw [List.length_append, List.length_singleton] at this
          exact this
    exact lp 33 0 [] h (by simp) (by simp) (by omega) (fr.refl _ _) (fun i hi => by simp at hi) rfl
  · -- pairs
    have hr : zd_r 2 f n = dp f n 33 0 [] := rfl
    have lp : ∀ F p (o : List Int32) h1, 33 ≤ F + o.length → o.length ≤ 32 → p ≤ n → fr (tO m [29] []) h h1 → ta_c h1 (m + 29) o → (∀ x, x < o.length → gy_b (o.getD x 0)) → dp f n F p o = dp f n 33 0 [] → gm_G 100 6 [some (.ref m), some (.ref (m + 35)), some (.int (Int32.ofNat 0)), some (.int (Int32.ofNat n)), some (.int (Int32.ofNat 2)), some (.int (Int32.ofNat o.length)), some (.int (Int32.ofNat p))] [] h1 Q := by
      intro F
      induction F with
      | zero => intro p o h1 hF hl; omega
      | succ F ih =>
        intro p o h1 hF hl hp g c hob hd
        rw [dp_S] at hd
        refine w_100_6 (hT.fr g) ?_
        by_cases c32 : 32 ≤ o.length
        · rw [if_pos c32] at hd
          simp (disch := omega) only [forall_eq, exists_eq_left, exists_eq_left', Option.some.injEq, ex_ix, i_add, i_mul, i_sub, i_lt, i_le, i_eq, i_tn, hi_e, hi_n, hj_e, hj_n, hi_wj, hj_wi, hr_wi, hr_wj, ht_wi, ht_wj, hl_wi, hl_wj, hz_wi, hz_wj, hs_wi, hs_wj, hi_wr, hj_wr, hr_e, hr_n, ht_wr, hl_wr, hz_wr, hs_wr, n_lt_t, n_lt_f, n_le_t, n_le_f, n_eq_t, n_eq_f, true_and, and_true, false_and, and_false, true_or, or_true, false_or, or_false, not_true_eq_false, not_false_eq_true, forall_const, implies_true, true_imp_iff, false_imp_iff, gs_t, reduceIte, ite_true, ite_false, show o.length = 32 by omega]
          exact tail o p h1 g c (by omega) hp (by rw [hr, ← hd])
        rw [if_neg c32] at hd
        by_cases cn : n ≤ p
        · rw [if_pos cn] at hd
          simp (disch := omega) only [forall_eq, exists_eq_left, exists_eq_left', Option.some.injEq, ex_ix, i_add, i_mul, i_sub, i_lt, i_le, i_eq, i_tn, hi_e, hi_n, hj_e, hj_n, hi_wj, hj_wi, hr_wi, hr_wj, ht_wi, ht_wj, hl_wi, hl_wj, hz_wi, hz_wj, hs_wi, hs_wj, hi_wr, hj_wr, hr_e, hr_n, ht_wr, hl_wr, hz_wr, hs_wr, n_lt_t, n_lt_f, n_le_t, n_le_f, n_eq_t, n_eq_f, true_and, and_true, false_and, and_false, true_or, or_true, false_or, or_false, not_true_eq_false, not_false_eq_true, forall_const, implies_true, true_imp_iff, false_imp_iff, gs_t, reduceIte, ite_true, ite_false]
          exact short o p h1 g (by omega) (by rw [hr, ← hd])
        rw [if_neg cn] at hd
        have e0 : 0 + p = p := Nat.zero_add p
        have v1 := vz_of (f p)
        have hv1 := v1.2
        simp (disch := omega) only [forall_eq, exists_eq_left, exists_eq_left', Option.some.injEq, ex_ix, i_add, i_mul, i_sub, i_lt, i_le, i_eq, i_tn, hi_e, hi_n, hj_e, hj_n, hi_wj, hj_wi, hr_wi, hr_wj, ht_wi, ht_wj, hl_wi, hl_wj, hz_wi, hz_wj, hs_wi, hs_wj, hi_wr, hj_wr, hr_e, hr_n, ht_wr, hl_wr, hz_wr, hs_wr, n_lt_t, n_lt_f, n_le_t, n_le_f, n_eq_t, n_eq_f, true_and, and_true, false_and, and_false, true_or, or_true, false_or, or_false, not_true_eq_false, not_false_eq_true, forall_const, implies_true, true_imp_iff, false_imp_iff, gs_t, reduceIte, ite_true, ite_false, g.tg, g.ln, t35.1, t35.2, e0, h35 h1 g, v1.1]
        refine w_100_66 (hT.fr g) ?_
        obtain ⟨v, hv⟩ : ∃ v, v = vz (f p) := ⟨_, rfl⟩
        rw [← hv] at hd hv1 ⊢
        have e1 : 0 + (p + 1) = p + 1 := Nat.zero_add _
        by_cases cv : v < 128
        · rw [if_pos cv] at hd
          by_cases cc : 32 - o.length < v + 1 ∨ n - (p + 1) < v + 1
          · rw [if_pos cc] at hd
            have hb := bad (by rw [hr, ← hd]) h1 g
            by_cases q1 : p + 1 < n
            · by_cases q2 : v < 32
              · by_cases q3 : 32 < o.length + v + 1
                · simp (disch := omega) only [forall_eq, exists_eq_left, exists_eq_left', Option.some.injEq, ex_ix, i_add, i_mul, i_sub, i_lt, i_le, i_eq, i_tn, hi_e, hi_n, hj_e, hj_n, hi_wj, hj_wi, hr_wi, hr_wj, ht_wi, ht_wj, hl_wi, hl_wj, hz_wi, hz_wj, hs_wi, hs_wj, hi_wr, hj_wr, hr_e, hr_n, ht_wr, hl_wr, hz_wr, hs_wr, n_lt_t, n_lt_f, n_le_t, n_le_f, n_eq_t, n_eq_f, true_and, and_true, false_and, and_false, true_or, or_true, false_or, or_false, not_true_eq_false, not_false_eq_true, forall_const, implies_true, true_imp_iff, false_imp_iff, gs_t, reduceIte, ite_true, ite_false]
                  exact hb
                · simp (disch := omega) only [forall_eq, exists_eq_left, exists_eq_left', Option.some.injEq, ex_ix, i_add, i_mul, i_sub, i_lt, i_le, i_eq, i_tn, hi_e, hi_n, hj_e, hj_n, hi_wj, hj_wi, hr_wi, hr_wj, ht_wi, ht_wj, hl_wi, hl_wj, hz_wi, hz_wj, hs_wi, hs_wj, hi_wr, hj_wr, hr_e, hr_n, ht_wr, hl_wr, hz_wr, hs_wr, n_lt_t, n_lt_f, n_le_t, n_le_f, n_eq_t, n_eq_f, true_and, and_true, false_and, and_false, true_or, or_true, false_or, or_false, not_true_eq_false, not_false_eq_true, forall_const, implies_true, true_imp_iff, false_imp_iff, gs_t, reduceIte, ite_true, ite_false]
                  exact hb
              · have v2 := vz_of (f (p + 1))
                simp (disch := omega) only [forall_eq, exists_eq_left, exists_eq_left', Option.some.injEq, ex_ix, i_add, i_mul, i_sub, i_lt, i_le, i_eq, i_tn, hi_e, hi_n, hj_e, hj_n, hi_wj, hj_wi, hr_wi, hr_wj, ht_wi, ht_wj, hl_wi, hl_wj, hz_wi, hz_wj, hs_wi, hs_wj, hi_wr, hj_wr, hr_e, hr_n, ht_wr, hl_wr, hz_wr, hs_wr, n_lt_t, n_lt_f, n_le_t, n_le_f, n_eq_t, n_eq_f, true_and, and_true, false_and, and_false, true_or, or_true, false_or, or_false, not_true_eq_false, not_false_eq_true, forall_const, implies_true, true_imp_iff, false_imp_iff, gs_t, reduceIte, ite_true, ite_false, g.tg, g.ln, t35.1, t35.2, e1]
                exact hb
            · simp (disch := omega) only [forall_eq, exists_eq_left, exists_eq_left', Option.some.injEq, ex_ix, i_add, i_mul, i_sub, i_lt, i_le, i_eq, i_tn, hi_e, hi_n, hj_e, hj_n, hi_wj, hj_wi, hr_wi, hr_wj, ht_wi, ht_wj, hl_wi, hl_wj, hz_wi, hz_wj, hs_wi, hs_wj, hi_wr, hj_wr, hr_e, hr_n, ht_wr, hl_wr, hz_wr, hs_wr, n_lt_t, n_lt_f, n_le_t, n_le_f, n_eq_t, n_eq_f, true_and, and_true, false_and, and_false, true_or, or_true, false_or, or_false, not_true_eq_false, not_false_eq_true, forall_const, implies_true, true_imp_iff, false_imp_iff, gs_t, reduceIte, ite_true, ite_false]
              exact hb
          · rw [if_neg cc] at hd
            simp (disch := omega) only [forall_eq, exists_eq_left, exists_eq_left', Option.some.injEq, ex_ix, i_add, i_mul, i_sub, i_lt, i_le, i_eq, i_tn, hi_e, hi_n, hj_e, hj_n, hi_wj, hj_wi, hr_wi, hr_wj, ht_wi, ht_wj, hl_wi, hl_wj, hz_wi, hz_wj, hs_wi, hs_wj, hi_wr, hj_wr, hr_e, hr_n, ht_wr, hl_wr, hz_wr, hs_wr, n_lt_t, n_lt_f, n_le_t, n_le_f, n_eq_t, n_eq_f, true_and, and_true, false_and, and_false, true_or, or_true, false_or, or_false, not_true_eq_false, not_false_eq_true, forall_const, implies_true, true_imp_iff, false_imp_iff, gs_t, reduceIte, ite_true, ite_false]
            have fl : ∀ e j (o1 : List Int32) h2, j + e = v + 1 → o1.length + e ≤ 32 → fr (tO m [29] []) h h2 → ta_c h2 (m + 29) o1 → o1 = o ++ lm f (p + 1) j → gm_G 100 178 [some (.ref m), some (.ref (m + 35)), some (.int (Int32.ofNat 0)), some (.int (Int32.ofNat n)), some (.int (Int32.ofNat 2)), some (.int (Int32.ofNat o1.length)), some (.int (Int32.ofNat ((p + 1 + j)))), some (.int (Int32.ofNat v)), some (.int (Int32.ofNat j))] [] h2 Q := by
              intro e
              induction e with
              | zero =>
                intro j o1 h2 ej hl1 g2 c2 eo
                have ej : j = v + 1 := by omega
                subst ej
                refine w_100_178 (hT.fr g2) ?_
                simp (disch := omega) only [forall_eq, exists_eq_left, exists_eq_left', Option.some.injEq, ex_ix, i_add, i_mul, i_sub, i_lt, i_le, i_eq, i_tn, hi_e, hi_n, hj_e, hj_n, hi_wj, hj_wi, hr_wi, hr_wj, ht_wi, ht_wj, hl_wi, hl_wj, hz_wi, hz_wj, hs_wi, hs_wj, hi_wr, hj_wr, hr_e, hr_n, ht_wr, hl_wr, hz_wr, hs_wr, n_lt_t, n_lt_f, n_le_t, n_le_f, n_eq_t, n_eq_f, true_and, and_true, false_and, and_false, true_or, or_true, false_or, or_false, not_true_eq_false, not_false_eq_true, forall_const, implies_true, true_imp_iff, false_imp_iff, gs_t, reduceIte, ite_true, ite_false]
                refine w_100_304 (hT.fr g2) (ih _ o1 h2 ?_ (by omega) (by omega) g2 c2 (fun x hx => ?_) (by rw [eo]; exact hd))
                · rw [eo, List.length_append, lm_len]
                  omega
                · rw [eo, List.length_append, lm_len] at hx
                  rw [eo, List.getD_eq_getElem?_getD]
                  by_cases y : x < o.length
                  · rw [List.getElem?_append_left y, ← List.getD_eq_getElem?_getD]
                    exact hob x y
                  · rw [List.getElem?_append_right (by omega), ← List.getD_eq_getElem?_getD, lm_get _ _ _ _ (by omega)]
                    exact hfb _
              | succ e ihe =>
                intro j o1 h2 ej hl1 g2 c2 eo
                refine w_100_178 (hT.fr g2) ?_
                have e2 : 0 + (p + 1 + j) = p + 1 + j := Nat.zero_add _
                have ey : (f (p + 1 + j)).toInt8.toInt32 = f (p + 1 + j) := hfb _
                simp (disch := omega) only [forall_eq, exists_eq_left, exists_eq_left', Option.some.injEq, ex_ix, i_add, i_mul, i_sub, i_lt, i_le, i_eq, i_tn, hi_e, hi_n, hj_e, hj_n, hi_wj, hj_wi, hr_wi, hr_wj, ht_wi, ht_wj, hl_wi, hl_wj, hz_wi, hz_wj, hs_wi, hs_wj, hi_wr, hj_wr, hr_e, hr_n, ht_wr, hl_wr, hz_wr, hs_wr, n_lt_t, n_lt_f, n_le_t, n_le_f, n_eq_t, n_eq_f, true_and, and_true, false_and, and_false, true_or, or_true, false_or, or_false, not_true_eq_false, not_false_eq_true, forall_const, implies_true, true_imp_iff, false_imp_iff, gs_t, reduceIte, ite_true, ite_false, g2.tg, g2.ln, t35.1, t35.2, e2, h35 h2 g2, ey]
                have := ihe (j + 1) (o1 ++ [f (p + 1 + j)]) _ (by omega) (by rw [List.length_append, List.length_singleton]; omega) (g2.trans (fr.a rfl)) (c2.put rfl) (by rw [eo, lm_S, List.append_assoc])
                rw [List.length_append, List.length_singleton] at this
                exact this
            exact fl (v + 1) 0 o h1 (by omega) (by omega) g c (by rw [lm_zero, List.append_nil])
        · rw [if_neg cv] at hd
          by_cases q1 : n ≤ p + 1
          · rw [if_pos (Or.inl q1)] at hd
            simp (disch := omega) only [forall_eq, exists_eq_left, exists_eq_left', Option.some.injEq, ex_ix, i_add, i_mul, i_sub, i_lt, i_le, i_eq, i_tn, hi_e, hi_n, hj_e, hj_n, hi_wj, hj_wi, hr_wi, hr_wj, ht_wi, ht_wj, hl_wi, hl_wj, hz_wi, hz_wj, hs_wi, hs_wj, hi_wr, hj_wr, hr_e, hr_n, ht_wr, hl_wr, hz_wr, hs_wr, n_lt_t, n_lt_f, n_le_t, n_le_f, n_eq_t, n_eq_f, true_and, and_true, false_and, and_false, true_or, or_true, false_or, or_false, not_true_eq_false, not_false_eq_true, forall_const, implies_true, true_imp_iff, false_imp_iff, gs_t, reduceIte, ite_true, ite_false]
            exact bad (by rw [hr, ← hd]) h1 g
          have v2 := vz_of (f (p + 1))
          have hv2 := v2.2
          obtain ⟨u, hu⟩ : ∃ u, u = vz (f (p + 1)) := ⟨_, rfl⟩
          rw [← hu] at hd hv2 v2
          by_cases cc : n ≤ p + 1 ∨ 32 - o.length < v - 125 ∨ u < 1 ∨ o.length < u
          · rw [if_pos cc] at hd
            have hb := bad (by rw [hr, ← hd]) h1 g
            by_cases q2 : u < 1
            · simp (disch := omega) only [forall_eq, exists_eq_left, exists_eq_left', Option.some.injEq, ex_ix, i_add, i_mul, i_sub, i_lt, i_le, i_eq, i_tn, hi_e, hi_n, hj_e, hj_n, hi_wj, hj_wi, hr_wi, hr_wj, ht_wi, ht_wj, hl_wi, hl_wj, hz_wi, hz_wj, hs_wi, hs_wj, hi_wr, hj_wr, hr_e, hr_n, ht_wr, hl_wr, hz_wr, hs_wr, n_lt_t, n_lt_f, n_le_t, n_le_f, n_eq_t, n_eq_f, true_and, and_true, false_and, and_false, true_or, or_true, false_or, or_false, not_true_eq_false, not_false_eq_true, forall_const, implies_true, true_imp_iff, false_imp_iff, gs_t, reduceIte, ite_true, ite_false, g.tg, g.ln, t35.1, t35.2, e1, h35 h1 g, v2.1]
              exact hb
            · by_cases q3 : o.length < u
              · simp (disch := omega) only [forall_eq, exists_eq_left, exists_eq_left', Option.some.injEq, ex_ix, i_add, i_mul, i_sub, i_lt, i_le, i_eq, i_tn, hi_e, hi_n, hj_e, hj_n, hi_wj, hj_wi, hr_wi, hr_wj, ht_wi, ht_wj, hl_wi, hl_wj, hz_wi, hz_wj, hs_wi, hs_wj, hi_wr, hj_wr, hr_e, hr_n, ht_wr, hl_wr, hz_wr, hs_wr, n_lt_t, n_lt_f, n_le_t, n_le_f, n_eq_t, n_eq_f, true_and, and_true, false_and, and_false, true_or, or_true, false_or, or_false, not_true_eq_false, not_false_eq_true, forall_const, implies_true, true_imp_iff, false_imp_iff, gs_t, reduceIte, ite_true, ite_false, g.tg, g.ln, t35.1, t35.2, e1, h35 h1 g, v2.1]
                exact hb
              · simp (disch := omega) only [forall_eq, exists_eq_left, exists_eq_left', Option.some.injEq, ex_ix, i_add, i_mul, i_sub, i_lt, i_le, i_eq, i_tn, hi_e, hi_n, hj_e, hj_n, hi_wj, hj_wi, hr_wi, hr_wj, ht_wi, ht_wj, hl_wi, hl_wj, hz_wi, hz_wj, hs_wi, hs_wj, hi_wr, hj_wr, hr_e, hr_n, ht_wr, hl_wr, hz_wr, hs_wr, n_lt_t, n_lt_f, n_le_t, n_le_f, n_eq_t, n_eq_f, true_and, and_true, false_and, and_false, true_or, or_true, false_or, or_false, not_true_eq_false, not_false_eq_true, forall_const, implies_true, true_imp_iff, false_imp_iff, gs_t, reduceIte, ite_true, ite_false, g.tg, g.ln, t35.1, t35.2, e1, h35 h1 g, v2.1]
                exact hb
          · rw [if_neg cc] at hd
            simp (disch := omega) only [forall_eq, exists_eq_left, exists_eq_left', Option.some.injEq, ex_ix, i_add, i_mul, i_sub, i_lt, i_le, i_eq, i_tn, hi_e, hi_n, hj_e, hj_n, hi_wj, hj_wi, hr_wi, hr_wj, ht_wi, ht_wj, hl_wi, hl_wj, hz_wi, hz_wj, hs_wi, hs_wj, hi_wr, hj_wr, hr_e, hr_n, ht_wr, hl_wr, hz_wr, hs_wr, n_lt_t, n_lt_f, n_le_t, n_le_f, n_eq_t, n_eq_f, true_and, and_true, false_and, and_false, true_or, or_true, false_or, or_false, not_true_eq_false, not_false_eq_true, forall_const, implies_true, true_imp_iff, false_imp_iff, gs_t, reduceIte, ite_true, ite_false, g.tg, g.ln, t35.1, t35.2, e1, h35 h1 g, v2.1]
            have fl : ∀ e j (o1 : List Int32) h2, j + e = v - 125 → o1.length + e ≤ 32 → u ≤ o1.length → fr (tO m [29] []) h h2 → ta_c h2 (m + 29) o1 → (∀ x, x < o1.length → gy_b (o1.getD x 0)) → cp u e o1 = cp u (v - 125) o → gm_G 100 271 [some (.ref m), some (.ref (m + 35)), some (.int (Int32.ofNat 0)), some (.int (Int32.ofNat n)), some (.int (Int32.ofNat 2)), some (.int (Int32.ofNat o1.length)), some (.int (Int32.ofNat ((p + 2)))), none, some (.int (Int32.ofNat u)), some (.int (Int32.ofNat ((v - 125)))), some (.int (Int32.ofNat j))] [] h2 Q := by
              intro e
              induction e with
              | zero =>
                intro j o1 h2 ej hl1 hu1 g2 c2 hb2 eo
                refine w_100_271 (hT.fr g2) ?_
                simp (disch := omega) only [forall_eq, exists_eq_left, exists_eq_left', Option.some.injEq, ex_ix, i_add, i_mul, i_sub, i_lt, i_le, i_eq, i_tn, hi_e, hi_n, hj_e, hj_n, hi_wj, hj_wi, hr_wi, hr_wj, ht_wi, ht_wj, hl_wi, hl_wj, hz_wi, hz_wj, hs_wi, hs_wj, hi_wr, hj_wr, hr_e, hr_n, ht_wr, hl_wr, hz_wr, hs_wr, n_lt_t, n_lt_f, n_le_t, n_le_f, n_eq_t, n_eq_f, true_and, and_true, false_and, and_false, true_or, or_true, false_or, or_false, not_true_eq_false, not_false_eq_true, forall_const, implies_true, true_imp_iff, false_imp_iff, gs_t, reduceIte, ite_true, ite_false]
                have eo : o1 = cp u (v - 125) o := eo
                refine w_100_304 (hT.fr g2) (ih (p + 2) o1 h2 ?_ (by omega) (by omega) g2 c2 hb2 (by rw [eo]; exact hd))
                rw [eo, cp_len]
                omega
              | succ e ihe =>
                intro j o1 h2 ej hl1 hu1 g2 c2 hb2 eo
                refine w_100_271 (hT.fr g2) ?_
                have ec := c2 (o1.length - u) (by omega)
                have ey : (o1.getD (o1.length - u) 0).toInt8.toInt32 = o1.getD (o1.length - u) 0 := hb2 _ (by omega)
                simp (disch := omega) only [forall_eq, exists_eq_left, exists_eq_left', Option.some.injEq, ex_ix, i_add, i_mul, i_sub, i_lt, i_le, i_eq, i_tn, hi_e, hi_n, hj_e, hj_n, hi_wj, hj_wi, hr_wi, hr_wj, ht_wi, ht_wj, hl_wi, hl_wj, hz_wi, hz_wj, hs_wi, hs_wj, hi_wr, hj_wr, hr_e, hr_n, ht_wr, hl_wr, hz_wr, hs_wr, n_lt_t, n_lt_f, n_le_t, n_le_f, n_eq_t, n_eq_f, true_and, and_true, false_and, and_false, true_or, or_true, false_or, or_false, not_true_eq_false, not_false_eq_true, forall_const, implies_true, true_imp_iff, false_imp_iff, gs_t, reduceIte, ite_true, ite_false, ec, ey]
                have := ihe (j + 1) (o1 ++ [o1.getD (o1.length - u) 0]) _ (by omega) (by rw [List.length_append, List.length_singleton]; omega) (by rw [List.length_append, List.length_singleton]; omega) (g2.trans (fr.a rfl)) (c2.put rfl) (fun x hx => ?_) (by rw [← eo, cp_S])
                · rw [List.length_append, List.length_singleton] at this
                  exact this
                · rw [List.length_append, List.length_singleton] at hx
                  rw [List.getD_eq_getElem?_getD]
                  by_cases y : x < o1.length
                  · rw [List.getElem?_append_left y, ← List.getD_eq_getElem?_getD]
                    exact hb2 x y
                  · rw [List.getElem?_append_right (by omega), show x - o1.length = 0 by omega]
                    exact ey
            refine fl (v - 125) 0 o h1 (by omega) (by omega) (by omega) g c hob rfl
    exact lp 33 0 [] h (by simp) (by simp) (by omega) (fr.refl _ _) (fun i hi => by simp at hi) (fun i hi => by simp at hi) rfl
end TDc
-- what a block fits: its stored bytes are in tried
section TFi
variable {h : hh_T} {m : Nat} {Q : Option Value ⊕ Nat → hh_T → Prop}
theorem t_fits {p : Nat} {b : zB} (hT : tw_ok h m) (w : gy_wf h) (hp : p < 640) (B : tb h m p b)
    (H1 : zr_fit b (hh_i h (m + 35)) = none → ∀ h', fr (tO m [29] []) h h' → Q (.inl (some (.int (Int32.ofNat 0)))) h')
    (H2 : ∀ o, zr_fit b (hh_i h (m + 35)) = some o → o.length = 32 → ∀ h', fr (tO m [29] []) h h' → ta_c h' (m + 29) o → Q (.inl (some (.int (Int32.ofNat 1)))) h') : gm_G 278 0 [some (.ref m), some (.int (Int32.ofNat p))] [] h Q := by
  obtain ⟨b1, b2, b3, b4, b5, b6, b7, b8, b9, b10, b11⟩ := B
  have t35 : hh_tg h (m + 35) = 101 ∧ hh_ln h (m + 35) = 32 := hT.2.2 35 (by decide)
  refine w_278_0 hT ⟨p, ix_n hp (by omega), ?_⟩
  rw [b3, i_mul]
  refine t_sumOf hT t35.1 (by rw [t35.2]; omega) (by omega) ?_
  have e0 : (fun i => hh_i h (m + 35) (0 + i)) = hh_i h (m + 35) := by funext i; rw [Nat.zero_add]
  rw [e0]
  refine ⟨p, ix_n hp (by omega), ?_⟩
  rw [b10, lg_cmp_0]
  unfold zr_fit at H1 H2
  refine ⟨fun z => ?_, fun z => ?_⟩
  · rw [if_neg z] at H1
    exact H1 rfl h (fr.refl _ _)
  · rw [if_pos z] at H1 H2
    refine ⟨p, ix_n hp (by omega), p, ix_n hp (by omega), ?_⟩
    rw [b3, b1, i_mul]
    exact t_decode hT w (by omega) b2 (fun y h' g => ⟨fun _ => H1 y h' g, fun y => absurd rfl y⟩) (fun o y hl h' g c => ⟨fun y => absurd y (by decide), fun _ => H2 o y hl h' g c⟩)
theorem t_noteError {p : Nat} {b : zB} {M : zM} (hT : tw_ok h m) (hp : p < 640) (B : tb h m p b) (hk : (zb_key b).1 < 3 ∧ (zb_key b).2 < 400) (R : rT_M h m M) (hne : zm_ne M < 999999999)
    (H : ∀ h', fr (tO m [34] [49]) h h' → rT_M h' m (zm_ne_ (zm_er_ M (((Int32.ofNat (512 * (zb_key b).1 + (zb_key b).2)) :: zm_er M).take 16)) (zm_ne M + 1)) → Q (.inl none) h') : gm_G 140 0 [some (.ref m), some (.int (Int32.ofNat p))] [] h Q := by
  obtain ⟨b1, b2, b3, b4, b5, b6, b7, b8, b9, b10, b11⟩ := B
  have ek : (zb_cp b).getD 0 (0, 0) = zb_key b := by unfold zb_key; cases zb_cp b <;> rfl
  have c0 : hh_i h (m + 23) (2 * p) = (Int32.ofNat ((zb_key b).1)) ∧ hh_i h (m + 24) (2 * p) = (Int32.ofNat ((zb_key b).2)) := by rw [← ek]; exact b9 0 (by omega)
  obtain ⟨r1, r2, r3, r4, r5⟩ := R
  refine w_140_0 hT ?_
  have lp : ∀ i h1, i ≤ 15 → fr (tO m [34] []) h h1 → (∀ j, j < 16 → hh_i h1 (m + 34) j = if i < j then hh_i h (m + 34) (j - 1) else hh_i h (m + 34) j) → gm_G 140 3 [some (.ref m), some (.int (Int32.ofNat p)), some (.int (Int32.ofNat i))] [] h1 Q := by
    intro i
    induction i with
    | zero =>
      intro h1 hi g hv
      refine w_140_3 (hT.fr g) ?_
      simp (disch := omega) only [forall_eq, exists_eq_left, exists_eq_left', Option.some.injEq, ex_ix, i_add, i_mul, i_sub, i_lt, i_le, i_eq, i_tn, hi_e, hi_n, hj_e, hj_n, hi_wj, hj_wi, hr_wi, hr_wj, ht_wi, ht_wj, hl_wi, hl_wj, hz_wi, hz_wj, hs_wi, hs_wj, hi_wr, hj_wr, hr_e, hr_n, ht_wr, hl_wr, hz_wr, hs_wr, n_lt_t, n_lt_f, n_le_t, n_le_f, n_eq_t, n_eq_f, true_and, and_true, false_and, and_false, true_or, or_true, false_or, or_false, not_true_eq_false, not_false_eq_true, forall_const, implies_true, true_imp_iff, false_imp_iff, gs_t, reduceIte, ite_true, ite_false, g.arr (o := 23) rfl, g.arr (o := 24) rfl, c0.1, c0.2, g.fld (f := 49) rfl, r1]
      have g2 : fr (tO m [34] [49]) h (hh_wi (hh_wi h1 (m + 34) 0 (Int32.ofNat (512 * (zb_key b).1 + (zb_key b).2))) m 49 (Int32.ofNat (zm_ne M + 1))) := ((g.up rfl rfl).trans (fr.a rfl)).trans (fr.f rfl)
      refine H _ g2 ?_
      have el : (((Int32.ofNat (512 * (zb_key b).1 + (zb_key b).2)) :: zm_er M).take 16).length = min 16 (zm_ne M + 1) := by
        rw [List.length_take, List.length_cons, r3]; omega
      unfold rT_M
      rw [g2.fld (f := 42) rfl, g2.fld (f := 102) rfl, g2.fld (f := 101) rfl, g2.fld (f := 139) rfl]
      refine ⟨hi_e ⟨rfl, rfl⟩, by show zm_ne M + 1 < 1000000000; omega, el, fun k hk => ?_, r5⟩
      have hk' : k < (((Int32.ofNat (512 * (zb_key b).1 + (zb_key b).2)) :: zm_er M).take 16).length := hk
      rw [el] at hk'
      show _ = (((Int32.ofNat (512 * (zb_key b).1 + (zb_key b).2)) :: zm_er M).take 16).getD k 0
      rw [List.getD_eq_getElem?_getD, List.getElem?_take, if_pos (by omega), hi_n (by omega)]
      cases k with
      | zero => rw [hi_e ⟨rfl, rfl⟩]; rfl
      | succ k =>
        rw [hi_n (by omega), hv (k + 1) (by omega), if_pos (by omega), List.getElem?_cons_succ, ← List.getD_eq_getElem?_getD]
        exact r4 k (by omega)
    | succ i ih =>
      intro h1 hi g hv
      refine w_140_3 (hT.fr g) ?_
      simp (disch := omega) only [forall_eq, exists_eq_left, exists_eq_left', Option.some.injEq, ex_ix, i_add, i_mul, i_sub, i_lt, i_le, i_eq, i_tn, hi_e, hi_n, hj_e, hj_n, hi_wj, hj_wi, hr_wi, hr_wj, ht_wi, ht_wj, hl_wi, hl_wj, hz_wi, hz_wj, hs_wi, hs_wj, hi_wr, hj_wr, hr_e, hr_n, ht_wr, hl_wr, hz_wr, hs_wr, n_lt_t, n_lt_f, n_le_t, n_le_f, n_eq_t, n_eq_f, true_and, and_true, false_and, and_false, true_or, or_true, false_or, or_false, not_true_eq_false, not_false_eq_true, forall_const, implies_true, true_imp_iff, false_imp_iff, gs_t, reduceIte, ite_true, ite_false, i_m1]
      refine ih _ (by omega) (g.trans (fr.a rfl)) (fun j hj => ?_)
      by_cases z : j = i + 1
      · subst z
        rw [hi_e ⟨rfl, rfl⟩, if_pos (by omega), hv _ (by omega), if_neg (by omega)]
      · rw [hi_n (by omega), hv j hj]
        by_cases y : i + 1 < j
        · rw [if_pos y, if_pos (by omega)]
        · rw [if_neg y, if_neg (by omega)]
  exact lp 15 h (by omega) (fr.refl _ _) (fun j hj => by rw [if_neg (by omega)])
end TFi
section TMe
variable {h : hh_T} {m : Nat} {Q : Option Value ⊕ Nat → hh_T → Prop} {S : zS}
/-- the copies of a block lie in groups -/
def zb_ok (G : zG) (b : zB) : Prop := ∀ c, c ∈ zb_cp b → c.1 < zg_ng G ∧ c.2 + zg_sp G c.1 (zb_k b) ≤ zg_pl G c.1
theorem zp_men_nd (G : zG) : ∀ (l : List (Nat × Nat × (Nat → Int32))) (P : zP), zp_nd (zp_men P l).1 = zp_nd P ∧ zp_sec (zp_men P l).1 = zp_sec P
  | [], _ => ⟨rfl, rfl⟩
  | w :: r, P => by
    unfold zp_men
    split
    · exact zp_men_nd G r P
    · split
      · have := zp_men_nd G r (zp_mended_ (zp_wr P w.1 w.2.1 w.2.2).1 (zp_mended (zp_wr P w.1 w.2.1 w.2.2).1 + (Int32.ofNat 1)))
        rw [this.1, this.2]
        exact zp_wr_nd P w.1 w.2.1 w.2.2
      · exact zp_wr_nd P w.1 w.2.1 w.2.2
theorem zp_lay_nd (G : zG) : ∀ (l : List (Nat × Nat × (Nat → Int32))) (P : zP), zp_nd (zp_lay P l).1 = zp_nd P ∧ zp_sec (zp_lay P l).1 = zp_sec P
  | [], _ => ⟨rfl, rfl⟩
  | w :: r, P => by
    unfold zp_lay
    split
    · have := zp_lay_nd G r (zp_wr P w.1 w.2.1 w.2.2).1
      rw [this.1, this.2]
      exact zp_wr_nd P w.1 w.2.1 w.2.2
    · exact zp_wr_nd P w.1 w.2.1 w.2.2
theorem zg_ok.P {P P' : zP} {G : zG} (K : zg_ok P G) (h1 : zp_nd P' = zp_nd P) (h2 : zp_sec P' = zp_sec P) : zg_ok P' G := by
  unfold zg_ok
  rw [h1, h2]
  exact K
theorem tw_t_ge {o : Nat} (h : ¬ tw_t o = 0) : ¬ tw_t o < 100 := by
  revert h
  unfold tw_t
  split <;> decide
theorem fr.wf {m : Nat} {O F : List Nat} {h h' : hh_T} (g : fr (tO m O F) h h') (w : gy_wf h) (hT : tw_ok h m) (hb : ∀ o, o ∈ O → tw_t o = 101 → ∀ k, gy_b (hh_i h' (m + o) k)) (hz : ∀ o, o ∈ O → tw_t o = 102 → ∀ k, gy_o (hh_i h' (m + o) k)) (hf : ∀ f, f ∈ F → gy_z 20 f = true → gy_o (hh_i h' m f)) (ho : ∀ o, o ∈ O → ¬ tw_t o = 0) : gy_wf h' := by
  obtain ⟨g1, g2, g3, g4, g5, g6, g7⟩ := g
  have key : ∀ a, (∃ o, o ∈ O ∧ a = m + o) ∨ (∀ k, ¬ (a = m ∧ k ∈ F) → hh_i h' a k = hh_i h a k) := fun a => by
    by_cases z : ∃ o, o ∈ O ∧ a = m + o
    · exact Or.inl z
    · refine Or.inr (fun k hk => g7 a k ?_)
      rintro (⟨o, h1, h2, -⟩ | q)
      · exact z ⟨o, h1, h2⟩
      · exact hk q
  refine ⟨fun a ha => by rw [g3]; exact w.1 a (by omega), fun a n ha => ?_, fun a n ha => ?_, fun a f ha => ?_⟩
  · rw [g3] at ha
    rcases key a with ⟨o, h1, rfl⟩ | q
    · have := (hT.2.2 o (ho o h1)).1
      rw [ha] at this
      exact hb o h1 this.symm n
    · rw [q n (fun z => by rw [z.1, hT.1] at ha; cases ha)]
      exact w.2.1 a n ha
  · rw [g3] at ha
    rcases key a with ⟨o, h1, rfl⟩ | q
    · have := (hT.2.2 o (ho o h1)).1
      rw [ha] at this
      exact hz o h1 this.symm n
    · rw [q n (fun z => by rw [z.1, hT.1] at ha; cases ha)]
      exact w.2.2.1 a n ha
  · rw [g3] at ha
    rcases key a with ⟨o, h1, rfl⟩ | q
    · have h2 := (hT.2.2 o (ho o h1)).1
      have h3 := gy_z_lt ha
      rw [h2] at h3
      exact absurd h3 (tw_t_ge (ho o h1))
    · by_cases y : a = m ∧ f ∈ F
      · rw [y.1] at ha ⊢
        rw [hT.1] at ha
        exact hf f y.2 ha
      · rw [q f y]
        exact w.2.2.2 a f ha
end TMe
