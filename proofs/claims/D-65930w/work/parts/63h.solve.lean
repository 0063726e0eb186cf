/-! STAGE 3, 12: solving over the field: plain law; the twin's solve -/
theorem gtl_xor {b : Nat} : ∀ (d k x y r s : Nat), x < 256 → y < 256 → r < 256 → s < 256 → gtl b d k (x ^^^ y) (r ^^^ s) = gtl b d k x r ^^^ gtl b d k y s
  | 0, _, _, _, _, _, _, _, _, _ => rfl
  | d + 1, k, x, y, r, s, hx, hy, hr, hs => by
    rw [gtl_S, gtl_S, gtl_S, xt_xor hx hy]
    by_cases c : (b >>> k) &&& 1 = 1
    · rw [if_pos c, if_pos c, if_pos c]
      have e : r ^^^ s ^^^ (x ^^^ y) = (r ^^^ x) ^^^ (s ^^^ y) := by
        rw [Nat.xor_assoc, Nat.xor_assoc]
        congr 1
        rw [← Nat.xor_assoc, Nat.xor_comm s x, Nat.xor_assoc]
      rw [e]
      exact gtl_xor d (k + 1) _ _ _ _ (xt_lt hx) (xt_lt hy) (xor_256 hr hx) (xor_256 hs hy)
    · rw [if_neg c, if_neg c, if_neg c]
      exact gtl_xor d (k + 1) _ _ _ _ (xt_lt hx) (xt_lt hy) hr hs
theorem gt_xl {a b c : Nat} (ha : a < 256) (hb : b < 256) : gt (a ^^^ b) c = gt a c ^^^ gt b c := gtl_xor 8 0 a b 0 0 ha hb (by decide) (by decide)
theorem gt_cm {a b : Nat} (ha : a < 256) (hb : b < 256) : gt a b = gt b a := by
  by_cases a0 : a = 0
  · subst a0; rw [(gt_0 hb).1, (gt_0 hb).2]
  by_cases b0 : b = 0
  · subst b0; rw [(gt_0 ha).1, (gt_0 ha).2]
  obtain ⟨i, -, rfl⟩ := lg_ex a0 ha
  obtain ⟨j, -, rfl⟩ := lg_ex b0 hb
  rw [pw_mul, pw_mul, Nat.add_comm]
theorem gt_as {a b c : Nat} (ha : a < 256) (hb : b < 256) (hc : c < 256) : gt (gt a b) c = gt a (gt b c) := by
  by_cases a0 : a = 0
  · subst a0; rw [(gt_0 hb).1, (gt_0 hc).1, (gt_0 (gt_lt hb)).1]
  by_cases b0 : b = 0
  · subst b0; rw [(gt_0 ha).2, (gt_0 hc).1, (gt_0 ha).2]
  by_cases c0 : c = 0
  · subst c0; rw [(gt_0 (gt_lt ha)).2, (gt_0 hb).2, (gt_0 ha).2]
  obtain ⟨i, -, rfl⟩ := lg_ex a0 ha
  obtain ⟨j, -, rfl⟩ := lg_ex b0 hb
  obtain ⟨k, -, rfl⟩ := lg_ex c0 hc
  rw [pw_mul, pw_mul, pw_mul, pw_mul, Nat.add_assoc]
theorem gt_xr {a b c : Nat} (ha : a < 256) (hb : b < 256) (hc : c < 256) : gt a (b ^^^ c) = gt a b ^^^ gt a c := by
  rw [gt_cm ha (xor_256 hb hc), gt_xl hb hc, gt_cm hb ha, gt_cm hc ha]
theorem zl_sum_lt {f : Nat → Nat} : ∀ n, (∀ i, i < n → f i < 256) → zl_sum f n < 256
  | 0, _ => by show 0 < 256; decide
  | n + 1, h => xor_256 (zl_sum_lt n (fun i hi => h i (by omega))) (h n (by omega))
theorem zl_sum_gt {c : Nat} (hc : c < 256) {f : Nat → Nat} : ∀ n, (∀ i, i < n → f i < 256) → gt (zl_sum f n) c = zl_sum (fun i => gt (f i) c) n
  | 0, _ => (gt_0 hc).1
  | n + 1, h => by
    show gt (zl_sum f n ^^^ f n) c = _
    rw [gt_xl (zl_sum_lt n (fun i hi => h i (by omega))) (h n (by omega)), zl_sum_gt hc n (fun i hi => h i (by omega))]
    rfl
theorem zl_sum_xor {f g : Nat → Nat} : ∀ n, zl_sum (fun i => f i ^^^ g i) n = zl_sum f n ^^^ zl_sum g n
  | 0 => by show 0 = 0 ^^^ 0; decide
  | n + 1 => by
    show zl_sum (fun i => f i ^^^ g i) n ^^^ (f n ^^^ g n) = (zl_sum f n ^^^ f n) ^^^ (zl_sum g n ^^^ g n)
    rw [zl_sum_xor n, Nat.xor_assoc, Nat.xor_assoc]
    congr 1
    rw [← Nat.xor_assoc, Nat.xor_comm (zl_sum g n) (f n), Nat.xor_assoc]
theorem zl_sum_cg {f g : Nat → Nat} : ∀ n, (∀ i, i < n → f i = g i) → zl_sum f n = zl_sum g n
  | 0, _ => rfl
  | n + 1, h => by
    show zl_sum f n ^^^ f n = zl_sum g n ^^^ g n
    rw [zl_sum_cg n (fun i hi => h i (by omega)), h n (by omega)]
theorem zl_el_lt {X : Nat → Nat → Nat} {A B : Nat → Prop} (hX : ∀ a b, A a → B b → X a b < 256) : ∀ c, (∀ i, i < c → A i ∧ B i) → ∀ a b, A a → B b → zl_el X c a b < 256
  | 0, _, a, b, ha, hb => hX a b ha hb
  | c + 1, h, a, b, ha, hb => by
    have ih := zl_el_lt hX c (fun i hi => h i (by omega))
    obtain ⟨hc1, hc2⟩ := h c (by omega)
    show zl_st c (zl_el X c) a b < 256
    unfold zl_st
    split
    · exact gt_lt (ih c b hc1 hb)
    · exact xor_256 (ih a b ha hb) (gt_lt (ih a c ha hc2))
/-- columns do not know of one another -/
theorem zl_el_col {X Y : Nat → Nat → Nat} {n : Nat} {A : Nat → Prop} (hA : ∀ i, i < n → A i) (h : ∀ a b, A a → b < n → X a b = Y a b) : ∀ c, c ≤ n → ∀ a b, A a → b < n → zl_el X c a b = zl_el Y c a b
  | 0, _, a, b, ha, hb => h a b ha hb
  | c + 1, hc, a, b, ha, hb => by
    have ih := zl_el_col hA h c (by omega)
    show zl_st c (zl_el X c) a b = zl_st c (zl_el Y c) a b
    unfold zl_st
    rw [ih c b (hA c (by omega)) hb, ih c c (hA c (by omega)) (by omega), ih a b ha hb, ih a c ha (by omega)]
/-- a column that is a sum of others stays one -/
theorem zl_el_sum {X Y : Nat → Nat → Nat} {n k : Nat} {v : Nat → Nat} (hv : ∀ i, i < k → v i < 256) (hY : ∀ a b, a < n → b < n + k → Y a b < 256) (h1 : ∀ a b, a < n → b < n → X a b = Y a b) (h2 : ∀ a, a < n → X a n = zl_sum (fun t => gt (Y a (n + t)) (v t)) k) :
    ∀ c, c ≤ n → ∀ a, a < n → zl_el X c a n = zl_sum (fun t => gt (zl_el Y c a (n + t)) (v t)) k
  | 0, _, a, ha => h2 a ha
  | c + 1, hc, a, ha => by
    have ih := zl_el_sum hv hY h1 h2 c (by omega)
    have hl : ∀ a b, a < n → b < n + k → zl_el Y c a b < 256 := fun a b ha hb => zl_el_lt (A := fun a => a < n) (B := fun b => b < n + k) hY c (fun i hi => ⟨by omega, by omega⟩) a b ha hb
    have ec : ∀ a b, a < n → b < n → zl_el X c a b = zl_el Y c a b := fun a b ha hb => zl_el_col (n := n) (A := fun a => a < n) (fun i hi => hi) h1 c (by omega) a b ha hb
    have hcn : c < n := by omega
    obtain ⟨I, hI⟩ : ∃ I, I = gp (zl_el Y c c c) 254 := ⟨_, rfl⟩
    have hI2 : I < 256 := by rw [hI]; exact gp_lt _
    have key : gt (zl_el X c c n) (gp (zl_el X c c c) 254) = zl_sum (fun t => gt (gt (zl_el Y c c (n + t)) I) (v t)) k := by
      rw [ec c c hcn hcn, ← hI, ih c hcn, zl_sum_gt hI2 k (fun t ht => gt_lt (hl c _ hcn (by omega)))]
      refine zl_sum_cg k (fun t ht => ?_)
      rw [gt_as (hl c _ hcn (by omega)) (hv t ht) hI2, gt_cm (hv t ht) hI2, ← gt_as (hl c _ hcn (by omega)) hI2 (hv t ht)]
    show zl_st c (zl_el X c) a n = zl_sum (fun t => gt (zl_st c (zl_el Y c) a (n + t)) (v t)) k
    unfold zl_st
    by_cases z : a = c
    · subst z
      rw [if_pos rfl, key]
      refine zl_sum_cg k (fun t ht => ?_)
      rw [if_pos rfl, hI]
    · rw [if_neg z, key, ih a ha, ec a c ha hcn]
      have e2 : gt (zl_el Y c a c) (zl_sum (fun t => gt (gt (zl_el Y c c (n + t)) I) (v t)) k) = zl_sum (fun t => gt (gt (zl_el Y c a c) (gt (zl_el Y c c (n + t)) I)) (v t)) k := by
        have hs : ∀ t, t < k → gt (gt (zl_el Y c c (n + t)) I) (v t) < 256 := fun t ht => gt_lt (gt_lt (hl c _ hcn (by omega)))
        rw [gt_cm (hl a c ha (by omega)) (zl_sum_lt k hs), zl_sum_gt (hl a c ha (by omega)) k hs]
        refine zl_sum_cg k (fun t ht => ?_)
        have h3 := gt_lt (b := I) (hl c (n + t) hcn (by omega))
        rw [gt_cm (gt_lt h3) (hl a c ha (by omega)), ← gt_as (hl a c ha (by omega)) h3 (hv t ht)]
      rw [e2, ← zl_sum_xor]
      refine zl_sum_cg k (fun t ht => ?_)
      rw [if_neg z, gt_xl (hl a _ ha (by omega)) (gt_lt (hl a c ha (by omega))), hI]
/-- no pivot is 0 -/
def zl_pv (K U : List Nat) : Bool := (List.range U.length).all fun c => !(Nat.beq (zl_el (zl_m K U) c c c) 0)
def zl_ls (n M : Nat) : List Nat := (List.range n).filter (fun j => Nat.testBit M j)
theorem zl_pv_all : ((List.range 8).all fun M => (List.range 32).all fun W => !(Nat.ble (zl_ls 5 W).length (zl_ls 3 M).length) || zl_pv ((zl_ls 3 M).take (zl_ls 5 W).length) (zl_ls 5 W)) = true := by decide +kernel
/-- a row of marks is a set of bits -/
theorem zl_bits (p : Nat → Bool) : ∀ n, ∃ M, M < 2 ^ n ∧ ∀ j, j < n → Nat.testBit M j = p j
  | 0 => ⟨0, by decide, fun j hj => by omega⟩
  | n + 1 => by
    obtain ⟨M, hM, hb⟩ := zl_bits p n
    cases hp : p n with
    | false =>
      refine ⟨M, by rw [Nat.pow_succ]; omega, fun j hj => ?_⟩
      by_cases z : j = n
      · subst z; rw [hp]; exact Nat.testBit_lt_two_pow hM
      · exact hb j (by omega)
    | true =>
      refine ⟨2 ^ n + M, by rw [Nat.pow_succ]; omega, fun j hj => ?_⟩
      by_cases z : j = n
      · subst z
        rw [Nat.testBit_two_pow_add_eq, hp, Nat.testBit_lt_two_pow hM]
        rfl
      · rw [Nat.testBit_two_pow_add_gt (by omega)]
        exact hb j (by omega)
theorem zl_filt {p : Nat → Bool} {n N : Nat} (hn : n ≤ N) : ∃ M, M < 2 ^ N ∧ (List.range n).filter p = zl_ls N M := by
  obtain ⟨M, hM, hb⟩ := zl_bits (fun j => decide (j < n) && p j) N
  refine ⟨M, hM, ?_⟩
  unfold zl_ls
  have e : ∀ k, k ≤ N → (List.range k).filter (fun j => Nat.testBit M j) = (List.range (min n k)).filter p := by
    intro k
    induction k with
    | zero => intro _; rw [Nat.min_zero]; rfl
    | succ k ih =>
      intro hk
      rw [List.range_succ, List.filter_append, ih (by omega)]
      have h1 := hb k (by omega)
      by_cases z : k < n
      · rw [Nat.min_eq_right (by omega), Nat.min_eq_right (by omega), List.range_succ, List.filter_append]
        congr 1
        simp only [decide_eq_true z, Bool.true_and] at h1
        rw [List.filter_cons, List.filter_cons, h1]
        rfl
      · rw [Nat.min_eq_left (by omega), Nat.min_eq_left (by omega)]
        simp only [decide_eq_false z, Bool.false_and] at h1
        rw [List.filter_cons, h1]
        exact List.append_nil _
  rw [e N (Nat.le_refl _), Nat.min_eq_left hn]
theorem zl_pv_ok {p q : Nat → Bool} {m r : Nat} (hm : m ≤ 3) (hr : r ≤ 5) (hl : ((List.range r).filter q).length ≤ ((List.range m).filter p).length) {c : Nat} (hc : c < ((List.range r).filter q).length) :
    ¬ zl_el (zl_m (((List.range m).filter p).take ((List.range r).filter q).length) ((List.range r).filter q)) c c c = 0 := by
  obtain ⟨M, hM, e1⟩ := zl_filt (p := p) hm
  obtain ⟨W, hW, e2⟩ := zl_filt (p := q) hr
  rw [e1, e2] at hl ⊢
  rw [e2] at hc
  have h1 := List.all_eq_true.mp zl_pv_all M (List.mem_range.mpr hM)
  have h2 := List.all_eq_true.mp h1 W (List.mem_range.mpr hW)
  rw [Nat.ble_eq.mpr hl, Bool.not_true, Bool.false_or] at h2
  have h3 := List.all_eq_true.mp h2 c (List.mem_range.mpr hc)
  intro e
  rw [e] at h3
  cases h3
section TSo
variable {h : hh_T} {m : Nat} {Q : Option Value ⊕ Nat → hh_T → Prop}
def mx (h : hh_T) (m n : Nat) (X : Nat → Nat → Nat) : Prop := ∀ a b, a < n → b ≤ n → hh_i h (m + 39) (8 * a + b) = (Int32.ofNat (X a b))
theorem t_solve {n : Nat} {X : Nat → Nat → Nat} (hT : tw_ok h m) (hn : n ≤ 3) (R : mx h m n X) (hX : ∀ a b, a < n → b ≤ n → X a b < 256) (hp : ∀ c, c < n → ¬ zl_el X c c c = 0) (H : ∀ h', fr (tO m [39] []) h h' → mx h' m n (zl_el X n) → Q (.inl none) h') : gm_G 382 0 [some (.ref m), some (.int (Int32.ofNat n))] [] h Q := by
  have hl : ∀ c, c ≤ n → ∀ a b, a < n → b ≤ n → zl_el X c a b < 256 := fun c hc a b ha hb => zl_el_lt (A := fun a => a < n) (B := fun b => b ≤ n) hX c (fun i hi => ⟨by omega, by omega⟩) a b ha hb
  refine w_382_0 hT ?_
  have lp : ∀ e c h1, c + e = n → fr (tO m [39] []) h h1 → mx h1 m n (zl_el X c) → gm_G 382 2 [some (.ref m), some (.int (Int32.ofNat n)), some (.int (Int32.ofNat c))] [] h1 Q := by
    intro e
    induction e with
    | zero =>
      intro c h1 ec g M
      have ec : c = n := by omega
      subst ec
      refine w_382_2 (hT.fr g) ?_
      simp (disch := omega) only [forall_eq, exists_eq_left, exists_eq_left', Option.some.injEq, ex_ix, i_add, i_mul, i_sub, i_lt, i_le, i_eq, i_tn, hi_e, hi_n, hj_e, hj_n, hi_wj, hj_wi, hr_wi, hr_wj, ht_wi, ht_wj, hl_wi, hl_wj, hz_wi, hz_wj, hs_wi, hs_wj, hi_wr, hj_wr, hr_e, hr_n, ht_wr, hl_wr, hz_wr, hs_wr, n_lt_t, n_lt_f, n_le_t, n_le_f, n_eq_t, n_eq_f, true_and, and_true, false_and, and_false, true_or, or_true, false_or, or_false, not_true_eq_false, not_false_eq_true, forall_const, implies_true, true_imp_iff, false_imp_iff, gs_t, reduceIte, ite_true, ite_false]
      exact H h1 g M
    | succ e ih =>
      intro c h1 ec g M
      have hcn : c < n := by omega
      obtain ⟨Y, hY⟩ : ∃ Y, Y = zl_el X c := ⟨_, rfl⟩
      rw [← hY] at M
      have hYl : ∀ a b, a < n → b ≤ n → Y a b < 256 := fun a b ha hb => by rw [hY]; exact hl c (by omega) a b ha hb
      have hYp : ¬ Y c c = 0 := by rw [hY]; exact hp c hcn
      have eS : zl_el X (c + 1) = zl_st c Y := by rw [hY]; rfl
      refine w_382_2 (hT.fr g) ?_
      simp (disch := omega) only [forall_eq, exists_eq_left, exists_eq_left', Option.some.injEq, ex_ix, i_add, i_mul, i_sub, i_lt, i_le, i_eq, i_tn, hi_e, hi_n, hj_e, hj_n, hi_wj, hj_wi, hr_wi, hr_wj, ht_wi, ht_wj, hl_wi, hl_wj, hz_wi, hz_wj, hs_wi, hs_wj, hi_wr, hj_wr, hr_e, hr_n, ht_wr, hl_wr, hz_wr, hs_wr, n_lt_t, n_lt_f, n_le_t, n_le_f, n_eq_t, n_eq_f, true_and, and_true, false_and, and_false, true_or, or_true, false_or, or_false, not_true_eq_false, not_false_eq_true, forall_const, implies_true, true_imp_iff, false_imp_iff, gs_t, reduceIte, ite_true, ite_false]
      refine w_382_9 (hT.fr g) ?_
      have mcc := M c c hcn (by omega)
      have lcc := hYl c c hcn (by omega)
      simp (disch := omega) only [forall_eq, exists_eq_left, exists_eq_left', Option.some.injEq, ex_ix, i_add, i_mul, i_sub, i_lt, i_le, i_eq, i_tn, hi_e, hi_n, hj_e, hj_n, hi_wj, hj_wi, hr_wi, hr_wj, ht_wi, ht_wj, hl_wi, hl_wj, hz_wi, hz_wj, hs_wi, hs_wj, hi_wr, hj_wr, hr_e, hr_n, ht_wr, hl_wr, hz_wr, hs_wr, n_lt_t, n_lt_f, n_le_t, n_le_f, n_eq_t, n_eq_f, true_and, and_true, false_and, and_false, true_or, or_true, false_or, or_false, not_true_eq_false, not_false_eq_true, forall_const, implies_true, true_imp_iff, false_imp_iff, gs_t, reduceIte, ite_true, ite_false, mcc]
      -- taken from the others
      have oth : ∀ d z h2, z + d = n → fr (tO m [39] []) h h2 → mx h2 m n (fun a b => if a = c then zl_st c Y c b else if a < z then zl_st c Y a b else Y a b) → gm_G 382 159 [some (.ref m), some (.int (Int32.ofNat n)), some (.int (Int32.ofNat c)), none, none, some (.int (Int32.ofNat z))] [] h2 Q := by
        intro d
        induction d with
        | zero =>
          intro z h2 ez g2 M2
          have ez : z = n := by omega
          subst ez
          refine w_382_159 (hT.fr g2) ?_
          simp (disch := omega) only [forall_eq, exists_eq_left, exists_eq_left', Option.some.injEq, ex_ix, i_add, i_mul, i_sub, i_lt, i_le, i_eq, i_tn, hi_e, hi_n, hj_e, hj_n, hi_wj, hj_wi, hr_wi, hr_wj, ht_wi, ht_wj, hl_wi, hl_wj, hz_wi, hz_wj, hs_wi, hs_wj, hi_wr, hj_wr, hr_e, hr_n, ht_wr, hl_wr, hz_wr, hs_wr, n_lt_t, n_lt_f, n_le_t, n_le_f, n_eq_t, n_eq_f, true_and, and_true, false_and, and_false, true_or, or_true, false_or, or_false, not_true_eq_false, not_false_eq_true, forall_const, implies_true, true_imp_iff, false_imp_iff, gs_t, reduceIte, ite_true, ite_false]
          refine ih (c + 1) h2 (by omega) g2 ?_
          rw [eS]
          intro a b ha hb
          rw [M2 a b ha hb]
          dsimp only
          by_cases q : a = c
          · rw [if_pos q, q]
          · rw [if_neg q, if_pos ha]
        | succ d ihd =>
          intro z h2 ez g2 M2
          have hz : z < n := by omega
          have mzc := M2 z c hz (by omega)
          have step : ∀ h3, fr (tO m [39] []) h h3 → mx h3 m n (fun a b => if a = c then zl_st c Y c b else if a < z + 1 then zl_st c Y a b else Y a b) → gm_G 382 241 [some (.ref m), some (.int (Int32.ofNat n)), some (.int (Int32.ofNat c)), none, none, some (.int (Int32.ofNat z))] [] h3 Q := by
            intro h3 g3 M3
            refine w_382_241 (hT.fr g3) ?_
            rw [i_add]
            exact ihd (z + 1) h3 (by omega) g3 M3
          refine w_382_159 (hT.fr g2) ?_
          by_cases q : z = c
          · simp (disch := omega) only [forall_eq, exists_eq_left, exists_eq_left', Option.some.injEq, ex_ix, i_add, i_mul, i_sub, i_lt, i_le, i_eq, i_tn, hi_e, hi_n, hj_e, hj_n, hi_wj, hj_wi, hr_wi, hr_wj, ht_wi, ht_wj, hl_wi, hl_wj, hz_wi, hz_wj, hs_wi, hs_wj, hi_wr, hj_wr, hr_e, hr_n, ht_wr, hl_wr, hz_wr, hs_wr, n_lt_t, n_lt_f, n_le_t, n_le_f, n_eq_t, n_eq_f, true_and, and_true, false_and, and_false, true_or, or_true, false_or, or_false, not_true_eq_false, not_false_eq_true, forall_const, implies_true, true_imp_iff, false_imp_iff, gs_t, reduceIte, ite_true, ite_false]
            refine step h2 g2 (fun a b ha hb => ?_)
            rw [M2 a b ha hb]
            dsimp only
            by_cases u : a = c
            · rw [if_pos u, if_pos u]
            · rw [if_neg u, if_neg u]
              by_cases y : a < z
              · rw [if_pos y, if_pos (by omega)]
              · rw [if_neg y, if_neg (by omega)]
          · simp only [if_neg q, Nat.lt_irrefl, if_false] at mzc
            have lzc := hYl z c hz (by omega)
            by_cases u : Y z c = 0
            · simp (disch := omega) only [forall_eq, exists_eq_left, exists_eq_left', Option.some.injEq, ex_ix, i_add, i_mul, i_sub, i_lt, i_le, i_eq, i_tn, hi_e, hi_n, hj_e, hj_n, hi_wj, hj_wi, hr_wi, hr_wj, ht_wi, ht_wj, hl_wi, hl_wj, hz_wi, hz_wj, hs_wi, hs_wj, hi_wr, hj_wr, hr_e, hr_n, ht_wr, hl_wr, hz_wr, hs_wr, n_lt_t, n_lt_f, n_le_t, n_le_f, n_eq_t, n_eq_f, true_and, and_true, false_and, and_false, true_or, or_true, false_or, or_false, not_true_eq_false, not_false_eq_true, forall_const, implies_true, true_imp_iff, false_imp_iff, gs_t, reduceIte, ite_true, ite_false, mzc, u]
              refine step h2 g2 (fun a b ha hb => ?_)
              rw [M2 a b ha hb]
              dsimp only
              by_cases u1 : a = c
              · rw [if_pos u1, if_pos u1]
              · rw [if_neg u1, if_neg u1]
                by_cases y : a < z
                · rw [if_pos y, if_pos (by omega)]
                · rw [if_neg y]
                  by_cases y2 : a = z
                  · subst y2
                    rw [if_pos (by omega)]
                    unfold zl_st
                    rw [if_neg u1, u, (gt_0 (gt_lt (hYl c b hcn hb))).1, Nat.xor_zero]
                  · rw [if_neg (by omega)]
            · simp (disch := omega) only [forall_eq, exists_eq_left, exists_eq_left', Option.some.injEq, ex_ix, i_add, i_mul, i_sub, i_lt, i_le, i_eq, i_tn, hi_e, hi_n, hj_e, hj_n, hi_wj, hj_wi, hr_wi, hr_wj, ht_wi, ht_wj, hl_wi, hl_wj, hz_wi, hz_wj, hs_wi, hs_wj, hi_wr, hj_wr, hr_e, hr_n, ht_wr, hl_wr, hz_wr, hs_wr, n_lt_t, n_lt_f, n_le_t, n_le_f, n_eq_t, n_eq_f, true_and, and_true, false_and, and_false, true_or, or_true, false_or, or_false, not_true_eq_false, not_false_eq_true, forall_const, implies_true, true_imp_iff, false_imp_iff, gs_t, reduceIte, ite_true, ite_false, mzc]
              have row : ∀ d3 k h3, k + d3 = n + 1 → fr (tO m [39] []) h h3 → mx h3 m n (fun a b => if a = c then zl_st c Y c b else if a < z ∨ (a = z ∧ b < k) then zl_st c Y a b else Y a b) → gm_G 382 196 [some (.ref m), some (.int (Int32.ofNat n)), some (.int (Int32.ofNat c)), none, none, some (.int (Int32.ofNat z)), some (.int (Int32.ofNat ((Y z c)))), some (.int (Int32.ofNat k))] [] h3 Q := by
                intro d3
                induction d3 with
                | zero =>
                  intro k h3 ek g3 M3
                  refine w_382_196 (hT.fr g3) ?_
                  simp (disch := omega) only [forall_eq, exists_eq_left, exists_eq_left', Option.some.injEq, ex_ix, i_add, i_mul, i_sub, i_lt, i_le, i_eq, i_tn, hi_e, hi_n, hj_e, hj_n, hi_wj, hj_wi, hr_wi, hr_wj, ht_wi, ht_wj, hl_wi, hl_wj, hz_wi, hz_wj, hs_wi, hs_wj, hi_wr, hj_wr, hr_e, hr_n, ht_wr, hl_wr, hz_wr, hs_wr, n_lt_t, n_lt_f, n_le_t, n_le_f, n_eq_t, n_eq_f, true_and, and_true, false_and, and_false, true_or, or_true, false_or, or_false, not_true_eq_false, not_false_eq_true, forall_const, implies_true, true_imp_iff, false_imp_iff, gs_t, reduceIte, ite_true, ite_false]
                  refine step h3 g3 (fun a b ha hb => ?_)
                  rw [M3 a b ha hb]
                  dsimp only
                  by_cases u1 : a = c
                  · rw [if_pos u1, if_pos u1]
                  · rw [if_neg u1, if_neg u1]
                    by_cases y : a < z + 1
                    · rw [if_pos y, if_pos (by omega)]
                    · rw [if_neg y, if_neg (by omega)]
                | succ d3 ih3 =>
                  intro k h3 ek g3 M3
                  have m1 := M3 z k hz (by omega)
                  have m2 := M3 c k hcn (by omega)
                  simp only [if_neg q, Nat.lt_irrefl, and_false, or_self, if_false] at m1
                  simp only [if_true] at m2
                  have l1 := hYl z k hz (by omega)
                  have l2 : zl_st c Y c k < 256 := by unfold zl_st; rw [if_pos rfl]; exact gt_lt (hYl c k hcn (by omega))
                  refine w_382_196 (hT.fr g3) ⟨fun y => absurd y (by rw [i_lt (by omega) (by omega)]; omega), fun _ => ⟨8 * z + k, by rw [i_mul, i_add]; exact ix_n (by omega) (by omega), 8 * c + k, by rw [i_mul, i_add]; exact ix_n (by omega) (by omega), ?_⟩⟩
                  rw [m1, m2]
                  refine t_times (hT.fr g3) l2 lzc ?_
                  refine ⟨8 * z + k, by rw [i_mul, i_add]; exact ix_n (by omega) (by omega), fun h4 e4 => ?_⟩
                  subst e4
                  rw [i_add]
                  refine ih3 (k + 1) _ (by omega) (g3.trans (fr.a rfl)) (fun a b ha hb => ?_)
                  by_cases y : a = z ∧ b = k
                  · obtain ⟨rfl, rfl⟩ := y
                    rw [hi_e ⟨rfl, rfl⟩, i_xor]
                    dsimp only
                    rw [if_neg q, if_pos (by omega)]
                    congr 1
                    rw [gt_cm l2 lzc]
                    unfold zl_st
                    rw [if_neg q, if_pos rfl]
                  · rw [hi_n (by omega), M3 a b ha hb]
                    dsimp only
                    by_cases u1 : a = c
                    · rw [if_pos u1, if_pos u1]
                    · rw [if_neg u1, if_neg u1]
                      by_cases y2 : a < z ∨ (a = z ∧ b < k)
                      · rw [if_pos y2, if_pos (by omega)]
                      · rw [if_neg y2, if_neg (by omega)]
              refine row (n + 1) 0 h2 (by omega) g2 (fun a b ha hb => ?_)
              rw [M2 a b ha hb]
              dsimp only
              by_cases u1 : a = c
              · rw [if_pos u1, if_pos u1]
              · rw [if_neg u1, if_neg u1]
                by_cases y : a < z
                · rw [if_pos y, if_pos (by omega)]
                · rw [if_neg y, if_neg (by omega)]
      -- the line is divided
      have dv : ∀ d k h2, k + d = n + 1 → fr (tO m [39] []) h h2 → mx h2 m n (fun a b => if a = c ∧ b < k then zl_st c Y c b else Y a b) → gm_G 382 115 [some (.ref m), some (.int (Int32.ofNat n)), some (.int (Int32.ofNat c)), none, some (.int (Int32.ofNat ((gp (Y c c) 254)))), some (.int (Int32.ofNat k))] [] h2 Q := by
        intro d
        induction d with
        | zero =>
          intro k h2 ek g2 M2
          refine w_382_115 (hT.fr g2) ?_
          simp (disch := omega) only [forall_eq, exists_eq_left, exists_eq_left', Option.some.injEq, ex_ix, i_add, i_mul, i_sub, i_lt, i_le, i_eq, i_tn, hi_e, hi_n, hj_e, hj_n, hi_wj, hj_wi, hr_wi, hr_wj, ht_wi, ht_wj, hl_wi, hl_wj, hz_wi, hz_wj, hs_wi, hs_wj, hi_wr, hj_wr, hr_e, hr_n, ht_wr, hl_wr, hz_wr, hs_wr, n_lt_t, n_lt_f, n_le_t, n_le_f, n_eq_t, n_eq_f, true_and, and_true, false_and, and_false, true_or, or_true, false_or, or_false, not_true_eq_false, not_false_eq_true, forall_const, implies_true, true_imp_iff, false_imp_iff, gs_t, reduceIte, ite_true, ite_false]
          refine oth n 0 h2 (by omega) g2 (fun a b ha hb => ?_)
          rw [M2 a b ha hb]
          dsimp only
          by_cases u1 : a = c
          · rw [if_pos u1, if_pos ⟨u1, by omega⟩]
          · rw [if_neg u1, if_neg (fun y => u1 y.1), if_neg (by omega)]
        | succ d ihd =>
          intro k h2 ek g2 M2
          have m1 := M2 c k hcn (by omega)
          simp only [Nat.lt_irrefl, and_false, if_false] at m1
          refine w_382_115 (hT.fr g2) ⟨fun y => absurd y (by rw [i_lt (by omega) (by omega)]; omega), fun _ => ⟨8 * c + k, by rw [i_mul, i_add]; exact ix_n (by omega) (by omega), ?_⟩⟩
          rw [m1]
          refine t_times (hT.fr g2) (hYl c k hcn (by omega)) (gp_lt _) ?_
          refine ⟨8 * c + k, by rw [i_mul, i_add]; exact ix_n (by omega) (by omega), fun h4 e4 => ?_⟩
          subst e4
          rw [i_add]
          refine ihd (k + 1) _ (by omega) (g2.trans (fr.a rfl)) (fun a b ha hb => ?_)
          by_cases y : a = c ∧ b = k
          · obtain ⟨rfl, rfl⟩ := y
            rw [hi_e ⟨rfl, rfl⟩]
            dsimp only
            rw [if_pos ⟨rfl, by omega⟩]
            unfold zl_st
            rw [if_pos rfl]
          · rw [hi_n (by omega), M2 a b ha hb]
            dsimp only
            by_cases y2 : a = c ∧ b < k
            · rw [if_pos y2, if_pos ⟨y2.1, by omega⟩]
            · rw [if_neg y2, if_neg (by omega)]
      -- nothing is exchanged
      have sw : ∀ d k h2, k + d = n + 1 → fr (tO m [39] []) h h2 → mx h2 m n Y → gm_G 382 32 [some (.ref m), some (.int (Int32.ofNat n)), some (.int (Int32.ofNat c)), some (.int (Int32.ofNat c)), some (.int (Int32.ofNat k))] [] h2 Q := by
        intro d
        induction d with
        | zero =>
          intro k h2 ek g2 M2
          refine w_382_32 (hT.fr g2) ⟨fun _ => ⟨8 * c + c, by rw [i_mul, i_add]; exact ix_n (by omega) (by omega), ?_⟩, fun y => absurd (by rw [i_lt (by omega) (by omega)]; omega) y⟩
          rw [M2 c c hcn (by omega)]
          refine t_inverse (hT.fr g2) lcc ?_
          exact dv (n + 1) 0 h2 (by omega) g2 (fun a b ha hb => by dsimp only; rw [if_neg (by omega)]; exact M2 a b ha hb)
        | succ d ihd =>
          intro k h2 ek g2 M2
          have m1 := M2 c k hcn (by omega)
          refine w_382_32 (hT.fr g2) ?_
          simp (disch := omega) only [forall_eq, exists_eq_left, exists_eq_left', Option.some.injEq, ex_ix, i_add, i_mul, i_sub, i_lt, i_le, i_eq, i_tn, hi_e, hi_n, hj_e, hj_n, hi_wj, hj_wi, hr_wi, hr_wj, ht_wi, ht_wj, hl_wi, hl_wj, hz_wi, hz_wj, hs_wi, hs_wj, hi_wr, hj_wr, hr_e, hr_n, ht_wr, hl_wr, hz_wr, hs_wr, n_lt_t, n_lt_f, n_le_t, n_le_f, n_eq_t, n_eq_f, true_and, and_true, false_and, and_false, true_or, or_true, false_or, or_false, not_true_eq_false, not_false_eq_true, forall_const, implies_true, true_imp_iff, false_imp_iff, gs_t, reduceIte, ite_true, ite_false, m1]
          refine ihd (k + 1) _ (by omega) ((g2.trans (fr.a rfl)).trans (fr.a rfl)) (fun a b ha hb => ?_)
          by_cases y : a = c ∧ b = k
          · rw [hi_e (by omega), y.1, y.2]
          · rw [hi_n (by omega), hi_n (by omega)]
            exact M2 a b ha hb
      exact sw (n + 1) 0 h1 (by omega) g M
  exact lp n 0 h (by omega) (fr.refl _ _) R
end TSo
