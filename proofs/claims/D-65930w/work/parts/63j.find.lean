/-! STAGE 3: the twin tries a copy, and mends -/
theorem gy_use {k pc : Nat} {L : gm_L} {st : List Value} {h : hh_T} {Q : Option Value ⊕ Nat → hh_T → Prop} (w : gy_wf h) (H : gm_G k pc L st h (fun r h' => gy_wf h' → Q r h')) : gm_G k pc L st h Q := by
  obtain ⟨n, r, h', h1, h2, h3, h4⟩ := gy_G w H
  exact ⟨n, r, h', h1, h2 h3⟩
theorem any_cg {r : Nat} {f g : Nat → Bool} (e : ∀ i, i < r → f i = g i) : (List.range r).any f = (List.range r).any g := by
  rw [Bool.eq_iff_iff, List.any_eq_true, List.any_eq_true]
  constructor
  · rintro ⟨i, h1, h2⟩
    exact ⟨i, h1, by rw [← e i (List.mem_range.mp h1)]; exact h2⟩
  · rintro ⟨i, h1, h2⟩
    exact ⟨i, h1, by rw [e i (List.mem_range.mp h1)]; exact h2⟩
theorem all_no {r i : Nat} {f : Nat → Bool} (hi : i < r) (e : f i = false) : ¬ (List.range r).all f = true := by
  intro z
  rw [List.all_eq_true] at z
  have := z i (List.mem_range.mpr hi)
  rw [e] at this
  cases this
theorem all_yes {r : Nat} {f : Nat → Bool} (e : ∀ i, i < r → f i = true) : (List.range r).all f = true := by
  rw [List.all_eq_true]
  intro i hi
  exact e i (List.mem_range.mp hi)
/-- rows of a block -/
theorem rows_lt {k W q : Nat} (hW : 1 ≤ W) : q < (k + W - 1) / W ↔ q * W < k := by
  rw [← Nat.succ_le_iff, Nat.le_div_iff_mul_le (by omega), Nat.succ_mul]
  omega
/-- a try at a copy -/
def zr_t (P : zP) (G : zG) (g x a k : Nat) : Option (Nat → Int32) × Bool := if zg_par G g then zr_par P G g x a k else zr_mir P G g x a k
section TFi
variable {h : hh_T} {m : Nat} {Q : Option Value ⊕ Nat → hh_T → Prop} {P : zP} {G : zG} {g : Nat} {S : zS}
theorem t_tryCopy {p c x k a : Nat} (hT : tw_ok h m) (w : gy_wf h) (R : rT_G h m G) (RP : rT_P h m P) (K : zg_ok P G) (hp : p < 640) (hc : c < 2) (hg : g < zg_ng G) (eg : hh_i h (m + 23) (2 * p + c) = (Int32.ofNat g)) (ea : hh_i h (m + 24) (2 * p + c) = (Int32.ofNat a)) (hk : hh_i h (m + 21) p = (Int32.ofNat k)) (hk1 : 1 ≤ k) (hk4 : k ≤ 4) (hpl : a + zg_sp G g k ≤ zg_pl G g) (hx : x < 64) (hx2 : zg_par G g = false → x < zg_many G g)
    (H1 : (zr_t P G g x a k).1 = none → ∀ h', fr (tO m [35, 37, 38, 39] [53]) h h' → Q (.inl (some (.int (Int32.ofNat 0)))) h')
    (H2 : ∀ f, (zr_t P G g x a k).1 = some f → ∀ h', fr (tO m [35, 37, 38, 39] [53]) h h' → (∀ j, j < 8 * k → hh_i h' (m + 35) j = f j) → hh_i h' m 53 = bi (zr_t P G g x a k).2 → Q (.inl (some (.int (Int32.ofNat 1)))) h') : gm_G 423 0 [some (.ref m), some (.int (Int32.ofNat p)), some (.int (Int32.ofNat c)), some (.int (Int32.ofNat x))] [] h Q := by
  obtain ⟨k0, k1, k2, k3, k4, k5⟩ := id K
  obtain ⟨c1, c2, c3, c4, c5, c6, c7⟩ := k1 g hg
  obtain ⟨r1, r2, r3, r4⟩ := id R
  obtain ⟨s1, s2, s3, s4, s5⟩ := r3 g hg
  have g0 : fr (tO m [35, 37, 38, 39] [53]) h (hh_wi h m 53 (Int32.ofNat 0)) := fr.f rfl
  cases hpar : zg_par G g with
  | false =>
    have hxm := hx2 hpar
    have c62 := (c6 hpar).2
    have sp : zg_sp G g k = k := by unfold zg_sp; rw [if_neg (by rw [hpar]; decide)]
    have pl : zg_pl G g = zg_len G g := by unfold zg_pl; rw [if_neg (by rw [hpar]; decide)]
    have ki : zg_ki G g < 2 := by unfold zg_ki; rw [if_neg (by rw [hpar]; decide)]; split <;> omega
    rw [sp, pl] at hpl
    unfold zr_t at H1 H2
    rw [if_neg (by rw [hpar]; decide)] at H1 H2
    obtain ⟨c71, c72, c73⟩ := c7 x hxm
    have e15 := s5 x hxm
    obtain ⟨d, hd⟩ : ∃ d, d = zg_dsk G g x := ⟨_, rfl⟩
    unfold zr_mir at H1 H2
    rw [← hd] at c71 c72 c73 e15 H1 H2
    have lp : ∀ e j h1, j + e = k → fr (tO m [35, 37, 38, 39] [53]) h h1 → hh_i h1 m 53 = (Int32.ofNat 0) → (∀ t, t < j → zp_mi P d (a + t) = false) → (∀ t, t < 8 * j → hh_i h1 (m + 35) t = zp_by P d (8 * a + t)) → gm_G 423 65 [some (.ref m), none, none, none, none, some (.int (Int32.ofNat a)), some (.int (Int32.ofNat k)), some (.int (Int32.ofNat d)), some (.int (Int32.ofNat j))] [] h1 Q := by
      intro e
      induction e with
      | zero =>
        intro j h1 ej g1 e53 hm hb
        have ej : j = k := by omega
        subst ej
        refine w_423_65 (hT.fr g1) ⟨fun _ => ?_, fun z => absurd z (by rw [i_lt (by omega) (by omega)]; omega)⟩
        exact H2 _ (if_pos (all_yes fun i hi => by rw [hm i hi]; rfl)) h1 g1 hb e53
      | succ e ih =>
        intro j h1 ej g1 e53 hm hb
        refine w_423_65 (hT.fr g1) ⟨fun z => absurd (by rw [i_lt (by omega) (by omega)]; omega) z, fun _ => ?_⟩
        rw [i_add]
        refine t_isMissing (hT.fr g1) (RP.fr g1 rfl rfl) (by omega) (by omega) ?_
        cases hmj : zp_mi P d (a + j) with
        | true =>
          refine ⟨fun y => absurd y (by decide), fun _ => H1 (if_neg (all_no (i := j) (by omega) (by rw [hmj]; rfl))) h1 g1⟩
        | false =>
          refine ⟨fun _ => ?_, fun y => absurd rfl y⟩
          have l2 : ∀ e2 i h2, i + e2 = 8 → fr (tO m [35, 37, 38, 39] [53]) h h2 → hh_i h2 m 53 = (Int32.ofNat 0) → (∀ t, t < 8 * j + i → hh_i h2 (m + 35) t = zp_by P d (8 * a + t)) → gm_G 423 91 [some (.ref m), none, none, none, none, some (.int (Int32.ofNat a)), some (.int (Int32.ofNat k)), some (.int (Int32.ofNat d)), some (.int (Int32.ofNat j)), some (.int (Int32.ofNat i))] [] h2 Q := by
            intro e2
            induction e2 with
            | zero =>
              intro i h2 ei g2 f53 hb2
              refine w_423_91 (hT.fr g2) ⟨fun _ => ?_, fun z => absurd z (by rw [i_lt (by omega) (by omega)]; omega)⟩
              rw [i_add]
              refine ih (j + 1) h2 (by omega) g2 f53 (fun t ht => ?_) (fun t ht => hb2 t (by omega))
              by_cases y : t = j
              · rw [y]; exact hmj
              · exact hm t (by omega)
            | succ e2 ih2 =>
              intro i h2 ei g2 f53 hb2
              have v : hh_i h2 (m + 10) (512 * d + 8 * (a + j) + i) = zp_by P d (8 * a + (8 * j + i)) := by
                have := ((RP.fr g2 rfl rfl).2.2.2.1 d (by omega)).2.2.2 (8 * a + (8 * j + i)) (by omega)
                rw [← this]
                congr 1
                omega
              have gb : (zp_by P d (8 * a + (8 * j + i))).toInt8.toInt32 = zp_by P d (8 * a + (8 * j + i)) := by
                rw [← v, g2.arr (o := 10) rfl]
                exact w.2.1 (m + 10) _ (hT.2.2 10 (by decide)).1
              refine w_423_91 (hT.fr g2) ?_
              simp (disch := omega) only [forall_eq, exists_eq_left, exists_eq_left', Option.some.injEq, ex_ix, i_add, i_mul, i_sub, i_lt, i_le, i_eq, i_tn, hi_e, hi_n, hj_e, hj_n, hi_wj, hj_wi, hr_wi, hr_wj, ht_wi, ht_wj, hl_wi, hl_wj, hz_wi, hz_wj, hs_wi, hs_wj, hi_wr, hj_wr, hr_e, hr_n, ht_wr, hl_wr, hz_wr, hs_wr, n_lt_t, n_lt_f, n_le_t, n_le_f, n_eq_t, n_eq_f, true_and, and_true, false_and, and_false, true_or, or_true, false_or, or_false, not_true_eq_false, not_false_eq_true, forall_const, implies_true, true_imp_iff, false_imp_iff, gs_t, reduceIte, ite_true, ite_false, v, gb]
              refine ih2 (i + 1) _ (by omega) (g2.trans (fr.a rfl)) (by rw [hi_n (by omega)]; exact f53) (fun t ht => ?_)
              by_cases y : t = 8 * j + i
              · rw [hi_e ⟨rfl, y⟩, y]
              · rw [hi_n (by omega)]
                exact hb2 t (by omega)
          exact l2 8 0 h1 rfl g1 e53 hb
    have go := lp k 0 _ (by omega) g0 (by rw [hi_e ⟨rfl, rfl⟩]) (fun t ht => absurd ht (Nat.not_lt_zero _)) (fun t ht => absurd ht (by omega))
    refine w_423_0 hT ?_
    simp (disch := omega) only [forall_eq, exists_eq_left, exists_eq_left', Option.some.injEq, ex_ix, i_add, i_mul, i_sub, i_lt, i_le, i_eq, i_tn, hi_e, hi_n, hj_e, hj_n, hi_wj, hj_wi, hr_wi, hr_wj, ht_wi, ht_wj, hl_wi, hl_wj, hz_wi, hz_wj, hs_wi, hs_wj, hi_wr, hj_wr, hr_e, hr_n, ht_wr, hl_wr, hz_wr, hs_wr, n_lt_t, n_lt_f, n_le_t, n_le_f, n_eq_t, n_eq_f, true_and, and_true, false_and, and_false, true_or, or_true, false_or, or_false, not_true_eq_false, not_false_eq_true, forall_const, implies_true, true_imp_iff, false_imp_iff, gs_t, reduceIte, ite_true, ite_false, eg, ea, hk, s1, e15]
    exact go
  | true =>
    obtain ⟨c51, c52, c53⟩ := c5 hpar
    obtain ⟨W, hW⟩ : ∃ W, W = zg_many G g - zg_chk G g := ⟨_, rfl⟩
    have hY : zg_many G g = zg_chk G g + W := by omega
    have hW1 : 1 ≤ W := by omega
    have sp : zg_sp G g k = k + zg_chk G g * ((k + W - 1) / W) := by unfold zg_sp; rw [if_pos hpar, ← hW]
    have ki : zg_ki G g = 2 := by unfold zg_ki; rw [if_pos hpar]
    rw [ki] at s1
    rw [sp] at hpl
    unfold zr_t at H1 H2
    rw [if_pos hpar] at H1 H2
    unfold zr_par at H1 H2
    rw [← hW] at H1 H2
    obtain ⟨N, hN⟩ : ∃ N, N = (k + W - 1) / W := ⟨_, rfl⟩
    rw [← hN] at H1 H2 hpl
    have hq : ∀ q, q < N ↔ q * W < k := fun q => by rw [hN]; exact rows_lt hW1
    obtain ⟨FF, hFF⟩ : ∃ FF : Nat → Int32, FF = (fun j => byt (Int32.ofNat (zr_d P G g x (a + j / 8 / W * zg_many G g) (min W (k - j / 8 / W * W)) (j / 8 % W) (j % 8)))) := ⟨_, rfl⟩
    obtain ⟨D, hD⟩ : ∃ D : Nat → Bool, D = (fun s => zp_mi P (zg_dsk G g ((a + s / W * zg_many G g + zg_chk G g + s % W) % zg_many G g)) ((a + s / W * zg_many G g + zg_chk G g + s % W) / zg_many G g)) := ⟨_, rfl⟩
    rw [← hFF] at H1 H2
    rw [← hD] at H2
    have lp : ∀ e q A h1, q + e = N → fr (tO m [35, 37, 38, 39] [53]) h h1 → hh_i h1 m 53 = bi ((List.range (min k (q * W))).any D) → (q * W < k → A = a + q * zg_many G g) → (∀ t, t < q → zr_ok P G g x (a + t * zg_many G g) (min W (k - t * W)) = true) → (∀ j, j < 8 * min k (q * W) → hh_i h1 (m + 35) j = FF j) → q * W < 1000 → gm_G 423 173 [some (.ref m), none, none, some (.int (Int32.ofNat x)), some (.int (Int32.ofNat g)), none, some (.int (Int32.ofNat k)), some (.int (Int32.ofNat ((zg_many G g)))), some (.int (Int32.ofNat ((zg_chk G g)))), some (.int (Int32.ofNat A)), some (.int (Int32.ofNat ((q * W))))] [] h1 Q := by
      intro e
      induction e with
      | zero =>
        intro q A h1 ee g1 e53 hA ho hb hq3
        have hqk : ¬ q * W < k := by rw [← hq]; omega
        have em : min k (q * W) = k := by omega
        rw [em] at e53 hb
        refine w_423_173 (hT.fr g1) ⟨fun _ => ?_, fun z => absurd z (by rw [i_lt (by omega) (by omega)]; omega)⟩
        exact H2 _ (if_pos (all_yes fun i hi => ho i (by omega))) h1 g1 hb e53
      | succ e ih =>
        intro q A h1 ee g1 e53 hA ho hb hq3
        have hqk : q * W < k := by rw [← hq]; omega
        have hA := hA hqk
        have e1 : min k (q * W) = q * W := by omega
        rw [e1] at e53 hb
        have row : ∀ r, r = min W (k - q * W) → gm_G 423 206 [some (.ref m), none, none, some (.int (Int32.ofNat x)), some (.int (Int32.ofNat g)), none, some (.int (Int32.ofNat k)), some (.int (Int32.ofNat ((zg_many G g)))), some (.int (Int32.ofNat ((zg_chk G g)))), some (.int (Int32.ofNat A)), some (.int (Int32.ofNat ((q * W))))] [.int (Int32.ofNat r)] h1 Q := by
          intro r hr
          have b1 : (q + 1) * W = q * W + W := Nat.succ_mul q W
          have b2 : min k ((q + 1) * W) = q * W + r := by omega
          have b3 : q * zg_many G g = q * zg_chk G g + q * W := by rw [hY, Nat.mul_add]
          have b4 : zg_chk G g * (q + 1) ≤ zg_chk G g * N := Nat.mul_le_mul_left _ (by omega)
          have b5 : zg_chk G g * (q + 1) = q * zg_chk G g + zg_chk G g := by rw [Nat.mul_succ, Nat.mul_comm]
          refine w_423_206 (hT.fr g1) ?_
          refine t_tryRow (hT.fr g1) (R.fr g1 rfl rfl) (RP.fr g1 rfl rfl) K hg hpar hx (by omega) (by omega) (by omega) (by omega) (fun y h2 g2 => ?_) (fun y h2 g2 f53 f35 => ?_)
          · refine ⟨fun z => absurd rfl z, fun _ => H1 (if_neg (all_no (i := q) (by omega) ?_)) h2 (g1.trans g2)⟩
            rw [← hA, ← hr]
            exact y
          · refine ⟨fun _ => ?_, fun z => absurd z (by decide)⟩
            rw [i_sub (show zg_chk G g ≤ zg_many G g by omega), ← hW, i_add, i_add, i_add, ← b1]
            refine ih (q + 1) (A + (zg_chk G g + r)) h2 (by omega) (g1.trans g2) ?_ (fun z => ?_) (fun t ht => ?_) (fun j hj => ?_) (by omega)
            · rw [f53, e53, b2, List.range_add, List.any_append, List.any_map]
              have ec : (List.range r).any (D ∘ fun x => q * W + x) = (List.range r).any (fun e => zp_mi P (zg_dsk G g ((A + zg_chk G g + e) % zg_many G g)) ((A + zg_chk G g + e) / zg_many G g)) := by
                refine any_cg fun i hi => ?_
                obtain ⟨d1, d2⟩ := nq_div (q := q) (n := W) (r := i) (by omega)
                rw [hD, Function.comp_apply, d1, d2, hA]
              rw [ec]
              cases (List.range (q * W)).any D <;> cases (List.range r).any (fun e => zp_mi P (zg_dsk G g ((A + zg_chk G g + e) % zg_many G g)) ((A + zg_chk G g + e) / zg_many G g)) <;> rfl
            · rw [Nat.succ_mul, hA]
              omega
            · by_cases z : t = q
              · rw [z, ← hA, ← hr]; exact y
              · exact ho t (by omega)
            · rw [b2] at hj
              rw [f35 j]
              by_cases z : 8 * (q * W) ≤ j ∧ j < 8 * (q * W + r)
              · rw [if_pos z]
                obtain ⟨d1, d2⟩ := nq_div (q := q) (n := W) (r := j / 8 - q * W) (by omega)
                have d3 : q * W + (j / 8 - q * W) = j / 8 := by omega
                rw [d3] at d1 d2
                rw [hFF]
                dsimp only
                rw [d1, d2, ← hA, ← hr]
              · rw [if_neg z]
                exact hb j (by omega)
        refine w_423_173 (hT.fr g1) ⟨fun z => absurd (by rw [i_lt (by omega) (by omega)]; omega) z, fun _ => ?_⟩
        rw [i_sub (show q * W ≤ k by omega), i_sub (show zg_chk G g ≤ zg_many G g by omega), ← hW, i_lt (by omega) (by omega)]
        exact ⟨fun z => row W (by omega), fun z => row (k - q * W) (by omega)⟩
    have go := lp N 0 a _ (by omega) g0 (by rw [hi_e ⟨rfl, rfl⟩, Nat.zero_mul, Nat.min_zero]; rfl) (fun _ => by omega) (fun t ht => absurd ht (Nat.not_lt_zero _)) (fun t ht => absurd ht (by omega)) (by omega)
    rw [Nat.zero_mul] at go
    refine w_423_0 hT ?_
    simp (disch := omega) only [forall_eq, exists_eq_left, exists_eq_left', Option.some.injEq, ex_ix, i_add, i_mul, i_sub, i_lt, i_le, i_eq, i_tn, hi_e, hi_n, hj_e, hj_n, hi_wj, hj_wi, hr_wi, hr_wj, ht_wi, ht_wj, hl_wi, hl_wj, hz_wi, hz_wj, hs_wi, hs_wj, hi_wr, hj_wr, hr_e, hr_n, ht_wr, hl_wr, hz_wr, hs_wr, n_lt_t, n_lt_f, n_le_t, n_le_f, n_eq_t, n_eq_f, true_and, and_true, false_and, and_false, true_or, or_true, false_or, or_false, not_true_eq_false, not_false_eq_true, forall_const, implies_true, true_imp_iff, false_imp_iff, gs_t, reduceIte, ite_true, ite_false, eg, ea, hk, s1, s2, s3]
    exact go
theorem rT0.oW {h' : hh_T} {P : zP} (R : rT0 h m S) (g : fr (tO m oW fW) h h') (N : rT_P h' m P) : rT0 h' m (zs_P_ S P) := by
  obtain ⟨r0, r1, r2, r3, r4, r5, r6, r7, r8⟩ := R
  exact ⟨r0.fr g, r1.fr g rfl rfl, N, r3.fr g rfl rfl, r4.fr g rfl rfl, by rw [g.fld (f := 47) rfl, g.fld (f := 48) rfl]; exact r5, r6.fr g rfl, r7.fr g rfl, r8.fr g rfl rfl⟩
theorem zp_cps_nil (lay : zP → List (Nat × Nat × (Nat → Int32)) → zP × Bool) (G : zG) (k : Nat) (f : Nat → Int32) (P : zP) : zp_cps lay G k f P [] = (P, true) := rfl
theorem zp_cps_c (lay : zP → List (Nat × Nat × (Nat → Int32)) → zP × Bool) (G : zG) (k : Nat) (f : Nat → Int32) (P : zP) (c : Nat × Nat) (r : List (Nat × Nat)) : zp_cps lay G k f P (c :: r) = if (lay P (zg_wl G c.1 c.2 k f)).2 then zp_cps lay G k f (lay P (zg_wl G c.1 c.2 k f)).1 r else ((lay P (zg_wl G c.1 c.2 k f)).1, false) := rfl
theorem t_mend {p : Nat} {b : zB} (R : rT0 h m S) (w : gy_wf h) (K : zg_ok (zs_P S) (zs_G S)) (hp : p < 640) (B : tb h m p b) (hz : zb_ok (zs_G S) b)
    (H1 : (zp_cps zp_men (zs_G S) (zb_k b) (hh_i h (m + 35)) (zs_P S) (zb_cp b)).2 = true → ∀ h', fr (tO m oW fW) h h' → rT_P h' m (zp_cps zp_men (zs_G S) (zb_k b) (hh_i h (m + 35)) (zs_P S) (zb_cp b)).1 → Q (.inl (some (.int (Int32.ofNat 1)))) h')
    (H2 : (zp_cps zp_men (zs_G S) (zb_k b) (hh_i h (m + 35)) (zs_P S) (zb_cp b)).2 = false → ∀ h', rTx h' m (zs_fall (zs_P_ S (zp_cps zp_men (zs_G S) (zb_k b) (hh_i h (m + 35)) (zs_P S) (zb_cp b)).1)) → fr (tO m (oW ++ oFall) (fW ++ fFall)) h h' → Q (.inl (some (.int (Int32.ofNat 0)))) h') : gm_G 419 0 [some (.ref m), some (.int (Int32.ofNat p))] [] h Q := by
  obtain ⟨b1, b2, b3, b4, b5, b6, b7, b8, b9, b10, b11⟩ := id B
  obtain ⟨f, hf⟩ : ∃ f, f = hh_i h (m + 35) := ⟨_, rfl⟩
  rw [← hf] at H1 H2
  have lp : ∀ e c h1 P1, c + e = (zb_cp b).length → fr (tO m oW fW) h h1 → gy_wf h1 → rT_P h1 m P1 → zp_nd P1 = zp_nd (zs_P S) → zp_sec P1 = zp_sec (zs_P S) → zp_cps zp_men (zs_G S) (zb_k b) f (zs_P S) (zb_cp b) = zp_cps zp_men (zs_G S) (zb_k b) f P1 ((zb_cp b).drop c) → gm_G 419 2 [some (.ref m), some (.int (Int32.ofNat p)), some (.int (Int32.ofNat c))] [] h1 Q := by
    intro e
    induction e with
    | zero =>
      intro c h1 P1 ec g1 w1 RP1 n1 n2 eq
      have b6' : hh_i h1 (m + 22) p = (Int32.ofNat ((zb_cp b).length)) := by rw [g1.arr (o := 22) rfl]; exact b6
      have ec : c = (zb_cp b).length := by omega
      rw [ec, List.drop_length, zp_cps_nil] at eq
      rw [eq] at H1
      refine w_419_2 (R.1.fr g1) ?_
      simp (disch := omega) only [forall_eq, exists_eq_left, exists_eq_left', Option.some.injEq, ex_ix, i_add, i_mul, i_sub, i_lt, i_le, i_eq, i_tn, hi_e, hi_n, hj_e, hj_n, hi_wj, hj_wi, hr_wi, hr_wj, ht_wi, ht_wj, hl_wi, hl_wj, hz_wi, hz_wj, hs_wi, hs_wj, hi_wr, hj_wr, hr_e, hr_n, ht_wr, hl_wr, hz_wr, hs_wr, n_lt_t, n_lt_f, n_le_t, n_le_f, n_eq_t, n_eq_f, true_and, and_true, false_and, and_false, true_or, or_true, false_or, or_false, not_true_eq_false, not_false_eq_true, forall_const, implies_true, true_imp_iff, false_imp_iff, gs_t, reduceIte, ite_true, ite_false, b6']
      exact H1 rfl h1 g1 RP1
    | succ e ih =>
      intro c h1 P1 ec g1 w1 RP1 n1 n2 eq
      have hc : c < (zb_cp b).length := by omega
      have b6' : hh_i h1 (m + 22) p = (Int32.ofNat ((zb_cp b).length)) := by rw [g1.arr (o := 22) rfl]; exact b6
      have ed : (zb_cp b).getD c (0, 0) = (zb_cp b)[c] := by rw [List.getD_eq_getElem?_getD, List.getElem?_eq_getElem hc]; rfl
      obtain ⟨e23, e24⟩ := b9 c hc
      rw [ed] at e23 e24
      obtain ⟨z1, z2⟩ := hz (zb_cp b)[c] (List.getElem_mem hc)
      rw [List.drop_eq_getElem_cons hc, zp_cps_c] at eq
      have K1 : zg_ok P1 (zs_G S) := K.P n1 n2
      refine w_419_2 (R.1.fr g1) ⟨p, ix_n hp (by omega), fun z => absurd (by rw [b6', i_lt (by omega) (by omega)]; exact hc) z, fun _ => ?_⟩
      refine gy_use w1 ?_
      refine t_writeCopy (mend := true) (S := zs_P_ S P1) (R.oW g1 RP1) w1 K1 hp (by omega) z1 (by rw [g1.arr (o := 23) rfl]; exact e23) (by rw [g1.arr (o := 24) rfl]; exact e24) (by rw [g1.arr (o := 21) rfl]; exact b3) b4 b5 z2 (fun f' hf' y h2 g2 RP2 w2 => ?_) (fun f' hf' y h2 RX g2 w2 => ?_)
      · have ef : f' = f := by rw [hf', hf]; funext x; show hh_i h1 (m + 35) x = _; rw [g1.arr (o := 35) rfl]
        subst ef
        refine ⟨fun _ => ?_, fun z => absurd z (by decide)⟩
        rw [i_add]
        have y : (zp_men P1 (zg_wl (zs_G S) (zb_cp b)[c].1 (zb_cp b)[c].2 (zb_k b) f')).2 = true := y
        rw [if_pos y] at eq
        obtain ⟨q1, q2⟩ := zp_men_nd (zs_G S) (zg_wl (zs_G S) (zb_cp b)[c].1 (zb_cp b)[c].2 (zb_k b) f') P1
        exact ih (c + 1) h2 _ (by omega) (g1.trans g2) w2 RP2 (q1.trans n1) (q2.trans n2) eq
      · have ef : f' = f := by rw [hf', hf]; funext x; show hh_i h1 (m + 35) x = _; rw [g1.arr (o := 35) rfl]
        subst ef
        refine ⟨fun z => absurd rfl z, fun _ => ?_⟩
        have y : (zp_men P1 (zg_wl (zs_G S) (zb_cp b)[c].1 (zb_cp b)[c].2 (zb_k b) f')).2 = false := y
        rw [if_neg (by rw [y]; decide)] at eq
        rw [eq] at H2
        exact H2 rfl h2 RX ((g1.up rfl rfl).trans g2)
  exact w_419_0 R.1 (lp (zb_cp b).length 0 h (zs_P S) (Nat.zero_add _) (fr.refl _ _) w R.2.2.1 rfl rfl rfl)
end TFi
