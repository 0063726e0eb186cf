/-! STAGE 3: the twin reads a block by the cache -/
def oRB : List Nat := [6, 8, 9, 10, 16, 29, 32, 33, 34, 35, 36, 37, 38, 39]
def fRB : List Nat := [15, 17, 18, 46, 47, 48, 49, 53]
theorem gl_in_s {α : Type} {e : α → α → Bool} {L : Nat → List α} {b : α} {l : Nat} (h : gl_in e L b = some l) : l < 4 ∧ (L l).any (e b) = true := by
  unfold gl_in at h
  exact ⟨List.mem_range.mp (List.mem_of_find?_eq_some h), by have := List.find?_some h; exact this⟩
theorem ne_mem {L : List Nat} {p : Nat} (h : L.any (ne_q p) = true) : p ∈ L := by
  rw [List.any_eq_true] at h
  obtain ⟨x, h1, h2⟩ := h
  have h2 : p = x := of_decide_eq_true h2
  rw [h2]; exact h1
section TRb
variable {h : hh_T} {m : Nat} {Q : Option Value ⊕ Nat → hh_T → Prop} {S : zS}
theorem rL.fr {I : Nat → List Nat} {O F : List Nat} {h h' : hh_T} (L : rL h m I) (g : fr (tO m O F) h h') (h1 : (O.contains 32 || Nat.beq 32 0) = false) (h2 : (O.contains 33 || Nat.beq 33 0) = false) : rL h' m I := fun l hl => (L l hl).fr (by rw [g.arr h2]) (fun j _ => by rw [g.arr h1])
theorem t_readBlock {p : Nat} {b : zB} (R : rT0 h m S) (RE : rT_E h m (zs_E S)) (RC : rT_C h m (zs_C S)) (w : gy_wf h) (K : zg_ok (zs_P S) (zs_G S)) (hp : p < 640) (B : tb h m p b) (us : tw_uN h m p) (hz : zb_ok (zs_G S) b) (hzC : ∀ l c, l < 4 → c ∈ zc_ls (zs_C S) l → zb_ok (zs_G S) c) (hC : zc_ok (zs_C S)) (hne : zm_ne (zs_M S) < 999999999)
    (H : ¬ (zs_read S b).2.1 = (Int32.ofInt (-12)) → ∀ h', gy_wf h' → fr (tO m oRB fRB) h h' → rT_P h' m (zs_P (zs_read S b).1) → zp_nd (zs_P (zs_read S b).1) = zp_nd (zs_P S) → zp_sec (zs_P (zs_read S b).1) = zp_sec (zs_P S) → rT_M h' m (zs_M (zs_read S b).1) → rT_C h' m (zs_C (zs_read S b).1) → ((zs_read S b).2.1 = (Int32.ofNat 0) → ta_c h' (m + 29) (zs_read S b).2.2 ∧ (zs_read S b).2.2.length = 32) → Q (.inl (some (.int (zs_read S b).2.1))) h')
    (H3 : (zs_read S b).2.1 = (Int32.ofInt (-12)) → ∀ h', gy_wf h' → rTx h' m (zs_read S b).1 → fr (tO m (oFD ++ oFall) (fFD ++ fFall)) h h' → Q (.inl (some (.int (Int32.ofInt (-12))))) h') : gm_G 473 0 [some (.ref m), some (.int (Int32.ofNat p))] [] h Q := by
  obtain ⟨⟨I, f0, q1, q2, q3⟩, a46, a46', a47, a48⟩ := RC
  obtain ⟨C, hCC⟩ : ∃ C, C = zs_C S := ⟨_, rfl⟩
  obtain ⟨f, hf⟩ : ∃ f : Nat → zB, f = fun q => if q = p then b else f0 q := ⟨_, rfl⟩
  have fp : f p = b := by rw [hf]; exact if_pos rfl
  have fq : ∀ l q, l < 4 → q ∈ I l → f q = f0 q := fun l q hl hq => by
    rw [hf]
    dsimp only
    by_cases y : q = p
    · subst y
      rw [if_pos rfl]
      exact tb_inj K B (q3 l q hl hq).2.1 hz (hzC l _ hl (by rw [q2 l hl]; exact List.mem_map_of_mem hq))
    · exact if_neg y
  obtain ⟨A, hA⟩ : ∃ A : Nat → Prop, A = fun q => q < 640 ∧ tw_uN h m q ∧ tb h m q (f q) := ⟨_, rfl⟩
  have Ap : A p := by rw [hA]; exact ⟨hp, us, by rw [fp]; exact B⟩
  have rF : rlF f I (zc_ls C) := fun l hl => by
    rw [hCC, q2 l hl]
    exact List.map_congr_left (fun q hq => (fq l q hl hq).symm)
  have rA : rlA A I := fun l hl q hq => by
    rw [hA]
    exact ⟨(q3 l q hl hq).1, (q3 l q hl hq).2.2.1, by rw [fq l q hl hq]; exact (q3 l q hl hq).2.1⟩
  have inj : ∀ x y, A x → A y → zb_eq (f x) (f y) = ne_q x y := by
    intro x y hx hy
    rw [hA] at hx hy
    unfold zb_eq ne_q
    by_cases z : x = y
    · rw [z, decide_eq_true rfl, decide_eq_true rfl]
    · rw [decide_eq_false z, decide_eq_false (fun e => z (us_key RE hx.1 hy.1 hx.2.1 hy.2.1 hx.2.2 hy.2.2 e))]
  have ein : zc_in C b = gl_in ne_q I p := by rw [← rF.in inj rA Ap, fp]; rfl
  -- the picture again
  have mk : ∀ h2 I2 C2, fr (tO m oRB fRB) h h2 → rL h2 m I2 → rlA A I2 → rlF f I2 (zc_ls C2) → (∀ l q, l < 2 → q ∈ I2 l → ∀ i, i < 32 → hh_i h2 (m + 36) (32 * q + i) = zc_hd C2 (zb_key (f q)) i) → hh_i h2 m 46 = (Int32.ofNat (zc_aim C2)) → zc_aim C2 ≤ 6 → hh_i h2 m 47 = zc_hits C2 → hh_i h2 m 48 = zc_miss C2 → rT_C h2 m C2 := by
    intro h2 I2 C2 g2 L2 A2 F2 hh e46 e46' e47 e48
    refine ⟨⟨I2, f, L2, F2, fun l q hl hq => ?_⟩, e46, e46', e47, e48⟩
    have := A2 l hl q hq
    rw [hA] at this
    refine ⟨this.1, this.2.2.fr g2 rfl, ?_, fun hl2 => hh l q hl2 hq⟩
    exact tw_uN.sm (F := fun o => [77, 99].contains o) (g2.sm rfl rfl) rfl rfl this.2.1
  obtain ⟨n01, n02, n4⟩ := hC
  have ln : ∀ l, l < 4 → zc_n C l = (I l).length := fun l hl => rF.len hl
  rw [← hCC] at n01 n02 n4 a46 a46' a47 a48
  rw [ln 0 (by decide), ln 1 (by decide)] at n01
  rw [ln 0 (by decide), ln 2 (by decide)] at n02
  rw [ln 0 (by decide), ln 1 (by decide), ln 2 (by decide), ln 3 (by decide)] at n4
  have held : ∀ l q, l < 2 → q ∈ I l → ∀ i, i < 32 → hh_i h (m + 36) (32 * q + i) = zc_hd C (zb_key (f q)) i := by
    intro l q hl hq i hi
    rw [fq l q (by omega) hq, hCC]
    exact (q3 l q (by omega) hq).2.2.2 hl i hi
  -- found
  have hit : ∀ l, l < 2 → gl_in ne_q I p = some l → gm_G 473 15 [some (.ref m), some (.int (Int32.ofNat p))] [] h Q := by
    intro l hl hin
    have hpl : p ∈ I l := ne_mem (gl_in_s hin).2
    have ez : zs_read S b = (zs_C_ S (zc_come (zc_leave (zc_hits_ C (zc_hits C + (Int32.ofNat 1))) b) 1 b), (Int32.ofNat 0), lm (zc_hd C (zb_key b)) 0 32) := by
      unfold zs_read
      rw [← hCC, if_pos (by rw [ein, hin]; rcases (show l = 0 ∨ l = 1 by omega) with u | u <;> rw [u] <;> simp)]
    rw [ez] at H
    have g1 : fr (tO m oRB fRB) h (hh_wi h m 47 (hh_i h m 47 + (Int32.ofNat 1))) := fr.f rfl
    refine w_473_15 R.1 ?_
    intro h1 e1
    subst e1
    have L1 : rL (hh_wi h m 47 (hh_i h m 47 + (Int32.ofNat 1))) m I := q1.fr (fr.f (O := []) (F := [47]) rfl) rfl rfl
    have w1 : gy_wf (hh_wi h m 47 (hh_i h m 47 + (Int32.ofNat 1))) := w.wi (fun z => by rw [R.1.1] at z; cases z) (fun z => by rw [R.1.1] at z; cases z) (fun z => by rw [R.1.1] at z; exact absurd z (by decide))
    refine gy_use w1 ?_
    refine t_leave (R.1.fr g1) L1 hp (fun h2 g2 L2 w2 => ?_)
    refine gy_use w2 ?_
    refine t_come (R.1.fr (g1.trans (g2.up rfl rfl))) L2 (by decide) hp (Nat.lt_of_le_of_lt (gl_lv_le ..) (by omega)) (fun h3 g3 L3 w3 => ?_)
    have g23 := g2.trans g3
    have g13 : fr (tO m oRB fRB) h h3 := g1.trans (g23.up rfl rfl)
    have e36 : hh_i h3 (m + 36) = hh_i h (m + 36) := by
      rw [g23.arr (o := 36) rfl, (fr.f (m := m) (O := []) (F := [47]) (h := h) (k := 47) (x := hh_i h m 47 + (Int32.ofNat 1)) rfl).arr (o := 36) rfl]
    -- the bytes
    have lp : ∀ d i h4, i + d = 32 → fr (tO m [29] []) h3 h4 → gy_wf h4 → ta_c h4 (m + 29) (lm (zc_hd C (zb_key b)) 0 i) → gm_G 473 38 [some (.ref m), some (.int (Int32.ofNat p)), none, some (.int (Int32.ofNat i))] [] h4 Q := by
      intro d
      induction d with
      | zero =>
        intro i h4 ei g4 w4 c4
        have ei : i = 32 := by omega
        subst ei
        have g14 : fr (tO m oRB fRB) h h4 := g13.trans (g4.up rfl rfl)
        refine w_473_38 (R.1.fr g14) ⟨fun _ => ?_, fun z => absurd z (by decide)⟩
        refine H (by show ¬ (Int32.ofNat 0) = (Int32.ofInt (-12)); decide) h4 w4 g14 ?_ rfl rfl ?_ ?_ (fun _ => ⟨c4, lm_len ..⟩)
        · have := R.2.2.1.fr (fr.f (m := m) (O := []) (F := [47]) (h := h) (k := 47) (x := hh_i h m 47 + (Int32.ofNat 1)) rfl) rfl rfl
          exact (this.fr g23 rfl rfl).fr g4 rfl rfl
        · have := R.2.2.2.2.2.2.2.2.fr (fr.f (m := m) (O := []) (F := [47]) (h := h) (k := 47) (x := hh_i h m 47 + (Int32.ofNat 1)) rfl) rfl rfl
          exact (this.fr g23 rfl rfl).fr g4 rfl rfl
        · refine mk h4 _ _ g14 (L3.fr g4 rfl rfl) ((rA.lv p).co 1 Ap) ?_ (fun l' q hl' hq i hi => ?_) ?_ ?_ ?_ ?_
          · have := (rF.lv inj rA Ap).co 1 p
            rw [fp] at this
            exact this
          · rw [g4.arr (o := 36) rfl, e36]
            show _ = zc_hd C (zb_key (f q)) i
            rcases gl_co_m hq with u | ⟨-, u⟩
            · exact held l' q hl' (gl_lv_m u).1 i hi
            · rw [u]; exact held l p hl hpl i hi
          · rw [g4.fld (f := 46) rfl, g23.fld (f := 46) rfl, hi_n (by omega)]; exact a46
          · exact a46'
          · rw [g4.fld (f := 47) rfl, g23.fld (f := 47) rfl, hi_e ⟨rfl, rfl⟩, a47]; rfl
          · rw [g4.fld (f := 48) rfl, g23.fld (f := 48) rfl, hi_n (by omega)]; exact a48
      | succ d ih =>
        intro i h4 ei g4 w4 c4
        have v : hh_i h4 (m + 36) (32 * p + i) = zc_hd C (zb_key b) i := by
          rw [g4.arr (o := 36) rfl, e36, held l p hl hpl i (by omega), fp]
        have gb : (zc_hd C (zb_key b) i).toInt8.toInt32 = zc_hd C (zb_key b) i := by
          rw [← v]
          exact w4.2.1 (m + 36) _ ((R.1.fr (g13.trans (g4.up (O' := oRB) (F' := fRB) rfl rfl))).2.2 36 (by decide)).1
        refine w_473_38 (R.1.fr (g13.trans (g4.up rfl rfl))) ?_
        simp (disch := omega) only [forall_eq, exists_eq_left, exists_eq_left', Option.some.injEq, ex_ix, i_add, i_mul, i_sub, i_lt, i_le, i_eq, i_tn, hi_e, hi_n, hj_e, hj_n, hi_wj, hj_wi, hr_wi, hr_wj, ht_wi, ht_wj, hl_wi, hl_wj, hz_wi, hz_wj, hs_wi, hs_wj, hi_wr, hj_wr, hr_e, hr_n, ht_wr, hl_wr, hz_wr, hs_wr, n_lt_t, n_lt_f, n_le_t, n_le_f, n_eq_t, n_eq_f, true_and, and_true, false_and, and_false, true_or, or_true, false_or, or_false, not_true_eq_false, not_false_eq_true, forall_const, implies_true, true_imp_iff, false_imp_iff, gs_t, reduceIte, ite_true, ite_false, v, gb]
        refine ih (i + 1) _ (by omega) (g4.trans (fr.a rfl)) ?_ ?_
        · exact w4.wi (fun _ => gb) (fun z => absurd (((R.1.fr (g13.trans (g4.up (O' := oRB) (F' := fRB) rfl rfl))).2.2 29 (by decide)).1.symm.trans z) (by decide)) (fun z => absurd (gy_z_lt z) (by rw [((R.1.fr (g13.trans (g4.up (O' := oRB) (F' := fRB) rfl rfl))).2.2 29 (by decide)).1]; decide))
        · rw [lm_S, Nat.zero_add]
          intro x hx
          rw [List.length_append, lm_len] at hx
          have hx : x < i + 1 := hx
          by_cases u : x = i
          · rw [hi_e ⟨rfl, u⟩, u, List.getD_eq_getElem?_getD, List.getElem?_append_right (by rw [lm_len]; exact Nat.le_refl _), lm_len, Nat.sub_self]
            rfl
          · rw [hi_n (by omega), List.getD_eq_getElem?_getD, List.getElem?_append_left (by rw [lm_len]; omega), ← List.getD_eq_getElem?_getD]
            exact c4 x (by rw [lm_len]; omega)
    exact lp 32 0 h3 rfl (fr.refl _ _) w3 (fun x hx => absurd hx (Nat.not_lt_zero _))
  obtain ⟨cin, hcin⟩ : ∃ cin, cin = gl_in ne_q I p := ⟨_, rfl⟩
  refine w_473_0 R.1 ?_
  refine t_inList R.1 q1 hp ?_
  rw [← hcin]
  by_cases hh : cin = some 0 ∨ cin = some 1
  · rcases hh with u | u
    · rw [u]
      exact ⟨fun _ => hit 0 (by decide) (hcin.symm.trans u), fun z => absurd rfl z⟩
    · rw [u]
      exact ⟨fun z => absurd z (by decide), fun _ => ⟨fun z => absurd rfl z, fun _ => hit 1 (by decide) (hcin.symm.trans u)⟩⟩
  have hne0 : ¬ oi (Int32.ofInt (-1)) cin = (Int32.ofNat 0) ∧ ¬ oi (Int32.ofInt (-1)) cin = (Int32.ofNat 1) := by
    cases u : cin with
    | none => exact ⟨by decide, by decide⟩
    | some l =>
      have hl := (gl_in_s (hcin.symm.trans u)).1
      rw [u] at hh
      refine ⟨fun z => hh (Or.inl ?_), fun z => hh (Or.inr ?_)⟩
      · rw [(i_eq (a := l) (b := 0) (by omega) (by decide)).mp z]
      · rw [(i_eq (a := l) (b := 1) (by omega) (by decide)).mp z]
  have hnh : ¬ (zc_in C b = some 0 ∨ zc_in C b = some 1) := by rw [ein, ← hcin]; exact hh
  refine ⟨fun z => absurd z hne0.1, fun _ => ⟨fun _ => ?_, fun z => absurd z hne0.2⟩⟩
  refine t_fromDisks R w K hp B hz hne (fun ef h1 w1 g1 RP1 RM1 => ?_) (fun o P' ef ol e1 e2 h1 w1 g1 RP1 RM1 c1 => ?_) (fun P' ef h1 w1 RX g1 => ?_)
  · -- it is lost
    refine ⟨fun z => absurd z (by decide), fun _ h5 e5 => ?_⟩
    subst e5
    have g2 : fr (tO m oRB fRB) h (hh_wi h1 m 48 (hh_i h1 m 48 + (Int32.ofNat 1))) := (g1.up rfl rfl).trans (fr.f rfl)
    have gs : fr (tO m [] [48]) h1 (hh_wi h1 m 48 (hh_i h1 m 48 + (Int32.ofNat 1))) := fr.f rfl
    have w2 : gy_wf (hh_wi h1 m 48 (hh_i h1 m 48 + (Int32.ofNat 1))) := w1.wi (fun z => by rw [(R.1.fr g1).1] at z; cases z) (fun z => by rw [(R.1.fr g1).1] at z; cases z) (fun z => by rw [(R.1.fr g1).1] at z; exact absurd z (by decide))
    have ez : zs_read S b = (zs_C_ (zs_err S b) (zc_miss_ C (zc_miss C + (Int32.ofNat 1))), (Int32.ofInt (-8)), []) := by
      unfold zs_read
      rw [← hCC, if_neg hnh, ef]
      dsimp only
      rw [if_neg (by decide), if_neg (by decide)]
    rw [ez] at H
    refine w_473_91 (R.1.fr g2) ⟨fun z => absurd z (by decide), fun _ => ?_⟩
    refine H (by show ¬ (Int32.ofInt (-8)) = (Int32.ofInt (-12)); decide) _ w2 g2 (RP1.fr gs rfl rfl) rfl rfl (RM1.fr gs rfl rfl) ?_ (fun z => absurd z (by show ¬ (Int32.ofInt (-8)) = (Int32.ofNat 0); decide))
    refine mk _ I _ g2 ((q1.fr g1 rfl rfl).fr gs rfl rfl) rA rF (fun l q hl hq i hi => ?_) ?_ a46' ?_ ?_
    · rw [gs.arr (o := 36) rfl, g1.arr (o := 36) rfl]; exact held l q hl hq i hi
    · rw [gs.fld (f := 46) rfl, g1.fld (f := 46) rfl]; exact a46
    · rw [gs.fld (f := 47) rfl, g1.fld (f := 47) rfl]; exact a47
    · rw [hi_e ⟨rfl, rfl⟩, g1.fld (f := 48) rfl, a48]; rfl
  · -- it is read
    refine ⟨fun z => absurd z (by decide), fun _ h2 e5 => ?_⟩
    have gs : fr (tO m [] [48]) h1 h2 := by rw [e5]; exact fr.f rfl
    have e48 : hh_i h2 m 48 = zc_miss C + (Int32.ofNat 1) := by rw [e5, hi_e ⟨rfl, rfl⟩, g1.fld (f := 48) rfl, a48]
    have w2 : gy_wf h2 := by
      rw [e5]
      exact w1.wi (fun z => by rw [(R.1.fr g1).1] at z; cases z) (fun z => by rw [(R.1.fr g1).1] at z; cases z) (fun z => by rw [(R.1.fr g1).1] at z; exact absurd z (by decide))
    have g2 : fr (tO m oRB fRB) h h2 := (g1.up rfl rfl).trans (gs.up rfl rfl)
    clear e5
    obtain ⟨C1, hC1⟩ : ∃ C1, C1 = zc_miss_ C (zc_miss C + (Int32.ofNat 1)) := ⟨_, rfl⟩
    have ez : zs_read S b = (zs_C_ (zs_P_ S P') (zc_hd_ (zc_missed C1 b) (fun q => if q = zb_key b then lf o else zc_hd C q)), (Int32.ofNat 0), o) := by
      unfold zs_read
      rw [← hCC, if_neg hnh, ef]
      dsimp only
      rw [if_neg (by decide), if_pos rfl, hC1]
    rw [ez] at H
    refine w_473_91 (R.1.fr g2) ⟨fun _ => ?_, fun z => absurd rfl z⟩
    -- all the lists' changes, from the heap with the bytes held
    have lists : ∀ h4, fr (tO m [36] []) h2 h4 → gy_wf h4 → (∀ x, hh_i h4 (m + 36) x = if 32 * p ≤ x ∧ x < 32 * p + 32 then lf o (x - 32 * p) else hh_i h (m + 36) x) → gm_G 473 100 [some (.ref m), some (.int (Int32.ofNat p)), some (.int (oi (Int32.ofInt (-1)) cin)), none, some (.int (Int32.ofNat 32))] [] h4 Q := by
      intro h4 g24 w4 h36
      have g4 : fr (tO m oRB fRB) h h4 := g2.trans (g24.up rfl rfl)
      have hT4 := R.1.fr g4
      have L4 : rL h4 m I := ((q1.fr g1 rfl rfl).fr gs rfl rfl).fr g24 rfl rfl
      have f46 : hh_i h4 m 46 = (Int32.ofNat (zc_aim C)) := by rw [g24.fld (f := 46) rfl, gs.fld (f := 46) rfl, g1.fld (f := 46) rfl]; exact a46
      have f47 : hh_i h4 m 47 = zc_hits C := by rw [g24.fld (f := 47) rfl, gs.fld (f := 47) rfl, g1.fld (f := 47) rfl]; exact a47
      have f48 : hh_i h4 m 48 = zc_miss C + (Int32.ofNat 1) := by rw [g24.fld (f := 48) rfl]; exact e48
      have l0 := (L4 0 (by decide)).1
      have l1 := (L4 1 (by decide)).1
      have l2 := (L4 2 (by decide)).1
      have l3 := (L4 3 (by decide)).1
      have S4 : rlS p I I := fun _ _ _ hq => Or.inr hq
      have rF1 : rlF f I (zc_ls C1) := by rw [hC1]; exact rF
      have fin : ∀ h5 I5, fr (tO m [32, 33] [46]) h4 h5 → gy_wf h5 → rL h5 m I5 → rlA A I5 → rlS p I I5 → rlF f I5 (zc_ls (zc_missed C1 b)) → hh_i h5 m 46 = (Int32.ofNat (zc_aim (zc_missed C1 b))) → zc_aim (zc_missed C1 b) ≤ 6 → zc_hits (zc_missed C1 b) = zc_hits C → zc_miss (zc_missed C1 b) = zc_miss C + (Int32.ofNat 1) → Q (.inl (some (.int (Int32.ofNat 0)))) h5 := by
        intro h5 I5 g5 w5 L5 A5 S5 F5 e46 e46' e47 e48'
        have g15 : fr (tO m oRB fRB) h h5 := g4.trans (g5.up rfl rfl)
        refine H (by show ¬ (Int32.ofNat 0) = (Int32.ofInt (-12)); decide) h5 w5 g15 (((RP1.fr gs rfl rfl).fr g24 rfl rfl).fr g5 rfl rfl) e1 e2 (((RM1.fr gs rfl rfl).fr g24 rfl rfl).fr g5 rfl rfl) ?_ (fun _ => ⟨?_, ol⟩)
        · refine mk h5 I5 _ g15 L5 A5 F5 (fun l q hl hq i hi => ?_) e46 e46' ?_ ?_
          · show _ = (if zb_key (f q) = zb_key b then lf o else zc_hd C (zb_key (f q))) i
            rw [g5.arr (o := 36) rfl, h36]
            by_cases y : q = p
            · rw [y, fp, if_pos rfl, if_pos (by omega), show 32 * p + i - 32 * p = i by omega]
            · have hq2 : q ∈ I l := (S5 l hl q hq).resolve_left y
              have hk : ¬ zb_key (f q) = zb_key b := by
                have := inj p q Ap (rA l (by omega) q hq2)
                unfold zb_eq ne_q at this
                rw [fp, show decide (p = q) = false from decide_eq_false (fun e => y e.symm)] at this
                exact fun e => absurd e.symm (of_decide_eq_false this)
              rw [if_neg (by omega), if_neg hk]
              exact held l q hl hq2 i hi
          · rw [g5.fld (f := 47) rfl, f47]; exact e47.symm
          · rw [g5.fld (f := 48) rfl, f48]; exact e48'.symm
        · refine c1.fr (A := fun _ _ => True) ?_
          rw [g5.arr (o := 29) rfl, g24.arr (o := 29) rfl, gs.arr (o := 29) rfl]
      have ein1 : zc_in C1 b = cin := by rw [hC1, hcin, ← ein]; rfl
      -- ghosts: more room, then into list 1
      have ghost : ∀ a g2 h5, a ≤ 6 → h5 = hh_wi h4 m 46 (Int32.ofNat a) → zc_missed C1 b = zc_come (zc_leave (zc_room (zc_aim_ C1 a) g2) b) 1 b → gm_G 375 0 [some (.ref m), some (.int (bi g2))] [] h5 (pV (fun h2 => gm_G 129 0 [some (.ref m), some (.int (Int32.ofNat p))] [] h2 (pV (fun h3 => gm_G 97 0 [some (.ref m), some (.int (Int32.ofNat 1)), some (.int (Int32.ofNat p))] [] h3 (pV (fun h4 => Q (.inl (some (.int (Int32.ofNat 0)))) h4) (fun _ _ => False))) (fun _ _ => False))) (fun _ _ => False)) := by
        intro a g2 h5 ha6 e5 em
        have g5 : fr (tO m [] [46]) h4 h5 := by rw [e5]; exact fr.f rfl
        have e46 : hh_i h5 m 46 = (Int32.ofNat a) := by rw [e5, hi_e ⟨rfl, rfl⟩]
        have w5 : gy_wf h5 := by
          rw [e5]
          exact w4.wi (fun z => by rw [hT4.1] at z; cases z) (fun z => by rw [hT4.1] at z; cases z) (fun z => by rw [hT4.1] at z; exact absurd z (by decide))
        obtain ⟨k1, k2, k3, k4⟩ := zc_room_k (zc_aim_ C1 a) g2
        refine gy_use w5 ?_
        refine t_makeRoom (aim := a) (hT4.fr g5) (L4.fr g5 rfl rfl) e46 ha6 (fun _ => by omega) (fun _ => by omega) (fun h6 g6 L6 w6 => ?_)
        refine gy_use w6 ?_
        refine t_leave ((hT4.fr g5).fr g6) L6 hp (fun h7 g7 L7 w7 => ?_)
        refine gy_use w7 ?_
        have hle := gl_room_le ne_q I a g2 (k := 1) (by decide)
        refine t_come (((hT4.fr g5).fr g6).fr g7) L7 (by decide) hp (Nat.lt_of_le_of_lt (gl_lv_le ..) (by omega)) (fun h8 g8 L8 w8 => ?_)
        have g58 : fr (tO m [32, 33] []) h5 h8 := (g6.trans g7).trans g8
        refine fin h8 _ ((g5.up rfl rfl).trans (g58.up rfl rfl)) w8 L8 (((rA.room a g2).lv p).co 1 Ap) (((S4.room a g2).lv p).co 1) ?_ ?_ ?_ ?_ ?_
        · rw [em]
          have := ((rF1.room inj rA a g2).lv inj (rA.room a g2) Ap).co 1 p
          rw [fp] at this
          show rlF f _ (gl_co (gl_lv zb_eq (zc_ls (zc_room (zc_aim_ C1 a) g2)) b) 1 b)
          rw [k1]
          exact this
        · rw [em, g58.fld (f := 46) rfl, e46]
          show _ = (Int32.ofNat (zc_aim (zc_room (zc_aim_ C1 a) g2)))
          rw [k2]
          rfl
        · rw [em]
          show zc_aim (zc_room (zc_aim_ C1 a) g2) ≤ 6
          rw [k2]
          exact ha6
        · rw [em]
          show zc_hits (zc_room (zc_aim_ C1 a) g2) = _
          rw [k3, hC1]
          rfl
        · rw [em]
          show zc_miss (zc_room (zc_aim_ C1 a) g2) = _
          rw [k4, hC1]
          rfl
      -- new ones into list 0
      have new : ∀ h5 I5 C5, fr (tO m [32, 33] []) h4 h5 → gy_wf h5 → rL h5 m I5 → rlA A I5 → rlS p I I5 → rlF f I5 (zc_ls C5) → (I5 0).length < 12 → zc_missed C1 b = zc_come C5 0 b → zc_aim C5 = zc_aim C → zc_hits C5 = zc_hits C → zc_miss C5 = zc_miss C + (Int32.ofNat 1) → gm_G 473 393 [some (.ref m), some (.int (Int32.ofNat p))] [] h5 Q := by
        intro h5 I5 C5 g5 w5 L5 A5 S5 F5 h12 em e1 e2 e3
        refine w_473_393 (hT4.fr g5) ?_
        refine gy_use w5 ?_
        refine t_come (hT4.fr g5) L5 (by decide) hp h12 (fun h6 g6 L6 w6 => ?_)
        have g56 := g5.trans g6
        refine fin h6 _ (g56.up rfl rfl) w6 L6 (A5.co 0 Ap) (S5.co 0) ?_ ?_ ?_ ?_ ?_
        · rw [em]
          have := F5.co 0 p
          rw [fp] at this
          exact this
        · rw [em, g56.fld (f := 46) rfl, f46]
          show _ = (Int32.ofNat (zc_aim C5))
          rw [e1]
        · rw [em]
          show zc_aim C5 ≤ 6
          rw [e1]; exact a46'
        · rw [em]; exact e2
        · rw [em]; exact e3
      -- room, then new
      have new2 : ∀ h5 I5 C5, fr (tO m [32, 33] []) h4 h5 → gy_wf h5 → rL h5 m I5 → rlA A I5 → rlS p I I5 → rlF f I5 (zc_ls C5) → (I5 0).length < 12 → (0 < (I5 0).length → (I5 2).length < 12) → (0 < (I5 1).length → (I5 3).length < 12) → zc_missed C1 b = zc_come (zc_room C5 false) 0 b → zc_aim C5 = zc_aim C → zc_hits C5 = zc_hits C → zc_miss C5 = zc_miss C + (Int32.ofNat 1) → gm_G 375 0 [some (.ref m), some (.int (Int32.ofNat 0))] [] h5 (pV (fun h7 => gm_G 473 393 [some (.ref m), some (.int (Int32.ofNat p))] [] h7 Q) (fun _ _ => False)) := by
        intro h5 I5 C5 g5 w5 L5 A5 S5 F5 h12 z2 z3 em e1 e2 e3
        obtain ⟨k1, k2, k3, k4⟩ := zc_room_k C5 false
        refine gy_use w5 ?_
        refine t_makeRoom (g2 := false) (aim := zc_aim C) (hT4.fr g5) L5 (by rw [g5.fld (f := 46) rfl]; exact f46) a46' z2 z3 (fun h6 g6 L6 w6 => ?_)
        have hle := gl_room_le ne_q I5 (zc_aim C) false (k := 0) (by decide)
        refine new h6 _ (zc_room C5 false) (g5.trans g6) w6 L6 (A5.room _ _) (S5.room _ _) ?_ (by omega) em (k2.trans e1) (k3.trans e2) (k4.trans e3)
        rw [k1, e1]
        exact F5.room inj A5 _ _
      have olds : ∀ l, l < 4 → ∀ q r, I l = q :: r → ∀ Q' : Int32 → hh_T → Prop, (∀ h5 v, fr (tO m [32, 33] []) h4 h5 → gy_wf h5 → rL h5 m (gl_old ne_q I l) → Q' v h5) → gm_G 293 0 [some (.ref m), some (.int (Int32.ofNat l))] [] h4 (pI Q' (fun _ _ => False)) := by
        intro l hl q r e Q' k
        refine gy_use w4 ?_
        refine t_oldest hT4 L4 hl e (fun h5 g5 L5 w5 => k h5 _ g5 w5 ?_)
        unfold gl_old
        rw [e]
        exact L5
      have k3 : ∀ l, zc_ls (zc_old C1 l) = gl_old zb_eq (zc_ls C1) l ∧ zc_aim (zc_old C1 l) = zc_aim C ∧ zc_hits (zc_old C1 l) = zc_hits C ∧ zc_miss (zc_old C1 l) = zc_miss C + (Int32.ofNat 1) := fun l => by
        obtain ⟨k1, k2, k3, k4⟩ := zc_old_k C1 l
        refine ⟨k1, k2.trans ?_, k3.trans ?_, k4.trans ?_⟩ <;> rw [hC1] <;> rfl
      have nn : ∀ l, l < 4 → zc_n C1 l = (I l).length := fun l hl => by rw [hC1]; exact ln l hl
      refine w_473_100 hT4 ⟨fun _ => ⟨fun x2 => ⟨fun x3 => ?_, fun x3 => ?_⟩, fun x2 => ?_⟩, fun z => absurd z (by decide)⟩
      · -- it is in no list
        have cn : cin = none := by
          cases u : cin with
          | none => rfl
          | some l =>
            exfalso
            have hl := (gl_in_s (hcin.symm.trans u)).1
            rw [u] at hh x2 x3
            rcases (show l = 0 ∨ l = 1 ∨ l = 2 ∨ l = 3 by omega) with v | v | v | v
            · exact hh (Or.inl (by rw [v]))
            · exact hh (Or.inr (by rw [v]))
            · exact x2 (by rw [v]; rfl)
            · exact x3 (by rw [v]; rfl)
        have em : zc_missed C1 b = zc_come (if (I 0).length + (I 2).length = 6 then (if 0 < (I 2).length then zc_room (zc_old C1 2) false else zc_old C1 0)
            else if 6 ≤ (I 0).length + (I 1).length + (I 2).length + (I 3).length then zc_room (if (I 0).length + (I 1).length + (I 2).length + (I 3).length = 12 then zc_old C1 3 else C1) false else C1) 0 b := by
          unfold zc_missed
          rw [ein1, cn, if_neg (by decide), if_neg (by decide), nn 0 (by decide), nn 1 (by decide), nn 2 (by decide), nn 3 (by decide)]
        have c1a : zc_aim C1 = zc_aim C := by rw [hC1]; rfl
        have c1h : zc_hits C1 = zc_hits C := by rw [hC1]; rfl
        have c1m : zc_miss C1 = zc_miss C + (Int32.ofNat 1) := by rw [hC1]; rfl
        rw [l0, l1, l2, l3, i_add, i_add, i_add, i_add, i_eq (by omega) (by decide), i_eq (by omega) (by decide), i_lt (by omega) (by decide), i_lt (by decide) (by omega)]
        refine ⟨fun y => ⟨fun y2 => ?_, fun y2 => ⟨fun y3 => ?_, fun y3 => ?_⟩⟩, fun y => ⟨fun y2 => ?_, fun y2 => ?_⟩⟩
        · rw [if_neg y, if_neg (by omega)] at em
          exact new h4 I C1 (fr.refl _ _) w4 L4 rA S4 rF1 (by omega) em c1a c1h c1m
        · rw [if_neg y, if_pos (by omega), if_neg y3] at em
          refine w_473_388 hT4 ?_
          exact new2 h4 I C1 (fr.refl _ _) w4 L4 rA S4 rF1 (by omega) (fun _ => by omega) (fun _ => by omega) em c1a c1h c1m
        · rw [if_neg y, if_pos (by omega), if_pos y3] at em
          cases e3 : I 3 with
          | nil => exfalso; rw [e3] at y3 n4; simp only [List.length_nil] at y3; omega
          | cons q t =>
            refine olds 3 (by decide) q t e3 _ (fun h5 v g5 w5 L5 => ?_)
            obtain ⟨j1, j2, j3, j4⟩ := k3 3
            have s0 := gl_old_le ne_q I 3 0
            have s1 := gl_old_le ne_q I 3 1
            have s2 := gl_old_le ne_q I 3 2
            have s3 := gl_old_le ne_q I 3 3
            refine w_473_388 (hT4.fr g5) ?_
            exact new2 h5 _ (zc_old C1 3) g5 w5 L5 (rA.old 3) (S4.old 3) (by rw [j1]; exact rF1.old inj rA (by decide)) (by omega) (fun _ => by omega) (fun _ => by omega) em j2 j3 j4
        · rw [if_pos y, if_neg y2] at em
          cases e0 : I 0 with
          | nil => exfalso; rw [e0] at y; simp only [List.length_nil] at y; omega
          | cons q t =>
            refine olds 0 (by decide) q t e0 _ (fun h5 v g5 w5 L5 => ?_)
            obtain ⟨j1, j2, j3, j4⟩ := k3 0
            have s0 := gl_old_le ne_q I 0 0
            exact new h5 _ (zc_old C1 0) g5 w5 L5 (rA.old 0) (S4.old 0) (by rw [j1]; exact rF1.old inj rA (by decide)) (by omega) em j2 j3 j4
        · rw [if_pos y, if_pos y2] at em
          cases e2' : I 2 with
          | nil => exact absurd y2 (by rw [e2']; decide)
          | cons q t =>
            refine olds 2 (by decide) q t e2' _ (fun h5 v g5 w5 L5 => ?_)
            obtain ⟨j1, j2, j3, j4⟩ := k3 2
            have s0 := gl_old_le ne_q I 2 0
            have s1 := gl_old_le ne_q I 2 1
            have s2 := gl_old_le ne_q I 2 2
            have s3 := gl_old_le ne_q I 2 3
            exact new2 h5 _ (zc_old C1 2) g5 w5 L5 (rA.old 2) (S4.old 2) (by rw [j1]; exact rF1.old inj rA (by decide)) (by omega) (fun _ => by omega) (fun _ => by omega) em j2 j3 j4
      · -- it is in list 3
        have cn : cin = some 3 := by
          cases u : cin with
          | none => rw [u] at x3; exact absurd x3 (by decide)
          | some l =>
            have hl := (gl_in_s (hcin.symm.trans u)).1
            rw [u] at x3
            rw [(i_eq (a := l) (b := 3) (by omega) (by decide)).mp x3]
        have hpl : p ∈ I 3 := ne_mem (gl_in_s (hcin.symm.trans cn)).2
        have n3 : 0 < (I 3).length := List.length_pos_of_mem hpl
        have em : zc_missed C1 b = zc_come (zc_leave (zc_room (zc_aim_ C1 (zc_aim C - max 1 ((I 2).length / (I 3).length))) true) b) 1 b := by
          unfold zc_missed
          rw [ein1, cn, if_neg (by decide), if_pos rfl, nn 2 (by decide), nn 3 (by decide), hC1]
          rfl
        have hd : (I 2).length / (I 3).length ≤ 12 := Nat.le_trans (Nat.div_le_self ..) (by omega)
        have h0 : ¬ (Int32.ofNat ((I 3).length)) = 0 := fun z => by
          have : (I 3).length = 0 := (i_eq (b := 0) (by omega) (by decide)).mp z
          omega
        have go : ∀ y, y = max 1 ((I 2).length / (I 3).length) → gm_G 473 243 [some (.ref m), some (.int (Int32.ofNat p))] [.int (Int32.ofNat y)] h4 Q := by
          intro y hy
          have go2 : ∀ a, a = zc_aim C - y → gm_G 473 267 [some (.ref m), some (.int (Int32.ofNat p))] [.int (Int32.ofNat a), .ref m] h4 Q := by
            intro a ha
            refine w_473_267 hT4 (fun h5 e5 => ?_)
            rw [← hy, ← ha] at em
            exact ghost a true h5 (by omega) e5 em
          refine w_473_243 hT4 ?_
          rw [f46]
          by_cases z : y ≤ zc_aim C
          · rw [i_sub z, i_n0 (by omega)]
            exact ⟨fun _ => go2 _ rfl, fun z => z.elim⟩
          · refine ⟨fun u => absurd ?_ u, fun _ => go2 0 (by omega)⟩
            rw [Int32.lt_iff_toInt_lt, i_sb _ _ (by omega) (by omega), Int32.toInt_ofNat_of_lt (by omega)]; omega
        rw [l2, l3, i_div (by omega) (by omega), i_lt (by decide) (by omega)]
        exact ⟨h0, fun z => go 1 (by omega), fun z => ⟨h0, go _ (by omega)⟩⟩
      · -- it is in list 2
        have cn : cin = some 2 := by
          cases u : cin with
          | none => rw [u] at x2; exact absurd x2 (by decide)
          | some l =>
            have hl := (gl_in_s (hcin.symm.trans u)).1
            rw [u] at x2
            rw [(i_eq (a := l) (b := 2) (by omega) (by decide)).mp x2]
        have hpl : p ∈ I 2 := ne_mem (gl_in_s (hcin.symm.trans cn)).2
        have n3 : 0 < (I 2).length := List.length_pos_of_mem hpl
        have em : zc_missed C1 b = zc_come (zc_leave (zc_room (zc_aim_ C1 (min 6 (zc_aim C + max 1 ((I 3).length / (I 2).length)))) false) b) 1 b := by
          unfold zc_missed
          rw [ein1, cn, if_pos rfl, nn 2 (by decide), nn 3 (by decide), hC1]
          rfl
        have hd : (I 3).length / (I 2).length ≤ 12 := Nat.le_trans (Nat.div_le_self ..) (by omega)
        have h0 : ¬ (Int32.ofNat ((I 2).length)) = 0 := fun z => by
          have : (I 2).length = 0 := (i_eq (b := 0) (by omega) (by decide)).mp z
          omega
        have go : ∀ y, y = max 1 ((I 3).length / (I 2).length) → gm_G 473 171 [some (.ref m), some (.int (Int32.ofNat p))] [.int (Int32.ofNat y)] h4 Q := by
          intro y hy
          have go2 : ∀ a, a = min 6 (zc_aim C + y) → gm_G 473 198 [some (.ref m), some (.int (Int32.ofNat p))] [.int (Int32.ofNat a), .ref m] h4 Q := by
            intro a ha
            refine w_473_198 hT4 (fun h5 e5 => ?_)
            rw [← hy, ← ha] at em
            exact ghost a false h5 (by omega) e5 em
          refine w_473_171 hT4 ?_
          rw [f46, i_add, i_lt (by decide) (by omega)]
          exact ⟨fun z => go2 _ (by omega), fun z => go2 6 (by omega)⟩
        rw [l2, l3, i_div (by omega) (by omega), i_lt (by decide) (by omega)]
        exact ⟨h0, fun z => go 1 (by omega), fun z => ⟨h0, go _ (by omega)⟩⟩
    have lp : ∀ d i h4, i + d = 32 → fr (tO m [36] []) h2 h4 → gy_wf h4 → (∀ x, hh_i h4 (m + 36) x = if 32 * p ≤ x ∧ x < 32 * p + i then lf o (x - 32 * p) else hh_i h (m + 36) x) → gm_G 473 100 [some (.ref m), some (.int (Int32.ofNat p)), some (.int (oi (Int32.ofInt (-1)) cin)), none, some (.int (Int32.ofNat i))] [] h4 Q := by
      intro d
      induction d with
      | zero =>
        intro i h4 ei g4 w4 c4
        have ei : i = 32 := by omega
        subst ei
        exact lists h4 g4 w4 c4
      | succ d ih =>
        intro i h4 ei g4 w4 c4
        have hT4 := R.1.fr (g2.trans (g4.up (O' := oRB) (F' := fRB) rfl rfl))
        have v : hh_i h4 (m + 29) i = lf o i := by
          rw [g4.arr (o := 29) rfl, gs.arr (o := 29) rfl]
          exact c1 i (by omega)
        have gb : (lf o i).toInt8.toInt32 = lf o i := by
          rw [← v]
          exact w4.2.1 (m + 29) _ (hT4.2.2 29 (by decide)).1
        refine w_473_100 hT4 ⟨fun z => absurd (by rw [i_lt (by omega) (by decide)]; omega) z, fun _ => ?_⟩
        simp (disch := omega) only [forall_eq, exists_eq_left, exists_eq_left', Option.some.injEq, ex_ix, i_add, i_mul, i_sub, i_lt, i_le, i_eq, i_tn, hi_e, hi_n, hj_e, hj_n, hi_wj, hj_wi, hr_wi, hr_wj, ht_wi, ht_wj, hl_wi, hl_wj, hz_wi, hz_wj, hs_wi, hs_wj, hi_wr, hj_wr, hr_e, hr_n, ht_wr, hl_wr, hz_wr, hs_wr, n_lt_t, n_lt_f, n_le_t, n_le_f, n_eq_t, n_eq_f, true_and, and_true, false_and, and_false, true_or, or_true, false_or, or_false, not_true_eq_false, not_false_eq_true, forall_const, implies_true, true_imp_iff, false_imp_iff, gs_t, reduceIte, ite_true, ite_false, v, gb]
        refine ih (i + 1) _ (by omega) (g4.trans (fr.a rfl)) ?_ (fun x => ?_)
        · exact w4.wi (fun _ => gb) (fun z => absurd ((hT4.2.2 36 (by decide)).1.symm.trans z) (by decide)) (fun z => absurd (gy_z_lt z) (by rw [(hT4.2.2 36 (by decide)).1]; decide))
        · by_cases u : x = 32 * p + i
          · rw [hi_e ⟨rfl, u⟩, if_pos (by omega), u, show 32 * p + i - 32 * p = i by omega]
          · rw [hi_n (by omega), c4 x]
            by_cases y : 32 * p ≤ x ∧ x < 32 * p + i
            · rw [if_pos y, if_pos (by omega)]
            · rw [if_neg y, if_neg (by omega)]
    exact lp 32 0 h2 rfl (fr.refl _ _) w2 (fun x => by rw [if_neg (by omega), gs.arr (o := 36) rfl, g1.arr (o := 36) rfl])
  · -- power failed
    refine ⟨fun _ => ?_, fun z => absurd rfl z⟩
    have ez : zs_read S b = (zs_fall (zs_P_ S P'), (Int32.ofInt (-12)), []) := by
      unfold zs_read
      rw [← hCC, if_neg hnh, ef]
      dsimp only
      rw [if_pos rfl]
    rw [ez] at H3
    exact w_473_91 RX.1 ⟨fun z => absurd z (by decide), fun _ => H3 rfl h1 w1 RX g1⟩
end TRb
