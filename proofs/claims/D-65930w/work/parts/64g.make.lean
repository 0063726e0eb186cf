/-! STAGE 3: an object is made -/
section MK
variable {h h' : hh_T} {m : Nat} {S : zS} {i t : Nat} {d : zD} {T : zT} {Q : Option Value ⊕ Nat → hh_T → Prop}
theorem t_clear2 {q : Nat} (hT : tw_ok h m) (hq : q < 1536) (H : ∀ h', fr (tO m oCl []) h h' → hh_i h' (m + 40) q = (Int32.ofNat 0) → hh_i h' (m + 45) q = (Int32.ofNat 0) → hh_i h' (m + 49) q = (Int32.ofNat 0) → (∀ o x, ([40, 44, 45, 48, 49].contains o) = true → ¬ x = q → hh_i h' (m + o) x = hh_i h (m + o) x) → (∀ x, hh_i h' (m + 55) x = if 8 * q ≤ x ∧ x < 8 * q + 8 then Int32.ofInt (-1) else hh_i h (m + 55) x) → Q (.inl none) h') : gm_G 95 0 [some (.ref m), some (.int (Int32.ofNat q))] [] h Q := by
  refine w_95_0 hT ?_
  simp (disch := omega) only [forall_eq, exists_eq_left, exists_eq_left', Option.some.injEq, ex_ix, i_add, i_mul, i_sub, i_lt, i_le, i_eq, i_tn, hi_e, hi_n, hj_e, hj_n, hi_wj, hj_wi, hr_wi, hr_wj, ht_wi, ht_wj, hl_wi, hl_wj, hz_wi, hz_wj, hs_wi, hs_wj, hi_wr, hj_wr, hr_e, hr_n, ht_wr, hl_wr, hz_wr, hs_wr, n_lt_t, n_lt_f, n_le_t, n_le_f, n_eq_t, n_eq_f, true_and, and_true, false_and, and_false, true_or, or_true, false_or, or_false, not_true_eq_false, not_false_eq_true, forall_const, implies_true, true_imp_iff, false_imp_iff, gs_t, reduceIte, ite_true, ite_false]
  have g0 : fr (tO m oCl []) h (hh_wi (hh_wi (hh_wi (hh_wi (hh_wi h (m + 40) q (Int32.ofNat 0)) (m + 49) q (Int32.ofNat 0)) (m + 45) q (Int32.ofNat 0)) (m + 44) q (Int32.ofNat 0)) (m + 48) q (Int32.ofNat 0)) := ((((fr.a rfl).trans (fr.a rfl)).trans (fr.a rfl)).trans (fr.a rfl)).trans (fr.a rfl)
  refine lp_fill (m := m) (o := 55) (b := 8 * q) (n := 8) (fun i => [some (.ref m), some (.int (Int32.ofNat q)), some (.int (Int32.ofNat i))]) (fun _ => Int32.ofInt (-1)) (by decide) (fun i h1 hi g1 _ k => ?_) (fun h1 g1 e => ?_)
  · refine w_95_37 ((hT.fr g0).fr g1) ?_
    simp (disch := omega) only [forall_eq, exists_eq_left, exists_eq_left', Option.some.injEq, ex_ix, i_add, i_mul, i_sub, i_lt, i_le, i_eq, i_tn, hi_e, hi_n, hj_e, hj_n, hi_wj, hj_wi, hr_wi, hr_wj, ht_wi, ht_wj, hl_wi, hl_wj, hz_wi, hz_wj, hs_wi, hs_wj, hi_wr, hj_wr, hr_e, hr_n, ht_wr, hl_wr, hz_wr, hs_wr, n_lt_t, n_lt_f, n_le_t, n_le_f, n_eq_t, n_eq_f, true_and, and_true, false_and, and_false, true_or, or_true, false_or, or_false, not_true_eq_false, not_false_eq_true, forall_const, implies_true, true_imp_iff, false_imp_iff, gs_t, reduceIte, ite_true, ite_false]
    exact k
  · refine w_95_37 ((hT.fr g0).fr g1) ⟨fun _ => ?_, fun z => absurd z (by decide)⟩
    refine H h1 (g0.trans (g1.up rfl rfl)) ?_ ?_ ?_ (fun o x ho hx => ?_) (fun x => ?_)
    · rw [g1.arr (o := 40) rfl, hi_n (by omega), hi_n (by omega), hi_n (by omega), hi_n (by omega), hi_e ⟨rfl, rfl⟩]
    · rw [g1.arr (o := 45) rfl, hi_n (by omega), hi_n (by omega), hi_e ⟨rfl, rfl⟩]
    · rw [g1.arr (o := 49) rfl, hi_n (by omega), hi_n (by omega), hi_n (by omega), hi_e ⟨rfl, rfl⟩]
    · have : o = 40 ∨ o = 44 ∨ o = 45 ∨ o = 48 ∨ o = 49 := by simpa using ho
      rw [g1.arrs (P := fun o => !(Nat.beq o 55)) rfl (by rcases this with u | u | u | u | u <;> rw [u] <;> rfl) (by omega), hi_n (by omega), hi_n (by omega), hi_n (by omega), hi_n (by omega), hi_n (by omega)]
    · rw [e x]
      split
      · rfl
      · rw [hi_n (by omega), hi_n (by omega), hi_n (by omega), hi_n (by omega), hi_n (by omega)]
def oMk : List Nat := [40, 41, 42, 43, 44, 45, 46, 47, 48, 49, 55, 57, 58]
/-- a new object stands in an own tree -/
theorem rOw_mk {ob fo : Nat} {l : List Nat} {ph : zBy} (R : rOw h m S i t d T) (up : zs_up S = true) (hi : i < 8) (hob : ob < 16) (hfo : fo < 16) (g : fr (tO m oMk []) h h') (hma : zt_ma T < 2147483000)
    (x4 : ∀ o x, 40 ≤ o → o < 50 → ¬ x = 16 * t + ob → hh_i h' (m + o) x = hh_i h (m + o) x) (x55 : ∀ x, hh_i h' (m + 55) x = if 8 * (16 * t + ob) ≤ x ∧ x < 8 * (16 * t + ob) + 8 then Int32.ofInt (-1) else hh_i h (m + 55) x) (x57 : ∀ x, ¬ x / 24 = 16 * t + ob → hh_i h' (m + 57) x = hh_i h (m + 57) x) (x58 : ∀ x, hh_i h' (m + 58) x = if x = t then (Int32.ofNat (zt_ma T + 1)) else hh_i h (m + 58) x)
    (hv : ∀ f, f < 8 → hh_i h' (m + (40 + f)) (16 * t + ob) = (Int32.ofNat (l.getD f 0)) ∧ l.getD f 0 < 2147483648) (k1 : 1 ≤ l.getD 0 0) (k3 : l.getD 0 0 ≤ 3) (l2 : l.getD 2 0 < 8) (l3 : l.getD 3 0 < 8) (l5 : l.getD 5 0 = ph.length) (hph : ph.length ≤ 24) (hp2 : ¬ l.getD 0 0 = 3 → ph = []) (e48 : hh_i h' (m + 48) (16 * t + ob) = (Int32.ofNat fo)) (e49 : hh_i h' (m + 49) (16 * t + ob) = (Int32.ofNat 0)) (e57 : ∀ x, x < ph.length → hh_i h' (m + 57) (24 * (16 * t + ob) + x) = lf ph x) :
    rOw h' m S i t d (zt_ma T + 1, fu (zt_ob T) ob (some (zn_ls l, [], [], fo, ph, fun _ => none))) := by
  have TT := R.2.2.2.1
  have tbk : ∀ p b0, tb h m p b0 → tb h' m p b0 := fun p b0 B => tb_f8 B g rfl
  have s2 : ∀ q, ¬ q = 16 * t + ob → so h h' m q q := fun q hq => by
    refine ⟨fun o h1 h2 => x4 o q h1 h2 hq, fun o k h1 h2 _ => ?_, fun o k h1 h2 hk => ?_, fun k _ => by rw [g.arr (o := 56) rfl], fun k hk => x57 _ (by omega)⟩
    · rw [g.arrs (P := fun o => Nat.ble 50 o && Nat.ble o 52) rfl (by rw [Bool.and_eq_true, Nat.ble_eq, Nat.ble_eq]; omega) (by omega)]
    · rcases (show o = 53 ∨ o = 54 ∨ o = 55 by omega) with u | u | u <;> subst u
      · rw [g.arr (o := 53) rfl]
      · rw [g.arr (o := 54) rfl]
      · rw [x55, if_neg (by omega)]
  refine rOw_tt R up hi g rfl rfl (fun q hq => s2 q (by omega)) (fun t1 ht1 => by rw [x58, if_neg ht1]) ⟨TT.1, by rw [x58, if_pos rfl]; rfl, by show zt_ma T + 1 < _; omega, fun o' ho' => ?_⟩ (fun p hp l => ?_)
  · show (fu (zt_ob T) ob _ o' = none ∧ _) ∨ ∃ N, fu (zt_ob T) ob _ o' = some N ∧ _
    by_cases y : o' = ob
    · subst y
      rw [fu, if_pos rfl]
      refine Or.inr ⟨_, rfl, fun f hf => hv f hf, k1, by show l.getD 0 0 ≤ 4; omega, l2, l3, by show l.getD 5 0 ≤ 256; omega, e49, Nat.zero_le _, fun k hk => absurd hk (Nat.not_lt_zero _), fun z => ⟨e48, hfo, ?_, Nat.zero_le _, fun j hj => absurd hj (Nat.not_lt_zero _), fun e he => absurd he (List.not_mem_nil)⟩, fun z => ⟨l5, hph, e57⟩, fun k hk => Or.inl ⟨rfl, ?_⟩⟩
      · have z : l.getD 0 0 = 2 := z
        show l.getD 5 0 = 0
        rw [l5, hp2 (by omega)]
        rfl
      · rw [x55, if_pos (by omega)]
    · rw [fu, if_neg y]
      have s := s2 (16 * t + o') (by omega)
      rcases TT.2.2.2 o' ho' with ⟨z1, z2⟩ | ⟨N0, z1, z2⟩
      · exact Or.inl ⟨z1, by rw [s.1 40 (by decide) (by decide)]; exact z2⟩
      · exact Or.inr ⟨N0, z1, tn_so s (fun k p b0 _ _ _ B => tbk p b0 B) z2⟩
  · obtain ⟨o', k, o1, k1, q1, q2⟩ := l
    by_cases y : o' = ob
    · subst y
      rw [x55, if_pos (by omega)] at q2
      exact absurd q2.symm (i_nm1 (by omega))
    · have s := s2 (16 * t + o') (by omega)
      rw [s.1 40 (by decide) (by decide)] at q1
      rw [s.2.2.1 55 k (by decide) (by decide) k1] at q2
      exact ⟨o', k, o1, k1, q1, q2⟩
theorem t_doMake {fo ob kind mode b1 a k b2 pa pn : Nat} {Nf : zN} {na : Int64} {rp : Bool} (R : rTq h m S) (w : gy_wf h) (N : zs_nt S d) (hi : i < 8) (D : td h m i d) (e111 : hh_i h m 111 = bi rp) (hfo : fo < 16) (hob : ob < 16) (eF : zt_ob (zd_tr d) fo = some Nf) (k2 : zn_at Nf 0 = 2) (h8 : zn_at Nf 5 < 8) (eN : zt_ob (zd_tr d) ob = none) (hma : zt_ma (zd_tr d) < 2147483000) (hk1 : 1 ≤ kind) (hk3 : kind ≤ 3) (hmo : mode < 1000) (B : by_ok h m b1) (hl : a + k ≤ hh_ln h b1) (hk : nm_ok (hh_i h b1) a k = true) (hna : nm_v (hh_i h b1) a k = na)
    (B2 : by_ok h m b2) (hl2 : pa + pn ≤ hh_ln h b2) (hpn : pn ≤ 24) (hp3 : ¬ kind = 3 → pn = 0)
    (H : ∀ h', gy_wf h' → fr (tO m oDo fDo) h h' → rTq h' m (zs_tl1 rp (zs_trc (zs_row S (zd_no d) (zx_ch [1, fo, ob, kind, mode, 0, zs_ck S, zs_ac S] na 0 (lm (hh_i h b2) pa pn)) (zs_pm S d rp).1) (zd_no d) (zt_make (zd_tr d) fo ob kind mode (zs_ac S) (zs_ck S) na (lm (hh_i h b2) pa pn))) (zd_no d) fo ob 1) → hh_i h' m 112 = (if (zs_pm S d rp).2 then (Int32.ofNat 1) else hh_i h m 112) → Q (.inl none) h') : gm_G 437 0 [some (.ref m), some (.int (Int32.ofNat i)), some (.int (Int32.ofNat fo)), some (.int (Int32.ofNat ob)), some (.int (Int32.ofNat kind)), some (.int (Int32.ofNat mode)), some (.ref b1), some (.int (Int32.ofNat a)), some (.int (Int32.ofNat k)), some (.ref b2), some (.int (Int32.ofNat pa)), some (.int (Int32.ofNat pn))] [] h Q := by
  obtain ⟨n1, n2, n3, n4, n5, n6, n7, n8, n9⟩ := id N
  have hne : ¬ fo = ob := fun e => by rw [e, eN] at eF; cases eF
  have hk8 := (nm_ok_inv hk).2.1
  have hck : zs_ck S ≤ 2000000000 := R.2.1.2.2.2.2.2.2.2.1
  have hac : zs_ac S < 8 := R.2.1.2.2.2.2.2.2.2.2.2.1
  have Bb : ∀ x, gy_b (hh_i h b1 x) := fun x => w.2.1 _ _ B.1
  have Bb2 : ∀ x, gy_b (hh_i h b2 x) := fun x => w.2.1 _ _ B2.1
  obtain ⟨ph, eph⟩ : ∃ ph, ph = lm (hh_i h b2) pa pn := ⟨_, rfl⟩
  have lph : ph.length = pn := by rw [eph, lm_len]
  rw [← eph] at H
  refine gy_use w ?_
  refine w_437_0 R.1 ?_
  refine t_beginp (f1 := fun _ => 0) (f2 := fun _ => 0) R w N hi D e111 (fun h1 w1 PB => ?_)
  have hT1 := R.1.fr PB.1
  obtain ⟨eb1, B1⟩ := B.out R.1 PB.1 rfl
  refine t_noteA hT1 w1 hi PB B1.1 (by rw [PB.1.ln]; exact hl) B1.2.1 (by omega) (fun h2 w2 g2 PB2 => ?_)
  rw [eb1] at PB2
  obtain ⟨eb2, B22⟩ := B2.out R.1 PB2.1 rfl
  refine t_noteB (hT1.fr g2) w2 hi PB2 B22.1 (by rw [PB2.1.ln]; exact hl2) B22.2.1 (by omega) (fun h3 w3 g3 PB3 => ?_)
  rw [eb2] at PB3
  obtain ⟨R3, g03, e112⟩ := rTq_pb (n1 := na) (n2 := 0) (b := ph) R N hi D PB3 (fun f hf => by
    rcases (show f = 0 ∨ f = 1 ∨ f = 2 ∨ f = 3 ∨ f = 4 ∨ f = 5 ∨ f = 6 ∨ f = 7 by omega) with u | u | u | u | u | u | u | u <;> subst u
    · exact (by decide : 1 < 2147483648)
    · exact (by omega : fo < 2147483648)
    · exact (by omega : ob < 2147483648)
    · exact (by omega : kind < 2147483648)
    · exact (by omega : mode < 2147483648)
    · exact (by decide : 0 < 2147483648)
    · exact (by omega : zs_ck S < 2147483648)
    · exact (by omega : zs_ac S < 2147483648)) (show 1 ≤ 1 by decide) (show 1 ≤ 11 by decide) hpn (by omega) (fun _ => by
      obtain ⟨z1, z2⟩ := nm_cg (f := hh_i h b1) (g := fun x => hh_i h b1 (a + x)) (p := a) (q := 0) (n := k) (fun x hx => by rw [Nat.zero_add])
      exact ⟨z1.trans hk, z2.trans hna⟩) (fun q => absurd q (show ¬ 1 = 4 by decide)) (fun _ => by
      rw [eph]
      exact lm_cg2 pn pa 0 (fun x _ => by rw [Nat.zero_add])) (fun q => by
      rcases q with q | q
      · exact absurd q (show ¬ 1 = 7 by decide)
      · exact absurd q.1 (show ¬ 1 = 11 by decide)) (fun q => by
      rcases q with q | q
      · exact absurd q (show ¬ 1 = 2 by decide)
      · exact absurd q (show ¬ 1 = 3 by decide)) (fun x _ => Bb _) (fun x _ => Bb2 _) w3
  have D3 : td h3 m i d := D.sm (F := f0) (g03.sm rfl rfl)
  refine t_ownq R3 w3 n1 n9 hi D3 (fun h4 t' w4 g4 W4 => ?_)
  have ht := W4.2.2.2.1.1
  have g04 : fr (tO m oDo fDo) h h4 := (g03.up rfl rfl).trans (g4.up rfl rfl)
  have hT4 := R.1.fr g04
  obtain ⟨eb4, B4⟩ := B.out R.1 g04 rfl
  obtain ⟨ec4, C4⟩ := B2.out R.1 g04 rfl
  have F4 := rOw_N W4 hfo eF
  have enf : zt_n (zd_tr d) fo = Nf := by unfold zt_n; rw [eF]; rfl
  have em : (Int32.ofNat 16) * (Int32.ofNat t') + (Int32.ofNat fo) = (Int32.ofNat (16 * t' + fo)) := by rw [i_mul, i_add]
  have em2 : (Int32.ofNat 16) * (Int32.ofNat t') + (Int32.ofNat ob) = (Int32.ofNat (16 * t' + ob)) := by rw [i_mul, i_add]
  obtain ⟨q, eq⟩ : ∃ q, q = 16 * t' + ob := ⟨_, rfl⟩
  have hq : q < 1536 := by omega
  rw [← eq] at em2
  -- behind the new object
  have go : ∀ hX, fr (tO m oMk []) h4 hX → (gy_wf hX) → rOw hX m (zs_row S (zd_no d) (zx_ch [1, fo, ob, kind, mode, 0, zs_ck S, zs_ac S] na 0 ph) (zs_pm S d rp).1) i t' d (zt_ma (zd_tr d) + 1, fu (zt_ob (zd_tr d)) ob (some (zn_ls [kind, mode, zs_ac S, zn_at Nf 3, 1, ph.length, zs_ck S, zt_ma (zd_tr d)], [], [], fo, ph, fun _ => none))) → gm_G 437 213 [some (.ref m), some (.int (Int32.ofNat i)), some (.int (Int32.ofNat fo)), some (.int (Int32.ofNat ob)), none, none, some (.ref b1), some (.int (Int32.ofNat a)), some (.int (Int32.ofNat k)), none, none, none, none, none, some (.int (Int32.ofNat ((16 * t' + fo))))] [] hX (fun r h' => gy_wf h' → Q r h') := by
    intro hX gX wX WX
    obtain ⟨ebX, BX⟩ := B4.out hT4 gX rfl
    rw [eb4] at ebX
    have eX : zt_ob (zt_ma (zd_tr d) + 1, fu (zt_ob (zd_tr d)) ob (some (zn_ls [kind, mode, zs_ac S, zn_at Nf 3, 1, ph.length, zs_ck S, zt_ma (zd_tr d)], [], [], fo, ph, fun _ => none))) fo = some Nf := (if_neg hne).trans eF
    refine w_437_213 WX.1.1 ?_
    refine ow_add (na := na) WX wX n1 hi hfo hob eX k2 h8 BX.1 (by rw [gX.ln, g04.ln]; exact hl) BX.2.1 BX.2.2.1 (by rw [ebX]; exact hk) (by rw [ebX]; exact hna) (fun h5 g5 W5 => ?_)
    have e5 : zt_ob (zt_put (zt_ma (zd_tr d) + 1, fu (zt_ob (zd_tr d)) ob (some (zn_ls [kind, mode, zs_ac S, zn_at Nf 3, 1, ph.length, zs_ck S, zt_ma (zd_tr d)], [], [], fo, ph, fun _ => none))) fo (zn_ad0 Nf na ob)) fo = some (zn_ad0 Nf na ob) := if_pos rfl
    show gm_G 93 0 _ [] h5 _
    refine ow_time W5 n1 hi hfo e5 (fun h6 g6 W6 => ?_)
    have eT : zt_put (zt_put (zt_ma (zd_tr d) + 1, fu (zt_ob (zd_tr d)) ob (some (zn_ls [kind, mode, zs_ac S, zn_at Nf 3, 1, ph.length, zs_ck S, zt_ma (zd_tr d)], [], [], fo, ph, fun _ => none))) fo (zn_ad0 Nf na ob)) fo (zn_tm (zn_ad0 Nf na ob) (zs_ck S)) = zt_make (zd_tr d) fo ob kind mode (zs_ac S) (zs_ck S) na ph := by
      unfold zt_make
      rw [enf]
      show (zt_ma (zd_tr d) + 1, fu (fu (fu (zt_ob (zd_tr d)) ob _) fo _) fo _) = (zt_ma (zd_tr d) + 1, fu (fu (zt_ob (zd_tr d)) fo _) ob _)
      congr 1
      funext x
      unfold fu
      by_cases u : x = fo
      · have u2 : ¬ x = ob := fun z => hne (u.symm.trans z)
        simp only [if_pos u, if_neg u2]
        rfl
      · simp only [if_neg u]
    rw [← eT] at H
    refine ow_tell W6 (by rw [g6.fld (f := 111) rfl, g5.fld (f := 111) rfl, gX.fld (f := 111) rfl, g04.fld (f := 111) rfl]; exact e111) hi hfo hob (by decide) (fun h7 g7 R7 w7 => ?_)
    refine H h7 w7 (g04.trans ((gX.up rfl rfl).trans ((g5.up rfl rfl).trans ((g6.up rfl rfl).trans (g7.up rfl rfl))))) R7 ?_
    rw [g7.fld (f := 112) rfl, g6.fld (f := 112) rfl, g5.fld (f := 112) rfl, gX.fld (f := 112) rfl, g4.fld (f := 112) rfl]
    exact e112
  show gm_G 95 0 _ [] h4 _
  rw [em2]
  refine gy_use w4 ?_
  refine t_clear2 hT4 hq (fun h6 g6 c40 c45 c49 cO c55 w6 => ?_)
  have xq : gm_ix (Int32.ofNat q) q 1536 := ix_n hq (by omega)
  have xt : gm_ix (Int32.ofNat t') t' 96 := ix_n ht (by omega)
  refine ⟨q, xq, fun ha aa => ⟨q, xq, fun hb ab => ⟨q, xq, fun hc ac => ⟨16 * t' + fo, by rw [em]; exact ix_n (by omega) (by omega), q, xq, fun hd ad => ⟨q, xq, fun he ae => ?_⟩⟩⟩⟩⟩
  refine ⟨q, xq, fun hf af => ⟨t', xt, q, xq, fun hg ag => ⟨t', xt, t', xt, fun hj aj => ⟨q, xq, fun hk' ak => ?_⟩⟩⟩⟩
  have e5 : hh_i h4 m 5 = (Int32.ofNat (zs_ac S)) := W4.1.2.1.2.2.2.2.2.2.2.2.1
  have e4 : hh_i h4 m 4 = (Int32.ofNat (zs_ck S)) := W4.1.2.1.2.2.2.2.2.2.1
  have e58 : hh_i h4 (m + 58) t' = (Int32.ofNat (zt_ma (zd_tr d))) := W4.2.2.2.1.2.1
  have e43 : hh_i h4 (m + 43) (16 * t' + fo) = (Int32.ofNat (zn_at Nf 3)) := (F4.1 3 (by decide)).1
  have lcl : zn_at Nf 3 < 8 := F4.2.2.2.2.1
  rw [show hh_i hb m 5 = (Int32.ofNat (zs_ac S)) by rw [ab, hi_n (by omega), aa, hi_n (by omega), g6.fld (f := 5) rfl]; exact e5] at ac
  rw [show hh_i hc (m + 43) (16 * t' + fo) = (Int32.ofNat (zn_at Nf 3)) by rw [ac, hi_n (by omega), ab, hi_n (by omega), aa, hi_n (by omega), g6.arr (o := 43) rfl]; exact e43] at ad
  rw [show hh_i he m 4 = (Int32.ofNat (zs_ck S)) by rw [ae, hi_n (by omega), ad, hi_n (by omega), ac, hi_n (by omega), ab, hi_n (by omega), aa, hi_n (by omega), g6.fld (f := 4) rfl]; exact e4] at af
  have f58 : hh_i hf (m + 58) t' = (Int32.ofNat (zt_ma (zd_tr d))) := by rw [af, hi_n (by omega), ae, hi_n (by omega), ad, hi_n (by omega), ac, hi_n (by omega), ab, hi_n (by omega), aa, hi_n (by omega), g6.arr (o := 58) rfl]; exact e58
  rw [f58] at ag
  rw [show hh_i hg (m + 58) t' = (Int32.ofNat (zt_ma (zd_tr d))) by rw [ag, hi_n (by omega)]; exact f58, i_add] at aj
  have g6k : fr (tO m [40, 41, 42, 43, 44, 46, 47, 48, 58] []) h6 hk' := by rw [ak, aj, ag, af, ae, ad, ac, ab, aa]; exact ((((((((fr.a rfl).trans (fr.a rfl)).trans (fr.a rfl)).trans (fr.a rfl)).trans (fr.a rfl)).trans (fr.a rfl)).trans (fr.a rfl)).trans (fr.a rfl)).trans (fr.a rfl)
  have hTk := (hT4.fr g6).fr g6k
  have u40 : hh_i hk' (m + 40) q = (Int32.ofNat kind) := by rw [ak, hi_n (by omega), aj, hi_n (by omega), ag, hi_n (by omega), af, hi_n (by omega), ae, hi_n (by omega), ad, hi_n (by omega), ac, hi_n (by omega), ab, hi_n (by omega), aa, hi_e ⟨rfl, rfl⟩]
  have u41 : hh_i hk' (m + 41) q = (Int32.ofNat mode) := by rw [ak, hi_n (by omega), aj, hi_n (by omega), ag, hi_n (by omega), af, hi_n (by omega), ae, hi_n (by omega), ad, hi_n (by omega), ac, hi_n (by omega), ab, hi_e ⟨rfl, rfl⟩]
  have u42 : hh_i hk' (m + 42) q = (Int32.ofNat (zs_ac S)) := by rw [ak, hi_n (by omega), aj, hi_n (by omega), ag, hi_n (by omega), af, hi_n (by omega), ae, hi_n (by omega), ad, hi_n (by omega), ac, hi_e ⟨rfl, rfl⟩]
  have u43 : hh_i hk' (m + 43) q = (Int32.ofNat (zn_at Nf 3)) := by rw [ak, hi_n (by omega), aj, hi_n (by omega), ag, hi_n (by omega), af, hi_n (by omega), ae, hi_n (by omega), ad, hi_e ⟨rfl, rfl⟩]
  have u44 : hh_i hk' (m + 44) q = (Int32.ofNat 1) := by rw [ak, hi_n (by omega), aj, hi_n (by omega), ag, hi_n (by omega), af, hi_n (by omega), ae, hi_e ⟨rfl, rfl⟩]
  have u46 : hh_i hk' (m + 46) q = (Int32.ofNat (zs_ck S)) := by rw [ak, hi_n (by omega), aj, hi_n (by omega), ag, hi_n (by omega), af, hi_e ⟨rfl, rfl⟩]
  have u47 : hh_i hk' (m + 47) q = (Int32.ofNat (zt_ma (zd_tr d))) := by rw [ak, hi_n (by omega), aj, hi_n (by omega), ag, hi_e ⟨rfl, rfl⟩]
  have u48 : hh_i hk' (m + 48) q = (Int32.ofNat fo) := by rw [ak, hi_e ⟨rfl, rfl⟩]
  have u58 : ∀ x, hh_i hk' (m + 58) x = if x = t' then (Int32.ofNat (zt_ma (zd_tr d) + 1)) else hh_i h4 (m + 58) x := fun x => by
    rw [ak, hi_n (by omega), aj]
    by_cases y : x = t'
    · rw [hi_e ⟨rfl, y⟩, if_pos y]
    · rw [hi_n (by omega), if_neg y, ag, hi_n (by omega), af, hi_n (by omega), ae, hi_n (by omega), ad, hi_n (by omega), ac, hi_n (by omega), ab, hi_n (by omega), aa, hi_n (by omega), g6.arr (o := 58) rfl]
  have uo : ∀ o x, 40 ≤ o → o < 50 → ¬ x = q → hh_i hk' (m + o) x = hh_i h4 (m + o) x := fun o x h1 h2 hx => by
    rw [ak, hi_n (by omega), aj, hi_n (by omega), ag, hi_n (by omega), af, hi_n (by omega), ae, hi_n (by omega), ad, hi_n (by omega), ac, hi_n (by omega), ab, hi_n (by omega), aa, hi_n (by omega)]
    rcases (show o = 40 ∨ o = 41 ∨ o = 42 ∨ o = 43 ∨ o = 44 ∨ o = 45 ∨ o = 46 ∨ o = 47 ∨ o = 48 ∨ o = 49 by omega) with u | u | u | u | u | u | u | u | u | u <;> subst u
    · exact cO 40 x rfl hx
    · rw [g6.arr (o := 41) rfl]
    · rw [g6.arr (o := 42) rfl]
    · rw [g6.arr (o := 43) rfl]
    · exact cO 44 x rfl hx
    · exact cO 45 x rfl hx
    · rw [g6.arr (o := 46) rfl]
    · rw [g6.arr (o := 47) rfl]
    · exact cO 48 x rfl hx
    · exact cO 49 x rfl hx
  have fin : ∀ hX, fr (tO m [45, 57] []) hk' hX → hh_i hX (m + 45) q = (Int32.ofNat pn) → (∀ x, ¬ x = q → hh_i hX (m + 45) x = hh_i hk' (m + 45) x) → (∀ x, x < pn → hh_i hX (m + 57) (24 * q + x) = lf ph x) → (∀ x, ¬ x / 24 = q → hh_i hX (m + 57) x = hh_i hk' (m + 57) x) → (∀ x, gy_b (hh_i hX (m + 57) x)) → gm_G 437 213 [some (.ref m), some (.int (Int32.ofNat i)), some (.int (Int32.ofNat fo)), some (.int (Int32.ofNat ob)), none, none, some (.ref b1), some (.int (Int32.ofNat a)), some (.int (Int32.ofNat k)), none, none, none, none, none, some (.int (Int32.ofNat ((16 * t' + fo))))] [] hX (fun r h' => gy_wf h' → Q r h') := by
    intro hX gX v45 o45 v57 o57 b57
    have g4X : fr (tO m oMk []) h4 hX := (g6.up rfl rfl).trans ((g6k.up rfl rfl).trans (gX.up rfl rfl))
    have g6X : fr (tO m oMk []) h6 hX := (g6k.up rfl rfl).trans (gX.up rfl rfl)
    have wX : gy_wf hX := g6X.wf w6 (hT4.fr g6) (fun o ho e x => by
      by_cases y : o = 57
      · subst y; exact b57 x
      · exfalso
        have : o = 40 ∨ o = 41 ∨ o = 42 ∨ o = 43 ∨ o = 44 ∨ o = 45 ∨ o = 46 ∨ o = 47 ∨ o = 48 ∨ o = 49 ∨ o = 55 ∨ o = 57 ∨ o = 58 := by simpa [oMk] using ho
        rcases this with u | u | u | u | u | u | u | u | u | u | u | u | u <;> subst u <;> first | exact absurd e (by decide) | exact y rfl) (fun o ho e => by
      exfalso
      have : o = 40 ∨ o = 41 ∨ o = 42 ∨ o = 43 ∨ o = 44 ∨ o = 45 ∨ o = 46 ∨ o = 47 ∨ o = 48 ∨ o = 49 ∨ o = 55 ∨ o = 57 ∨ o = 58 := by simpa [oMk] using ho
      rcases this with u | u | u | u | u | u | u | u | u | u | u | u | u <;> subst u <;> exact absurd e (by decide)) (fun f hf => absurd hf (List.not_mem_nil)) (fun o ho => by
      have : o = 40 ∨ o = 41 ∨ o = 42 ∨ o = 43 ∨ o = 44 ∨ o = 45 ∨ o = 46 ∨ o = 47 ∨ o = 48 ∨ o = 49 ∨ o = 55 ∨ o = 57 ∨ o = 58 := by simpa [oMk] using ho
      rcases this with u | u | u | u | u | u | u | u | u | u | u | u | u <;> subst u <;> decide)
    refine go hX g4X wX (rOw_mk W4 n1 hi hob hfo g4X hma (fun o x h1 h2 hx => ?_) (fun x => ?_) (fun x hx => ?_) (fun x => by rw [gX.arr (o := 58) rfl]; exact u58 x) (fun f hf => ?_) hk1 hk3 hac lcl rfl (by omega) (fun hn => ?_) ?_ ?_ ?_)
    · rw [← eq] at hx
      by_cases y : o = 45
      · subst y; rw [o45 x hx]; exact uo 45 x h1 h2 hx
      · rw [gX.arrs (P := fun o => !(Nat.beq o 45) && Nat.ble o 56) rfl (by
          rw [Bool.and_eq_true, Nat.ble_eq]
          refine ⟨?_, by omega⟩
          cases q2 : Nat.beq o 45 with
          | false => rfl
          | true => exact absurd (Nat.eq_of_beq_eq_true q2) y) (by omega)]
        exact uo o x h1 h2 hx
    · rw [← eq, gX.arr (o := 55) rfl, g6k.arr (o := 55) rfl]
      exact c55 x
    · rw [← eq] at hx
      rw [o57 x hx, g6k.arr (o := 57) rfl, g6.arr (o := 57) rfl]
    · rw [← eq]
      rcases (show f = 0 ∨ f = 1 ∨ f = 2 ∨ f = 3 ∨ f = 4 ∨ f = 5 ∨ f = 6 ∨ f = 7 by omega) with u | u | u | u | u | u | u | u <;> subst u
      · exact ⟨by rw [show m + (40 + 0) = m + 40 from rfl, gX.arr (o := 40) rfl]; exact u40, (by omega : kind < 2147483648)⟩
      · exact ⟨by rw [show m + (40 + 1) = m + 41 from rfl, gX.arr (o := 41) rfl]; exact u41, (by omega : mode < 2147483648)⟩
      · exact ⟨by rw [show m + (40 + 2) = m + 42 from rfl, gX.arr (o := 42) rfl]; exact u42, (by omega : zs_ac S < 2147483648)⟩
      · exact ⟨by rw [show m + (40 + 3) = m + 43 from rfl, gX.arr (o := 43) rfl]; exact u43, (by omega : zn_at Nf 3 < 2147483648)⟩
      · exact ⟨by rw [show m + (40 + 4) = m + 44 from rfl, gX.arr (o := 44) rfl]; exact u44, (by decide : 1 < 2147483648)⟩
      · refine ⟨?_, (by omega : ph.length < 2147483648)⟩
        show hh_i hX (m + 45) q = (Int32.ofNat ph.length)
        rw [lph]
        exact v45
      · exact ⟨by rw [show m + (40 + 6) = m + 46 from rfl, gX.arr (o := 46) rfl]; exact u46, (by omega : zs_ck S < 2147483648)⟩
      · exact ⟨by rw [show m + (40 + 7) = m + 47 from rfl, gX.arr (o := 47) rfl]; exact u47, (by omega : zt_ma (zd_tr d) < 2147483648)⟩
    · have hn : ¬ kind = 3 := hn
      exact List.length_eq_zero_iff.mp (by rw [lph]; exact hp3 hn)
    · rw [← eq, gX.arr (o := 48) rfl]; exact u48
    · rw [← eq, gX.arr (o := 49) rfl, g6k.arr (o := 49) rfl]; exact c49
    · rw [← eq, lph]
      exact v57
  have b57k : ∀ x, gy_b (hh_i hk' (m + 57) x) := fun x => by
    rw [g6k.arr (o := 57) rfl]
    exact w6.2.1 _ _ (by rw [g6.tg]; exact (hT4.2.2 57 (by decide)).1)
  rw [em]
  refine ⟨fun y => ?_, fun y => ⟨q, xq, fun h12 a12 => ?_⟩⟩
  · have y : ¬ kind = 3 := fun z => y (by rw [z])
    have p0 := hp3 y
    refine fin hk' (fr.refl _ _) ?_ (fun _ _ => rfl) (fun x hx => by omega) (fun _ _ => rfl) b57k
    rw [p0, g6k.arr (o := 45) rfl]
    exact c45
  · have gc : fr (tO m [45, 57] []) hk' h12 := by rw [a12]; exact fr.a rfl
    have g412 : fr (tO m oMk []) h4 h12 := (g6.up rfl rfl).trans ((g6k.up rfl rfl).trans (gc.up rfl rfl))
    refine lp_fill (m := m) (o := 57) (b := 24 * q) (n := pn) (fun j => [some (.ref m), some (.int (Int32.ofNat i)), some (.int (Int32.ofNat fo)), some (.int (Int32.ofNat ob)), none, none, some (.ref b1), some (.int (Int32.ofNat a)), some (.int (Int32.ofNat k)), some (.ref b2), some (.int (Int32.ofNat pa)), some (.int (Int32.ofNat pn)), none, some (.int (Int32.ofNat q)), some (.int (Int32.ofNat ((16 * t' + fo)))), some (.int (Int32.ofNat j))]) (fun j => lf ph j) (by decide) (fun j h3 hj g3 _ kk => ?_) (fun h3 g3 e3 => ?_)
    · have g43 : fr (tO m oMk []) h4 h3 := g412.trans (g3.up rfl rfl)
      obtain ⟨eb, Bx⟩ := C4.out hT4 g43 rfl
      have vb : hh_i h3 b2 (pa + j) = lf ph j := by
        rw [eb, ec4, eph]
        unfold lf
        rw [lm_get _ _ _ _ hj]
      have bb : gy_b (lf ph j) := by rw [← vb, eb, ec4]; exact Bb2 _
      refine w_437_179 (hT4.fr g43) ⟨fun z => absurd (by rw [i_lt (by omega) (by omega)]; exact hj) z, fun _ => ⟨Or.inl Bx.1, pa + j, by rw [i_add, g43.ln, g04.ln]; exact ix_n (by omega) (by have := B2.2.1; omega), 24 * q + j, by rw [i_mul, i_add]; exact ix_n (by omega) (by omega), fun h9 a9 => ?_⟩⟩
      rw [vb, show (lf ph j).toInt8.toInt32 = lf ph j from bb] at a9
      rw [a9, i_add]
      exact kk
    · refine w_437_179 (hT4.fr (g412.trans (g3.up rfl rfl))) ⟨fun _ => ?_, fun z => absurd z (by rw [i_lt (by omega) (by omega)]; omega)⟩
      refine fin h3 (gc.trans (g3.up rfl rfl)) ?_ (fun x hx => ?_) (fun x hx => ?_) (fun x hx => ?_) (fun x => ?_)
      · rw [g3.arr (o := 45) rfl, a12, hi_e ⟨rfl, rfl⟩]
      · rw [g3.arr (o := 45) rfl, a12, hi_n (by omega)]
      · rw [e3, if_pos (by omega), show 24 * q + x - 24 * q = x by omega]
      · rw [e3, if_neg (by omega), a12, hi_n (by omega)]
      · rw [e3]
        split
        · have : gy_b (hh_i h b2 (pa + (x - 24 * q))) := Bb2 _
          rw [eph]
          unfold lf
          rw [lm_get _ _ _ _ (by omega)]
          exact this
        · rw [a12, hi_n (by omega)]
          exact b57k x
end MK
