/-! STAGE 3: the twin writes the blocks of its plan -/
theorem zp_new_c (G : zG) (P : zP) (w : zB × zBy) (r : List (zB × zBy)) : zp_new G P (w :: r) = if (zp_cps zp_lay G (zb_k w.1) (lf w.2) P (zb_cp w.1)).2 then zp_new G (zp_cps zp_lay G (zb_k w.1) (lf w.2) P (zb_cp w.1)).1 r else ((zp_cps zp_lay G (zb_k w.1) (lf w.2) P (zb_cp w.1)).1, false) := rfl
section TWp
variable {h : hh_T} {m : Nat} {Q : Option Value ⊕ Nat → hh_T → Prop} {S : zS}
theorem t_writePlan {np : Nat} {E : Nat → Option (zB × zBy)} (R : rT0 h m S) (w : gy_wf h) (K : zg_ok (zs_P S) (zs_G S)) (e41 : hh_i h m 41 = (Int32.ofNat np)) (hnp : np ≤ 136)
    (hE : ∀ k, k < np → (E k = none ∧ hh_i h (m + 31) k = (Int32.ofNat 0)) ∨ ∃ p b l, E k = some (b, l) ∧ hh_i h (m + 31) k = (Int32.ofNat 1) ∧ hh_i h (m + 30) k = (Int32.ofNat p) ∧ p < 640 ∧ tb h m p b ∧ zb_ok (zs_G S) b ∧ ∀ i, i < 8 * zb_k b → hh_i h (m + 26) (32 * p + i) = lf l i)
    (H1 : (zp_new (zs_G S) (zs_P S) ((List.range' 0 np).filterMap E)).2 = true → ∀ h', gy_wf h' → fr (tO m oW fW) h h' → rT_P h' m (zp_new (zs_G S) (zs_P S) ((List.range' 0 np).filterMap E)).1 → Q (.inl (some (.int (Int32.ofNat 1)))) h')
    (H2 : (zp_new (zs_G S) (zs_P S) ((List.range' 0 np).filterMap E)).2 = false → ∀ h', gy_wf h' → rTx h' m (zs_fall (zs_P_ S (zp_new (zs_G S) (zs_P S) ((List.range' 0 np).filterMap E)).1)) → fr (tO m (oW ++ oFall) (fW ++ fFall)) h h' → Q (.inl (some (.int (Int32.ofNat 0)))) h') : gm_G 424 0 [some (.ref m)] [] h Q := by
  have lp : ∀ d k h1 P1, k + d = np → fr (tO m oW fW) h h1 → gy_wf h1 → rT_P h1 m P1 → zp_nd P1 = zp_nd (zs_P S) → zp_sec P1 = zp_sec (zs_P S) → zp_new (zs_G S) (zs_P S) ((List.range' 0 np).filterMap E) = zp_new (zs_G S) P1 ((List.range' k d).filterMap E) → gm_G 424 2 [some (.ref m), some (.int (Int32.ofNat k))] [] h1 Q := by
    intro d
    induction d with
    | zero =>
      intro k h1 P1 ek g1 w1 RP1 n1 n2 eq
      have i41 : hh_i h1 m 41 = (Int32.ofNat np) := by rw [g1.fld (f := 41) rfl]; exact e41
      have eq : zp_new (zs_G S) (zs_P S) ((List.range' 0 np).filterMap E) = (P1, true) := eq
      rw [eq] at H1
      exact w_424_2 (R.1.fr g1) ⟨fun _ => H1 rfl h1 w1 g1 RP1, fun z => absurd z (by rw [i41, i_lt (by omega) (by omega)]; omega)⟩
    | succ d ih =>
      intro k h1 P1 ek g1 w1 RP1 n1 n2 eq
      have i41 : hh_i h1 m 41 = (Int32.ofNat np) := by rw [g1.fld (f := 41) rfl]; exact e41
      have i31 : ∀ h2, fr (tO m oW fW) h h2 → hh_i h2 (m + 31) k = hh_i h (m + 31) k := fun h2 g2 => by rw [g2.arr (o := 31) rfl]
      have i30 : ∀ h2, fr (tO m oW fW) h h2 → hh_i h2 (m + 30) k = hh_i h (m + 30) k := fun h2 g2 => by rw [g2.arr (o := 30) rfl]
      rw [List.range'_succ] at eq
      refine w_424_2 (R.1.fr g1) ⟨fun z => absurd (by rw [i41, i_lt (by omega) (by omega)]; omega) z, fun _ => ?_⟩
      rcases hE k (by omega) with ⟨z1, z2⟩ | ⟨p, b, l, z1, z2, z3, z4, B, hz, z5⟩
      · rw [List.filterMap_cons_none z1] at eq
        refine w_424_12 (R.1.fr g1) ⟨k, ix_n (by omega) (by omega), fun _ => ?_, fun y => absurd ((i31 h1 g1).trans z2) y⟩
        refine w_424_59 (R.1.fr g1) ?_
        rw [i_add]
        exact ih (k + 1) h1 P1 (by omega) g1 w1 RP1 n1 n2 eq
      · rw [List.filterMap_cons_some z1, zp_new_c] at eq
        obtain ⟨b1, b2, b3, b4, b5, b6, b7, b8, b9, b10, b11⟩ := id B
        have lc : ∀ e c h2 P2, c + e = (zb_cp b).length → fr (tO m oW fW) h h2 → gy_wf h2 → rT_P h2 m P2 → zp_nd P2 = zp_nd (zs_P S) → zp_sec P2 = zp_sec (zs_P S) → zp_cps zp_lay (zs_G S) (zb_k b) (lf l) P1 (zb_cp b) = zp_cps zp_lay (zs_G S) (zb_k b) (lf l) P2 ((zb_cp b).drop c) → gm_G 424 12 [some (.ref m), some (.int (Int32.ofNat k)), some (.int (Int32.ofNat c))] [] h2 Q := by
          intro e
          induction e with
          | zero =>
            intro c h2 P2 ec g2 w2 RP2 m1 m2 eq2
            have ec : c = (zb_cp b).length := by omega
            have i22 : hh_i h2 (m + 22) p = (Int32.ofNat ((zb_cp b).length)) := by rw [g2.arr (o := 22) rfl]; exact b6
            have e31 := (i31 h2 g2).trans z2
            have e30 := (i30 h2 g2).trans z3
            rw [ec, List.drop_length, zp_cps_nil] at eq2
            dsimp only at eq
            rw [eq2, if_pos rfl] at eq
            refine w_424_12 (R.1.fr g2) ?_
            simp (disch := omega) only [forall_eq, exists_eq_left, exists_eq_left', Option.some.injEq, ex_ix, i_add, i_mul, i_sub, i_lt, i_le, i_eq, i_tn, hi_e, hi_n, hj_e, hj_n, hi_wj, hj_wi, hr_wi, hr_wj, ht_wi, ht_wj, hl_wi, hl_wj, hz_wi, hz_wj, hs_wi, hs_wj, hi_wr, hj_wr, hr_e, hr_n, ht_wr, hl_wr, hz_wr, hs_wr, n_lt_t, n_lt_f, n_le_t, n_le_f, n_eq_t, n_eq_f, true_and, and_true, false_and, and_false, true_or, or_true, false_or, or_false, not_true_eq_false, not_false_eq_true, forall_const, implies_true, true_imp_iff, false_imp_iff, gs_t, reduceIte, ite_true, ite_false, e31, e30, i22]
            refine w_424_59 (R.1.fr g2) ?_
            rw [i_add]
            exact ih (k + 1) h2 P2 (by omega) g2 w2 RP2 m1 m2 eq
          | succ e ih2 =>
            intro c h2 P2 ec g2 w2 RP2 m1 m2 eq2
            have hc : c < (zb_cp b).length := by omega
            have i22 : hh_i h2 (m + 22) p = (Int32.ofNat ((zb_cp b).length)) := by rw [g2.arr (o := 22) rfl]; exact b6
            have e31 := (i31 h2 g2).trans z2
            have e30 := (i30 h2 g2).trans z3
            have ed : (zb_cp b).getD c (0, 0) = (zb_cp b)[c] := by rw [List.getD_eq_getElem?_getD, List.getElem?_eq_getElem hc]; rfl
            obtain ⟨e23, e24⟩ := b9 c hc
            rw [ed] at e23 e24
            obtain ⟨y1, y2⟩ := hz (zb_cp b)[c] (List.getElem_mem hc)
            rw [List.drop_eq_getElem_cons hc, zp_cps_c] at eq2
            have K2 : zg_ok P2 (zs_G S) := K.P m1 m2
            have ht : zp_tear P2 ≤ 8 := by have := RP2.2.2.2.2.2.2.2.1; omega
            refine w_424_12 (R.1.fr g2) ⟨k, ix_n (by omega) (by omega), fun z => absurd (e31.symm.trans z) (by decide), fun _ => ⟨k, ix_n (by omega) (by omega), p, by rw [e30]; exact ix_n z4 (by omega), fun z => absurd (by rw [i22, i_lt (by omega) (by omega)]; exact hc) z, fun _ => ⟨k, ix_n (by omega) (by omega), ?_⟩⟩⟩
            rw [e30]
            refine gy_use w2 ?_
            refine t_writeCopy (mend := false) (S := zs_P_ S P2) (R.oW g2 RP2) w2 K2 z4 (by omega) y1 (by rw [g2.arr (o := 23) rfl]; exact e23) (by rw [g2.arr (o := 24) rfl]; exact e24) (by rw [g2.arr (o := 21) rfl]; exact b3) b4 b5 y2 (fun f' hf' y h3 g3 RP3 w3 => ?_) (fun f' hf' y h3 RX g3 w3 => ?_)
            · have ef : ∀ i, i < 8 * zb_k b → f' i = lf l i := fun i hi => by rw [hf']; show hh_i h2 (m + 26) (32 * p + i) = _; rw [g2.arr (o := 26) rfl]; exact z5 i hi
              have eg := (zg_wl_lay (a := (zb_cp b)[c].2) K2 y1 ef P2 ht).1
              have y : (zp_lay P2 (zg_wl (zs_G S) (zb_cp b)[c].1 (zb_cp b)[c].2 (zb_k b) f')).2 = true := y
              have RP3 : rT_P h3 m (zp_lay P2 (zg_wl (zs_G S) (zb_cp b)[c].1 (zb_cp b)[c].2 (zb_k b) f')).1 := RP3
              rw [eg] at y RP3
              rw [if_pos y] at eq2
              refine ⟨fun _ => ?_, fun z => absurd z (by decide)⟩
              rw [i_add]
              obtain ⟨q1, q2⟩ := zp_lay_nd (zs_G S) (zg_wl (zs_G S) (zb_cp b)[c].1 (zb_cp b)[c].2 (zb_k b) (lf l)) P2
              exact ih2 (c + 1) h3 _ (by omega) (g2.trans g3) w3 RP3 (q1.trans m1) (q2.trans m2) eq2
            · have ef : ∀ i, i < 8 * zb_k b → f' i = lf l i := fun i hi => by rw [hf']; show hh_i h2 (m + 26) (32 * p + i) = _; rw [g2.arr (o := 26) rfl]; exact z5 i hi
              have eg := (zg_wl_lay (a := (zb_cp b)[c].2) K2 y1 ef P2 ht).1
              have y : (zp_lay P2 (zg_wl (zs_G S) (zb_cp b)[c].1 (zb_cp b)[c].2 (zb_k b) f')).2 = false := y
              have RX : rTx h3 m (zs_fall (zs_P_ S (zp_lay P2 (zg_wl (zs_G S) (zb_cp b)[c].1 (zb_cp b)[c].2 (zb_k b) f')).1)) := RX
              rw [eg] at y RX
              rw [if_neg (by rw [y]; decide)] at eq2
              refine ⟨fun z => absurd rfl z, fun _ => ?_⟩
              dsimp only at eq
              rw [eq2, if_neg (show ¬ false = true by decide)] at eq
              rw [eq] at H2
              exact H2 rfl h3 w3 RX ((g2.up rfl rfl).trans g3)
        exact lc _ 0 h1 P1 (Nat.zero_add _) g1 w1 RP1 n1 n2 rfl
  exact w_424_0 R.1 (lp np 0 h (zs_P S) (Nat.zero_add _) (fr.refl _ _) w R.2.2.1 rfl rfl rfl)
end TWp
