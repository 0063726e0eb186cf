/-! STAGE 3: what is in use -/
theorem tr_c_fr {h h' : hh_T} {m j t : Nat} (e1 : hh_i h' (m + 59) = hh_i h (m + 59)) (e2 : hh_i h' (m + 63) = hh_i h (m + 63)) (e3 : hh_i h' (m + 69) = hh_i h (m + 69)) (e4 : hh_i h' (m + 74) = hh_i h (m + 74)) : tr_c h' m j t = tr_c h m j t := by
  have a : tr_a h' m j t = tr_a h m j t := by funext k; unfold tr_a; rw [e1, e2]
  have b : tr_b h' m j t = tr_b h m j t := by funext k; unfold tr_b; rw [e3, e4]
  unfold tr_c
  rw [a, b]
theorem tr_n_fr {h h' : hh_T} {m t : Nat} (g : fr (tO m [17, 18, 27] []) h h') : tr_n h' m t = tr_n h m t := by
  have c : ∀ j, tr_c h' m j t = tr_c h m j t := fun j => tr_c_fr (g.arr rfl) (g.arr rfl) (g.arr rfl) (g.arr rfl)
  have d : ∀ n, tr_h h' m t n = tr_h h m t n := by
    intro n
    induction n with
    | zero => rfl
    | succ n ih =>
      show tr_h h' m t n + tr_c h' m (hh_i h' (m + 78) n).toNatClampNeg t = tr_h h m t n + tr_c h m (hh_i h (m + 78) n).toNatClampNeg t
      rw [ih, c, g.arr (o := 78) rfl]
  unfold tr_n
  rw [c, d, g.fld (f := 77) rfl, g.fld (f := 99) rfl]
/-- a block's own arrays -/
def oB (o : Nat) : Bool := Nat.ble 19 o && Nat.ble o 26
theorem tb_f8 {O F : List Nat} {h h' : hh_T} {m p : Nat} {b : zB} (B : tb h m p b) (g : fr (tO m O F) h h') (hO : (O.all fun o => !(oB o)) = true) : tb h' m p b := by
  unfold tb
  rw [g.arrs (o := 19) hO rfl (by decide), g.arrs (o := 20) hO rfl (by decide), g.arrs (o := 21) hO rfl (by decide), g.arrs (o := 22) hO rfl (by decide), g.arrs (o := 23) hO rfl (by decide), g.arrs (o := 24) hO rfl (by decide), g.arrs (o := 26) hO rfl (by decide), g.jj]
  exact B
def bs (v : Int32) (P : Prop) : Prop := (v = (Int32.ofNat 1) ∧ P) ∨ (v = (Int32.ofNat 0) ∧ ¬ P)
theorem bs.of {v : Int32} {P P' : Prop} (b : bs v P) (e : P ↔ P') : bs v P' := by
  rcases b with ⟨b1, b2⟩ | ⟨b1, b2⟩
  · exact Or.inl ⟨b1, e.mp b2⟩
  · exact Or.inr ⟨b1, fun z => b2 (e.mpr z)⟩
theorem bs.t {v : Int32} {P : Prop} (b : bs v P) (z : P) : v = (Int32.ofNat 1) := by
  rcases b with ⟨b1, -⟩ | ⟨-, b2⟩
  · exact b1
  · exact absurd z b2
theorem bs.f {v : Int32} {P : Prop} (b : bs v P) (z : ¬ P) : v = (Int32.ofNat 0) := by
  rcases b with ⟨-, b2⟩ | ⟨b1, -⟩
  · exact absurd b2 z
  · exact b1
/-- a pointer of a tree that is held -/
def tm_v (h : hh_T) (m y p : Nat) : Prop := 0 < tr_n h m (y / 128) ∧ hh_i h (m + 55) y = (Int32.ofNat p) ∧ (Int32.ofNat 0) < hh_i h (m + 40) (y / 8)
def tm_u (h : hh_T) (m np p : Nat) : Prop := (∃ y, y < 12288 ∧ tm_v h m y p) ∨ ∃ k, k < np ∧ hh_i h (m + 30) k = (Int32.ofNat p)
/-- places that blocks below n take -/
def tm_k (G : zG) (U : Nat → Prop) (β : Nat → zB) (n x : Nat) : Prop := ∃ q c, q < n ∧ U q ∧ c < (zb_cp (β q)).length ∧ 384 * ((zb_cp (β q)).getD c (0, 0)).1 + ((zb_cp (β q)).getD c (0, 0)).2 ≤ x ∧ x < 384 * ((zb_cp (β q)).getD c (0, 0)).1 + ((zb_cp (β q)).getD c (0, 0)).2 + zg_sp G ((zb_cp (β q)).getD c (0, 0)).1 (zb_k (β q))
section TMk
variable {h : hh_T} {m : Nat} {Q : Option Value ⊕ Nat → hh_T → Prop} {P : zP} {G : zG}
theorem t_isTree {t nh : Nat} (hT : tw_ok h m) (e99 : hh_i h m 99 = (Int32.ofNat nh)) (hn : nh ≤ 3) (hs : ∀ k, k < nh → ∃ j, j < 4 ∧ hh_i h (m + 78) k = (Int32.ofNat j)) (H1 : 0 < tr_n h m t → Q (.inl (some (.int (Int32.ofNat 1)))) h) (H0 : ¬ 0 < tr_n h m t → Q (.inl (some (.int (Int32.ofNat 0)))) h) : gm_G 371 0 [some (.ref m), some (.int (Int32.ofNat t))] [] h Q := by
  refine w_371_0 hT ?_
  refine t_refs hT e99 hn hs (fun hle => ?_)
  refine ⟨fun z => H0 (fun y => z ?_), fun z => H1 ?_⟩
  · rw [i_lt (by decide) (by omega)]; exact y
  · rw [i_lt (by decide) (by omega)] at z; exact z
theorem t_take {p c : Nat} {b : zB} (hT : tw_ok h m) (R : rT_G h m G) (K : zg_ok P G) (hp : p < 640) (B : tb h m p b) (hz : zb_ok G b) (hc : c < (zb_cp b).length)
    (H : ∀ h', fr (tO m [27] []) h h' → (∀ x, hh_i h' (m + 27) x = if 384 * ((zb_cp b).getD c (0, 0)).1 + ((zb_cp b).getD c (0, 0)).2 ≤ x ∧ x < 384 * ((zb_cp b).getD c (0, 0)).1 + ((zb_cp b).getD c (0, 0)).2 + zg_sp G ((zb_cp b).getD c (0, 0)).1 (zb_k b) then (Int32.ofNat 1) else hh_i h (m + 27) x) → Q (.inl none) h') : gm_G 303 0 [some (.ref m), some (.int (Int32.ofNat p)), some (.int (Int32.ofNat c))] [] h Q := by
  obtain ⟨b1, b2, b3, b4, b5, b6, b7, b8, b9, b10, b11⟩ := id B
  obtain ⟨e23, e24⟩ := b9 c hc
  have ed : (zb_cp b).getD c (0, 0) = (zb_cp b)[c] := by rw [List.getD_eq_getElem?_getD, List.getElem?_eq_getElem hc]; rfl
  have hm : (zb_cp b).getD c (0, 0) ∈ zb_cp b := by rw [ed]; exact List.getElem_mem hc
  obtain ⟨z1, z2⟩ := hz _ hm
  obtain ⟨y1, y2⟩ := hz.lt K hm
  obtain ⟨g, hg⟩ : ∃ g, g = ((zb_cp b).getD c (0, 0)).1 := ⟨_, rfl⟩
  obtain ⟨a, ha⟩ : ∃ a, a = ((zb_cp b).getD c (0, 0)).2 := ⟨_, rfl⟩
  rw [← hg] at e23 z1 z2 y1 H
  rw [← ha] at e24 z2 y2 H
  have hpl : zg_pl G g ≤ 384 := by
    obtain ⟨c1, c2, c3, c4, -⟩ := K.2.1 g z1
    unfold zg_pl
    split
    · exact Nat.le_trans (Nat.mul_le_mul c2 c4) (by decide)
    · omega
  refine w_303_0 hT ⟨2 * p + c, by rw [i_mul, i_add]; exact ix_n (by omega) (by omega), p, ix_n hp (by omega), ?_⟩
  rw [e23, b3]
  refine t_room hT R K z1 (by omega) ?_
  show gm_G 303 27 _ [] h Q
  refine lp_fill (m := m) (o := 27) (b := 384 * g + a) (n := zg_sp G g (zb_k b)) (fun i => [some (.ref m), some (.int (Int32.ofNat p)), some (.int (Int32.ofNat c)), some (.int (Int32.ofNat g)), some (.int (Int32.ofNat ((zg_sp G g (zb_k b))))), some (.int (Int32.ofNat i))]) (fun _ => (Int32.ofNat 1)) (by decide) (fun i h1 hi g1 _ k => ?_) (fun h' g1 e => ?_)
  · have e24' : hh_i h1 (m + 24) (2 * p + c) = (Int32.ofNat a) := by rw [g1.arr (o := 24) rfl]; exact e24
    refine w_303_27 (hT.fr g1) ?_
    simp (disch := omega) only [forall_eq, exists_eq_left, exists_eq_left', Option.some.injEq, ex_ix, i_add, i_mul, i_sub, i_lt, i_le, i_eq, i_tn, hi_e, hi_n, hj_e, hj_n, hi_wj, hj_wi, hr_wi, hr_wj, ht_wi, ht_wj, hl_wi, hl_wj, hz_wi, hz_wj, hs_wi, hs_wj, hi_wr, hj_wr, hr_e, hr_n, ht_wr, hl_wr, hz_wr, hs_wr, n_lt_t, n_lt_f, n_le_t, n_le_f, n_eq_t, n_eq_f, true_and, and_true, false_and, and_false, true_or, or_true, false_or, or_false, not_true_eq_false, not_false_eq_true, forall_const, implies_true, true_imp_iff, false_imp_iff, gs_t, reduceIte, ite_true, ite_false, e24']
    exact k
  · refine w_303_27 (hT.fr g1) ⟨fun _ => H h' g1 e, fun z => absurd z (by rw [i_lt (by omega) (by omega)]; omega)⟩
theorem t_markUsed {nh np : Nat} {β : Nat → zB} (hT : tw_ok h m) (R : rT_G h m G) (K : zg_ok P G) (e99 : hh_i h m 99 = (Int32.ofNat nh)) (hn : nh ≤ 3) (hs : ∀ k, k < nh → ∃ j, j < 4 ∧ hh_i h (m + 78) k = (Int32.ofNat j))
    (hv : ∀ y, y < 12288 → 0 < tr_n h m (y / 128) → (Int32.ofNat 0) < hh_i h (m + 40) (y / 8) → hh_i h (m + 55) y < (Int32.ofNat 0) ∨ ∃ p, p < 640 ∧ hh_i h (m + 55) y = (Int32.ofNat p))
    (e41 : hh_i h m 41 = (Int32.ofNat np)) (hnp : np ≤ 136) (hpl : ∀ k, k < np → hh_i h (m + 30) k < (Int32.ofNat 0) ∨ ∃ p, p < 640 ∧ hh_i h (m + 30) k = (Int32.ofNat p))
    (h17 : ∀ p, p < 640 → hh_i h (m + 17) p = (Int32.ofNat 0) ∨ hh_i h (m + 17) p = (Int32.ofNat 1))
    (hb : ∀ p, p < 640 → tm_u h m np p → tb h m p (β p) ∧ zb_ok G (β p))
    (H : ∀ h', fr (tO m [17, 18, 27] []) h h' → (∀ p, p < 640 → bs (hh_i h' (m + 18) p) (tm_u h m np p)) → (∀ p, p < 640 → bs (hh_i h' (m + 17) p) (hh_i h (m + 17) p = (Int32.ofNat 1) ∧ tm_u h m np p)) → (∀ x, x < 1152 → bs (hh_i h' (m + 27) x) (tm_k G (tm_u h m np) β 640 x)) → Q (.inl none) h') : gm_G 407 0 [some (.ref m)] [] h Q := by
  -- last: what is there, what is taken
  have le : ∀ d p h1, p + d = 640 → fr (tO m [17, 18, 27] []) h h1 → (∀ q, q < 640 → bs (hh_i h1 (m + 18) q) (tm_u h m np q)) → (∀ q, q < p → bs (hh_i h1 (m + 17) q) (hh_i h (m + 17) q = (Int32.ofNat 1) ∧ tm_u h m np q)) → (∀ q, p ≤ q → hh_i h1 (m + 17) q = hh_i h (m + 17) q) → (∀ x, x < 1152 → bs (hh_i h1 (m + 27) x) (tm_k G (tm_u h m np) β p x)) → gm_G 407 166 [some (.ref m), some (.int (Int32.ofNat p))] [] h1 Q := by
    intro d
    induction d with
    | zero =>
      intro p h1 ep g1 c18 c17 c17' c27
      have ep : p = 640 := by omega
      subst ep
      exact w_407_166 (hT.fr g1) ⟨fun _ => H h1 g1 c18 c17 c27, fun z => absurd z (by decide)⟩
    | succ d ih =>
      intro p h1 ep g1 c18 c17 c17' c27
      have hp : p < 640 := by omega
      have u18 := c18 p hp
      have ex := c17' p (Nat.le_refl _)
      -- from the new mark on
      have go : ∀ v, bs v (hh_i h (m + 17) p = (Int32.ofNat 1) ∧ tm_u h m np p) → gm_G 407 201 [some (.ref m), some (.int (Int32.ofNat p))] [.int v, .int (Int32.ofNat p), .ref (m + 17)] h1 Q := by
        intro v hv1
        refine w_407_201 (hT.fr g1) ⟨p, ix_n hp (by omega), ?_, fun h2 e2 => ?_⟩
        · rcases hv1 with u | u
          · exact Or.inr u.1
          · exact Or.inl u.1
        have g2 : fr (tO m [17, 18, 27] []) h h2 := g1.trans (by rw [e2]; exact fr.a rfl)
        have a18 : ∀ q, hh_i h2 (m + 18) q = hh_i h1 (m + 18) q := fun q => by rw [e2, hi_n (by omega)]
        have a17 : ∀ q, q < p + 1 → bs (hh_i h2 (m + 17) q) (hh_i h (m + 17) q = (Int32.ofNat 1) ∧ tm_u h m np q) := fun q hq => by
          by_cases y : q = p
          · rw [e2, hi_e ⟨rfl, y⟩, y]; exact hv1
          · rw [e2, hi_n (by omega)]; exact c17 q (by omega)
        have a17' : ∀ q, p + 1 ≤ q → hh_i h2 (m + 17) q = hh_i h (m + 17) q := fun q hq => by rw [e2, hi_n (by omega)]; exact c17' q (by omega)
        have a27 : ∀ x, hh_i h2 (m + 27) x = hh_i h1 (m + 27) x := fun x => by rw [e2, hi_n (by omega)]
        -- what it takes
        by_cases hu : tm_u h m np p
        · obtain ⟨B, hz⟩ := hb p hp hu
          obtain ⟨b1, b2, b3, b4, b5, b6, b7, b8, b9, b10, b11⟩ := id B
          have lc : ∀ e c h3, c + e = (zb_cp (β p)).length → fr (tO m [27] []) h2 h3 → (∀ x, x < 1152 → bs (hh_i h3 (m + 27) x) (tm_k G (tm_u h m np) β p x ∨ ∃ c', c' < c ∧ 384 * ((zb_cp (β p)).getD c' (0, 0)).1 + ((zb_cp (β p)).getD c' (0, 0)).2 ≤ x ∧ x < 384 * ((zb_cp (β p)).getD c' (0, 0)).1 + ((zb_cp (β p)).getD c' (0, 0)).2 + zg_sp G ((zb_cp (β p)).getD c' (0, 0)).1 (zb_k (β p)))) → gm_G 407 204 [some (.ref m), some (.int (Int32.ofNat p)), some (.int (Int32.ofNat c))] [] h3 Q := by
            intro e
            induction e with
            | zero =>
              intro c h3 ec g3 c3
              have ec : c = (zb_cp (β p)).length := by omega
              have g13 := g2.trans (g3.up (O' := [17, 18, 27]) (F' := []) rfl rfl)
              have i18 : hh_i h3 (m + 18) p = (Int32.ofNat 1) := by rw [g3.arr (o := 18) rfl, a18]; exact u18.t hu
              have i22 : hh_i h3 (m + 22) p = (Int32.ofNat ((zb_cp (β p)).length)) := by rw [g13.arr (o := 22) rfl]; exact b6
              refine w_407_204 (hT.fr g13) ?_
              simp (disch := omega) only [forall_eq, exists_eq_left, exists_eq_left', Option.some.injEq, ex_ix, i_add, i_mul, i_sub, i_lt, i_le, i_eq, i_tn, hi_e, hi_n, hj_e, hj_n, hi_wj, hj_wi, hr_wi, hr_wj, ht_wi, ht_wj, hl_wi, hl_wj, hz_wi, hz_wj, hs_wi, hs_wj, hi_wr, hj_wr, hr_e, hr_n, ht_wr, hl_wr, hz_wr, hs_wr, n_lt_t, n_lt_f, n_le_t, n_le_f, n_eq_t, n_eq_f, true_and, and_true, false_and, and_false, true_or, or_true, false_or, or_false, not_true_eq_false, not_false_eq_true, forall_const, implies_true, true_imp_iff, false_imp_iff, gs_t, reduceIte, ite_true, ite_false, i18, i22]
              refine w_407_235 (hT.fr g13) ?_
              rw [i_add]
              refine ih (p + 1) h3 (by omega) g13 (fun q hq => by rw [g3.arr (o := 18) rfl, a18]; exact c18 q hq) (fun q hq => by rw [g3.arr (o := 17) rfl]; exact a17 q hq) (fun q hq => by rw [g3.arr (o := 17) rfl]; exact a17' q hq) (fun x hx => (c3 x hx).of ?_)
              constructor
              · rintro (⟨q, c', z1, z2⟩ | ⟨c', z1, z2⟩)
                · exact ⟨q, c', by omega, z2⟩
                · exact ⟨p, c', by omega, hu, by omega, z2⟩
              · rintro ⟨q, c', z1, z2, z3, z4⟩
                by_cases y : q = p
                · subst y; exact Or.inr ⟨c', by omega, z4⟩
                · exact Or.inl ⟨q, c', by omega, z2, z3, z4⟩
            | succ e ih3 =>
              intro c h3 ec g3 c3
              have g13 := g2.trans (g3.up (O' := [17, 18, 27]) (F' := []) rfl rfl)
              have i18 : hh_i h3 (m + 18) p = (Int32.ofNat 1) := by rw [g3.arr (o := 18) rfl, a18]; exact u18.t hu
              have i22 : hh_i h3 (m + 22) p = (Int32.ofNat ((zb_cp (β p)).length)) := by rw [g13.arr (o := 22) rfl]; exact b6
              refine w_407_204 (hT.fr g13) ⟨p, ix_n hp (by omega), fun z => absurd (i18.symm.trans z) (by decide), fun _ => ⟨p, ix_n hp (by omega), fun z => absurd (by rw [i22, i_lt (by omega) (by omega)]; omega) z, fun _ => ?_⟩⟩
              refine t_take (hT.fr g13) (R.fr g13 rfl rfl) K hp (tb_f8 B g13 rfl) hz (show c < _ by omega) (fun h4 g4 e4 => ?_)
              show gm_G 407 204 _ [] h4 Q
              rw [i_add]
              refine ih3 (c + 1) h4 (by omega) (g3.trans g4) (fun x hx => ?_)
              rw [e4 x]
              by_cases y : 384 * ((zb_cp (β p)).getD c (0, 0)).1 + ((zb_cp (β p)).getD c (0, 0)).2 ≤ x ∧ x < 384 * ((zb_cp (β p)).getD c (0, 0)).1 + ((zb_cp (β p)).getD c (0, 0)).2 + zg_sp G ((zb_cp (β p)).getD c (0, 0)).1 (zb_k (β p))
              · rw [if_pos y]
                exact Or.inl ⟨rfl, Or.inr ⟨c, by omega, y⟩⟩
              · rw [if_neg y]
                refine (c3 x hx).of ⟨fun z => ?_, fun z => ?_⟩
                · rcases z with z | ⟨c', z1, z2⟩
                  · exact Or.inl z
                  · exact Or.inr ⟨c', by omega, z2⟩
                · rcases z with z | ⟨c', z1, z2⟩
                  · exact Or.inl z
                  · by_cases u : c' = c
                    · rw [u] at z2; exact absurd z2 y
                    · exact Or.inr ⟨c', by omega, z2⟩
          refine lc _ 0 h2 (Nat.zero_add _) (fr.refl _ _) (fun x hx => ?_)
          rw [a27]
          refine (c27 x hx).of ⟨fun z => Or.inl z, fun z => ?_⟩
          rcases z with z | ⟨c', z1, -⟩
          · exact z
          · exact absurd z1 (Nat.not_lt_zero _)
        · have i18 : hh_i h2 (m + 18) p = (Int32.ofNat 0) := by rw [a18]; exact u18.f hu
          refine w_407_204 (hT.fr g2) ⟨p, ix_n hp (by omega), fun _ => ?_, fun z => absurd i18 z⟩
          refine w_407_235 (hT.fr g2) ?_
          rw [i_add]
          refine ih (p + 1) h2 (by omega) g2 (fun q hq => by rw [a18]; exact c18 q hq) a17 a17' (fun x hx => ?_)
          rw [a27]
          refine (c27 x hx).of ⟨fun z => ?_, fun z => ?_⟩
          · obtain ⟨q, c', z1, z2⟩ := z
            exact ⟨q, c', by omega, z2⟩
          · obtain ⟨q, c', z1, z2, z3⟩ := z
            by_cases y : q = p
            · rw [y] at z2; exact absurd z2 hu
            · exact ⟨q, c', by omega, z2, z3⟩
      refine w_407_166 (hT.fr g1) ⟨fun z => absurd (by rw [i_lt (by omega) (by decide)]; exact hp) z, fun _ => ⟨p, ix_n hp (by omega), fun z => ?_, fun z => ⟨p, ix_n hp (by omega), fun y => ?_, fun y => ?_⟩⟩⟩
      · refine w_407_200 (hT.fr g1) (go _ (Or.inr ⟨rfl, fun u => ?_⟩))
        rw [← ex, z] at u
        exact absurd u.1 (by decide)
      · refine w_407_200 (hT.fr g1) (go _ (Or.inr ⟨rfl, fun u => ?_⟩))
        rw [u18.t u.2] at y
        exact absurd y (by decide)
      · refine go _ (Or.inl ⟨rfl, ?_, ?_⟩)
        · rw [ex] at z
          exact (h17 p hp).resolve_left z
        · rcases u18 with u | u
          · exact u.2
          · exact absurd u.1 y
  -- nothing is taken at first
  have ld : ∀ h1, fr (tO m [18] []) h h1 → (∀ q, q < 640 → bs (hh_i h1 (m + 18) q) (tm_u h m np q)) → gm_G 407 144 [some (.ref m), some (.int (Int32.ofNat 0))] [] h1 Q := by
    intro h1 g1 c18
    refine lp_fill (m := m) (o := 27) (b := 0) (n := 1152) (fun i => [some (.ref m), some (.int (Int32.ofNat i))]) (fun _ => (Int32.ofNat 0)) (by decide) (fun i h2 hi g2 _ k => ?_) (fun h2 g2 e => ?_)
    · refine w_407_144 ((hT.fr g1).fr g2) ?_
      simp (disch := omega) only [forall_eq, exists_eq_left, exists_eq_left', Option.some.injEq, ex_ix, i_add, i_mul, i_sub, i_lt, i_le, i_eq, i_tn, hi_e, hi_n, hj_e, hj_n, hi_wj, hj_wi, hr_wi, hr_wj, ht_wi, ht_wj, hl_wi, hl_wj, hz_wi, hz_wj, hs_wi, hs_wj, hi_wr, hj_wr, hr_e, hr_n, ht_wr, hl_wr, hz_wr, hs_wr, n_lt_t, n_lt_f, n_le_t, n_le_f, n_eq_t, n_eq_f, true_and, and_true, false_and, and_false, true_or, or_true, false_or, or_false, not_true_eq_false, not_false_eq_true, forall_const, implies_true, true_imp_iff, false_imp_iff, gs_t, reduceIte, ite_true, ite_false]
      rw [Nat.zero_add] at k
      exact k
    · refine w_407_144 ((hT.fr g1).fr g2) ⟨fun _ => ?_, fun z => absurd z (by decide)⟩
      refine le 640 0 h2 rfl ((g1.up rfl rfl).trans (g2.up rfl rfl)) (fun q hq => by rw [g2.arr (o := 18) rfl]; exact c18 q hq) (fun q hq => absurd hq (Nat.not_lt_zero _)) (fun q _ => by rw [g2.arr (o := 17) rfl, g1.arr (o := 17) rfl]) (fun x hx => ?_)
      rw [e x, if_pos (by omega)]
      refine Or.inr ⟨rfl, fun z => ?_⟩
      obtain ⟨q, c, z1, -⟩ := z
      exact absurd z1 (Nat.not_lt_zero _)
  -- the plan
  have lc : ∀ d k h1, k + d = np → fr (tO m [18] []) h h1 → (∀ q, q < 640 → bs (hh_i h1 (m + 18) q) ((∃ y, y < 12288 ∧ tm_v h m y q) ∨ ∃ k', k' < k ∧ hh_i h (m + 30) k' = (Int32.ofNat q))) → gm_G 407 107 [some (.ref m), some (.int (Int32.ofNat k))] [] h1 Q := by
    intro d
    induction d with
    | zero =>
      intro k h1 ek g1 c18
      have ek : k = np := by omega
      subst ek
      have i41 : hh_i h1 m 41 = (Int32.ofNat k) := by rw [g1.fld (f := 41) rfl]; exact e41
      refine w_407_107 (hT.fr g1) ?_
      simp (disch := omega) only [forall_eq, exists_eq_left, exists_eq_left', Option.some.injEq, ex_ix, i_add, i_mul, i_sub, i_lt, i_le, i_eq, i_tn, hi_e, hi_n, hj_e, hj_n, hi_wj, hj_wi, hr_wi, hr_wj, ht_wi, ht_wj, hl_wi, hl_wj, hz_wi, hz_wj, hs_wi, hs_wj, hi_wr, hj_wr, hr_e, hr_n, ht_wr, hl_wr, hz_wr, hs_wr, n_lt_t, n_lt_f, n_le_t, n_le_f, n_eq_t, n_eq_f, true_and, and_true, false_and, and_false, true_or, or_true, false_or, or_false, not_true_eq_false, not_false_eq_true, forall_const, implies_true, true_imp_iff, false_imp_iff, gs_t, reduceIte, ite_true, ite_false, i41]
      exact ld h1 g1 c18
    | succ d ih =>
      intro k h1 ek g1 c18
      have i41 : hh_i h1 m 41 = (Int32.ofNat np) := by rw [g1.fld (f := 41) rfl]; exact e41
      have i30 : hh_i h1 (m + 30) k = hh_i h (m + 30) k := by rw [g1.arr (o := 30) rfl]
      rcases hpl k (by omega) with z | ⟨p, hp, z⟩
      · refine w_407_107 (hT.fr g1) ?_
        simp (disch := omega) only [forall_eq, exists_eq_left, exists_eq_left', Option.some.injEq, ex_ix, i_add, i_mul, i_sub, i_lt, i_le, i_eq, i_tn, hi_e, hi_n, hj_e, hj_n, hi_wj, hj_wi, hr_wi, hr_wj, ht_wi, ht_wj, hl_wi, hl_wj, hz_wi, hz_wj, hs_wi, hs_wj, hi_wr, hj_wr, hr_e, hr_n, ht_wr, hl_wr, hz_wr, hs_wr, n_lt_t, n_lt_f, n_le_t, n_le_f, n_eq_t, n_eq_f, true_and, and_true, false_and, and_false, true_or, or_true, false_or, or_false, not_true_eq_false, not_false_eq_true, forall_const, implies_true, true_imp_iff, false_imp_iff, gs_t, reduceIte, ite_true, ite_false, i41, i30, z]
        refine w_407_136 (hT.fr g1) ?_
        rw [i_add]
        refine ih (k + 1) h1 (by omega) g1 (fun q hq => (c18 q hq).of ⟨fun u => ?_, fun u => ?_⟩)
        · rcases u with u | ⟨k', u1, u2⟩
          · exact Or.inl u
          · exact Or.inr ⟨k', by omega, u2⟩
        · rcases u with u | ⟨k', u1, u2⟩
          · exact Or.inl u
          · by_cases y : k' = k
            · rw [y] at u2; rw [u2, i_n0 (by omega)] at z; exact z.elim
            · exact Or.inr ⟨k', by omega, u2⟩
      · refine w_407_107 (hT.fr g1) ?_
        simp (disch := omega) only [forall_eq, exists_eq_left, exists_eq_left', Option.some.injEq, ex_ix, i_add, i_mul, i_sub, i_lt, i_le, i_eq, i_tn, hi_e, hi_n, hj_e, hj_n, hi_wj, hj_wi, hr_wi, hr_wj, ht_wi, ht_wj, hl_wi, hl_wj, hz_wi, hz_wj, hs_wi, hs_wj, hi_wr, hj_wr, hr_e, hr_n, ht_wr, hl_wr, hz_wr, hs_wr, n_lt_t, n_lt_f, n_le_t, n_le_f, n_eq_t, n_eq_f, true_and, and_true, false_and, and_false, true_or, or_true, false_or, or_false, not_true_eq_false, not_false_eq_true, forall_const, implies_true, true_imp_iff, false_imp_iff, gs_t, reduceIte, ite_true, ite_false, i41, i30, z]
        refine w_407_136 (hT.fr (g1.trans (fr.a rfl))) ?_
        rw [i_add]
        refine ih (k + 1) _ (by omega) (g1.trans (fr.a rfl)) (fun q hq => ?_)
        by_cases y : q = p
        · rw [hi_e ⟨rfl, y⟩, y]
          exact Or.inl ⟨rfl, Or.inr ⟨k, by omega, z⟩⟩
        · rw [hi_n (by omega)]
          refine (c18 q hq).of ⟨fun u => ?_, fun u => ?_⟩
          · rcases u with u | ⟨k', u1, u2⟩
            · exact Or.inl u
            · exact Or.inr ⟨k', by omega, u2⟩
          · rcases u with u | ⟨k', u1, u2⟩
            · exact Or.inl u
            · by_cases x : k' = k
              · rw [x, z] at u2
                exact absurd ((i_eq (by omega) (by omega)).mp u2).symm y
              · exact Or.inr ⟨k', by omega, u2⟩
  -- trees
  have lb : ∀ d t h1, t + d = 96 → fr (tO m [18] []) h h1 → (∀ q, q < 640 → bs (hh_i h1 (m + 18) q) (∃ y, y < 128 * t ∧ tm_v h m y q)) → gm_G 407 24 [some (.ref m), some (.int (Int32.ofNat t))] [] h1 Q := by
    intro d
    induction d with
    | zero =>
      intro t h1 et g1 c18
      have et : t = 96 := by omega
      subst et
      refine w_407_24 (hT.fr g1) ⟨fun _ => ?_, fun z => absurd z (by decide)⟩
      refine lc np 0 h1 (Nat.zero_add _) g1 (fun q hq => (c18 q hq).of ⟨fun u => Or.inl u, fun u => ?_⟩)
      rcases u with u | ⟨k', u1, -⟩
      · exact u
      · exact absurd u1 (Nat.not_lt_zero _)
    | succ d ih =>
      intro t h1 et g1 c18
      have tn1 : tr_n h1 m t = tr_n h m t := tr_n_fr (g1.up rfl rfl)
      have nx : ∀ h2, fr (tO m [18] []) h h2 → (∀ q, q < 640 → bs (hh_i h2 (m + 18) q) (∃ y, y < 128 * t + 128 ∧ tm_v h m y q)) → gm_G 407 99 [some (.ref m), some (.int (Int32.ofNat t))] [] h2 Q := by
        intro h2 g2 c2
        refine w_407_99 (hT.fr g2) ?_
        rw [i_add]
        exact ih (t + 1) h2 (by omega) g2 (fun q hq => (c2 q hq).of ⟨fun ⟨y, u1, u2⟩ => ⟨y, by omega, u2⟩, fun ⟨y, u1, u2⟩ => ⟨y, by omega, u2⟩⟩)
      refine w_407_24 (hT.fr g1) ⟨fun z => absurd (by rw [i_lt (by omega) (by decide)]; omega) z, fun _ => ?_⟩
      refine t_isTree (hT.fr g1) (by rw [g1.fld (f := 99) rfl]; exact e99) hn (fun k hk => by rw [g1.arr (o := 78) rfl]; exact hs k hk) (fun z => ?_) (fun z => ?_)
      · rw [tn1] at z
        refine ⟨fun _ => ?_, fun u => absurd u (by decide)⟩
        have lx : ∀ e y h2, y + e = 128 * t + 128 → 128 * t ≤ y → fr (tO m [18] []) h h2 → (∀ q, q < 640 → bs (hh_i h2 (m + 18) q) (∃ y', y' < y ∧ tm_v h m y' q)) → gm_G 407 47 [some (.ref m), some (.int (Int32.ofNat t)), some (.int (Int32.ofNat y))] [] h2 Q := by
          intro e
          induction e with
          | zero =>
            intro y h2 ey hy g2 c2
            have ey : y = 128 * t + 128 := by omega
            refine w_407_47 (hT.fr g2) ?_
            simp (disch := omega) only [forall_eq, exists_eq_left, exists_eq_left', Option.some.injEq, ex_ix, i_add, i_mul, i_sub, i_lt, i_le, i_eq, i_tn, hi_e, hi_n, hj_e, hj_n, hi_wj, hj_wi, hr_wi, hr_wj, ht_wi, ht_wj, hl_wi, hl_wj, hz_wi, hz_wj, hs_wi, hs_wj, hi_wr, hj_wr, hr_e, hr_n, ht_wr, hl_wr, hz_wr, hs_wr, n_lt_t, n_lt_f, n_le_t, n_le_f, n_eq_t, n_eq_f, true_and, and_true, false_and, and_false, true_or, or_true, false_or, or_false, not_true_eq_false, not_false_eq_true, forall_const, implies_true, true_imp_iff, false_imp_iff, gs_t, reduceIte, ite_true, ite_false]
            rw [ey] at c2
            exact nx h2 g2 c2
          | succ e ih2 =>
            intro y h2 ey hy g2 c2
            have i55 : hh_i h2 (m + 55) y = hh_i h (m + 55) y := by rw [g2.arr (o := 55) rfl]
            have i40 : hh_i h2 (m + 40) (y / 8) = hh_i h (m + 40) (y / 8) := by rw [g2.arr (o := 40) rfl]
            have hd : y / 128 = t := by omega
            -- nothing new
            have sk : (∀ q, q < 640 → ¬ tm_v h m y q) → gm_G 407 93 [some (.ref m), some (.int (Int32.ofNat t)), some (.int (Int32.ofNat y))] [] h2 Q := by
              intro no
              refine w_407_93 (hT.fr g2) ?_
              rw [i_add]
              refine ih2 (y + 1) h2 (by omega) (by omega) g2 (fun q hq => (c2 q hq).of ⟨fun ⟨y', u1, u2⟩ => ⟨y', by omega, u2⟩, fun ⟨y', u1, u2⟩ => ?_⟩)
              by_cases x : y' = y
              · rw [x] at u2; exact absurd u2 (no q hq)
              · exact ⟨y', by omega, u2⟩
            refine w_407_47 (hT.fr g2) ⟨fun u => absurd (by rw [i_mul, i_add, i_lt (by omega) (by omega)]; omega) u, fun _ => ⟨y, ix_n (by omega) (by omega), fun u => ?_, fun u => ⟨y / 8, by rw [i_div (by omega) (by decide)]; exact ix_n (by omega) (by omega), fun x => ?_, fun x => ⟨y, ix_n (by omega) (by omega), ?_⟩⟩⟩⟩
            · rw [i55] at u
              exact sk (fun q hq v => by rw [v.2.1, i_n0 (by omega)] at u; exact u.elim)
            · rw [i40] at x
              exact sk (fun q hq v => x v.2.2)
            · rw [i55] at u ⊢
              rw [i40] at x
              rcases hv y (by omega) (by rw [hd]; exact z) x with v | ⟨p, hp, v⟩
              · exact absurd v u
              · refine ⟨p, by rw [v]; exact ix_n hp (by omega), fun h3 e3 => ?_⟩
                have g3 : fr (tO m [18] []) h h3 := g2.trans (by rw [e3]; exact fr.a rfl)
                refine w_407_93 (hT.fr g3) ?_
                rw [i_add]
                refine ih2 (y + 1) h3 (by omega) (by omega) g3 (fun q hq => ?_)
                by_cases o : q = p
                · rw [e3, hi_e ⟨rfl, o⟩, o]
                  exact Or.inl ⟨rfl, y, by omega, by rw [hd]; exact z, v, x⟩
                · rw [e3, hi_n (by omega)]
                  refine (c2 q hq).of ⟨fun ⟨y', u1, u2⟩ => ⟨y', by omega, u2⟩, fun ⟨y', u1, u2⟩ => ?_⟩
                  by_cases x2 : y' = y
                  · rw [x2] at u2
                    exact absurd ((i_eq (by omega) (by omega)).mp (v.symm.trans u2.2.1)).symm o
                  · exact ⟨y', by omega, u2⟩
        rw [i_mul]
        exact lx 128 (128 * t) h1 rfl (Nat.le_refl _) g1 c18
      · rw [tn1] at z
        refine ⟨fun u => absurd rfl u, fun _ => nx h1 g1 (fun q hq => (c18 q hq).of ⟨fun ⟨y, u1, u2⟩ => ⟨y, by omega, u2⟩, fun ⟨y, u1, u2⟩ => ?_⟩)⟩
        by_cases x : y < 128 * t
        · exact ⟨y, x, u2⟩
        · exfalso
          have := u2.1
          rw [show y / 128 = t by omega] at this
          exact z this
  refine w_407_0 hT ?_
  refine lp_fill (m := m) (o := 18) (b := 0) (n := 640) (fun i => [some (.ref m), some (.int (Int32.ofNat i))]) (fun _ => (Int32.ofNat 0)) (by decide) (fun i h1 hi g1 _ k => ?_) (fun h1 g1 e => ?_)
  · refine w_407_2 (hT.fr g1) ?_
    simp (disch := omega) only [forall_eq, exists_eq_left, exists_eq_left', Option.some.injEq, ex_ix, i_add, i_mul, i_sub, i_lt, i_le, i_eq, i_tn, hi_e, hi_n, hj_e, hj_n, hi_wj, hj_wi, hr_wi, hr_wj, ht_wi, ht_wj, hl_wi, hl_wj, hz_wi, hz_wj, hs_wi, hs_wj, hi_wr, hj_wr, hr_e, hr_n, ht_wr, hl_wr, hz_wr, hs_wr, n_lt_t, n_lt_f, n_le_t, n_le_f, n_eq_t, n_eq_f, true_and, and_true, false_and, and_false, true_or, or_true, false_or, or_false, not_true_eq_false, not_false_eq_true, forall_const, implies_true, true_imp_iff, false_imp_iff, gs_t, reduceIte, ite_true, ite_false]
    rw [Nat.zero_add] at k
    exact k
  · refine w_407_2 (hT.fr g1) ⟨fun _ => ?_, fun z => absurd z (by decide)⟩
    refine lb 96 0 h1 rfl g1 (fun q hq => ?_)
    rw [e q, if_pos (by omega)]
    refine Or.inr ⟨rfl, fun ⟨y, u1, u2⟩ => absurd u1 (Nat.not_lt_zero _)⟩
end TMk
