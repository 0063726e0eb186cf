/-! STAGE 3: the twin plans a block -/
theorem zc_ne (z : Nat → Nat → Nat) (f : Nat → Int32) : 1 ≤ (zc z f 33 0).length := by
  rw [zc_S, if_neg (by decide)]
  split
  · rw [List.length_cons]; omega
  · rw [List.length_cons]; omega
theorem pc_ne (f : Nat → Int32) : ∀ F s p, s < 32 → F + p = 33 → p ≤ 32 → 1 ≤ (pc (mt f) (lt f) F s p).length
  | 0, s, p, _, h2, h3 => by omega
  | F + 1, s, p, h1, h2, h3 => by
    rw [pc_S]
    by_cases c : 32 ≤ p
    · rw [if_pos c]
      unfold lt
      rw [if_neg (by omega), List.length_cons]
      omega
    · rw [if_neg c]
      by_cases c2 : (mt f p).1 < 3
      · rw [if_pos c2]
        exact pc_ne f F s (p + 1) h1 (by omega) (by omega)
      · rw [if_neg c2, List.length_append, List.length_cons]
        omega
theorem zl_pad_len (l : zBy) : (zl_pad l).length = 8 * ((l.length + 7) / 8) := by
  unfold zl_pad
  rw [List.length_append, List.length_replicate]
  omega
theorem zl_pad_get (l : zBy) (j : Nat) : lf (zl_pad l) j = if j < l.length then lf l j else (Int32.ofNat 0) := by
  unfold lf zl_pad
  by_cases c : j < l.length
  · rw [if_pos c, List.getD_eq_getElem?_getD, List.getD_eq_getElem?_getD, List.getElem?_append_left c]
  · rw [if_neg c, List.getD_eq_getElem?_getD, List.getElem?_append_right (by omega), List.getElem?_replicate]
    split <;> rfl
section TPf
variable {h : hh_T} {m : Nat} {Q : Option Value ⊕ Nat → hh_T → Prop} {P : zP} {G : zG} {U : List zB} {β : Nat → zB}
/-- bytes are filled up to sectors -/
theorem t_pb_153 {i c : Nat} {l : zBy} {s : zU} {d : zD} (hT : tw_ok h m) (up : hh_i h m 77 = (Int32.ofNat 1)) (TU : tu h m 0 s) (hi : i < 8) (D : td h m i d) (hch : zu_ch s 9 d) (hl : l.length ≤ 32) (hcd : ta_c h (m + 28) l) (h2 : zu_pr s d 2 < 2147483648)
    (H : ∀ h', fr (tO m [28] []) h h' → ta_c h' (m + 28) (zl_pad l) → gm_G 408 206 [some (.ref m), none, none, some (.int (Int32.ofNat i)), none, some (.int (Int32.ofNat c)), none, some (.int (Int32.ofNat (((l.length + 7) / 8))))] [.int (bi (decide (zu_pr s d 2 = 1)))] h' Q) :
    gm_G 408 153 [some (.ref m), none, none, some (.int (Int32.ofNat i)), none, some (.int (Int32.ofNat c)), some (.int (Int32.ofNat l.length))] [] h Q := by
  refine w_408_153 hT ?_
  rw [i_add, i_div (by omega) (by decide)]
  have lp : ∀ e j h1, j + e = 8 * ((l.length + 7) / 8) → l.length ≤ j → fr (tO m [28] []) h h1 → (∀ y, y < j → hh_i h1 (m + 28) y = lf (zl_pad l) y) → gm_G 408 167 [some (.ref m), none, none, some (.int (Int32.ofNat i)), none, some (.int (Int32.ofNat c)), none, some (.int (Int32.ofNat (((l.length + 7) / 8)))), some (.int (Int32.ofNat j))] [] h1 Q := by
    intro e
    induction e with
    | zero =>
      intro j h1 ej hj g1 c1
      have ej : j = 8 * ((l.length + 7) / 8) := by omega
      have hT1 := hT.fr g1
      refine w_408_167 hT1 ⟨fun _ => ?_, fun z => absurd z (by rw [i_mul, i_lt (by omega) (by omega)]; omega)⟩
      have TU1 : tu h1 m 0 s := TU.sm (F := f0) (g1.sm rfl rfl)
      have D1 : td h1 m i d := D.sm (F := f0) (g1.sm rfl rfl)
      refine w_297_0 hT1 (t_property0 hT1 (by rw [g1.fld (f := 77) rfl]; exact up) TU1 (by decide) 9 i d hi D1 hch ?_)
      have hh := H h1 g1 (fun y hy => c1 y (by rw [zl_pad_len] at hy; omega))
      by_cases z : zu_pr s d 2 = 1
      · rw [decide_eq_true z] at hh
        exact ⟨fun y => absurd (by rw [show zu_prop s 2 9 d = 1 from z]) y, fun _ => hh⟩
      · rw [decide_eq_false z] at hh
        exact ⟨fun _ => hh, fun y => absurd ((i_eq h2 (by decide)).mp y) z⟩
    | succ e ih =>
      intro j h1 ej hj g1 c1
      refine w_408_167 (hT.fr g1) ⟨fun z => absurd (by rw [i_mul, i_lt (by omega) (by omega)]; omega) z, fun _ => ⟨j, ix_n (by omega) (by omega), fun h4 a4 => ?_⟩⟩
      rw [i_add]
      refine ih (j + 1) h4 (by omega) (by omega) (g1.trans (by rw [a4]; exact fr.a rfl)) (fun y hy => ?_)
      rw [a4]
      by_cases z : y = j
      · rw [hi_e ⟨rfl, z⟩, z, zl_pad_get, if_neg (by omega)]
        rfl
      · rw [hi_n (by omega)]
        exact c1 y (by omega)
  refine lp (8 * ((l.length + 7) / 8) - l.length) l.length h (by omega) (Nat.le_refl _) (fr.refl _ _) (fun y hy => ?_)
  rw [zl_pad_get, if_pos hy]
  exact hcd y hy
theorem zl_plan_eq (P : zP) (G : zG) (U : List zB) (co n : Nat) (shared : Bool) (f : Nat → Int32) : zl_plan P G U co n shared f = if zl_hole f then some (none, none) else match (if shared then U.find? (zl_db (zl_code co f).1 ((zl_code co f).2.length / 8) (zl_code co f).2) else none) with
    | some b => some (some b, none)
    | none => (match zl_cp P G U ((zl_code co f).2.length / 8) n with
      | none => none
      | some c => some (some ((zl_code co f).1, (zl_code co f).2.length / 8, c, sm (lf (zl_code co f).2) (zl_code co f).2.length, if shared then some (zl_code co f).2 else none), some (zl_code co f).2)) := rfl
theorem t_planBlock {b1 a i np : Nat} {s : zU} {d : zD} {π : Nat → Option zB × Option zBy} (hT : tw_ok h m) (w : gy_wf h) (R : rT_G h m G) (RP : rT_P h m P) (K : zg_ok P G) (up : hh_i h m 77 = (Int32.ofNat 1)) (TU : tu h m 0 s) (hi : i < 8) (D : td h m i d) (hch : zu_ch s 9 d) (hco : zu_pr s d 0 ≤ 2) (hn1 : 1 ≤ zu_pr s d 1) (hn2 : zu_pr s d 1 ≤ 2) (hs2 : zu_pr s d 2 ≤ 2)
    (t : tpn h m G U β np π) (hnp : np < 136) (ht : hh_tg h b1 = 101) (hl : a + 32 ≤ hh_ln h b1) (hl2 : hh_ln h b1 < 1000000) (hb : ∀ o, o ∈ oPl → ¬ b1 = m + o)
    (H0 : zl_plan P G U (zu_pr s d 0) (zu_pr s d 1) (decide (zu_pr s d 2 = 1)) (fun j => hh_i h b1 (a + j)) = none → ∀ h', gy_wf h' → fq m oPl fPl h h' → (∀ p, p < 640 → hh_i h (m + 18) p = (Int32.ofNat 1) → ts h h' m p) → Q (.inl (some (.int (Int32.ofNat 0)))) h')
    (H1 : ∀ q, zl_plan P G U (zu_pr s d 0) (zu_pr s d 1) (decide (zu_pr s d 2 = 1)) (fun j => hh_i h b1 (a + j)) = some q → ∀ h' β', gy_wf h' → fq m oPl fPl h h' → (∀ p, p < 640 → hh_i h (m + 18) p = (Int32.ofNat 1) → ts h h' m p ∧ β' p = β p) → tpn h' m G (q.1.toList ++ U) β' (np + 1) (fu π np q) → hh_i h' m 43 = hh_i h m 43 + (match q.1, q.2 with | some _, none => (Int32.ofNat 1) | _, _ => (Int32.ofNat 0)) → Q (.inl (some (.int (Int32.ofNat 1)))) h') :
    gm_G 408 0 [some (.ref m), some (.ref b1), some (.int (Int32.ofNat a)), some (.int (Int32.ofNat i))] [] h Q := by
  obtain ⟨t1, e41, hπ⟩ := t
  have hbm : ¬ b1 = m := fun e => by rw [e, hT.1] at ht; exact absurd ht (by decide)
  obtain ⟨f, hf⟩ : ∃ f, f = fun j => hh_i h b1 (a + j) := ⟨_, rfl⟩
  have hf' : ∀ j, hh_i h b1 (a + j) = f j := fun j => by rw [hf]
  rw [← hf] at H0 H1
  rw [zl_plan_eq] at H0 H1
  have fB : ∀ j, gy_b (f j) := fun j => by rw [← hf' j]; exact w.2.1 _ _ ht
  refine gy_use w ?_
  refine w_408_0 hT ?_
  -- the hole
  have lh : ∀ e j (z : Bool), j + e = 32 → (z = true ↔ ∀ y, y < j → f y = (Int32.ofNat 0)) → gm_G 408 6 [some (.ref m), some (.ref b1), some (.int (Int32.ofNat a)), some (.int (Int32.ofNat i)), some (.int (bi z)), some (.int (Int32.ofNat j))] [] h (fun r h' => gy_wf h' → Q r h') := by
    intro e
    induction e with
    | zero =>
      intro j z ej hz
      have ej : j = 32 := by omega
      subst ej
      have ez : z = zl_hole f := by
        rw [Bool.eq_iff_iff, hz]
        unfold zl_hole
        rw [List.all_eq_true]
        exact ⟨fun y x hx => decide_eq_true (y x (List.mem_range.mp hx)), fun y x hx => of_decide_eq_true (y x (List.mem_range.mpr hx))⟩
      refine w_408_6 hT ⟨fun _ => ⟨np, by rw [e41]; exact ix_n hnp (by omega), fun h2 a2 => ⟨np, by rw [a2, hi_n (by omega), e41]; exact ix_n hnp (by omega), fun h4 a4 => ?_⟩⟩, fun y => absurd y (by decide)⟩
      have g4 : fr (tO m [30, 31] []) h h4 := by rw [a4, a2]; exact (fr.a rfl).trans (fr.a rfl)
      have v41 : hh_i h4 m 41 = (Int32.ofNat np) := by rw [g4.fld (f := 41) rfl]; exact e41
      have v30 : ∀ j, hh_i h4 (m + 30) j = if j = np then Int32.ofInt (-1) else hh_i h (m + 30) j := fun j => by
        rw [a4, hi_n (by omega), a2]
        by_cases y : j = np
        · rw [hi_e ⟨rfl, y⟩, if_pos y]
        · rw [hi_n (by omega), if_neg y]
      have v31 : ∀ j, hh_i h4 (m + 31) j = if j = np then (Int32.ofNat 0) else hh_i h (m + 31) j := fun j => by
        rw [a4]
        by_cases y : j = np
        · rw [hi_e ⟨rfl, y⟩, if_pos y]
        · rw [hi_n (by omega), a2, hi_n (by omega), if_neg y]
      have t4 : tpt h4 m G U β := tpt_fr t1 g4 rfl
      have hT4 := hT.fr g4
      have π4 : ∀ j, j < np → tpe h4 m β j (π j) := fun j hj => tpe_ts t1 (by rw [v30, if_neg (by omega)]) (by rw [v31, if_neg (by omega)]) (fun p hp up => ⟨ts_fr g4 rfl, rfl⟩) (hπ j hj)
      cases z with
      | true =>
        refine ⟨fun y => absurd y (by decide), fun _ h9 a9 w9 => ?_⟩
        rw [v41, i_add] at a9
        rw [← ez, if_pos rfl] at H1
        have g9 : fr (tO m [] [41]) h4 h9 := by rw [a9]; exact fr.f rfl
        have g0 : fr (tO m [30, 31] [41]) h h9 := (g4.up rfl rfl).trans (g9.up rfl rfl)
        refine H1 (none, none) rfl h9 β w9 (fq.of (g0.up rfl rfl)) (fun p hp up => ⟨ts_fr g0 rfl, rfl⟩) ⟨tpt_fr t1 g0 rfl, by rw [a9, hi_e ⟨rfl, rfl⟩], fun j hj => ?_⟩ ?_
        · by_cases y : j = np
          · rw [fu, if_pos y]
            refine ⟨?_, ?_⟩
            · rw [g9.arr (o := 30) rfl, v30, if_pos y]
            · rw [g9.arr (o := 31) rfl, v31, if_pos y]
          · rw [fu, if_neg y]
            exact tpe_ts t4 (by rw [g9.arr (o := 30) rfl]) (by rw [g9.arr (o := 31) rfl]) (fun p hp up => ⟨ts_fr g9 rfl, rfl⟩) (π4 j (by omega))
        · rw [g0.fld (f := 43) rfl]
          exact (Int32.add_zero _).symm
      | false =>
        refine ⟨fun _ => ?_, fun y => absurd rfl y⟩
        rw [← ez, if_neg (by decide)] at H0 H1
        have TU4 : tu h4 m 0 s := TU.sm (F := f0) (g4.sm rfl rfl)
        have D4 : td h4 m i d := D.sm (F := f0) (g4.sm rfl rfl)
        have up4 : hh_i h4 m 77 = (Int32.ofNat 1) := by rw [g4.fld (f := 77) rfl]; exact up
        -- behind the coding
        have fin : ∀ h5 c (l : zBy), zl_code (zu_pr s d 0) f = (c, zl_pad l) → fr (tO m [28] []) h4 h5 → ta_c h5 (m + 28) l → 1 ≤ l.length → l.length ≤ 32 → c ≤ 2 → (∀ j, j < l.length → gy_b (lf l j)) → gm_G 408 153 [some (.ref m), none, none, some (.int (Int32.ofNat i)), none, some (.int (Int32.ofNat c)), some (.int (Int32.ofNat l.length))] [] h5 (fun r h' => gy_wf h' → Q r h') := by
          intro h5 c l ecd g5 c5 hl1 hl32 hc w5
          have TU5 : tu h5 m 0 s := TU4.sm (F := f0) (g5.sm rfl rfl)
          have D5 : td h5 m i d := D4.sm (F := f0) (g5.sm rfl rfl)
          refine t_pb_153 (hT4.fr g5) (by rw [g5.fld (f := 77) rfl]; exact up4) TU5 hi D5 hch hl32 c5 (by omega) (fun h6 g6 c6 => ?_)
          have g46 := g5.trans g6
          have g06 : fr (tO m [28, 30, 31] []) h h6 := (g4.up rfl rfl).trans (g46.up rfl rfl)
          have hT6 := hT4.fr g46
          have t6 : tpt h6 m G U β := tpt_fr t4 g46 rfl
          have π6 : ∀ j, j < np → tpe h6 m β j (π j) := fun j hj => tpe_ts t4 (by rw [g46.arr (o := 30) rfl]) (by rw [g46.arr (o := 31) rfl]) (fun p hp up => ⟨ts_fr g46 rfl, rfl⟩) (π4 j hj)
          have w41 : hh_i h6 m 41 = (Int32.ofNat np) := by rw [g46.fld (f := 41) rfl]; exact v41
          have hlen := zl_pad_len l
          have ek : (zl_pad l).length / 8 = (l.length + 7) / 8 := by omega
          rw [ecd] at H0 H1
          (try dsimp only at H0 H1)
          rw [ek] at H0 H1
          refine t_pb_dbl hT6 t6 hc (by omega) hlen c6 (fun edb => ?_) (fun x hx ux edb => ?_)
          · rw [edb] at H0 H1
            (try dsimp only at H0 H1)
            have w6 : ∀ j, j < (zl_pad l).length → gy_b (lf (zl_pad l) j) := fun j _ => by
              rw [zl_pad_get]
              split
              · rename_i y; exact w5 j y
              · rfl
            refine t_pb_new (n := zu_pr s d 1) hT6 w6 (R.fr g06 rfl rfl) (RP.fr g06 rfl rfl) K (by rw [g06.fld (f := 77) rfl]; exact up) (TU5.sm (F := f0) (g6.sm rfl rfl)) hi (D5.sm (F := f0) (g6.sm rfl rfl)) hch rfl hn1 hn2 t6 w41 hnp π6 hc (by omega) (by omega) hlen c6 edb (fun ecp h' g' s' w' => ?_) (fun cp ecp h' β' g' s' t' e43 w' => ?_)
            · rw [ecp] at H0
              exact H0 rfl h' w' ((fq.of (g06.up rfl rfl)).trans g') (fun p hp up => (ts_fr g06 rfl).trans (s' p hp (by rw [g06.arr (o := 18) rfl]; exact up)))
            · rw [ecp] at H1
              refine H1 _ rfl h' β' w' ((fq.of (g06.up rfl rfl)).trans g') (fun p hp up => ?_) t' ?_
              · obtain ⟨s1, s2⟩ := s' p hp (by rw [g06.arr (o := 18) rfl]; exact up)
                exact ⟨(ts_fr g06 rfl).trans s1, s2⟩
              · rw [e43, g06.fld (f := 43) rfl]
                exact (Int32.add_zero _).symm
          · rw [edb] at H1
            (try dsimp only at H1)
            refine ⟨np, by rw [w41]; exact ix_n hnp (by omega), fun ha aa hb' ab hc' ac w' => ?_⟩
            have u41 : hh_i ha m 41 = (Int32.ofNat np) := by rw [aa, hi_n (by omega)]; exact w41
            rw [u41, i_add] at ab
            have gz : fr (tO m [30] [41, 43]) h6 hc' := by rw [ac, ab, aa]; exact ((fr.a rfl).trans (fr.f rfl)).trans (fr.f rfl)
            have g0z : fr (tO m [28, 30, 31] [41, 43]) h hc' := (g06.up rfl rfl).trans (gz.up rfl rfl)
            have x30 : ∀ j, hh_i hc' (m + 30) j = if j = np then (Int32.ofNat x) else hh_i h6 (m + 30) j := fun j => by
              rw [ac, hi_n (by omega), ab, hi_n (by omega), aa]
              by_cases y : j = np
              · rw [hi_e ⟨rfl, y⟩, if_pos y]
              · rw [hi_n (by omega), if_neg y]
            have tz : tpt hc' m G U β := tpt_fr t6 gz rfl
            refine H1 (some (β x), none) rfl hc' β w' (fq.of (g0z.up rfl rfl)) (fun p hp up => ⟨ts_fr g0z rfl, rfl⟩) ⟨⟨fun p hp => ?_, fun b hb => ?_, ?_, tz.2.2.2.1, fun b b' hb hb' => ?_⟩, by rw [ac, hi_n (by omega), ab, hi_e ⟨rfl, rfl⟩], fun j hj => ?_⟩ ?_
            · rcases tz.1 p hp with ⟨q1, q2, q3, q4, q5⟩ | q
              · exact Or.inl ⟨q1, q2, q3, q4, List.mem_cons_of_mem _ q5⟩
              · exact Or.inr q
            · rcases List.mem_cons.mp hb with e | hb
              · exact ⟨x, hx, by rw [gz.arr (o := 18) rfl]; exact ux, e.symm⟩
              · exact tz.2.1 b hb
            · intro g y hg hy
              rw [tz.2.2.1 g y hg hy]
              congr 1
              have hm := (t6.at hx ux).2.2.2
              show zl_tk G U g y = ((zb_cp (β x)).any _ || zl_tk G U g y)
              cases q : (zb_cp (β x)).any (fun c => decide (c.1 = g) && decide (c.2 ≤ y) && decide (y < c.2 + zg_sp G g (zb_k (β x)))) with
              | false => rfl
              | true =>
                unfold zl_tk
                rw [Bool.true_or, List.any_eq_true]
                exact ⟨β x, hm, q⟩
            · have hm := (t6.at hx ux).2.2.2
              have hb1 : b ∈ U := by
                rcases List.mem_cons.mp hb with e | hb
                · rw [e]; exact hm
                · exact hb
              have hb2 : b' ∈ U := by
                rcases List.mem_cons.mp hb' with e | hb
                · rw [e]; exact hm
                · exact hb
              exact tz.2.2.2.2 b b' hb1 hb2
            · by_cases y : j = np
              · rw [fu, if_pos y]
                refine ⟨x, hx, by rw [x30, if_pos y], ?_, by rw [gz.arr (o := 18) rfl]; exact ux, rfl⟩
                rw [gz.arr (o := 31) rfl, g46.arr (o := 31) rfl, v31, if_pos y]
              · rw [fu, if_neg y]
                exact tpe_ts t6 (by rw [x30, if_neg y]) (by rw [gz.arr (o := 31) rfl]) (fun p hp up => ⟨ts_fr gz rfl, rfl⟩) (π6 j (by omega))
            · rw [ac, hi_e ⟨rfl, rfl⟩, ab, hi_n (by omega), aa, hi_n (by omega), g06.fld (f := 43) rfl]
        -- bytes as they are
        have raw : ∀ h5, zl_code (zu_pr s d 0) f = (0, lm f 0 32) → fr (tO m [28] []) h4 h5 → gm_G 408 117 [some (.ref m), some (.ref b1), some (.int (Int32.ofNat a)), some (.int (Int32.ofNat i))] [] h5 (fun r h' => gy_wf h' → Q r h') := by
          intro h5 ecd g5
          have hT5 := hT4.fr g5
          have g05 : fr (tO m [28, 30, 31] []) h h5 := (g4.up rfl rfl).trans (g5.up rfl rfl)
          refine w_408_117 hT5 ?_
          refine lp_fill (m := m) (o := 28) (b := 0) (n := 32) (fun j => [some (.ref m), some (.ref b1), some (.int (Int32.ofNat a)), some (.int (Int32.ofNat i)), none, some (.int (Int32.ofNat 0)), some (.int (Int32.ofNat 32)), some (.int (Int32.ofNat j))]) f (by decide) (fun j h1 hj g1 _ kk => ?_) (fun h6 g6 e6 => ?_)
          · have g01 : fr (tO m [28, 30, 31] []) h h1 := g05.trans (g1.up rfl rfl)
            have eb : hh_i h1 b1 = hh_i h b1 := g01.out (Or.inr ⟨fun o ho => hb o (by
              have : o = 28 ∨ o = 30 ∨ o = 31 := by simpa using ho
              rcases this with e | e | e <;> subst e <;> decide), hbm⟩)
            refine w_408_127 (hT5.fr g1) ⟨fun z => absurd (by rw [i_lt (by omega) (by decide)]; exact hj) z, fun _ => ⟨Or.inl (by rw [g01.tg]; exact ht), a + j, by rw [i_add, g01.ln]; exact ix_n (by omega) (by omega), j, ix_n (by omega) (by omega), fun h12 a12 => ?_⟩⟩
            rw [eb, hf' j, show (f j).toInt8.toInt32 = f j from fB j] at a12
            rw [a12, i_add, show 0 + j = j from Nat.zero_add j] at *
            exact kk
          · refine w_408_127 (hT5.fr g6) ⟨fun _ => ?_, fun z => absurd z (by decide)⟩
            have c6 : ta_c h6 (m + 28) (lm f 0 32) := fun j hj => by
              rw [lm_len] at hj
              rw [e6, if_pos (by omega), lm_get f 32 0 j hj, Nat.zero_add, Nat.sub_zero]
            have epd : zl_pad (lm f 0 32) = lm f 0 32 := by
              unfold zl_pad
              rw [lm_len]
              exact List.append_nil _
            have := fin h6 0 (lm f 0 32) (by rw [ecd, epd]) (g5.trans g6) c6 (by rw [lm_len]; decide) (by rw [lm_len]; decide) (by decide) (fun j hj => by rw [lm_len] at hj; unfold lf; rw [lm_get f 32 0 j hj]; exact fB _)
            rw [lm_len] at this
            exact this
        have w4 : gy_wf h4 := by
          refine g4.wf w hT (fun o ho e => ?_) (fun o ho e k => ?_) (fun f hf => absurd hf (List.not_mem_nil)) (fun o ho => ?_)
          · have : o = 30 ∨ o = 31 := by simpa using ho
            rcases this with q | q <;> subst q <;> exact absurd e (by decide)
          · have : o = 30 ∨ o = 31 := by simpa using ho
            rcases this with q | q <;> subst q
            · exact absurd e (by decide)
            · rw [v31]
              split
              · exact Or.inl rfl
              · exact w.2.2.1 _ _ ((hT.2.2 31 (by decide)).1)
          · have : o = 30 ∨ o = 31 := by simpa using ho
            rcases this with q | q <;> subst q <;> decide
        have eb4 : hh_i h4 b1 = hh_i h b1 := g4.out (Or.inr ⟨fun o ho => hb o (by
          have : o = 30 ∨ o = 31 := by simpa using ho
          rcases this with e | e <;> subst e <;> decide), hbm⟩)
        have ef : (fun i => hh_i h4 b1 (a + i)) = f := by funext j; rw [eb4]; exact hf' j
        refine w_297_0 hT4 (t_property0 hT4 up4 TU4 (by decide) 9 i d hi D4 hch ?_)
        by_cases z0 : zu_pr s d 0 = 0
        · have z0' : zu_prop s 0 9 d = 0 := z0
          rw [z0']
          exact ⟨fun y => absurd rfl y, fun _ => w_408_103 hT4 ⟨fun _ => raw h4 (by unfold zl_code; rw [if_pos z0]) (fr.refl _ _), fun y => absurd rfl y⟩⟩
        · have aft : ∀ h5 (l : zBy), (if zu_pr s d 0 = 1 then zc (ze f) f 33 0 else pc (mt f) (lt f) 33 0 0) = l → fr (tO m [28] []) h4 h5 → ta_c h5 (m + 28) l → 1 ≤ l.length → l.length ≤ 65 → gy_wf h5 → gm_G 408 103 [some (.ref m), some (.ref b1), some (.int (Int32.ofNat a)), some (.int (Int32.ofNat i)), none, some (.int (Int32.ofNat ((zu_pr s d 0))))] [.int (Int32.ofNat (l.length))] h5 (fun r h' => gy_wf h' → Q r h') := by
            intro h5 l el g5 c5 hl1 hl65 w5
            have hT5 := hT4.fr g5
            refine w_408_103 hT5 ⟨fun y => absurd ((i_eq (by omega) (by decide)).mp y) z0, fun _ => ⟨fun y => ?_, fun y => ?_⟩⟩
            · rw [i_lt (by decide) (by omega)] at y
              refine fin h5 (zu_pr s d 0) l ?_ g5 c5 hl1 (by omega) hco (fun j hj => ?_)
              · unfold zl_code
                rw [if_neg z0, el, if_neg y]
              · have := w5.2.1 (m + 28) j ((hT5).2.2 28 (by decide)).1
                rw [c5 j hj] at this
                exact this
            · rw [i_lt (by decide) (by omega)] at y
              refine raw h5 ?_ g5
              unfold zl_code
              rw [if_neg z0, el, if_pos y]
          refine ⟨fun _ => ?_, fun y => absurd ((i_eq (by show zu_pr s d 0 < _; omega) (by decide)).mp y) z0⟩
          refine gy_use w4 ?_
          by_cases z1 : zu_pr s d 0 = 1
          · rw [show zu_prop s 0 9 d = 1 from z1]
            refine t_zcode hT4 (by rw [g4.tg]; exact ht) (by rw [g4.ln]; exact hl) (by omega) (fun j => w4.2.1 _ _ (by rw [g4.tg]; exact ht)) (hb 28 (by decide)) (fun h5 g5 c5 hlen w5 => ?_)
            rw [ef] at c5 hlen ⊢
            have := aft h5 _ (by rw [if_pos z1]) (g5.mono (fun q j e => Or.inl ⟨28, List.mem_singleton.mpr rfl, e, by decide⟩)) c5 (zc_ne _ _) (by omega) w5
            rw [z1] at this
            exact this
          · refine t_pcode (fun y => z1 ((i_eq (by show zu_pr s d 0 < _; omega) (by decide)).mp y)) hT4 (by rw [g4.tg]; exact ht) (by rw [g4.ln]; exact hl) (by omega) (fun j => w4.2.1 _ _ (by rw [g4.tg]; exact ht)) (hb 28 (by decide)) (fun h5 g5 c5 hlen w5 => ?_)
            rw [ef] at c5 hlen ⊢
            exact aft h5 _ (by rw [if_neg z1]) (g5.mono (fun q j e => Or.inl ⟨28, List.mem_singleton.mpr rfl, e, by decide⟩)) c5 (pc_ne f 33 0 0 (by decide) (by decide) (by decide)) hlen w5
    | succ e ih =>
      intro j z ej hz
      have fj := hf' j
      refine w_408_6 hT ⟨fun y => absurd (by rw [i_lt (by omega) (by decide)]; omega) y, fun _ => ⟨fun y => w_408_31 hT (w_408_32 hT ?_), fun y => ⟨Or.inl ht, a + j, by rw [i_add]; exact ix_n (by omega) (by omega), fun y2 => w_408_31 hT (w_408_32 hT ?_), fun y2 => w_408_32 hT ?_⟩⟩⟩
      · have zf : z = false := by cases z with
          | false => rfl
          | true => exact absurd y (by decide)
        rw [i_add]
        refine ih (j + 1) false (by omega) ⟨fun y => absurd y (by decide), fun y => ?_⟩
        have := hz.mpr (fun q hq => y q (by omega))
        rw [zf] at this
        exact this
      · rw [i_add]
        refine ih (j + 1) false (by omega) ⟨fun y => absurd y (by decide), fun y => absurd (y j (by omega)) (by rw [← fj]; exact y2)⟩
      · have zt : z = true := by cases z with
          | true => rfl
          | false => exact absurd rfl y
        rw [i_add]
        refine ih (j + 1) true (by omega) ⟨fun _ q hq => ?_, fun _ => rfl⟩
        by_cases q2 : q = j
        · subst q2; rw [← fj]; exact y2
        · exact hz.mp zt q (by omega)
  exact lh 32 0 true rfl ⟨fun _ q hq => absurd hq (Nat.not_lt_zero _), fun _ => rfl⟩
end TPf
