/-! STAGE 3: a turn, 2 -/
def oTs : List Nat := [78, 79, 80, 81] ++ oCS
def fTs : List Nat := [15, 17, 99, 100]
/-- the house behind a turn -/
def ze_turn (E : zE) : zE := ze_heads_ (ze_liv_ E (zu_no_ (ze_liv E) (zu_no (ze_liv E) + 1))) ((zu_no_ (ze_liv E) (zu_no (ze_liv E) + 1) :: ze_heads E).take 3)
theorem zu_e_turn {E : zE} (up : ze_up E = true) {b : zB} (hb : b ∈ zu_e (ze_turn E)) : b ∈ zu_e E := by
  have e1 : ze_up (ze_turn E) = true := up
  unfold zu_e at hb ⊢
  rw [e1] at hb
  rw [up]
  rcases List.mem_append.mp hb with hb | hb
  · exact List.mem_append_left _ hb
  · obtain ⟨s, hs, hb⟩ := List.mem_flatMap.mp hb
    rcases List.mem_cons.mp (List.mem_of_mem_take hs) with e | hs
    · rw [e] at hb
      exact List.mem_append_left _ hb
    · exact List.mem_append_right _ (List.mem_flatMap.mpr ⟨s, hs, hb⟩)
section TU
variable {h h' : hh_T} {m v : Nat} {E : zE}
theorem rT_E_turn (R : rT_E h m E) (up : ze_up E = true) (hno : zu_no (ze_liv E) < 2147482000) (hv1 : 1 ≤ v) (hv4 : v < 4) (fr' : ∀ c, c < (ze_heads E).length → c < 2 → ¬ hh_i h (m + 78) c = (Int32.ofNat v)) (g : fr (tO m oTs fTs) h h') (s0 : st h h' m 0 v) (s1 : ∀ j, ¬ j = v → st h h' m j j)
    (e78 : hh_i h' (m + 78) 0 = (Int32.ofNat v)) (e78' : ∀ c, c < 2 → hh_i h' (m + 78) (c + 1) = hh_i h (m + 78) c) (e79 : hh_i h' (m + 79) 0 = (Int32.ofNat (zu_no (ze_liv E) + 1))) (e79' : ∀ c, c < 2 → hh_i h' (m + 79) (c + 1) = hh_i h (m + 79) c) (e99 : hh_i h' m 99 = (Int32.ofNat (min ((ze_heads E).length + 1) 3))) (e100 : hh_i h' m 100 = (Int32.ofNat (zu_no (ze_liv E) + 1))) :
    rT_E h' m (ze_turn E) ∧ ∀ p, tw_uN h' m p → tw_uN h m p := by
  obtain ⟨r1, r2, r3, r4, r5, r6, r7, r8, r9⟩ := id R
  obtain ⟨TU, l2, l3⟩ := r3 up
  have kt : ∀ t T, tt h m t T → tt h' m t T := fun t T X => tt_so X.1 (by rw [g.arr (o := 58) rfl]) (fun o _ => so_fr g rfl) (fun p b0 _ _ B => tb_f8 B g rfl) X
  have s00 : st h h' m 0 0 := s1 0 (by omega)
  have hl : (ze_heads (ze_turn E)).length = min ((ze_heads E).length + 1) 3 := by
    show ((zu_no_ (ze_liv E) (zu_no (ze_liv E) + 1) :: ze_heads E).take 3).length = _
    rw [List.length_take, List.length_cons, Nat.min_comm]
  have hg : ∀ c s, (ze_heads (ze_turn E))[c]? = some s → (c = 0 ∧ s = zu_no_ (ze_liv E) (zu_no (ze_liv E) + 1)) ∨ ∃ c', c = c' + 1 ∧ c' < 2 ∧ (ze_heads E)[c']? = some s := fun c s hs => by
    have hs : ((zu_no_ (ze_liv E) (zu_no (ze_liv E) + 1) :: ze_heads E).take 3)[c]? = some s := hs
    rw [List.getElem?_take] at hs
    split at hs
    · cases c with
      | zero => exact Or.inl ⟨rfl, (Option.some.inj hs).symm⟩
      | succ c' => exact Or.inr ⟨c', rfl, by omega, hs⟩
    · cases hs
  -- slots that count did so before
  have sl : ∀ t, tw_sl h' m (ze_up (ze_turn E)) (ze_heads (ze_turn E)).length t → tw_sl h m (ze_up E) (ze_heads E).length t := by
    rintro t ⟨j, hj, hj4, q⟩
    have q : tw_os h' m j t := q
    rcases hj with ⟨e, -⟩ | ⟨c, hc, e⟩
    · subst e
      exact ⟨0, Or.inl ⟨rfl, up⟩, by decide, (tw_os_st s00).mp q⟩
    · rcases hg c _ (List.getElem?_eq_getElem hc) with ⟨e0, -⟩ | ⟨c', e0, hc2, hs⟩
      · subst e0
        rw [e78] at e
        have : v = j := (i_eq (by omega) (by omega)).mp e
        subst this
        exact ⟨0, Or.inl ⟨rfl, up⟩, by decide, (tw_os_st s0).mp q⟩
      · subst e0
        rw [e78' c' hc2] at e
        have hc' : c' < (ze_heads E).length := (List.getElem?_eq_some_iff.mp hs).1
        have hjv : ¬ j = v := fun y => fr' c' hc' hc2 (by rw [e, y])
        exact ⟨j, Or.inr ⟨c', hc', e⟩, hj4, (tw_os_st (s1 j hjv)).mp q⟩
  have us : ∀ p, tw_us h' m (tw_sl h' m (ze_up (ze_turn E)) (ze_heads (ze_turn E)).length) p → tw_us h m (tw_sl h m (ze_up E) (ze_heads E).length) p := fun p u => by
    rw [tw_us_l1] at u ⊢
    obtain ⟨t, u1, u2, u3⟩ := u
    exact ⟨t, sl t u1, u2, (tw_l1_so (fun o _ => so_fr g rfl)).mp u3⟩
  have R9 : rT_E h' m (ze_turn E) := by
    refine ⟨by rw [g.fld (f := 76) rfl]; exact r1, by rw [g.fld (f := 77) rfl]; exact r2, fun _ => ⟨tu_st s00 kt TU, e100, by show zu_no (ze_liv E) + 1 < _; omega⟩, by rw [hl]; exact e99, by rw [hl]; omega, fun c s hs => ?_, fun c c' hc hc' e => ?_, fun p q hp hq u y e1 e2 => ?_, fun p hp u => ?_⟩
    · rcases hg c s hs with ⟨e0, es⟩ | ⟨c', e0, hc2, hs'⟩
      · subst e0
        rw [es]
        exact ⟨v, e78, hv1, hv4, e79, by show zu_no (ze_liv E) + 1 < _; omega, tu_st s0 kt TU⟩
      · subst e0
        obtain ⟨j, z1, z2, z3, z4, z5, z6⟩ := r6 c' s hs'
        have hc' : c' < (ze_heads E).length := (List.getElem?_eq_some_iff.mp hs').1
        have hjv : ¬ j = v := fun y => fr' c' hc' hc2 (by rw [z1, y])
        exact ⟨j, by rw [e78' c' hc2]; exact z1, z2, z3, by rw [e79' c' hc2]; exact z4, z5, tu_st (s1 j hjv) kt z6⟩
    · rw [hl] at hc hc'
      cases c with
      | zero =>
        cases c' with
        | zero => rfl
        | succ c1 =>
          rw [e78, e78' c1 (by omega)] at e
          exact absurd e.symm (fr' c1 (by omega) (by omega))
      | succ c0 =>
        cases c' with
        | zero =>
          rw [e78, e78' c0 (by omega)] at e
          exact absurd e (fr' c0 (by omega) (by omega))
        | succ c1 =>
          rw [e78' c0 (by omega), e78' c1 (by omega)] at e
          have := r7 c0 c1 (by omega) (by omega) e
          omega
    · rw [g.arr (o := 23) rfl] at e1
      rw [g.arr (o := 24) rfl] at e2
      exact r8 p q hp hq (us p u) (us q y) e1 e2
    · rw [g.arr (o := 17) rfl]
      exact r9 p hp (us p u)
  exact ⟨R9, fun p u => (tw_uN.of R).mpr (us p ((tw_uN.of R9).mp u))⟩
end TU
section TV
variable {h : hh_T} {m : Nat} {S : zS} {Q : Option Value ⊕ Nat → hh_T → Prop}
def oTu : List Nat := [17, 18, 27, 32, 33] ++ oTs
def fTu : List Nat := 41 :: fTs
theorem zs_turn_0 {S : zS} (z : zp_arm (zs_P S) = some 0) : zs_turn S = (zs_fall (zs_P_ S (zp_arm_ (zs_P S) none)), (Int32.ofInt (-12))) := if_pos z
theorem zs_turn_1 {S : zS} (z : ¬ zp_arm (zs_P S) = some 0) : zs_turn S = (zs_set (zs_R_ (zs_E_ (zs_P_ S (zp_wrote (zs_P S))) (ze_turn (zs_E S))) (fun _ => ([], 0))), (Int32.ofNat (zu_no (zs_liv S) + 1))) := if_neg z
theorem t_doTurn (R : rTq h m S) (w : gy_wf h) (K : zg_ok (zs_P S) (zs_G S)) (up : zs_up S = true) (hU : zU_ok (zs_G S) (zu_e (zs_E S))) (hC : zc_zb (zs_G S) (zs_C S)) (hno : zu_no (zs_liv S) < 2147482000)
    (H0 : zp_arm (zs_P S) = some 0 → ∀ h', gy_wf h' → rTx h' m (zs_turn S).1 → fr (tO m oFall fFall) h h' → Q (.inl (some (.int (Int32.ofInt (-12))))) h')
    (H1 : ¬ zp_arm (zs_P S) = some 0 → ∀ h', gy_wf h' → rTp h' m (zs_turn S).1 → fr (tO m oTu fTu) h h' → Q (.inl (some (.int (Int32.ofNat (zu_no (zs_liv S) + 1))))) h') : gm_G 440 0 [some (.ref m)] [] h Q := by
  obtain ⟨r0, r1, r2, r3, r4, r5, r6, r7, r8, r9⟩ := id R
  obtain ⟨q1, q2, q3, q4, q5, q6, q7, q8, q9⟩ := id r4
  have upE : ze_up (zs_E S) = true := up
  have hs0 := rT_E_hs r4
  refine gy_use w ?_
  refine w_440_0 r0 ?_
  refine t_fails r0 r2 ?_
  by_cases z : zp_arm (zs_P S) = some 0
  · rw [decide_eq_true z]
    refine ⟨fun y => absurd y (by decide), fun _ => ?_⟩
    refine t_down R.m0 (fun h4 g4 RX w4 => H0 z h4 w4 ?_ g4)
    rw [zs_turn_0 z]
    exact RX
  · rw [decide_eq_false z]
    refine ⟨fun _ => ?_, fun y => absurd rfl y⟩
    refine t_wrote r0 r2 z (fun h3 g3 RP3 => ?_)
    show gm_G 440 22 _ [] h3 _
    have hT3 := r0.fr g3
    have e99 : hh_i h3 m 99 = (Int32.ofNat ((ze_heads (zs_E S)).length)) := by rw [g3.fld (f := 99) rfl]; exact q4
    have e78 : hh_i h3 (m + 78) = hh_i h (m + 78) := g3.arr rfl
    obtain ⟨nh, enh⟩ : ∃ nh, nh = (ze_heads (zs_E S)).length := ⟨_, rfl⟩
    rw [← enh] at e99 q5 hs0
    -- behind the choice of a state
    have go : ∀ v, 1 ≤ v → v < 4 → (∀ c, c < nh → c < 2 → ¬ hh_i h (m + 78) c = (Int32.ofNat v)) → gm_G 440 92 [some (.ref m), some (.int (Int32.ofNat v)), some (.int (Int32.ofNat 2))] [] h3 (fun r h' => gy_wf h' → Q r h') := by
      intro v hv1 hv4 hfree
      refine w_440_92 hT3 ⟨fun y => absurd (by decide) y, fun _ => ⟨1, by rw [i_sub (by decide)]; exact ix_n (by decide) (by decide), 2, ix_n (by decide) (by decide), fun ha aa => ⟨1, by rw [i_sub (by decide)]; exact ix_n (by decide) (by decide), 2, ix_n (by decide) (by decide), fun hb ab => ?_⟩⟩⟩
      have hTb : tw_ok hb m := by rw [ab, aa]; exact hT3
      rw [i_m1, i_sub (by decide)]
      refine w_440_92 hTb ⟨fun y => absurd (by decide) y, fun _ => ⟨0, by rw [i_sub (by decide)]; exact ix_n (by decide) (by decide), 1, ix_n (by decide) (by decide), fun hc ac => ⟨0, by rw [i_sub (by decide)]; exact ix_n (by decide) (by decide), 1, ix_n (by decide) (by decide), fun hd ad => ?_⟩⟩⟩
      have hTd : tw_ok hd m := by rw [ad, ac]; exact hTb
      rw [i_m1, i_sub (by decide)]
      have gd : fr (tO m oTs [99, 100]) h3 hd := by rw [ad, ac, ab, aa]; exact (((fr.a rfl).trans (fr.a rfl)).trans (fr.a rfl)).trans (fr.a rfl)
      have d99 : hh_i hd m 99 = (Int32.ofNat nh) := by rw [ad, hi_n (by omega), ac, hi_n (by omega), ab, hi_n (by omega), aa, hi_n (by omega)]; exact e99
      have d78 : hh_i hd (m + 78) 2 = hh_i h (m + 78) 1 ∧ hh_i hd (m + 78) 1 = hh_i h (m + 78) 0 := by
        refine ⟨?_, ?_⟩
        · rw [ad, hi_n (by omega), ac, hi_n (by omega), ab, hi_n (by omega), aa, hi_e ⟨rfl, rfl⟩, e78]
        · rw [ad, hi_n (by omega), ac, hi_e ⟨rfl, rfl⟩, ab, hi_n (by omega), aa, hi_n (by omega), e78]
      have d79 : hh_i hd (m + 79) 2 = hh_i h (m + 79) 1 ∧ hh_i hd (m + 79) 1 = hh_i h (m + 79) 0 := by
        refine ⟨?_, ?_⟩
        · rw [ad, hi_n (by omega), ac, hi_n (by omega), ab, hi_e ⟨rfl, rfl⟩, aa, hi_n (by omega), g3.arr (o := 79) rfl]
        · rw [ad, hi_e ⟨rfl, rfl⟩, ac, hi_n (by omega), ab, hi_n (by omega), aa, hi_n (by omega), g3.arr (o := 79) rfl]
      -- behind the count of heads
      have go2 : gm_G 440 149 [some (.ref m), some (.int (Int32.ofNat v))] [.int (Int32.ofNat (min (nh + 1) 3)), .ref m] hd (fun r h' => gy_wf h' → Q r h') := by
        refine w_440_149 hTd (fun h1 a1 => ?_)
        have g1 : fr (tO m oTs [99, 100]) h3 h1 := gd.trans (by rw [a1]; exact fr.f rfl)
        have hT1 := hT3.fr g1
        have g01 : fr (tO m oTs fTs) h h1 := (g3.up rfl rfl).trans (g1.up rfl rfl)
        have w1 : gy_wf h1 := by
          have gg : fr (tO m [78, 79] [15, 17, 99]) h h1 := (g3.up rfl rfl).trans ((by rw [ad, ac, ab, aa]; exact (((fr.a rfl).trans (fr.a rfl)).trans (fr.a rfl)).trans (fr.a rfl) : fr (tO m [78, 79] [15, 17, 99]) h3 hd).trans (by rw [a1]; exact fr.f rfl))
          refine gg.wf w r0 (fun o ho e => ?_) (fun o ho e => ?_) (fun f hf e => ?_) (fun o ho => ?_)
          · have : o = 78 ∨ o = 79 := by simpa using ho
            rcases this with q | q <;> subst q <;> exact absurd e (by decide)
          · have : o = 78 ∨ o = 79 := by simpa using ho
            rcases this with q | q <;> subst q <;> exact absurd e (by decide)
          · have : f = 15 ∨ f = 17 ∨ f = 99 := by simpa using hf
            rcases this with q | q | q <;> subst q <;> exact absurd e (by decide)
          · have : o = 78 ∨ o = 79 := by simpa using ho
            rcases this with q | q <;> subst q <;> decide
        refine gy_use w1 ?_
        refine t_copyState hT1 w1 (by decide) hv4 (by omega) (fun h2 g2 I2 w2 => ?_)
        intro h4 a4 h5 a5 h6 a6
        have v100 : hh_i h2 m 100 = (Int32.ofNat (zu_no (zs_liv S))) := by rw [g2.fld (f := 100) rfl, a1, hi_n (by omega), ad, hi_n (by omega), ac, hi_n (by omega), ab, hi_n (by omega), aa, hi_n (by omega), g3.fld (f := 100) rfl]; exact (q3 upE).2.1
        rw [v100, i_add] at a4
        have v100' : hh_i h5 m 100 = (Int32.ofNat (zu_no (zs_liv S) + 1)) := by rw [a5, hi_n (by omega), a4, hi_e ⟨rfl, rfl⟩]
        rw [v100'] at a6
        have g36 : fr (tO m oTs [99, 100]) h3 h6 := ((g1.trans (g2.up rfl rfl)).trans (by rw [a6, a5, a4]; exact ((fr.f rfl).trans (fr.a rfl)).trans (fr.a rfl)))
        have g6 : fr (tO m oTs fTs) h h6 := (g3.up rfl rfl).trans (g36.up rfl rfl)
        have hT6 := r0.fr g6
        -- rows
        have rows : ∀ e k h7, k + e = 8 → fr (tO m [80, 81] []) h6 h7 → (∀ i, i < k → hh_i h7 (m + 80) i = (Int32.ofNat 0) ∧ hh_i h7 (m + 81) i = (Int32.ofNat 0)) → gm_G 440 187 [some (.ref m), none, some (.int (Int32.ofNat k))] [] h7 (fun r h' => gy_wf h' → Q r h') := by
          intro e
          induction e with
          | zero =>
            intro k h7 ek g7 c7
            have ek : k = 8 := by omega
            subst ek
            have g07 : fr (tO m oTs fTs) h h7 := g6.trans (g7.up rfl rfl)
            have hT7 := r0.fr g07
            have x78 : ∀ c, hh_i h7 (m + 78) c = if c = 0 then (Int32.ofNat v) else hh_i hd (m + 78) c := fun c => by
              rw [g7.arr (o := 78) rfl, a6, hi_n (by omega), a5]
              by_cases y : c = 0
              · rw [hi_e ⟨rfl, y⟩, if_pos y]
              · rw [hi_n (by omega), if_neg y, a4, hi_n (by omega), g2.arr (o := 78) rfl, a1, hi_n (by omega)]
            have x79 : ∀ c, hh_i h7 (m + 79) c = if c = 0 then (Int32.ofNat (zu_no (zs_liv S) + 1)) else hh_i hd (m + 79) c := fun c => by
              rw [g7.arr (o := 79) rfl, a6]
              by_cases y : c = 0
              · rw [hi_e ⟨rfl, y⟩, if_pos y]
              · rw [hi_n (by omega), a5, hi_n (by omega), if_neg y, a4, hi_n (by omega), g2.arr (o := 79) rfl, a1, hi_n (by omega)]
            have gx : fr (tO m [78, 79, 80, 81] [15, 17, 99, 100]) h2 h7 := (by rw [a6, a5, a4]; exact ((fr.f rfl).trans (fr.a rfl)).trans (fr.a rfl) : fr (tO m [78, 79, 80, 81] [15, 17, 99, 100]) h2 h6).trans (g7.up rfl rfl)
            have gy : fr (tO m [78, 79] [15, 17, 99]) h h1 := (g3.up rfl rfl).trans ((by rw [ad, ac, ab, aa]; exact (((fr.a rfl).trans (fr.a rfl)).trans (fr.a rfl)).trans (fr.a rfl) : fr (tO m [78, 79] [15, 17, 99]) h3 hd).trans (by rw [a1]; exact fr.f rfl))
            obtain ⟨sA, sB⟩ := st_cs I2
            have S0 : st h h7 m 0 v := st_trans (st_fr gy rfl) (st_trans sA (st_fr gx rfl))
            have S1 : ∀ j, ¬ j = v → st h h7 m j j := fun j hj => st_trans (st_fr gy rfl) (st_trans (sB j hj) (st_fr gx rfl))
            obtain ⟨RE7, us7⟩ := rT_E_turn r4 upE hno hv1 hv4 (by rw [← enh]; exact hfree) g07 S0 S1 (by rw [x78, if_pos rfl]) (fun c hc => by
              rw [x78, if_neg (by omega)]
              rcases (show c = 0 ∨ c = 1 by omega) with y | y <;> subst y
              · exact d78.2
              · exact d78.1) (by rw [x79, if_pos rfl]; rfl) (fun c hc => by
              rw [x79, if_neg (by omega)]
              rcases (show c = 0 ∨ c = 1 by omega) with y | y <;> subst y
              · exact d79.2
              · exact d79.1) (by rw [← enh, g7.fld (f := 99) rfl, a6, hi_n (by omega), a5, hi_n (by omega), a4, hi_n (by omega), g2.fld (f := 99) rfl, a1, hi_e ⟨rfl, rfl⟩]) (by rw [g7.fld (f := 100) rfl, a6, hi_n (by omega)]; exact v100')
            have RD7 : rT_D h7 m (zs_C S) := by
              obtain ⟨⟨I, f, d1, d2, d3⟩, d4⟩ := r5
              refine ⟨⟨I, f, d1.fr g07 rfl rfl, d2, fun l p hl hp => ?_⟩, ?_⟩
              · obtain ⟨z1, z2, z3, z4⟩ := d3 l p hl hp
                refine ⟨z1, tb_f8 z2 g07 rfl, fun q hq u e1 e2 => ?_, fun hl2 i hi => by rw [g07.arr (o := 36) rfl]; exact z4 hl2 i hi⟩
                rw [g07.arr (o := 23) rfl] at e1
                rw [g07.arr (o := 24) rfl] at e2
                exact z3 q hq (us7 q u) e1 e2
              · rw [g07.fld (f := 46) rfl, g07.fld (f := 47) rfl, g07.fld (f := 48) rfl]
                exact d4
            refine w_440_187 hT7 ⟨fun _ => ?_, fun y => absurd y (by decide)⟩
            have w7 : gy_wf h7 := by
              refine gx.wf w2 (hT1.fr g2) (fun o ho e => ?_) (fun o ho e => ?_) (fun f hf e => ?_) (fun o ho => ?_)
              · have : o = 78 ∨ o = 79 ∨ o = 80 ∨ o = 81 := by simpa using ho
                rcases this with q | q | q | q <;> subst q <;> exact absurd e (by decide)
              · have : o = 78 ∨ o = 79 ∨ o = 80 ∨ o = 81 := by simpa using ho
                rcases this with q | q | q | q <;> subst q <;> exact absurd e (by decide)
              · have : f = 15 ∨ f = 17 ∨ f = 99 ∨ f = 100 := by simpa using hf
                rcases this with q | q | q | q <;> subst q <;> exact absurd e (by decide)
              · have : o = 78 ∨ o = 79 ∨ o = 80 ∨ o = 81 := by simpa using ho
                rcases this with q | q | q | q <;> subst q <;> decide
            refine t_settle (P := zs_P S) hT7 w7 (r3.fr g07 rfl rfl) K RE7 upE (hU.mono (fun b hb => zu_e_turn upE hb)) RD7 hC (fun h8 w8 g8 RE8 us8 _ _ RC8 w' => ?_)
            have g08 : fr (tO m oTu fTu) h h8 := (g07.up rfl rfl).trans (g8.up rfl rfl)
            have f100 : hh_i h8 m 100 = (Int32.ofNat (zu_no (zs_liv S) + 1)) := by rw [g8.fld (f := 100) rfl, g7.fld (f := 100) rfl, a6, hi_n (by omega)]; exact v100'
            rw [f100]
            refine H1 z h8 w' ?_ g08
            rw [zs_turn_1 z]
            have s00 := S1 0 (by omega)
            refine ⟨r0.fr g08, r1.fr g08 rfl rfl, ?_, r3.fr g08 rfl rfl, RE8, RC8, ?_, ?_, r8.fr g08 rfl, r9.fr g08 rfl rfl⟩
            · have gp : fr (tO m oTu [41, 99, 100]) h3 h8 := (g36.up rfl rfl).trans ((g7.up rfl rfl).trans (g8.up rfl rfl))
              exact RP3.fr gp rfl rfl
            · refine ⟨fun e => ?_, fun j hj hj4 _ i hi => ?_, fun n _ => rfl, fun _ j hj hj4 i hi => ?_⟩
              · cases e
              · have x := c7 i hi
                rw [g8.arr (o := 80) rfl, g8.arr (o := 81) rfl]
                exact ⟨fun _ => x, fun n _ _ => ⟨x.1, x.2, Nat.le_refl _, (show 0 < 100000 by decide), fun k c _ (hc : ([] : List zH)[k]? = some c) => by cases hc⟩⟩
              · rw [g8.arr (o := 78) rfl, x78, if_pos rfl] at hj
                have ej : v = j := (i_eq (by omega) (by omega)).mp hj
                subst ej
                have y0 := s00 59 (by decide) (by decide) i hi
                have y1 := S0 59 (by decide) (by decide) i hi
                rw [g8.arr (o := 59) rfl]
                rw [show csw 59 * 0 + i = i by omega] at y0 y1
                exact y0.trans y1.symm
            · refine rT_F_59 r7 g08 rfl (fun i hi => ?_)
              rw [g8.arr (o := 59) rfl]
              have := s00 59 (by decide) (by decide) i hi
              rw [show csw 59 * 0 + i = i by omega] at this
              exact this
          | succ e ih =>
            intro k h7 ek g7 c7
            refine w_440_187 (hT6.fr g7) ⟨fun y => absurd (by rw [i_lt (by omega) (by decide)]; omega) y, fun _ => ⟨k, ix_n (by omega) (by omega), fun h8 a8 => ⟨k, ix_n (by omega) (by omega), fun h9 a9 => ?_⟩⟩⟩
            rw [i_add]
            refine ih (k + 1) h9 (by omega) (g7.trans (by rw [a9, a8]; exact (fr.a rfl).trans (fr.a rfl))) (fun i hi => ?_)
            by_cases y : i = k
            · subst y
              exact ⟨by rw [a9, hi_n (by omega), a8, hi_e ⟨rfl, rfl⟩], by rw [a9, hi_e ⟨rfl, rfl⟩]⟩
            · obtain ⟨x1, x2⟩ := c7 i (by omega)
              exact ⟨by rw [a9, hi_n (by omega), a8, hi_n (by omega)]; exact x1, by rw [a9, hi_n (by omega), a8, hi_n (by omega)]; exact x2⟩
        exact rows 8 0 h6 rfl (fr.refl _ _) (fun i hi => absurd hi (Nat.not_lt_zero _))
      refine w_440_92 hTd ⟨fun _ => ⟨fun y => ?_, fun y => ?_⟩, fun y => absurd y (by decide)⟩
      · rw [d99, i_lt (by omega) (by decide)] at y
        have := go2
        rw [show min (nh + 1) 3 = 3 by omega] at this
        exact this
      · rw [d99, i_lt (by omega) (by decide)] at y
        rw [d99, i_add]
        have := go2
        rw [show min (nh + 1) 3 = nh + 1 by omega] at this
        exact this
    -- the state that is taken
    have outer : ∀ e s v, s + e = 4 → 1 ≤ s → 1 ≤ v → v < 4 → ((∃ f, 1 ≤ f ∧ f < s ∧ ¬ ∃ c, c < 2 ∧ c < nh ∧ hh_i h (m + 78) c = (Int32.ofNat f)) → ¬ ∃ c, c < 2 ∧ c < nh ∧ hh_i h (m + 78) c = (Int32.ofNat v)) → gm_G 440 22 [some (.ref m), some (.int (Int32.ofNat v)), some (.int (Int32.ofNat s))] [] h3 (fun r h' => gy_wf h' → Q r h') := by
      intro e
      induction e with
      | zero =>
        intro s v es hs hv1 hv4 hf
        have es : s = 4 := by omega
        subst es
        refine w_440_22 hT3 ⟨fun _ => go v hv1 hv4 (fun c hc hc2 e => ?_), fun y => absurd y (by decide)⟩
        refine hf ?_ ⟨c, hc2, hc, e⟩
        by_cases a : ∃ c, c < 2 ∧ c < nh ∧ hh_i h (m + 78) c = (Int32.ofNat 1)
        · by_cases b : ∃ c, c < 2 ∧ c < nh ∧ hh_i h (m + 78) c = (Int32.ofNat 2)
          · refine ⟨3, by decide, by decide, fun c => ?_⟩
            obtain ⟨c1, x1, -, x2⟩ := a
            obtain ⟨c2, y1, -, y2⟩ := b
            obtain ⟨c3, z1, -, z2⟩ := c
            rcases (show c1 = c2 ∨ c1 = c3 ∨ c2 = c3 by omega) with q | q | q
            · rw [q, y2] at x2; exact absurd x2 (by decide)
            · rw [q, z2] at x2; exact absurd x2 (by decide)
            · rw [q, z2] at y2; exact absurd y2 (by decide)
          · exact ⟨2, by decide, by decide, b⟩
        · exact ⟨1, by decide, by decide, a⟩
      | succ e ih =>
        intro s v es hs hv1 hv4 hf
        refine w_440_22 hT3 ⟨fun y => absurd (by rw [i_lt (by omega) (by decide)]; omega) y, fun _ => ?_⟩
        have fin : ∀ u : Bool, (u = true ↔ ∃ c, c < 2 ∧ c < nh ∧ hh_i h (m + 78) c = (Int32.ofNat s)) → gm_G 440 74 [some (.ref m), some (.int (Int32.ofNat v)), some (.int (Int32.ofNat s)), some (.int (bi u))] [] h3 (fun r h' => gy_wf h' → Q r h') := by
          intro u hu
          cases u with
          | true =>
            refine w_440_74 hT3 ⟨fun y => absurd y (by decide), fun _ => w_440_83 hT3 ?_⟩
            rw [i_add]
            refine ih (s + 1) v (by omega) (by omega) hv1 hv4 (fun hx => hf ?_)
            obtain ⟨f, f1, f2, f3⟩ := hx
            refine ⟨f, f1, ?_, f3⟩
            by_cases y : f = s
            · subst y; exact absurd (hu.mp rfl) f3
            · omega
          | false =>
            refine w_440_74 hT3 ⟨fun _ => w_440_83 hT3 ?_, fun y => absurd rfl y⟩
            rw [i_add]
            exact ih (s + 1) s (by omega) (by omega) hs (by omega) (fun _ q => absurd (hu.mpr q) (by decide))
        have inner : ∀ e c (u : Bool), c + e = 2 → (u = true ↔ ∃ c', c' < c ∧ c' < nh ∧ hh_i h (m + 78) c' = (Int32.ofNat s)) → gm_G 440 32 [some (.ref m), some (.int (Int32.ofNat v)), some (.int (Int32.ofNat s)), some (.int (bi u)), some (.int (Int32.ofNat c))] [] h3 (fun r h' => gy_wf h' → Q r h') := by
          intro e
          induction e with
          | zero =>
            intro c u ec hu
            have ec : c = 2 := by omega
            subst ec
            exact w_440_32 hT3 ⟨fun _ => fin u hu, fun _ => ⟨fun _ => fin u hu, fun y => absurd y (by decide)⟩⟩
          | succ e ih2 =>
            intro c u ec hu
            have nx : ∀ u' : Bool, (u' = true ↔ ∃ c', c' < c + 1 ∧ c' < nh ∧ hh_i h (m + 78) c' = (Int32.ofNat s)) → gm_G 440 67 [some (.ref m), some (.int (Int32.ofNat v)), some (.int (Int32.ofNat s)), none, some (.int (Int32.ofNat c))] [.int (bi u')] h3 (fun r h' => gy_wf h' → Q r h') := fun u' hu' => by
              refine w_440_67 hT3 ?_
              rw [i_add]
              exact ih2 (c + 1) u' (by omega) hu'
            refine w_440_32 hT3 ⟨fun y => fin u ?_, fun y => ⟨fun y2 => absurd (by rw [i_lt (by omega) (by decide)]; omega) y2, fun _ => ⟨fun y3 => w_440_62 hT3 (nx true ?_), fun y3 => ⟨c, ix_n (by omega) (by omega), fun y4 => nx false ?_, fun y4 => w_440_62 hT3 (nx true ?_)⟩⟩⟩⟩
            · rw [e99, i_lt (by omega) (by omega)] at y
              rw [hu]
              constructor
              · rintro ⟨c', x1, x2, x3⟩
                exact ⟨c', by omega, x2, x3⟩
              · rintro ⟨c', x1, x2, x3⟩
                exact ⟨c', by omega, x2, x3⟩
            · have ut : u = true := by cases u with
                | true => rfl
                | false => exact absurd rfl y3
              obtain ⟨c', x1, x2, x3⟩ := hu.mp ut
              exact ⟨fun _ => ⟨c', by omega, x2, x3⟩, fun _ => rfl⟩
            · have uf : u = false := by cases u with
                | false => rfl
                | true => exact absurd y3 (by decide)
              rw [e78] at y4
              refine ⟨fun q => absurd q (by decide), fun q => ?_⟩
              obtain ⟨c', x1, x2, x3⟩ := q
              by_cases y5 : c' = c
              · subst y5; exact absurd x3 y4
              · have := hu.mpr ⟨c', by omega, x2, x3⟩
                rw [uf] at this
                exact this
            · rw [e99, i_lt (by omega) (by omega)] at y
              rw [e78] at y4
              exact ⟨fun _ => ⟨c, by omega, y, y4⟩, fun _ => rfl⟩
        exact inner 2 0 false rfl ⟨fun q => absurd q (by decide), fun q => by obtain ⟨c', x1, -⟩ := q; exact absurd x1 (Nat.not_lt_zero _)⟩
    exact outer 3 1 1 rfl (Nat.le_refl _) (Nat.le_refl _) (by decide) (fun q => by obtain ⟨f, f1, f2, -⟩ := q; omega)
end TV
