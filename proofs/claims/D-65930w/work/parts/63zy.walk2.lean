/-! STAGE 3: the twin goes a way -/
theorem zw_go_S (T : zT) (al : zN → Bool) (follow : Bool) (F : Nat) (w : zBy) (o n : Nat) : zw_go T al follow (F + 1) w o n = if w = [] then (Int32.ofNat o) else match zt_ob T o with
    | none => (Int32.ofInt (-10))
    | some N => if ¬ zn_at N 0 = 2 then (Int32.ofInt (-10)) else if al N = false then (Int32.ofInt (-6))
      else if nm_d (lf w) 0 (pt_e (lf w) 0 w.length) then zw_go T al follow F (w.drop (pt_e (lf w) 0 w.length + 1)) (if pt_e (lf w) 0 w.length = 2 then zn_pa N else o) n
      else match zn_f N (nm_v (lf w) 0 (pt_e (lf w) 0 w.length)) with
        | none => (Int32.ofInt (-2))
        | some t => (match zt_ob T t with
          | none => (Int32.ofInt (-10))
          | some Y => if zn_at Y 0 = 3 ∧ (follow = true ∨ pt_e (lf w) 0 w.length < w.length) then
              (if n = 6 then (Int32.ofInt (-15)) else zw_go T al follow F (zn_ph Y ++ (w.drop (pt_e (lf w) 0 w.length)).drop (if zn_ph Y = [] then 1 else 0)) 0 (n + 1))
            else zw_go T al follow F (w.drop (pt_e (lf w) 0 w.length + 1)) t n) := rfl
theorem lf_app (l r : zBy) (j : Nat) : lf (l ++ r) j = if j < l.length then lf l j else lf r (j - l.length) := by
  unfold lf
  by_cases c : j < l.length
  · rw [if_pos c, List.getD_eq_getElem?_getD, List.getD_eq_getElem?_getD, List.getElem?_append_left c]
  · rw [if_neg c, List.getD_eq_getElem?_getD, List.getD_eq_getElem?_getD, List.getElem?_append_right (by omega)]
theorem wk_m {nl R W F : Nat} (h1 : (7 - nl) * 1000 + W < F + 1) (h2 : R ≤ 24 + W) (h3 : W ≤ 320 + 25 * nl) (h4 : nl ≤ 5) : (7 - (nl + 1)) * 1000 + R < F := by
  have e : 7 - nl = (7 - (nl + 1)) + 1 := by omega
  rw [e, Nat.succ_mul] at h1
  generalize (7 - (nl + 1)) * 1000 = X at h1 ⊢
  omega
section WK
variable {h : hh_T} {m : Nat} {Q : Option Value ⊕ Nat → hh_T → Prop} {A : zA}
theorem t_walk {t b1 a k : Nat} {T : zT} {fw : Bool} (hT : tw_ok h m) (w : gy_wf h) (RA : rT_A h m A) (TT : tt h m t T) (hwf : zt_wf T) (ht : hh_tg h b1 = 101) (hl : a + k ≤ hh_ln h b1) (hl2 : hh_ln h b1 < 1000000) (hk : k ≤ 320) (hb : ¬ b1 = m + 85) (hnt : ¬ (lm (hh_i h b1) a k).getLast? = some (Int32.ofNat 47))
    (H : ∀ h', fr (tO m [85, 86] []) h h' → Q (.inl (some (.int (zw_walk A T (za_actor A) (lm (hh_i h b1) a k) fw)))) h') : gm_G 308 0 [some (.ref m), some (.int (Int32.ofNat t)), some (.ref b1), some (.int (Int32.ofNat a)), some (.int (Int32.ofNat k)), some (.int (bi fw))] [] h Q := by
  have htt := TT.1
  have hbm : ¬ b1 = m := fun e => by rw [e, hT.1] at ht; exact absurd ht (by decide)
  have Bb : ∀ x, gy_b (hh_i h b1 x) := fun x => w.2.1 _ _ ht
  have hu : za_actor A < 8 := RA.2.2.2.2.2.2.2.2.2.1
  have e5 : hh_i h m 5 = (Int32.ofNat (za_actor A)) := RA.2.2.2.2.2.2.2.2.1
  have b57 := (hT.2.2 57 (by decide)).1
  have t85 := (hT.2.2 85 (by decide)).1
  have l85 : hh_ln h (m + 85) = 1024 := (hT.2.2 85 (by decide)).2
  -- the way itself
  have lp : ∀ F (W : zBy) o nl from' h1, (7 - nl) * 1000 + W.length < F → fr (tO m [85, 86] []) h h1 → gy_wf h1 → W.length ≤ 320 + 25 * nl → from' + W.length ≤ 500 → (∀ x, x < W.length → hh_i h1 (m + 85) (from' + x) = lf W x) → o < 16 → nl ≤ 6 → ¬ W.getLast? = some (Int32.ofNat 47) → (∀ h', fr (tO m [85, 86] []) h h' → Q (.inl (some (.int (zw_go T (fun N => zn_al A N (za_actor A) (Int32.ofNat 1)) fw F W o nl)))) h') → gm_G 308 42 [some (.ref m), some (.int (Int32.ofNat t)), none, none, none, some (.int (bi fw)), some (.int (Int32.ofNat W.length)), some (.int (Int32.ofNat from')), some (.int (Int32.ofNat nl)), some (.int (Int32.ofNat o))] [] h1 Q := by
    intro F
    induction F with
    | zero => intro W o nl from' h1 hF; omega
    | succ F ih =>
      intro W o nl from' h1 hF g1 w1 hW hfr cW ho hnl hNT K
      have hT1 := hT.fr g1
      rw [zw_go_S] at K
      by_cases e0 : W = []
      · subst e0
        rw [if_pos rfl] at K
        exact w_308_42 hT1 ⟨fun _ => K h1 g1, fun z => absurd z (by decide)⟩
      · have hL : 0 < W.length := List.length_pos_iff.mpr e0
        rw [if_neg e0] at K
        refine w_308_42 hT1 ⟨fun z => absurd (by rw [i_lt (by decide) (by omega)]; exact hL) z, fun _ => ⟨16 * t + o, by rw [i_mul, i_add]; exact ix_n (by omega) (by omega), ?_⟩⟩
        rw [g1.arr (o := 40) rfl]
        rcases TT.2.2.2 o ho with ⟨z1, z2⟩ | ⟨N, z1, z2⟩
        · rw [z1] at K
          rw [z2]
          exact ⟨fun z => absurd z (by decide), fun _ => K h1 g1⟩
        · rw [z1] at K
          (try dsimp only at K)
          have e40 : hh_i h (m + 40) (16 * t + o) = (Int32.ofNat (zn_at N 0)) := (z2.1 0 (by decide)).1
          have l40 := (z2.1 0 (by decide)).2
          rw [e40]
          refine ⟨fun z => ?_, fun z => ?_⟩
          · have k2 : zn_at N 0 = 2 := (i_eq l40 (by decide)).mp z
            rw [if_neg (fun y => y k2)] at K
            have N1 : tn h1 m (16 * t + o) N := z2.sm (F := f0) (g1.sm rfl rfl)
            have RA1 : rT_A h1 m A := RA.fr g1 rfl rfl
            rw [g1.fld (f := 5) rfl, e5, i_mul, i_add]
            refine t_one (Or.inl rfl) hT1 RA1 (by omega) N1 hu ?_
            cases eal : zn_al A N (za_actor A) (Int32.ofNat 1) with
            | false =>
              rw [eal, if_pos rfl] at K
              exact ⟨fun y => absurd rfl y, fun _ => K h1 g1⟩
            | true =>
              rw [eal, if_neg (by decide)] at K
              refine ⟨fun _ => ?_, fun y => absurd y (by decide)⟩
              obtain ⟨len, elen⟩ : ∃ len, len = pt_e (lf W) 0 W.length := ⟨_, rfl⟩
              rw [← elen] at K
              have hle : len ≤ W.length := by rw [elen]; exact pt_e_le _ _ _
              have cW1 : ∀ x, x < len → hh_i h1 (m + 85) (from' + x) = lf W (0 + x) := fun x hx => by rw [Nat.zero_add]; exact cW x (by omega)
              -- the step's end is found
              have scan : ∀ d j, j + d = W.length → len = j + pt_e (lf W) j d → (gm_G 308 118 [some (.ref m), some (.int (Int32.ofNat t)), none, none, none, some (.int (bi fw)), some (.int (Int32.ofNat W.length)), some (.int (Int32.ofNat from')), some (.int (Int32.ofNat nl)), some (.int (Int32.ofNat o)), some (.int (Int32.ofNat ((16 * t + o)))), some (.int (Int32.ofNat len))] [] h1 Q) → gm_G 308 90 [some (.ref m), some (.int (Int32.ofNat t)), none, none, none, some (.int (bi fw)), some (.int (Int32.ofNat W.length)), some (.int (Int32.ofNat from')), some (.int (Int32.ofNat nl)), some (.int (Int32.ofNat o)), some (.int (Int32.ofNat ((16 * t + o)))), some (.int (Int32.ofNat j))] [] h1 Q := by
                intro d
                induction d with
                | zero =>
                  intro j ej el KK
                  have el : len = j := el
                  subst el
                  exact w_308_90 hT1 ⟨fun _ => KK, fun y => absurd y (by rw [i_lt (by omega) (by omega)]; omega)⟩
                | succ d ih2 =>
                  intro j ej el KK
                  rw [pt_e_S] at el
                  refine w_308_90 hT1 ⟨fun y => absurd (by rw [i_lt (by omega) (by omega)]; omega) y, fun _ => ⟨from' + j, by rw [i_add]; exact ix_n (by omega) (by omega), ?_⟩⟩
                  rw [cW j (by omega)]
                  refine ⟨fun y => ?_, fun y => ?_⟩
                  · rw [if_pos y] at el
                    have el : len = j := el
                    subst el
                    exact KK
                  · rw [if_neg y] at el
                    rw [i_add]
                    exact ih2 (j + 1) (by omega) (by omega) KK
              refine scan W.length 0 (by omega) (by rw [Nat.zero_add]; exact elen) ?_
              -- behind the step
              have hfin : len = W.length ∨ len < W.length := by omega
              have rest : ∀ (c : Nat), c = (if len = W.length then len else len + 1) → gm_G 308 171 [some (.ref m), some (.int (Int32.ofNat t)), none, none, none, some (.int (bi fw)), none, some (.int (Int32.ofNat ((from' + c)))), some (.int (Int32.ofNat nl)), some (.int (Int32.ofNat o)), some (.int (Int32.ofNat ((16 * t + o)))), some (.int (Int32.ofNat len)), some (.int (Int32.ofNat from')), some (.int (bi (decide (len = W.length))))] [.int (Int32.ofNat c), .int (Int32.ofNat (W.length))] h1 Q := by
                intro c hc
                have hcl : c ≤ W.length := by rw [hc]; split <;> omega
                have hdl : (W.drop (len + 1)).length = W.length - c := by
                  rw [List.length_drop, hc]
                  split <;> omega
                have hdc : ∀ x, x < W.length - c → hh_i h1 (m + 85) (from' + c + x) = lf (W.drop (len + 1)) x := fun x hx => by
                  rw [lf_drop, Nat.add_assoc, cW (c + x) (by omega)]
                  congr 1
                  by_cases y : len = W.length
                  · rw [hc, if_pos y] at hx; omega
                  · rw [hc, if_neg y]
                have hdn : ¬ (W.drop (len + 1)).getLast? = some (Int32.ofNat 47) := by
                  by_cases y : len + 1 < W.length
                  · rw [last_drop y]; exact hNT
                  · rw [List.drop_eq_nil_of_le (by omega)]
                    intro q
                    cases q
                -- on with the rest of the way
                have on : ∀ o', o' < 16 → (∀ h', fr (tO m [85, 86] []) h h' → Q (.inl (some (.int (zw_go T (fun N => zn_al A N (za_actor A) (Int32.ofNat 1)) fw F (W.drop (len + 1)) o' nl)))) h') → gm_G 308 42 [some (.ref m), some (.int (Int32.ofNat t)), none, none, none, some (.int (bi fw)), some (.int (Int32.ofNat ((W.length - c)))), some (.int (Int32.ofNat ((from' + c)))), some (.int (Int32.ofNat nl)), some (.int (Int32.ofNat o'))] [] h1 Q := by
                  intro o' ho' K2
                  have hc1 : 1 ≤ c := by
                    rw [hc]
                    split <;> omega
                  have := ih (W.drop (len + 1)) o' nl (from' + c) h1 (by rw [hdl]; omega) g1 w1 (by rw [hdl]; omega) (by rw [hdl]; omega) (by rw [hdl]; exact hdc) ho' hnl hdn K2
                  rw [hdl] at this
                  exact this
                refine w_308_171 hT1 ?_
                refine t_isDots hT1 (by rw [g1.tg]; exact t85) (by rw [g1.ln, l85]; omega) (by omega) ?_
                rw [nm_d_cg (f := lf W) (p := 0) (fun x hx => cW1 x hx), i_sub hcl]
                cases ed : nm_d (lf W) 0 len with
                | true =>
                  rw [ed, if_pos rfl] at K
                  refine ⟨fun y => absurd y (by decide), fun _ => ⟨fun y => ?_, fun y => ⟨16 * t + o, ix_n (by omega) (by omega), ?_⟩⟩⟩
                  · rw [if_neg (fun q => y (by rw [q]))] at K
                    exact on o ho K
                  · have y : len = 2 := (i_eq (by omega) (by decide)).mp y
                    rw [if_pos y] at K
                    obtain ⟨s1, s2, -⟩ := N1.2.2.2.2.2.2.2.2.2.1 k2
                    rw [s1]
                    exact on _ s2 K
                | false =>
                  rw [ed, if_neg (by decide)] at K
                  refine ⟨fun _ => ?_, fun y => absurd rfl y⟩
                  obtain ⟨wn, we⟩ := (hwf o N ho z1).1 k2
                  have ev : nm_v (hh_i h1 (m + 85)) from' len = nm_v (lf W) 0 len := (nm_cg (f := lf W) (g := hh_i h1 (m + 85)) (p := 0) (q := from') (n := len) (fun x hx => cW1 x hx)).2
                  refine t_entry hT1 w1 (by omega) N1 k2 (nd_e wn) (by rw [g1.tg]; exact t85) (by rw [g1.ln, l85]; omega) (by rw [g1.ln, l85]; decide) (fun ez => ?_) (fun e ot he ez te => ?_)
                  · rw [ev] at ez
                    rw [ez] at K
                    exact ⟨fun y => absurd (by decide) y, fun _ => K h1 g1⟩
                  · rw [ev] at ez te
                    rw [ez] at K
                    (try dsimp only at K)
                    have hot := te.2.1
                    have e53 : hh_i h1 (m + 53) (8 * (16 * t + o) + e) = (Int32.ofNat ot) := te.1
                    have hlen8 := (N1.2.2.2.2.2.2.2.2.2.1 k2).2.2.2.1
                    refine ⟨fun _ => ⟨8 * (16 * t + o) + e, by rw [i_mul, i_add]; exact ix_n (by omega) (by omega), ?_⟩, fun y => absurd y (by rw [i_n0 (by omega)]; exact id)⟩
                    rw [e53]
                    refine ⟨16 * t + ot, by rw [i_mul, i_add]; exact ix_n (by omega) (by omega), ?_⟩
                    rw [g1.arr (o := 40) rfl]
                    -- the object is there
                    have hsome : (zt_ob T ot).isSome = true := by
                      unfold zn_f at ez
                      cases q : (zn_en N).find? (fun x => decide (x.1 = nm_v (lf W) 0 len)) with
                      | none => rw [q] at ez; cases ez
                      | some x =>
                        rw [q] at ez
                        have : x.2 = ot := Option.some.inj ez
                        rw [← this]
                        exact (we x (List.mem_of_find?_eq_some q)).2
                    rcases TT.2.2.2 ot hot with ⟨y1, -⟩ | ⟨Y, y1, y2⟩
                    · rw [y1] at hsome; cases hsome
                    · rw [y1] at K
                      (try dsimp only at K)
                      have f40 : hh_i h (m + 40) (16 * t + ot) = (Int32.ofNat (zn_at Y 0)) := (y2.1 0 (by decide)).1
                      rw [f40]
                      have l40' := (y2.1 0 (by decide)).2
                      have go : ¬ (zn_at Y 0 = 3 ∧ (fw = true ∨ len < W.length)) → gm_G 308 275 [some (.ref m), some (.int (Int32.ofNat t)), none, none, none, some (.int (bi fw)), some (.int (Int32.ofNat ((W.length - c)))), some (.int (Int32.ofNat ((from' + c)))), some (.int (Int32.ofNat nl)), none, none, none, none, none, none, some (.int (Int32.ofNat ot))] [] h1 Q := fun q => by
                        rw [if_neg q] at K
                        exact w_308_275 hT1 (on ot hot K)
                      have lnk : (zn_at Y 0 = 3 ∧ (fw = true ∨ len < W.length)) → gm_G 308 282 [some (.ref m), some (.int (Int32.ofNat t)), none, none, none, some (.int (bi fw)), some (.int (Int32.ofNat ((W.length - c)))), some (.int (Int32.ofNat ((from' + c)))), some (.int (Int32.ofNat nl)), none, none, none, none, none, none, none, some (.int (Int32.ofNat ((16 * t + ot))))] [] h1 Q := fun q => by
                        rw [if_pos q] at K
                        obtain ⟨p1, p2, p3⟩ := y2.2.2.2.2.2.2.2.2.2.2.1 q.1
                        refine w_308_282 hT1 ⟨fun y => ?_, fun y => ?_⟩
                        · rw [i_add] at y ⊢
                          have y : ¬ nl = 6 := fun q2 => y (by rw [q2])
                          rw [if_neg y] at K
                          have e45 : hh_i h (m + 45) (16 * t + ot) = (Int32.ofNat ((zn_ph Y).length)) := by rw [← p1]; exact (y2.1 5 (by decide)).1
                          -- the link's path
                          have b57' : ∀ x, x < (zn_ph Y).length → gy_b (lf (zn_ph Y) x) := fun x hx => by
                            have := w.2.1 (m + 57) (24 * (16 * t + ot) + x) b57
                            rw [p3 x hx] at this
                            exact this
                          have bW : ∀ x, x < W.length → gy_b (lf W x) := fun x hx => by
                            have := w1.2.1 (m + 85) (from' + x) (by rw [g1.tg]; exact t85)
                            rw [cW x hx] at this
                            exact this
                          -- the new way: R
                          obtain ⟨R, eR⟩ : ∃ R, R = zn_ph Y ++ (W.drop len).drop (if zn_ph Y = [] then 1 else 0) := ⟨_, rfl⟩
                          rw [← eR] at K
                          have hRl : R.length ≤ 24 + W.length := by
                            rw [eR, List.length_append, List.length_drop, List.length_drop]
                            omega
                          have bR : ∀ x, x < R.length → gy_b (lf R x) := fun x hx => by
                            rw [eR] at hx ⊢
                            rw [List.length_append] at hx
                            rw [lf_app]
                            by_cases q2 : x < (zn_ph Y).length
                            · rw [if_pos q2]; exact b57' x q2
                            · rw [List.length_drop, List.length_drop] at hx
                              rw [if_neg q2, lf_drop, lf_drop]
                              exact bW _ (by omega)
                          have nR : ¬ R.getLast? = some (Int32.ofNat 47) := by
                            rw [eR, List.drop_drop]
                            by_cases q2 : len + (if zn_ph Y = [] then 1 else 0) < W.length
                            · have : (W.drop (len + (if zn_ph Y = [] then 1 else 0))).getLast? = W.getLast? := last_drop q2
                              rw [List.getLast?_append, this]
                              cases q3 : W.getLast? with
                              | none => rw [List.getLast?_eq_none_iff] at q3; exact absurd q3 e0
                              | some z => rw [q3] at hNT; exact hNT
                            · rw [List.drop_eq_nil_of_le (by omega), List.append_nil]
                              exact (hwf ot Y hot y1).2.1 q.1
                          have end' : ∀ h2, fr (tO m [86] []) h1 h2 → (∀ x, gy_b (hh_i h2 (m + 86) x)) → (∀ x, x < R.length → hh_i h2 (m + 86) x = lf R x) → gm_G 308 403 [some (.ref m), some (.int (Int32.ofNat t)), none, none, none, some (.int (bi fw)), none, none, some (.int (Int32.ofNat ((nl + 1)))), none, none, none, none, none, none, none, none, some (.int (Int32.ofNat R.length)), some (.int (Int32.ofNat 0))] [] h2 Q := by
                            intro h2 g2 b2 c2
                            have hT2 := hT1.fr g2
                            refine lp_fill (m := m) (o := 85) (b := 0) (n := R.length) (fun j => [some (.ref m), some (.int (Int32.ofNat t)), none, none, none, some (.int (bi fw)), none, none, some (.int (Int32.ofNat ((nl + 1)))), none, none, none, none, none, none, none, none, some (.int (Int32.ofNat R.length)), some (.int (Int32.ofNat j))]) (fun j => lf R j) (by decide) (fun j h3 hj g3 _ kk => ?_) (fun h3 g3 e3 => ?_)
                            · refine w_308_403 (hT2.fr g3) ⟨fun q2 => absurd (by rw [i_lt (by omega) (by omega)]; exact hj) q2, fun _ => ⟨j, ix_n (by omega) (by omega), j, ix_n (by omega) (by omega), fun h4 a4 => ?_⟩⟩
                              rw [g3.arr (o := 86) rfl, c2 j hj, show (lf R j).toInt8.toInt32 = lf R j from bR j hj] at a4
                              rw [Nat.zero_add] at kk
                              rw [a4, i_add]
                              exact kk
                            · refine w_308_403 (hT2.fr g3) ⟨fun _ => ?_, fun q2 => absurd q2 (by rw [i_lt (by omega) (by omega)]; omega)⟩
                              have g13 : fr (tO m [85, 86] []) h1 h3 := (g2.up rfl rfl).trans (g3.up rfl rfl)
                              have w3 : gy_wf h3 := g13.wf w1 hT1 (fun o ho e x => by
                                have : o = 85 ∨ o = 86 := by simpa using ho
                                rcases this with q2 | q2 <;> subst q2
                                · rw [e3]
                                  split
                                  · rename_i q3
                                    rw [Nat.sub_zero]
                                    exact bR x (by omega)
                                  · rw [g2.arr (o := 85) rfl]
                                    exact w1.2.1 _ _ (by rw [g1.tg]; exact t85)
                                · rw [g3.arr (o := 86) rfl]
                                  exact b2 x) (fun o ho e => by
                                have : o = 85 ∨ o = 86 := by simpa using ho
                                rcases this with q2 | q2 <;> subst q2 <;> exact absurd e (by decide)) (fun f hf => absurd hf (List.not_mem_nil)) (fun o ho => by
                                have : o = 85 ∨ o = 86 := by simpa using ho
                                rcases this with q2 | q2 <;> subst q2 <;> decide)
                              have hm : (7 - (nl + 1)) * 1000 + R.length < F := wk_m hF hRl hW (by omega)
                              have hm2 : R.length ≤ 320 + 25 * (nl + 1) := by omega
                              have hm3 : 0 + R.length ≤ 500 := by omega
                              exact ih R 0 (nl + 1) 0 h3 hm (g1.trans g13) w3 hm2 hm3 (fun x hx => by rw [Nat.zero_add, e3, if_pos (by omega), Nat.sub_zero]) (by decide) (by omega) nR K
                          -- the rest of the way comes behind the link's path
                          have tl : ∀ h2 M0, fr (tO m [86] []) h1 h2 → (∀ x, gy_b (hh_i h2 (m + 86) x)) → (∀ x, x < M0 → hh_i h2 (m + 86) x = lf R x) → M0 + (W.length - c) = R.length → (∀ x, x < W.length - c → lf R (M0 + x) = lf (W.drop (len + 1)) x) → gm_G 308 364 [some (.ref m), some (.int (Int32.ofNat t)), none, none, none, some (.int (bi fw)), some (.int (Int32.ofNat ((W.length - c)))), some (.int (Int32.ofNat ((from' + c)))), some (.int (Int32.ofNat ((nl + 1)))), none, none, none, none, none, none, none, none, some (.int (Int32.ofNat M0))] [] h2 Q := by
                            intro h2 M0 g2 b2 c2 hM hx2
                            have hT2 := hT1.fr g2
                            refine w_308_364 hT2 ?_
                            refine lp_fill (m := m) (o := 86) (b := M0) (n := W.length - c) (fun j => [some (.ref m), some (.int (Int32.ofNat t)), none, none, none, some (.int (bi fw)), some (.int (Int32.ofNat ((W.length - c)))), some (.int (Int32.ofNat ((from' + c)))), some (.int (Int32.ofNat ((nl + 1)))), none, none, none, none, none, none, none, none, some (.int (Int32.ofNat ((M0 + j)))), some (.int (Int32.ofNat j))]) (fun j => lf (W.drop (len + 1)) j) (by decide) (fun j h3 hj g3 _ kk => ?_) (fun h3 g3 e3 => ?_)
                            · refine w_308_367 (hT2.fr g3) ⟨fun q2 => absurd (by rw [i_lt (by omega) (by omega)]; exact hj) q2, fun _ => ⟨from' + c + j, by rw [i_add]; exact ix_n (by omega) (by omega), M0 + j, ix_n (by omega) (by omega), fun h4 a4 => ?_⟩⟩
                              have v1 : hh_i h3 (m + 85) (from' + c + j) = lf (W.drop (len + 1)) j := by rw [g3.arr (o := 85) rfl, g2.arr (o := 85) rfl]; exact hdc j hj
                              have bb : gy_b (lf (W.drop (len + 1)) j) := by rw [← hx2 j hj]; exact bR _ (by omega)
                              rw [v1, show (lf (W.drop (len + 1)) j).toInt8.toInt32 = lf (W.drop (len + 1)) j from bb] at a4
                              rw [a4, i_add, i_add]
                              exact kk
                            · refine w_308_367 (hT2.fr g3) ⟨fun _ => ?_, fun q2 => absurd q2 (by rw [i_lt (by omega) (by omega)]; omega)⟩
                              rw [hM]
                              refine end' h3 (g2.trans g3) (fun x => ?_) (fun x hx => ?_)
                              · rw [e3]
                                split
                                · rename_i q2
                                  rw [← hx2 _ (by omega)]
                                  exact bR _ (by omega)
                                · exact b2 x
                              · rw [e3]
                                by_cases q2 : M0 ≤ x ∧ x < M0 + (W.length - c)
                                · rw [if_pos q2, ← hx2 _ (by omega), show M0 + (x - M0) = x by omega]
                                · rw [if_neg q2]
                                  exact c2 x (by omega)
                          refine lp_fill (m := m) (o := 86) (b := 0) (n := (zn_ph Y).length) (fun j => [some (.ref m), some (.int (Int32.ofNat t)), none, none, none, some (.int (bi fw)), some (.int (Int32.ofNat ((W.length - c)))), some (.int (Int32.ofNat ((from' + c)))), some (.int (Int32.ofNat ((nl + 1)))), none, none, none, none, none, none, none, some (.int (Int32.ofNat ((16 * t + ot)))), some (.int (Int32.ofNat j)), some (.int (Int32.ofNat j))]) (fun j => lf (zn_ph Y) j) (by decide) (fun j h3 hj g3 _ kk => ?_) (fun h3 g3 e3 => ?_)
                          · have v45 : hh_i h3 (m + 45) (16 * t + ot) = (Int32.ofNat ((zn_ph Y).length)) := by rw [g3.arr (o := 45) rfl, g1.arr (o := 45) rfl]; exact e45
                            have v57 : hh_i h3 (m + 57) (24 * (16 * t + ot) + j) = lf (zn_ph Y) j := by rw [g3.arr (o := 57) rfl, g1.arr (o := 57) rfl]; exact p3 j hj
                            refine w_308_301 (hT1.fr g3) ⟨16 * t + ot, ix_n (by omega) (by omega), fun q2 => absurd (by rw [v45, i_lt (by omega) (by omega)]; exact hj) q2, fun _ => ⟨24 * (16 * t + ot) + j, by rw [i_mul, i_add]; exact ix_n (by omega) (by omega), j, ix_n (by omega) (by omega), fun h4 a4 => ?_⟩⟩
                            rw [v57, show (lf (zn_ph Y) j).toInt8.toInt32 = lf (zn_ph Y) j from b57' j hj] at a4
                            rw [Nat.zero_add] at kk
                            rw [a4, i_add]
                            exact kk
                          · have v45 : hh_i h3 (m + 45) (16 * t + ot) = (Int32.ofNat ((zn_ph Y).length)) := by rw [g3.arr (o := 45) rfl, g1.arr (o := 45) rfl]; exact e45
                            have b3 : ∀ x, gy_b (hh_i h3 (m + 86) x) := fun x => by
                              rw [e3]
                              split
                              · exact b57' _ (by omega)
                              · exact w1.2.1 _ _ (by rw [g1.tg]; exact (hT.2.2 86 (by decide)).1)
                            have c3 : ∀ x, x < (zn_ph Y).length → hh_i h3 (m + 86) x = lf R x := fun x hx => by rw [e3, if_pos (by omega), Nat.sub_zero, eR, lf_app, if_pos hx]
                            refine w_308_301 (hT1.fr g3) ⟨16 * t + ot, ix_n (by omega) (by omega), fun _ => ⟨fun q2 => ?_, fun q2 => ?_⟩, fun q2 => absurd q2 (by rw [v45, i_lt (by omega) (by omega)]; omega)⟩
                            · rw [i_lt (by decide) (by omega)] at q2
                              have hlast : len = W.length := by
                                by_cases q3 : len = W.length
                                · exact q3
                                · exfalso
                                  rw [hc, if_neg q3] at q2
                                  have hat := pt_e_at (lf W) W.length 0 (by rw [← elen]; omega)
                                  rw [← elen, Nat.zero_add] at hat
                                  refine hNT ?_
                                  rw [List.getLast?_eq_getElem?, show W.length - 1 = len by omega, List.getElem?_eq_getElem (by omega)]
                                  unfold lf at hat
                                  rw [List.getD_eq_getElem?_getD, List.getElem?_eq_getElem (by omega)] at hat
                                  exact congrArg some hat
                              have eR2 : R = zn_ph Y := by rw [eR, List.drop_drop, List.drop_eq_nil_of_le (by omega), List.append_nil]
                              refine tl h3 (zn_ph Y).length g3 b3 c3 (by rw [eR2]; omega) (fun x hx => by omega)
                            · rw [i_lt (by decide) (by omega)] at q2
                              have hnl : ¬ len = W.length := fun q3 => by rw [hc, if_pos q3] at q2; omega
                              have hc' : c = len + 1 := by rw [hc, if_neg hnl]
                              refine ⟨fun q3 => ?_, fun q3 => ⟨(zn_ph Y).length, ix_n (by omega) (by omega), fun h5 a5 => ?_⟩⟩
                              · rw [i_lt (by decide) (by omega)] at q3
                                have eph : zn_ph Y = [] := List.length_eq_zero_iff.mp (by omega)
                                have eR2 : R = W.drop (len + 1) := by rw [eR, eph, if_pos rfl, List.drop_drop, List.nil_append]
                                have := tl h3 0 g3 b3 (fun x hx => absurd hx (Nat.not_lt_zero _)) (by rw [eR2, List.length_drop]; omega) (fun x hx => by rw [Nat.zero_add, eR2])
                                rw [show (zn_ph Y).length = 0 by omega]
                                exact this
                              · rw [i_lt (by decide) (by omega)] at q3
                                have eph : ¬ zn_ph Y = [] := fun q4 => by rw [q4] at q3; exact absurd q3 (Nat.lt_irrefl _)
                                have eR2 : R = zn_ph Y ++ W.drop len := by rw [eR, if_neg eph, List.drop_zero]
                                have hat := pt_e_at (lf W) W.length 0 (by rw [← elen]; omega)
                                rw [← elen, Nat.zero_add] at hat
                                rw [i_add]
                                have g5 : fr (tO m [86] []) h3 h5 := by rw [a5]; exact fr.a rfl
                                refine tl h5 ((zn_ph Y).length + 1) (g3.trans g5) (fun x => ?_) (fun x hx => ?_) (by rw [eR2, List.length_append, List.length_drop]; omega) (fun x hx => ?_)
                                · rw [a5]
                                  by_cases q4 : x = (zn_ph Y).length
                                  · rw [hi_e ⟨rfl, q4⟩]; rfl
                                  · rw [hi_n (by omega)]; exact b3 x
                                · rw [a5]
                                  by_cases q4 : x = (zn_ph Y).length
                                  · rw [hi_e ⟨rfl, q4⟩, eR2, lf_app, if_neg (by omega), lf_drop, q4, Nat.sub_self, Nat.add_zero, hat]; rfl
                                  · rw [hi_n (by omega)]; exact c3 x (by omega)
                                · rw [eR2, lf_app, if_neg (by omega), lf_drop, lf_drop]
                                  congr 1
                                  omega
                        · rw [i_add] at y
                          have y : nl + 1 = 7 := (i_eq (by omega) (by decide)).mp y
                          rw [if_pos (by omega)] at K
                          exact K h1 g1
                      rw [i_mul, i_add]
                      refine ⟨fun q => go (fun q2 => q (by rw [q2.1])), fun q => ?_⟩
                      have q : zn_at Y 0 = 3 := (i_eq l40' (by decide)).mp q
                      by_cases hlast : len = W.length
                      · rw [decide_eq_true hlast]
                        refine ⟨fun q2 => absurd q2 (by decide), fun _ => ?_⟩
                        cases fw with
                        | true => exact ⟨fun _ => lnk ⟨q, Or.inl rfl⟩, fun q2 => absurd q2 (by decide)⟩
                        | false => exact ⟨fun q2 => absurd rfl q2, fun _ => go (fun q2 => by rcases q2.2 with q3 | q3; cases q3; omega)⟩
                      · rw [decide_eq_false hlast]
                        exact ⟨fun _ => lnk ⟨q, Or.inr (by omega)⟩, fun q2 => absurd rfl q2⟩
              by_cases hlast : len = W.length
              · have := rest len (by rw [if_pos hlast])
                rw [decide_eq_true hlast] at this
                refine w_308_118 hT1 ⟨fun y => absurd (by rw [hlast]) y, fun _ => w_308_134 hT1 ⟨fun y => absurd y (by decide), fun _ => w_308_152 hT1 ⟨fun y => absurd y (by decide), fun _ => ?_⟩⟩⟩
                rw [i_add]
                exact this
              · have := rest (len + 1) (by rw [if_neg hlast])
                rw [decide_eq_false hlast] at this
                refine w_308_118 hT1 ⟨fun _ => w_308_134 hT1 ⟨fun _ => w_308_152 hT1 ⟨fun _ => ?_, fun y => absurd rfl y⟩, fun y => absurd rfl y⟩, fun y => absurd ((i_eq (by omega) (by omega)).mp y) hlast⟩
                rw [i_add, i_add]
                exact this
          · rw [if_pos (fun y => z (by rw [y]))] at K
            exact K h1 g1
  -- the path is copied
  refine w_308_0 hT ?_
  refine lp_fill (m := m) (o := 85) (b := 0) (n := k) (fun j => [some (.ref m), some (.int (Int32.ofNat t)), some (.ref b1), some (.int (Int32.ofNat a)), some (.int (Int32.ofNat k)), some (.int (bi fw)), some (.int (Int32.ofNat j))]) (fun j => hh_i h b1 (a + j)) (by decide) (fun j h1 hj g1 _ kk => ?_) (fun h1 g1 e1 => ?_)
  · have eb : hh_i h1 b1 = hh_i h b1 := g1.out (Or.inr ⟨fun o ho => by rw [List.mem_singleton] at ho; rw [ho]; exact hb, hbm⟩)
    refine w_308_3 (hT.fr g1) ⟨fun z => absurd (by rw [i_lt (by omega) (by omega)]; exact hj) z, fun _ => ⟨Or.inl (by rw [g1.tg]; exact ht), a + j, by rw [i_add, g1.ln]; exact ix_n (by omega) (by omega), j, ix_n (by omega) (by omega), fun h4 a4 => ?_⟩⟩
    rw [eb, show (hh_i h b1 (a + j)).toInt8.toInt32 = hh_i h b1 (a + j) from Bb _] at a4
    rw [Nat.zero_add] at kk
    rw [a4, i_add]
    exact kk
  · refine w_308_3 (hT.fr g1) ⟨fun _ => ?_, fun z => absurd z (by rw [i_lt (by omega) (by omega)]; omega)⟩
    have w1 : gy_wf h1 := g1.wf w hT (fun o ho e x => by
      rw [List.mem_singleton] at ho
      subst ho
      rw [e1]
      split
      · exact Bb _
      · exact w.2.1 _ _ t85) (fun o ho e => by
      rw [List.mem_singleton] at ho
      subst ho
      exact absurd e (by decide)) (fun f hf => absurd hf (List.not_mem_nil)) (fun o ho => by
      rw [List.mem_singleton] at ho
      subst ho
      decide)
    have := lp 8000 (lm (hh_i h b1) a k) 0 0 0 h1 (by rw [lm_len]; omega) (g1.up rfl rfl) w1 (by rw [lm_len]; omega) (by rw [lm_len]; omega) (fun x hx => by
      rw [lm_len] at hx
      rw [Nat.zero_add, e1, if_pos (by omega), Nat.sub_zero]
      unfold lf
      rw [lm_get _ _ _ _ hx]) (by decide) (by decide) hnt H
    rw [lm_len] at this
    exact this
end WK
