/-! STAGE 3: a new block is planned -/
def oPl : List Nat := [17, 18, 19, 20, 21, 22, 23, 24, 26, 27, 28, 30, 31]
def fPl : List Nat := [41, 43]
theorem tpe_ts {h h' : hh_T} {m k : Nat} {β β' : Nat → zB} {G : zG} {U : List zB} {q : Option zB × Option zBy} (t : tpt h m G U β) (e30 : hh_i h' (m + 30) k = hh_i h (m + 30) k) (e31 : hh_i h' (m + 31) k = hh_i h (m + 31) k) (s : ∀ p, p < 640 → hh_i h (m + 18) p = (Int32.ofNat 1) → ts h h' m p ∧ β' p = β p) (e : tpe h m β k q) : tpe h' m β' k q := by
  obtain ⟨q1, q2⟩ := q
  unfold tpe at e ⊢
  rw [e30, e31]
  cases q1 with
  | none => exact e
  | some b =>
    cases q2 with
    | none =>
      obtain ⟨p, p1, p2, p3, p4, p5⟩ := e
      obtain ⟨s1, s2⟩ := s p p1 p4
      exact ⟨p, p1, p2, p3, by rw [s1.1 18 rfl]; exact p4, s2.trans p5⟩
    | some l =>
      obtain ⟨p, p1, p2, p3, p4, p5, p6⟩ := e
      obtain ⟨s1, s2⟩ := s p p1 p4
      have hb := (t.at p1 p4).2.1
      rw [p5] at hb
      exact ⟨p, p1, p2, p3, by rw [s1.1 18 rfl]; exact p4, s2.trans p5, fun i hi => by rw [s1.2.2.2 i (by have := hb.2.2.2.2.1; omega)]; exact p6 i hi⟩
section TPe
variable {h : hh_T} {m : Nat} {Q : Option Value ⊕ Nat → hh_T → Prop} {P : zP} {G : zG} {U : List zB} {β : Nat → zB}
theorem t_pb_new {i c k n np : Nat} {l : zBy} {sh : Bool} {s : zU} {d : zD} {π : Nat → Option zB × Option zBy} (hT : tw_ok h m) (hbl : ∀ j, j < l.length → gy_b (lf l j)) (R : rT_G h m G) (RP : rT_P h m P) (K : zg_ok P G) (up : hh_i h m 77 = (Int32.ofNat 1)) (TU : tu h m 0 s) (hi : i < 8) (D : td h m i d) (hch : zu_ch s 9 d) (hpr : zu_pr s d 1 = n) (hn1 : 1 ≤ n) (hn2 : n ≤ 2)
    (t : tpt h m G U β) (e41 : hh_i h m 41 = (Int32.ofNat np)) (hnp : np < 136) (hπ : ∀ j, j < np → tpe h m β j (π j)) (hc : c ≤ 2) (hk1 : 1 ≤ k) (hk4 : k ≤ 4) (hl : l.length = 8 * k) (hcd : ta_c h (m + 28) l) (hdb : (if sh then U.find? (zl_db c k l) else none) = none)
    (H0 : zl_cp P G U k n = none → ∀ h', fq m oPl fPl h h' → (∀ p, p < 640 → hh_i h (m + 18) p = (Int32.ofNat 1) → ts h h' m p) → Q (.inl (some (.int (Int32.ofNat 0)))) h')
    (H1 : ∀ cp, zl_cp P G U k n = some cp → ∀ h' β', fq m oPl fPl h h' → (∀ p, p < 640 → hh_i h (m + 18) p = (Int32.ofNat 1) → ts h h' m p ∧ β' p = β p) → tpn h' m G ((c, k, cp, sm (lf l) l.length, if sh then some l else none) :: U) β' (np + 1) (fu π np (some (c, k, cp, sm (lf l) l.length, if sh then some l else none), some l)) → hh_i h' m 43 = hh_i h m 43 → Q (.inl (some (.int (Int32.ofNat 1)))) h') :
    gm_G 408 382 [some (.ref m), none, none, some (.int (Int32.ofNat i)), none, some (.int (Int32.ofNat c)), none, some (.int (Int32.ofNat k)), some (.int (bi sh))] [] h Q := by
  have hfree : ∃ x, x < 640 ∧ decide (hh_i h (m + 18) x = (Int32.ofNat 1)) = false := by
    refine tb_free K (u := fun p => decide (hh_i h (m + 18) p = (Int32.ofNat 1))) (κ := fun p => zb_key (β p)) (fun p hp e => ?_) (fun p q hp hq e1 e2 e3 => t.2.2.2.1 p q hp hq (of_decide_eq_true e1) (of_decide_eq_true e2) e3)
    obtain ⟨-, B, hz, -⟩ := t.at hp (of_decide_eq_true e)
    have hc1 := B.2.2.2.2.2.2.1
    have hk := B.2.2.2.1
    have hm : zb_key (β p) ∈ zb_cp (β p) := by
      unfold zb_key
      cases z : zb_cp (β p) with
      | nil => rw [z] at hc1; exact absurd hc1 (by decide)
      | cons x r => exact List.mem_cons_self ..
    obtain ⟨z1, z2⟩ := hz _ hm
    have := zg_sp_pos (P := P) (G := G) (g := (zb_key (β p)).1) hk
    exact ⟨z1, by omega⟩
  refine w_408_382 hT ?_
  have lp : ∀ e x, x + e = 640 → (∃ y, x ≤ y ∧ y < 640 ∧ hh_i h (m + 18) y = (Int32.ofNat 0)) → gm_G 408 385 [some (.ref m), none, none, some (.int (Int32.ofNat i)), none, some (.int (Int32.ofNat c)), none, some (.int (Int32.ofNat k)), some (.int (bi sh)), some (.int (Int32.ofNat x))] [] h Q := by
    intro e
    induction e with
    | zero => intro x ex hy; obtain ⟨y, y1, y2, -⟩ := hy; omega
    | succ e ih =>
      intro x ex hy
      have hx : x < 640 := by omega
      refine w_408_385 hT ⟨x, ix_n hx (by omega), ?_⟩
      rcases t.1 x hx with ⟨q1, q2, -⟩ | ⟨q1, q2⟩
      · refine ⟨fun _ => w_408_405 hT ?_, fun z => absurd (q2.symm.trans z) (by decide)⟩
        rw [i_add]
        refine ih (x + 1) (by omega) ?_
        obtain ⟨y, y1, y2, y3⟩ := hy
        refine ⟨y, ?_, y2, y3⟩
        by_cases z : y = x
        · rw [z, q1] at y3; exact absurd y3 (by decide)
        · omega
      · refine ⟨fun z => absurd q2 z, fun _ => ⟨x, ix_n hx (by omega), fun _ => ?_, fun z => absurd q1 z⟩⟩
        refine w_297_0 hT (t_property0 hT up TU (by decide) 9 i d hi D hch ?_)
        refine ⟨x, ix_n hx (by omega), fun h6 a6 => ⟨x, ix_n hx (by omega), fun h8 a8 => ?_⟩⟩
        rw [show zu_prop s 1 9 d = n from hpr]
        have g6 : fr (tO m [21, 22, 23, 24, 27] []) h h6 := by rw [a6]; exact fr.a rfl
        have g8 : fr (tO m [21, 22, 23, 24, 27] []) h h8 := g6.trans (by rw [a8]; exact fr.a rfl)
        have p21 : ∀ p, ¬ p = x → hh_i h8 (m + 21) p = hh_i h (m + 21) p := fun p hp => by rw [a8, hi_n (by omega), a6, hi_n (by omega)]
        have p22 : ∀ p, ¬ p = x → hh_i h8 (m + 22) p = hh_i h (m + 22) p := fun p hp => by rw [a8, hi_n (by omega), a6, hi_n (by omega)]
        have p23 : hh_i h8 (m + 23) = hh_i h (m + 23) := by funext p; rw [a8, hi_n (by omega), a6, hi_n (by omega)]
        have p24 : hh_i h8 (m + 24) = hh_i h (m + 24) := by funext p; rw [a8, hi_n (by omega), a6, hi_n (by omega)]
        have p27 : hh_i h8 (m + 27) = hh_i h (m + 27) := by funext p; rw [a8, hi_n (by omega), a6, hi_n (by omega)]
        have e21 : hh_i h8 (m + 21) x = (Int32.ofNat k) := by rw [a8, hi_e ⟨rfl, rfl⟩]
        have ux : ∀ p, hh_i h (m + 18) p = (Int32.ofNat 1) → ¬ p = x := fun p hp e => by rw [e, q1] at hp; exact absurd hp (by decide)
        refine t_pb_cps (hT.fr g8) (R.fr g8 rfl rfl) (RP.fr g8 rfl rfl) K (U := U) (fun g y hg hy => by rw [p27]; exact t.2.2.1 g y hg hy) hx hk1 hk4 hn1 hn2 e21 (fun ecp h9 g9 c22 c2 => ?_) (fun cp ecp h9 g9 c22 c2 e22 ec zok T9 => ?_)
        · have g9' := g8.trans (g9.up (O' := [21, 22, 23, 24, 27]) (F' := []) rfl rfl)
          refine H0 ecp h9 (fq.of (g9'.up rfl rfl)) (fun p hp up => ⟨fun o ho => ?_, fun c hc => ⟨?_, ?_⟩, by rw [g9'.jj], fun j hj => by rw [g9'.arr (o := 26) rfl]⟩)
          · have hpx := ux p up
            have : o = 17 ∨ o = 18 ∨ o = 19 ∨ o = 20 ∨ o = 21 ∨ o = 22 := by simpa using ho
            rcases this with e | e | e | e | e | e <;> subst e
            · rw [g9'.arr (o := 17) rfl]
            · rw [g9'.arr (o := 18) rfl]
            · rw [g9'.arr (o := 19) rfl]
            · rw [g9'.arr (o := 20) rfl]
            · rw [g9.arr (o := 21) rfl]; exact p21 p hpx
            · rw [c22 p hpx]; exact p22 p hpx
          · rw [(c2 (2 * p + c) (by have := ux p up; omega)).1, p23]
          · rw [(c2 (2 * p + c) (by have := ux p up; omega)).2, p24]
        · have g9' := g8.trans (g9.up (O' := [21, 22, 23, 24, 27]) (F' := []) rfl rfl)
          have hT9 := hT.fr g9'
          obtain ⟨zc1, zc2, zc3, zc4⟩ := zok
          refine w_408_439 hT9 ⟨fun _ => ⟨x, ix_n hx (by omega), fun ha aa => ⟨x, ix_n hx (by omega), fun hb ab => ⟨x, ix_n hx (by omega), ⟨by cases sh; exact Or.inl rfl; exact Or.inr rfl, fun hc' ac => ⟨x, ix_n hx (by omega), fun hd ad => ?_⟩⟩⟩⟩⟩, fun z => absurd z (by rw [i_lt (by omega) (by omega)]; omega)⟩
          have gd : fr (tO m [17, 18, 19, 20] []) h9 hd := by rw [ad, ac, ab, aa]; exact (((fr.a rfl).trans (fr.a rfl)).trans (fr.a rfl)).trans (fr.a rfl)
          have d17 : ∀ p, hh_i hd (m + 17) p = if p = x then (Int32.ofNat 1) else hh_i h (m + 17) p := fun p => by
            rw [ad, hi_n (by omega), ac, hi_n (by omega), ab, hi_n (by omega), aa]
            by_cases z : p = x
            · rw [hi_e ⟨rfl, z⟩, if_pos z]
            · rw [hi_n (by omega), if_neg z, g9'.arr (o := 17) rfl]
          have d18 : ∀ p, hh_i hd (m + 18) p = if p = x then (Int32.ofNat 1) else hh_i h (m + 18) p := fun p => by
            rw [ad, hi_n (by omega), ac, hi_n (by omega), ab]
            by_cases z : p = x
            · rw [hi_e ⟨rfl, z⟩, if_pos z]
            · rw [hi_n (by omega), aa, hi_n (by omega), if_neg z, g9'.arr (o := 18) rfl]
          have d19 : ∀ p, hh_i hd (m + 19) p = if p = x then bi sh else hh_i h (m + 19) p := fun p => by
            rw [ad, hi_n (by omega), ac]
            by_cases z : p = x
            · rw [hi_e ⟨rfl, z⟩, if_pos z]
            · rw [hi_n (by omega), ab, hi_n (by omega), aa, hi_n (by omega), if_neg z, g9'.arr (o := 19) rfl]
          have d20 : ∀ p, hh_i hd (m + 20) p = if p = x then (Int32.ofNat c) else hh_i h (m + 20) p := fun p => by
            rw [ad]
            by_cases z : p = x
            · rw [hi_e ⟨rfl, z⟩, if_pos z]
            · rw [hi_n (by omega), ac, hi_n (by omega), ab, hi_n (by omega), aa, hi_n (by omega), if_neg z, g9'.arr (o := 20) rfl]
          have hTd := hT9.fr gd
          have e28 : ∀ j, j < l.length → hh_i hd (m + 28) j = lf l j := fun j hj => by rw [gd.arr (o := 28) rfl, g9'.arr (o := 28) rfl]; exact hcd j hj
          refine lp_fill (m := m) (o := 26) (b := 32 * x) (n := 8 * k) (fun j => [some (.ref m), none, none, none, none, none, none, some (.int (Int32.ofNat k)), none, some (.int (Int32.ofNat x)), none, some (.int (Int32.ofNat j))]) (fun j => lf l j) (by decide) (fun j h1 hj g1 _ kk => ?_) (fun he ge ee => ?_)
          · refine w_408_602 (hTd.fr g1) ⟨fun z => absurd (by rw [i_mul, i_lt (by omega) (by omega)]; exact hj) z, fun _ => ⟨j, ix_n (by omega) (by omega), 32 * x + j, by rw [i_mul, i_add]; exact ix_n (by omega) (by omega), fun h12 a12 => ?_⟩⟩
            have q := hbl j (by omega)
            rw [g1.arr (o := 28) rfl, e28 j (by omega), show (lf l j).toInt8.toInt32 = lf l j from q] at a12
            rw [a12, i_add]
            exact kk
          · have hTe := hTd.fr ge
            have g41 : hh_i he m 41 = (Int32.ofNat np) := by rw [ge.fld (f := 41) rfl, gd.fld (f := 41) rfl, g9'.fld (f := 41) rfl]; exact e41
            refine w_408_602 hTe ⟨fun _ => ?_, fun z => absurd z (by rw [i_mul, i_lt (by omega) (by omega)]; omega)⟩
            rw [i_mul, i_mul]
            refine t_sumOf hTe (hTe.2.2 26 (by decide)).1 (by rw [(hTe.2.2 26 (by decide)).2]; show 32 * x + 8 * k ≤ 20480; omega) (by omega) ?_
            have es : sm (fun i => hh_i he (m + 26) (32 * x + i)) (8 * k) = sm (lf l) l.length := by
              rw [hl]
              refine sm_cg (fun j hj => ?_)
              rw [ee, if_pos (by omega), show 32 * x + j - 32 * x = j by omega]
            rw [es]
            refine ⟨x, ix_n hx (by omega), fun hf af => ?_⟩
            have gf : fq m oPl fPl he hf := by rw [af]; exact fq.wj
            refine ⟨np, by rw [af, hi_wj, g41]; exact ix_n hnp (by omega), fun hg' ag => ⟨np, by rw [ag, hi_n (by omega), af, hi_wj, g41]; exact ix_n hnp (by omega), fun hi' ai => fun hz az => ?_⟩⟩
            have v41 : hh_i hi' m 41 = (Int32.ofNat np) := by rw [ai, hi_n (by omega), ag, hi_n (by omega), af, hi_wj, g41]
            rw [v41, i_add] at az
            have vz : ∀ o p, ¬ o = 0 → ¬ o = 30 → ¬ o = 31 → hh_i hz (m + o) p = hh_i he (m + o) p := fun o p h0 h1 h2 => by rw [az, hi_n (by omega), ai, hi_n (by omega), ag, hi_n (by omega), af, hi_wj]
            have y17 : ∀ p, hh_i hz (m + 17) p = if p = x then (Int32.ofNat 1) else hh_i h (m + 17) p := fun p => by rw [vz 17 p (by decide) (by decide) (by decide), ge.arr (o := 17) rfl, d17]
            have y18 : ∀ p, hh_i hz (m + 18) p = if p = x then (Int32.ofNat 1) else hh_i h (m + 18) p := fun p => by rw [vz 18 p (by decide) (by decide) (by decide), ge.arr (o := 18) rfl, d18]
            have y19 : ∀ p, hh_i hz (m + 19) p = if p = x then bi sh else hh_i h (m + 19) p := fun p => by rw [vz 19 p (by decide) (by decide) (by decide), ge.arr (o := 19) rfl, d19]
            have y20 : ∀ p, hh_i hz (m + 20) p = if p = x then (Int32.ofNat c) else hh_i h (m + 20) p := fun p => by rw [vz 20 p (by decide) (by decide) (by decide), ge.arr (o := 20) rfl, d20]
            have y21 : hh_i hz (m + 21) = hh_i h8 (m + 21) := by funext p; rw [vz 21 p (by decide) (by decide) (by decide), ge.arr (o := 21) rfl, gd.arr (o := 21) rfl, g9.arr (o := 21) rfl]
            have y22 : hh_i hz (m + 22) = hh_i h9 (m + 22) := by funext p; rw [vz 22 p (by decide) (by decide) (by decide), ge.arr (o := 22) rfl, gd.arr (o := 22) rfl]
            have y23 : hh_i hz (m + 23) = hh_i h9 (m + 23) := by funext p; rw [vz 23 p (by decide) (by decide) (by decide), ge.arr (o := 23) rfl, gd.arr (o := 23) rfl]
            have y24 : hh_i hz (m + 24) = hh_i h9 (m + 24) := by funext p; rw [vz 24 p (by decide) (by decide) (by decide), ge.arr (o := 24) rfl, gd.arr (o := 24) rfl]
            have y27 : hh_i hz (m + 27) = hh_i h9 (m + 27) := by funext p; rw [vz 27 p (by decide) (by decide) (by decide), ge.arr (o := 27) rfl, gd.arr (o := 27) rfl]
            have y26 : ∀ y, hh_i hz (m + 26) y = if 32 * x ≤ y ∧ y < 32 * x + 8 * k then lf l (y - 32 * x) else hh_i h (m + 26) y := fun y => by rw [vz 26 y (by decide) (by decide) (by decide), ee, gd.arr (o := 26) rfl, g9'.arr (o := 26) rfl]
            have yj : ∀ p, hh_j hz (m + 25) p = if p = x then sm (lf l) l.length else hh_j h (m + 25) p := fun p => by
              rw [az, hj_wi, ai, hj_wi, ag, hj_wi, af]
              by_cases z : p = x
              · rw [hj_e ⟨rfl, z⟩, if_pos z]
              · rw [hj_n (by omega), if_neg z, ge.jj, gd.jj, g9'.jj]
            have y30 : ∀ j, hh_i hz (m + 30) j = if j = np then (Int32.ofNat x) else hh_i h (m + 30) j := fun j => by
              rw [az, hi_n (by omega), ai, hi_n (by omega), ag]
              by_cases z : j = np
              · rw [hi_e ⟨rfl, z⟩, if_pos z]
              · rw [hi_n (by omega), af, hi_wj, if_neg z, ge.arr (o := 30) rfl, gd.arr (o := 30) rfl, g9'.arr (o := 30) rfl]
            have y31 : ∀ j, hh_i hz (m + 31) j = if j = np then (Int32.ofNat 1) else hh_i h (m + 31) j := fun j => by
              rw [az, hi_n (by omega), ai]
              by_cases z : j = np
              · rw [hi_e ⟨rfl, z⟩, if_pos z]
              · rw [hi_n (by omega), ag, hi_n (by omega), af, hi_wj, if_neg z, ge.arr (o := 31) rfl, gd.arr (o := 31) rfl, g9'.arr (o := 31) rfl]
            have gz : fq m oPl fPl h hz := (fq.of (g9'.up rfl rfl)).trans ((fq.of (gd.up rfl rfl)).trans ((fq.of (ge.up rfl rfl)).trans (gf.trans (fq.of (by rw [az, ai, ag]; exact ((fr.a rfl).trans (fr.a rfl)).trans (fr.f rfl))))))
            have tsz : ∀ p, ¬ p = x → ts h hz m p := fun p hpx => by
              refine ⟨fun o ho => ?_, fun c hc => ⟨?_, ?_⟩, by rw [yj, if_neg hpx], fun j hj => by rw [y26, if_neg (by omega)]⟩
              · have : o = 17 ∨ o = 18 ∨ o = 19 ∨ o = 20 ∨ o = 21 ∨ o = 22 := by simpa using ho
                rcases this with e | e | e | e | e | e <;> subst e
                · rw [y17, if_neg hpx]
                · rw [y18, if_neg hpx]
                · rw [y19, if_neg hpx]
                · rw [y20, if_neg hpx]
                · rw [y21]; exact p21 p hpx
                · rw [y22, c22 p hpx]; exact p22 p hpx
              · rw [y23, (c2 (2 * p + c) (by omega)).1, p23]
              · rw [y24, (c2 (2 * p + c) (by omega)).2, p24]
            have tbx : tb hz m x (c, k, cp, sm (lf l) l.length, if sh then some l else none) := by
              refine ⟨by rw [y20, if_pos rfl]; rfl, hc, by rw [y21]; exact e21, hk1, hk4, by rw [y22]; exact e22, zc1, zc2, fun c hc => ⟨by rw [y23]; exact (ec c hc).1, by rw [y24]; exact (ec c hc).2⟩, by rw [yj, if_pos rfl]; rfl, ?_, fun l' hl' => ?_⟩
              · rw [y19, if_pos rfl]
                show bi sh = bi (if sh then some l else none).isSome
                cases sh <;> rfl
              · have hl' : (if sh then some l else none) = some l' := hl'
                have e2 : l = l' := by
                  cases sh with
                  | true => exact Option.some.inj hl'
                  | false => cases hl'
                subst e2
                refine ⟨hl, fun j hj => ?_⟩
                have hj : j < 8 * k := hj
                rw [y26, if_pos (by omega), show 32 * x + j - 32 * x = j by omega]
            have zbx : zb_ok G (c, k, cp, sm (lf l) l.length, if sh then some l else none) := fun y hy => zc3 y hy
            have u18 : ∀ p, hh_i h (m + 18) p = (Int32.ofNat 1) → hh_i hz (m + 18) p = (Int32.ofNat 1) := fun p hp => by rw [y18, if_neg (ux p hp)]; exact hp
            refine H1 cp ecp hz (fu β x (c, k, cp, sm (lf l) l.length, if sh then some l else none)) gz (fun p hp up => ⟨tsz p (ux p up), if_neg (ux p up)⟩) ⟨⟨fun p hp => ?_, fun b hb => ?_, ?_, fun p q hp hq up uq ek => ?_, fun b b' hb hb' e1 e2 e3 e4 => ?_⟩, by rw [az, hi_e ⟨rfl, rfl⟩], fun j hj => ?_⟩ ?_
            · by_cases z : p = x
              · subst z
                refine Or.inl ⟨by rw [y18, if_pos rfl], by rw [y17, if_pos rfl], ?_, ?_, ?_⟩
                · rw [fu, if_pos rfl]; exact tbx
                · rw [fu, if_pos rfl]; exact zbx
                · rw [fu, if_pos rfl]; exact List.mem_cons_self ..
              · rw [y18, y17, if_neg z, if_neg z, fu, if_neg z]
                rcases t.1 p hp with ⟨r1, r2, r3, r4, r5⟩ | r
                · exact Or.inl ⟨r1, r2, tb_ts (tsz p z) r3, r4, List.mem_cons_of_mem _ r5⟩
                · exact Or.inr r
            · rcases List.mem_cons.mp hb with e | hb
              · exact ⟨x, hx, by rw [y18, if_pos rfl], by rw [fu, if_pos rfl, e]⟩
              · obtain ⟨p, r1, r2, r3⟩ := t.2.1 b hb
                exact ⟨p, r1, u18 p r2, by rw [fu, if_neg (ux p r2)]; exact r3⟩
            · intro g y hg hy
              rw [y27]
              exact T9 _ rfl rfl g y hg hy
            · rw [y18] at up uq
              -- the new block begins where nothing is taken
              have nk : ∀ q, q < 640 → ¬ q = x → hh_i h (m + 18) q = (Int32.ofNat 1) → ¬ cp.headD (0, 0) = zb_key (β q) := fun q hq hqx uq e => by
                obtain ⟨-, B, -, hm⟩ := t.at hq uq
                have := zl_tk_key (P := P) (G := G) hm B.2.2.2.1 B.2.2.2.2.2.2.1
                rw [← e, zc4] at this
                cases this
              by_cases zp : p = x
              · by_cases zq : q = x
                · rw [zp, zq]
                · rw [if_neg zq] at uq
                  rw [fu, if_pos zp, fu, if_neg zq] at ek
                  exact absurd ek (nk q hq zq uq)
              · by_cases zq : q = x
                · rw [if_neg zp] at up
                  rw [fu, if_neg zp, fu, if_pos zq] at ek
                  exact absurd ek.symm (nk p hp zp up)
                · rw [if_neg zp] at up
                  rw [if_neg zq] at uq
                  rw [fu, if_neg zp, fu, if_neg zq] at ek
                  exact t.2.2.2.1 p q hp hq up uq ek
            · -- a shared block with these bytes is new
              have nd : ∀ b, b ∈ U → zb_co b = c → zb_k b = k → zb_sh b = (if sh then some l else none) → (zb_sh b).isSome = true → False := fun x hx f1 f2 f3 f4 => by
                cases sh with
                | false => rw [f3] at f4; cases f4
                | true =>
                  rw [if_pos rfl, List.find?_eq_none] at hdb
                  exact hdb x hx (zl_db_t.mpr ⟨f1, f2, f3⟩)
              rcases List.mem_cons.mp hb with e | hb <;> rcases List.mem_cons.mp hb' with e' | hb'
              · rw [e, e']
              · rw [e] at e1 e2 e3 e4
                exact (nd b' hb' e1.symm e2.symm e3.symm (by rw [← e3]; exact e4)).elim
              · rw [e'] at e1 e2 e3
                exact (nd b hb e1 e2 e3 e4).elim
              · exact t.2.2.2.2 b b' hb hb' e1 e2 e3 e4
            · by_cases z : j = np
              · subst z
                rw [fu, if_pos rfl]
                refine ⟨x, hx, by rw [y30, if_pos rfl], by rw [y31, if_pos rfl], by rw [y18, if_pos rfl], by rw [fu, if_pos rfl], fun i hi => ?_⟩
                have hi : i < 8 * k := hi
                rw [y26, if_pos (by omega), show 32 * x + i - 32 * x = i by omega]
              · rw [fu, if_neg z]
                exact tpe_ts t (by rw [y30, if_neg z]) (by rw [y31, if_neg z]) (fun p hp up => ⟨tsz p (ux p up), if_neg (ux p up)⟩) (hπ j (by omega))
            · rw [az, hi_n (by omega), ai, hi_n (by omega), ag, hi_n (by omega), af, hi_wj, ge.fld (f := 43) rfl, gd.fld (f := 43) rfl, g9'.fld (f := 43) rfl]
  refine lp 640 0 rfl ?_
  obtain ⟨x, h1, h2⟩ := hfree
  refine ⟨x, Nat.zero_le _, h1, ?_⟩
  rcases t.1 x h1 with ⟨q, -⟩ | ⟨q, -⟩
  · rw [q] at h2; exact absurd h2 (by decide)
  · exact q
end TPe
