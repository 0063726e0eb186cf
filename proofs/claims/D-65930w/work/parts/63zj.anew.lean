/-! STAGE 3: a plan begins; the twin settles -/
def zU_ok (G : zG) (U : List zB) : Prop := (∀ b, b ∈ U → zb_ok G b) ∧ ∀ b b', b ∈ U → b' ∈ U → zb_co b = zb_co b' → zb_k b = zb_k b' → zb_sh b = zb_sh b' → (zb_sh b).isSome = true → b = b'
section AN
variable {h h' : hh_T} {m : Nat} {E : zE} {Q : Option Value ⊕ Nat → hh_T → Prop} {P : zP} {G : zG} {S : zS}
/-- only the table of blocks changes -/
theorem rT_E_tb (R : rT_E h m E) (a : ∀ o, 40 ≤ o → o ≤ 79 → hh_i h' (m + o) = hh_i h (m + o)) (f : ∀ o, fE o = true → hh_i h' m o = hh_i h m o) (tbk : ∀ p b0, p < 640 → tw_uN h m p → tb h m p b0 → tb h' m p b0)
    (ek : ∀ p, p < 640 → tw_uN h m p → hh_i h' (m + 23) (2 * p) = hh_i h (m + 23) (2 * p) ∧ hh_i h' (m + 24) (2 * p) = hh_i h (m + 24) (2 * p) ∧ hh_i h' (m + 17) p = (Int32.ofNat 1)) : rT_E h' m E ∧ (∀ p, tw_uN h' m p ↔ tw_uN h m p) ∧ ∀ t T, tw_sl h m (ze_up E) (ze_heads E).length t → tt h m t T → tt h' m t T := by
  have s : ∀ q, so h h' m q q := fun q => ⟨fun o h1 h2 => by rw [a o h1 (by omega)], fun o k h1 h2 _ => by rw [a o (by omega) (by omega)], fun o k h1 h2 _ => by rw [a o (by omega) (by omega)], fun k _ => by rw [a 56 (by decide) (by decide)], fun k _ => by rw [a 57 (by decide) (by decide)]⟩
  have aS : aSt h h' m := fun o h1 h2 _ => a o (by omega) h2
  have kt : ∀ t T, tw_sl h m (ze_up E) (ze_heads E).length t → tt h m t T → tt h' m t T := fun t T q X => tt_so X.1 (by rw [a 58 (by decide) (by decide)]) (fun o _ => s _) (fun p b0 hp l B => tbk p b0 hp (by
    rw [tw_uN.of R, tw_us_l1]
    exact ⟨t, q, X.1, l⟩) B) X
  have hus : ∀ p, tw_us h' m (tw_sl h' m (ze_up E) (ze_heads E).length) p ↔ tw_us h m (tw_sl h m (ze_up E) (ze_heads E).length) p := fun p => by
    unfold tw_us tw_sl tw_st
    rw [a 40 (by decide) (by decide), a 55 (by decide) (by decide), a 59 (by decide) (by decide), a 63 (by decide) (by decide), a 69 (by decide) (by decide), a 74 (by decide) (by decide), a 78 (by decide) (by decide)]
  obtain ⟨r1, r2, r3, r4, r5, r6, r7, r8, r9⟩ := id R
  have R9 : rT_E h' m E := by
    refine ⟨by rw [f 76 rfl]; exact r1, by rw [f 77 rfl]; exact r2, fun up => ⟨?_, by rw [f 100 rfl]; exact (r3 up).2.1, (r3 up).2.2⟩, by rw [f 99 rfl]; exact r4, r5, fun c s hs => ?_, by rw [a 78 (by decide) (by decide)]; exact r7, fun p q hp hq u v e1 e2 => ?_, fun p hp u => ?_⟩
    · exact tu_keep aS (fun k _ => by rw [a 63 (by decide) (by decide)]) (fun k t T hk h1 h2 X => kt t T ⟨0, Or.inl ⟨rfl, up⟩, by decide, Or.inl ⟨k, hk, h1, h2⟩⟩ X) (fun k t T hk h1 h2 X => kt t T ⟨0, Or.inl ⟨rfl, up⟩, by decide, Or.inr ⟨k, hk, h1, h2⟩⟩ X) (r3 up).1
    · obtain ⟨j, z1, z2, z3, z4, z5, z6⟩ := r6 c s hs
      have hc : c < (ze_heads E).length := (List.getElem?_eq_some_iff.mp hs).1
      refine ⟨j, by rw [a 78 (by decide) (by decide)]; exact z1, z2, z3, by rw [a 79 (by decide) (by decide)]; exact z4, z5, ?_⟩
      exact tu_keep aS (fun k _ => by rw [a 63 (by decide) (by decide)]) (fun k t T hk h1 h2 X => kt t T ⟨j, Or.inr ⟨c, hc, z1⟩, z3, Or.inl ⟨k, hk, h1, h2⟩⟩ X) (fun k t T hk h1 h2 X => kt t T ⟨j, Or.inr ⟨c, hc, z1⟩, z3, Or.inr ⟨k, hk, h1, h2⟩⟩ X) z6
    · have u := (hus p).mp u
      have v := (hus q).mp v
      obtain ⟨x1, x2, -⟩ := ek p hp ((tw_uN.of R).mpr u)
      obtain ⟨y1, y2, -⟩ := ek q hq ((tw_uN.of R).mpr v)
      rw [x1, y1] at e1
      rw [x2, y2] at e2
      exact r8 p q hp hq u v e1 e2
    · exact (ek p hp ((tw_uN.of R).mpr ((hus p).mp u))).2.2
  exact ⟨R9, fun p => by rw [tw_uN.of R9, tw_uN.of R]; exact hus p, kt⟩
theorem tw_be_eq (R : rT_E h m E) (K : zg_ok P G) (hU : zU_ok G (zu_e E)) {p : Nat} {b : zB} (hp : p < 640) (u : tw_uN h m p) (B : tb h m p b) (hz : zb_ok G b) : tw_be h m E p = b := by
  obtain ⟨q1, q2⟩ := tw_be_ok R hp u
  exact tb_inj K q2 B (hU.1 _ q1) hz
theorem t_mark0 (hT : tw_ok h m) (w : gy_wf h) (RG : rT_G h m G) (K : zg_ok P G) (R : rT_E h m E) (up : ze_up E = true) (hU : zU_ok G (zu_e E)) (e41 : hh_i h m 41 = (Int32.ofNat 0))
    (H : ∀ h', fr (tO m [17, 18, 27] []) h h' → (∀ p, p < 640 → bs (hh_i h' (m + 18) p) (tw_uN h m p)) → (∀ p, p < 640 → bs (hh_i h' (m + 17) p) (tw_uN h m p)) → tkd h' m G (zu_e E) → Q (.inl none) h') : gm_G 407 0 [some (.ref m)] [] h Q := by
  have hs0 := rT_E_hs R
  refine t_markUsed (β := tw_be h m E) hT RG K R.2.2.2.1 R.2.2.2.2.1 (fun k hk => by obtain ⟨j, z1, z2, z3⟩ := hs0 k hk; exact ⟨j, z3, z1⟩) (us_pt R up) e41 (by decide) (fun k hk => absurd hk (Nat.not_lt_zero _)) (fun p hp => w.2.2.1 (m + 17) p (hT.2.2 17 (by decide)).1) (fun p hp u => ?_) (fun h' g c18 c17 c27 => ?_)
  · have := tw_be_ok R hp ((tm_us R up).mp u)
    exact ⟨this.2, hU.1 _ this.1⟩
  · refine H h' g (fun p hp => (c18 p hp).of (tm_us R up)) (fun p hp => (c17 p hp).of ?_) ?_
    · rw [tm_us R up]
      exact ⟨fun z => z.2, fun z => ⟨us_17 R hp z, z⟩⟩
    · refine tkd.of K hU.1 (Us := tm_u h m 0) (β := tw_be h m E) (fun b hb => ?_) (fun p hp u => (tw_be_ok R hp ((tm_us R up).mp u)).1) c27
      obtain ⟨p, p1, p2, p3⟩ := us_of R hb
      exact ⟨p, p1, (tm_us R up).mpr p2, tw_be_eq R K hU p1 p2 p3 (hU.1 b hb)⟩
theorem t_planAnew {π : Nat → Option zB × Option zBy} (hT : tw_ok h m) (w : gy_wf h) (RG : rT_G h m G) (K : zg_ok P G) (R : rT_E h m E) (up : ze_up E = true) (hU : zU_ok G (zu_e E))
    (H : ∀ h', gy_wf h' → fr (tO m [17, 18, 27] [41, 43]) h h' → rT_E h' m E → (∀ p, tw_uN h' m p ↔ tw_uN h m p) → (∀ p, p < 640 → bs (hh_i h' (m + 18) p) (tw_uN h m p)) → tpn h' m G (zu_e E) (tw_be h m E) 0 π → hh_i h' m 43 = (Int32.ofNat 0) → Q (.inl none) h') : gm_G 421 0 [some (.ref m)] [] h Q := by
  refine gy_use w ?_
  refine w_421_0 hT (fun h1 a1 h2 a2 => ?_)
  have g2 : fr (tO m [] [41, 43]) h h2 := by rw [a2, a1]; exact (fr.f rfl).trans (fr.f rfl)
  have R2 : rT_E h2 m E := R.fr g2 rfl rfl
  have u2 : ∀ p, tw_uN h2 m p ↔ tw_uN h m p := fun p => by
    rw [tw_uN.of R2, tw_uN.of R]
    unfold tw_us tw_sl tw_st
    rw [g2.arr (o := 40) rfl, g2.arr (o := 55) rfl, g2.arr (o := 59) rfl, g2.arr (o := 63) rfl, g2.arr (o := 69) rfl, g2.arr (o := 74) rfl, g2.arr (o := 78) rfl]
  have w2 : gy_wf h2 := g2.wf w hT (fun o ho => absurd ho (List.not_mem_nil)) (fun o ho => absurd ho (List.not_mem_nil)) (fun f hf e => by
    have : f = 41 ∨ f = 43 := by simpa using hf
    rcases this with q | q <;> subst q <;> exact absurd e (by decide)) (fun o ho => absurd ho (List.not_mem_nil))
  refine t_mark0 (hT.fr g2) w2 (RG.fr g2 rfl rfl) K R2 up hU (by rw [a2, hi_n (by omega), a1, hi_e ⟨rfl, rfl⟩]) (fun h3 g3 c18 c17 c27 w3 => ?_)
  have g0 : fr (tO m [17, 18, 27] [41, 43]) h h3 := (g2.up rfl rfl).trans (g3.up rfl rfl)
  have B0 : ∀ p b0, tb h m p b0 → tb h3 m p b0 := fun p b0 B => tb_f8 B g0 rfl
  have k18 : ∀ p, p < 640 → bs (hh_i h3 (m + 18) p) (tw_uN h m p) := fun p hp => (c18 p hp).of (u2 p)
  have k17 : ∀ p, p < 640 → bs (hh_i h3 (m + 17) p) (tw_uN h m p) := fun p hp => (c17 p hp).of (u2 p)
  obtain ⟨R3, u3, -⟩ := rT_E_tb R (h' := h3) (fun o h1 h2 => g0.arrs (P := fun o => Nat.ble 40 o && Nat.ble o 79) rfl (by (try dsimp only); rw [Bool.and_eq_true, Nat.ble_eq, Nat.ble_eq]; exact ⟨h1, h2⟩) (by omega)) (fun o ho => g0.fld (by
    have : o = 76 ∨ o = 77 ∨ o = 99 ∨ o = 100 := by unfold fE at ho; simpa using ho
    rcases this with q | q | q | q <;> subst q <;> rfl)) (fun p b0 _ _ B => B0 p b0 B) (fun p hp u => ⟨by rw [g0.arr (o := 23) rfl], by rw [g0.arr (o := 24) rfl], (k17 p hp).t u⟩)
  have un : ∀ p, p < 640 → hh_i h3 (m + 18) p = (Int32.ofNat 1) → tw_uN h m p := fun p hp e => by
    rcases k18 p hp with ⟨-, z⟩ | ⟨z, -⟩
    · exact z
    · rw [e] at z; exact absurd z (by decide)
  refine H h3 w3 g0 R3 u3 k18 ⟨⟨fun p hp => ?_, fun b hb => ?_, c27, fun p q hp hq e1 e2 e3 => ?_, hU.2⟩, ?_, fun k hk => absurd hk (Nat.not_lt_zero _)⟩ ?_
  · by_cases u : tw_uN h m p
    · obtain ⟨q1, q2⟩ := tw_be_ok R hp u
      exact Or.inl ⟨(k18 p hp).t u, (k17 p hp).t u, B0 _ _ q2, hU.1 _ q1, q1⟩
    · exact Or.inr ⟨(k18 p hp).f u, (k17 p hp).f u⟩
  · obtain ⟨p, p1, p2, p3⟩ := us_of R hb
    exact ⟨p, p1, (k18 p p1).t p2, tw_be_eq R K hU p1 p2 p3 (hU.1 b hb)⟩
  · have up' := un p hp e1
    have uq := un q hq e2
    exact us_key R hp hq up' uq (tw_be_ok R hp up').2 (tw_be_ok R hq uq).2 e3
  · rw [g3.fld (f := 41) rfl, a2, hi_n (by omega), a1, hi_e ⟨rfl, rfl⟩]
  · rw [g3.fld (f := 43) rfl, a2, hi_e ⟨rfl, rfl⟩]
/-- what cached blocks are: sound ones -/
def zc_zb (G : zG) (C : zC) : Prop := ∀ l c, l < 4 → c ∈ zc_ls C l → zb_ok G c
theorem t_settle {C : zC} (hT : tw_ok h m) (w : gy_wf h) (RG : rT_G h m G) (K : zg_ok P G) (R : rT_E h m E) (up : ze_up E = true) (hU : zU_ok G (zu_e E)) (RD : rT_D h m C) (hC : zc_zb G C)
    (H : ∀ h', gy_wf h' → fr (tO m [17, 18, 27, 32, 33] [41]) h h' → rT_E h' m E → (∀ p, tw_uN h' m p ↔ tw_uN h m p) → (∀ p, p < 640 → bs (hh_i h' (m + 18) p) (tw_uN h m p)) → tkd h' m G (zu_e E) → rT_C h' m (zc_ls_ C (fun l => (zc_ls C l).filter (fun b => (zu_e E).any (zb_eq b)))) → Q (.inl none) h') : gm_G 422 0 [some (.ref m)] [] h Q := by
  refine gy_use w ?_
  refine w_422_0 hT (fun h2 a2 => ?_)
  have g2 : fr (tO m [] [41]) h h2 := by rw [a2]; exact fr.f rfl
  have R2 : rT_E h2 m E := R.fr g2 rfl rfl
  have u2 : ∀ p, tw_uN h2 m p ↔ tw_uN h m p := fun p => by
    rw [tw_uN.of R2, tw_uN.of R]
    unfold tw_us tw_sl tw_st
    rw [g2.arr (o := 40) rfl, g2.arr (o := 55) rfl, g2.arr (o := 59) rfl, g2.arr (o := 63) rfl, g2.arr (o := 69) rfl, g2.arr (o := 74) rfl, g2.arr (o := 78) rfl]
  have w2 : gy_wf h2 := g2.wf w hT (fun o ho => absurd ho (List.not_mem_nil)) (fun o ho => absurd ho (List.not_mem_nil)) (fun f hf e => by
    have : f = 41 := by simpa using hf
    subst this
    exact absurd e (by decide)) (fun o ho => absurd ho (List.not_mem_nil))
  refine t_mark0 (hT.fr g2) w2 (RG.fr g2 rfl rfl) K R2 up hU (by rw [a2, hi_e ⟨rfl, rfl⟩]) (fun h3 g3 c18 c17 c27 => ?_)
  show gm_G 422 11 _ [] h3 _
  have g03 : fr (tO m [17, 18, 27] [41]) h h3 := (g2.up rfl rfl).trans (g3.up rfl rfl)
  have k18 : ∀ p, p < 640 → bs (hh_i h3 (m + 18) p) (tw_uN h m p) := fun p hp => (c18 p hp).of (u2 p)
  have k17 : ∀ p, p < 640 → bs (hh_i h3 (m + 17) p) (tw_uN h m p) := fun p hp => (c17 p hp).of (u2 p)
  obtain ⟨⟨I, f, d1, d2, d3⟩, d4⟩ := RD
  refine t_settle11 (u := fun p => decide (hh_i h3 (m + 18) p = (Int32.ofNat 1))) (hT.fr g03) (d1.fr g03 rfl rfl) (fun p hp => ?_) (fun h4 g4 L4 w4 => ?_)
  · rcases k18 p hp with ⟨z, -⟩ | ⟨z, -⟩ <;> rw [z] <;> rfl
  · have g0 : fr (tO m [17, 18, 27, 32, 33] [41]) h h4 := (g03.up rfl rfl).trans (g4.up rfl rfl)
    have B0 : ∀ p b0, tb h m p b0 → tb h4 m p b0 := fun p b0 B => tb_f8 B g0 rfl
    obtain ⟨R4, u4, -⟩ := rT_E_tb R (h' := h4) (fun o h1 h2 => g0.arrs (P := fun o => Nat.ble 40 o && Nat.ble o 79) rfl (by (try dsimp only); rw [Bool.and_eq_true, Nat.ble_eq, Nat.ble_eq]; exact ⟨h1, h2⟩) (by omega)) (fun o ho => g0.fld (by
      have : o = 76 ∨ o = 77 ∨ o = 99 ∨ o = 100 := by unfold fE at ho; simpa using ho
      rcases this with q | q | q | q <;> subst q <;> rfl)) (fun p b0 _ _ B => B0 p b0 B) (fun p hp u => ⟨by rw [g0.arr (o := 23) rfl], by rw [g0.arr (o := 24) rfl], by rw [g4.arr (o := 17) rfl]; exact (k17 p hp).t u⟩)
    refine H h4 w4 g0 R4 u4 (fun p hp => by rw [g4.arr (o := 18) rfl]; exact k18 p hp) (fun g x hg hx => by rw [g4.arr (o := 27) rfl]; exact c27 g x hg hx) ⟨⟨fun l => (I l).filter (fun p => decide (hh_i h3 (m + 18) p = (Int32.ofNat 1))), f, L4, fun l hl => ?_, fun l p hl hp => ?_⟩, ?_⟩
    · show (zc_ls C l).filter (fun b => (zu_e E).any (zb_eq b)) = _
      rw [d2 l hl, List.filter_map]
      congr 1
      refine List.filter_congr (fun p hp => ?_)
      obtain ⟨z1, z2, z3, -⟩ := d3 l p hl hp
      have hzp : zb_ok G (f p) := hC l (f p) hl (by rw [d2 l hl]; exact List.mem_map.mpr ⟨p, hp, rfl⟩)
      show (zu_e E).any (zb_eq (f p)) = _
      rw [Bool.eq_iff_iff, List.any_eq_true, decide_eq_true_eq]
      constructor
      · rintro ⟨b, hb, e⟩
        have e : zb_key (f p) = zb_key b := of_decide_eq_true e
        obtain ⟨q, q1, q2, q3⟩ := us_of R hb
        obtain ⟨x1, x2⟩ := tb_key q3
        obtain ⟨y1, y2⟩ := tb_key z2
        have : q = p := z3 q q1 q2 (by rw [x1, y1, e]) (by rw [x2, y2, e])
        subst this
        exact (k18 q q1).t q2
      · intro e
        have u : tw_uN h m p := by
          rcases k18 p z1 with ⟨-, z⟩ | ⟨z, -⟩
          · exact z
          · rw [e] at z; exact absurd z (by decide)
        obtain ⟨b, b1, b2⟩ := us_in R z1 u
        refine ⟨b, b1, ?_⟩
        rw [tb_inj K z2 b2 hzp (hU.1 b b1)]
        exact decide_eq_true rfl
    · rw [List.mem_filter, decide_eq_true_eq] at hp
      obtain ⟨z1, z2, z3, z4⟩ := d3 l p hl hp.1
      refine ⟨z1, B0 _ _ z2, (u4 p).mpr ?_, fun hl2 i hi => by rw [g0.arr (o := 36) rfl]; exact z4 hl2 i hi⟩
      rcases k18 p z1 with ⟨-, z⟩ | ⟨z, -⟩
      · exact z
      · rw [hp.2] at z; exact absurd z (by decide)
    · rw [g0.fld (f := 46) rfl, g0.fld (f := 47) rfl, g0.fld (f := 48) rfl]
      exact d4
end AN
