/-! STAGE 3: new pointers are put -/
section PP
variable {h h' : hh_T} {m : Nat} {S : zS} {i t : Nat} {d : zD} {T : zT} {Q : Option Value ⊕ Nat → hh_T → Prop}
theorem rT_C_us {C : zC} {O F : List Nat} (R : rT_C h m C) (g : fr (tO m O F) h h') (hO : (O.all fun o => !(oB o || [32, 33, 36].contains o)) = true) (hF : (F.all fun f => !([46, 47, 48].contains f)) = true) (us : ∀ p, p < 640 → tw_uN h m p → tw_uN h' m p) : rT_C h' m C := by
  obtain ⟨⟨I, f, d1, d2, d3⟩, d4⟩ := R
  have hO2 : (O.all fun o => !(oB o)) = true := by
    rw [List.all_eq_true] at hO ⊢
    intro o ho
    have := hO o ho
    cases z : oB o with
    | false => rfl
    | true => rw [z] at this; cases this
  have fl : ∀ f, [46, 47, 48].contains f = true → hh_i h' m f = hh_i h m f := fun f hf => g.fld (by
    cases q : F.contains f with
    | false => rfl
    | true =>
      have := List.all_eq_true.mp hF f (by simpa using q)
      rw [hf] at this
      cases this)
  refine ⟨⟨I, f, fun l hl => (d1 l hl).fr (by rw [g.arrs (o := 33) hO rfl (by decide)]) (fun j _ => by rw [g.arrs (o := 32) hO rfl (by decide)]), d2, fun l p hl hp => ?_⟩, ?_⟩
  · obtain ⟨z1, z2, z3, z4⟩ := d3 l p hl hp
    exact ⟨z1, tb_f8 z2 g hO2, us p z1 z3, fun hl2 i hi => by rw [g.arrs (o := 36) hO rfl (by decide)]; exact z4 hl2 i hi⟩
  · rw [fl 46 rfl, fl 47 rfl, fl 48 rfl]
    exact d4
theorem tn_pt {q : Nat} {N : zN} {pt : Nat → Option zB} {F : List Nat} (R : tn h m q N) (g : fr (tO m [55] F) h h') (hp : ∀ k, k < 8 → (pt k = none ∧ hh_i h' (m + 55) (8 * q + k) = Int32.ofInt (-1)) ∨ ∃ b p, pt k = some b ∧ p < 640 ∧ hh_i h' (m + 55) (8 * q + k) = (Int32.ofNat p) ∧ tb h' m p b ∧ (zn_at N 0 = 1 ∨ zn_at N 0 = 4)) : tn h' m q (zn_pt_ N pt) := by
  obtain ⟨r1, r2, r3, r4, r5, r6, r7, r8, r9, r10, r11, r12⟩ := R
  have b : ∀ f, f < 8 → hh_i h' (m + (40 + f)) = hh_i h (m + (40 + f)) := fun f hf => g.arrs (P := fun o => Nat.ble 40 o && Nat.ble o 47) rfl (by (try dsimp only); rw [Bool.and_eq_true, Nat.ble_eq, Nat.ble_eq]; omega) (by omega)
  refine ⟨fun f hf => by rw [b f hf]; exact r1 f hf, r2, r3, r4, r5, r6, by rw [g.arr (o := 49) rfl]; exact r7, r8, by rw [g.arr (o := 50) rfl, g.arr (o := 51) rfl, g.arr (o := 52) rfl]; exact r9, fun z => ?_, by rw [g.arr (o := 57) rfl]; exact r11, hp⟩
  obtain ⟨s1, s2, s3, s4, s5, s6⟩ := r10 z
  refine ⟨by rw [g.arr (o := 48) rfl]; exact s1, s2, s3, s4, ?_, ?_⟩
  · unfold tw_en
    rw [g.arr (o := 53) rfl, g.arr (o := 54) rfl, g.arr (o := 56) rfl]
    exact s5
  · unfold tw_en
    rw [g.arr (o := 53) rfl, g.arr (o := 54) rfl, g.arr (o := 56) rfl]
    exact s6
/-- doubles are counted; fields that say what is due change -/
theorem rOw_dbl {v : Int32} (R : rOw h m S i t d T) (hi : i < 8) (g : fr (tO m [] [41, 42, 110]) h h') (e : hh_i h' m 42 = v) : rOw h' m (zs_M_ S (zm_dbl_ (zs_M S) v)) i t d T := by
  obtain ⟨RQ, D, e63, TT, hot⟩ := R
  obtain ⟨r0, r1, r2, r3, r4, r5, r6, r7, r8, r9⟩ := (rTq_tr S (zd_no d) T).mp RQ
  have a : aSt h h' m := fun o h1 h2 h3 => g.arr (by
    rw [Bool.or_eq_false_iff]
    refine ⟨rfl, ?_⟩
    cases q : Nat.beq o 0 with
    | false => rfl
    | true => have := Nat.eq_of_beq_eq_true q; omega)
  have us : ∀ p, tw_uN h' m p → tw_uN h m p := fun p u => by
    unfold tw_uN tw_us tw_sl tw_st at u ⊢
    rw [g.arr (o := 40) rfl, g.arr (o := 55) rfl, g.arr (o := 59) rfl, g.arr (o := 63) rfl, g.arr (o := 69) rfl, g.arr (o := 74) rfl, g.arr (o := 78) rfl, g.fld (f := 77) rfl, g.fld (f := 99) rfl] at u
    exact u
  refine ⟨(rTq_tr (zs_M_ S (zm_dbl_ (zs_M S) v)) (zd_no d) T).mpr ⟨r0.fr g, r1.fr g rfl rfl, r2.fr g rfl rfl, r3.fr g rfl rfl, r4.fr g rfl rfl, ?_, r6.fr g rfl, r7.fr g rfl, r8.fr g rfl, ?_⟩, D.sm (F := f0) (g.sm rfl rfl), by rw [g.arr (o := 63) rfl]; exact e63, TT.sm (F := f0) (g.sm rfl rfl), fun q => hot ((tw_ot_a a (fun k _ => by rw [g.arr (o := 63) rfl]) hi).mp q)⟩
  · obtain ⟨⟨I, f, d1, d2, d3⟩, d4⟩ := r5
    refine ⟨⟨I, f, d1.fr g rfl rfl, d2, fun l p hl hp => ?_⟩, ?_⟩
    · obtain ⟨z1, z2, z3, z4⟩ := d3 l p hl hp
      refine ⟨z1, tb_f8 z2 g rfl, fun q hq u e1 e2 => ?_, fun hl2 i hi => by rw [g.arr (o := 36) rfl]; exact z4 hl2 i hi⟩
      rw [g.arr (o := 23) rfl] at e1
      rw [g.arr (o := 24) rfl] at e2
      exact z3 q hq (us q u) e1 e2
    · rw [g.fld (f := 46) rfl, g.fld (f := 47) rfl, g.fld (f := 48) rfl]
      exact d4
  · obtain ⟨m1, m2, m3, m4, m5, m6⟩ := r9
    refine ⟨by rw [g.fld (f := 49) rfl]; exact m1, m2, m3, by rw [g.arr (o := 34) rfl]; exact m4, e, ?_⟩
    rw [g.fld (f := 102) rfl, g.fld (f := 101) rfl, g.fld (f := 139) rfl]
    exact m6
/-- what is planned, as it is written -/
def zl_E (π : Nat → Option zB × Option zBy) (k : Nat) : Option (zB × zBy) := match (π k).1, (π k).2 with
  | some b, some l => some (b, l)
  | _, _ => none
def oPP : List Nat := oW ++ (oOw ++ (oFall ++ []))
def fPP : List Nat := fW ++ (fFall ++ [42])
theorem t_putPointers {ob np dn : Nat} {N : zN} {pt : Nat → Option zB} {U : List zB} {β : Nat → zB} {π : Nat → Option zB × Option zBy} {rp : Bool} (R : rTp h m S) (w : gy_wf h) (K : zg_ok (zs_P S) (zs_G S)) (up : zs_up S = true) (hu : ∀ x, x ∈ zu_sets (zs_liv S) → zd_no x = zd_no d → x = d) (hz : ∀ b, b ∈ zu_t (zd_tr d) → zb_ok (zs_G S) b)
    (hi : i < 8) (D : td h m i d) (e63 : hh_i h (m + 63) i = (Int32.ofNat t)) (TT : tt h m t (zd_tr d)) (hob : ob < 16) (eN : zt_ob (zd_tr d) ob = some N) (kN : zn_at N 0 = 1 ∨ zn_at N 0 = 4) (e111 : hh_i h m 111 = bi rp)
    (t1 : tpn h m (zs_G S) U β np π) (hnp : np ≤ 136) (hus : ∀ p, p < 640 → tw_uN h m p → hh_i h (m + 18) p = (Int32.ofNat 1)) (hN : ∀ k, k < 8 → (pt k = none ∧ hh_i h (m + 104) k = Int32.ofInt (-1)) ∨ ∃ b p, pt k = some b ∧ p < 640 ∧ hh_i h (m + 104) k = (Int32.ofNat p) ∧ hh_i h (m + 18) p = (Int32.ofNat 1) ∧ β p = b) (e43 : hh_i h m 43 = (Int32.ofNat dn))
    (Hs : rp = false → zd_over (zs_G S) d N pt = true → Q (.inl (some (.int (Int32.ofInt (-7))))) h)
    (Hc : (rp = true ∨ zd_over (zs_G S) d N pt = false) → (zp_new (zs_G S) (zs_P S) ((List.range' 0 np).filterMap (zl_E π))).2 = false → ∀ h', gy_wf h' → rTx h' m (zs_fall (zs_P_ S (zp_new (zs_G S) (zs_P S) ((List.range' 0 np).filterMap (zl_E π))).1)) → fr (tO m oPP fPP) h h' → Q (.inl (some (.int (Int32.ofInt (-12))))) h')
    (Hk : (rp = true ∨ zd_over (zs_G S) d N pt = false) → (zp_new (zs_G S) (zs_P S) ((List.range' 0 np).filterMap (zl_E π))).2 = true → ∀ h' t', gy_wf h' → rOw h' m (zs_M_ (zs_P_ S (zp_new (zs_G S) (zs_P S) ((List.range' 0 np).filterMap (zl_E π))).1) (zm_dbl_ (zs_M S) (if rp then zm_dbl (zs_M S) + (Int32.ofNat dn) else zm_dbl (zs_M S)))) i t' d (zt_put (zd_tr d) ob (zn_pt_ N pt)) → hh_i h' m 110 = (if rp then hh_i h m 110 else (Int32.ofNat dn)) → hh_i h' m 41 = (Int32.ofNat 0) → fr (tO m oPP fPP) h h' → Q (.inl (some (.int (Int32.ofNat 0)))) h') : gm_G 442 0 [some (.ref m), some (.int (Int32.ofNat i)), some (.int (Int32.ofNat ob))] [] h Q := by
  obtain ⟨r0, r1, r2, r3, r4, r5, r6, r7, r8, r9⟩ := id R
  obtain ⟨tp, e41, hπ⟩ := t1
  have ht := TT.1
  have upE : ze_up (zs_E S) = true := up
  refine gy_use w ?_
  -- behind the quotas
  have go : (rp = true ∨ zd_over (zs_G S) d N pt = false) → gm_G 442 31 [some (.ref m), some (.int (Int32.ofNat i)), some (.int (Int32.ofNat ob))] [] h (fun r h' => gy_wf h' → Q r h') := by
    intro hq
    refine w_442_31 r0 ?_
    refine t_writePlan (E := zl_E π) R.q.m0 w K e41 hnp (fun k hk => ?_) (fun ek h1 w1 g1 RP1 => ?_) (fun ek h1 w1 RX g1 => ?_)
    · have hh := hπ k hk
      unfold zl_E
      unfold tpe at hh
      cases q1 : (π k).1 with
      | none => rw [q1] at hh; exact Or.inl ⟨rfl, hh.2⟩
      | some b =>
        cases q2 : (π k).2 with
        | none => rw [q1, q2] at hh; obtain ⟨p, -, -, x3, -⟩ := hh; exact Or.inl ⟨rfl, x3⟩
        | some l =>
          rw [q1, q2] at hh
          obtain ⟨p, x1, x2, x3, x4, x5, x6⟩ := hh
          obtain ⟨-, y1, y2, -⟩ := tp.at x1 x4
          rw [x5] at y1 y2
          exact Or.inr ⟨p, b, l, rfl, x3, x2, x1, y1, y2, x6⟩
    · refine ⟨fun _ => ?_, fun z => absurd z (by decide)⟩
      have R1 : rT_E h1 m (zs_E S) := r4.fr g1 rfl rfl
      have D1 : td h1 m i d := D.sm (F := f0) (g1.sm rfl (by rw [List.all_eq_true]; exact fun _ _ => rfl))
      have TT1 : tt h1 m t (zd_tr d) := TT.sm (F := f0) (g1.sm rfl (by rw [List.all_eq_true]; exact fun _ _ => rfl))
      refine t_ownTree (r0.fr g1) w1 R1 upE hu hi D1 (by rw [g1.arr (o := 63) rfl]; exact e63) TT1 (fun h3 t' w3 g3 R3 D3 f63 TT3 hot3 us3 => ?_)
      have ht' := TT3.1
      have g03 : fr (tO m oPP fPP) h h3 := (g1.up rfl rfl).trans (g3.up rfl rfl)
      have us1 : ∀ p, tw_uN h1 m p ↔ tw_uN h m p := fun p => by
        unfold tw_uN tw_us tw_sl tw_st
        rw [g1.arr (o := 40) rfl, g1.arr (o := 55) rfl, g1.arr (o := 59) rfl, g1.arr (o := 63) rfl, g1.arr (o := 69) rfl, g1.arr (o := 74) rfl, g1.arr (o := 78) rfl, g1.fld (f := 77) rfl, g1.fld (f := 99) rfl]
      have us03 : ∀ p, tw_uN h3 m p ↔ tw_uN h m p := fun p => (us3 p).trans (us1 p)
      obtain ⟨P', eP⟩ : ∃ P', P' = (zp_new (zs_G S) (zs_P S) ((List.range' 0 np).filterMap (zl_E π))).1 := ⟨_, rfl⟩
      rw [← eP] at RP1 Hk
      have RC3 : rT_C h3 m (zs_C S) := rT_C_us (rT_C_us r5 g1 rfl rfl (fun p _ u => (us1 p).mpr u)) g3 rfl rfl (fun p _ u => (us3 p).mpr u)
      have W3 : rOw h3 m (zs_P_ S P') i t' d (zd_tr d) := by
        refine ⟨?_, D3, f63, TT3, hot3⟩
        rw [show zs_trc (zs_P_ S P') (zd_no d) (zd_tr d) = zs_P_ S P' from zs_trc_id (S := zs_P_ S P') hu]
        exact ⟨(r0.fr g1).fr g3, (r1.fr g1 rfl rfl).fr g3 rfl rfl, RP1.fr g3 rfl rfl, (r3.fr g1 rfl rfl).fr g3 rfl rfl, R3, rT_C_d R3 RC3, (r6.fr g1 rfl).fr g3 rfl, (r7.fr g1 rfl).fr g3 rfl, (r8.fr g1 rfl).fr g3 rfl, (r9.fr g1 rfl rfl).fr g3 rfl rfl⟩
      show gm_G 442 51 _ [] h3 _
      refine lp_fill (m := m) (o := 55) (b := 8 * (16 * t' + ob)) (n := 8) (fun k => [some (.ref m), none, some (.int (Int32.ofNat ob)), none, some (.int (Int32.ofNat t')), some (.int (Int32.ofNat k))]) (fun k => hh_i h3 (m + 104) k) (by decide) (fun k h4 hk g4 _ kk => ?_) (fun h4 g4 e55 => ?_)
      · refine w_442_51 (W3.1.1.fr g4) ⟨fun z => absurd (by rw [i_lt (by omega) (by decide)]; exact hk) z, fun _ => ⟨k, ix_n hk (by omega), 8 * (16 * t' + ob) + k, by rw [i_mul, i_add, i_mul, i_add]; exact ix_n (by omega) (by omega), fun h5 a5 => ?_⟩⟩
        rw [a5, i_add, g4.arr (o := 104) rfl]
        exact kk
      · have t104 : hh_i h3 (m + 104) = hh_i h (m + 104) := by rw [g3.arr (o := 104) rfl, g1.arr (o := 104) rfl]
        have t18 : hh_i h3 (m + 18) = hh_i h (m + 18) := by rw [g3.arr (o := 18) rfl, g1.arr (o := 18) rfl]
        have tp3 : tpt h3 m (zs_G S) U β := tpt_fr (tpt_fr tp g1 rfl) g3 rfl
        have N3 : tn h3 m (16 * t' + ob) N := by
          rcases TT3.2.2.2 ob hob with ⟨z, -⟩ | ⟨N', z1, z2⟩
          · rw [eN] at z; cases z
          · rw [eN] at z1
            cases z1
            exact z2
        have W4 : rOw h4 m (zs_P_ S P') i t' d (zt_put (zd_tr d) ob (zn_pt_ N pt)) := by
          have tbk : ∀ p b0, tb h3 m p b0 → tb h4 m p b0 := fun p b0 B => tb_f8 B g4 rfl
          have s4 : ∀ q, ¬ q = 16 * t' + ob → so h3 h4 m q q := fun q hq => ⟨fun o h1 h2 => by rw [g4.arrs (P := fun o => Nat.ble o 54) rfl (by (try dsimp only); rw [Nat.ble_eq]; omega) (by omega)], fun o k h1 h2 _ => by rw [g4.arrs (P := fun o => Nat.ble o 54) rfl (by (try dsimp only); rw [Nat.ble_eq]; omega) (by omega)], fun o k h1 h2 hk => by
            by_cases y : o = 55
            · subst y; rw [e55, if_neg (by omega)]
            · rw [g4.arrs (P := fun o => Nat.ble o 54) rfl (by (try dsimp only); rw [Nat.ble_eq]; omega) (by omega)], fun k _ => by rw [g4.arr (o := 56) rfl], fun k _ => by rw [g4.arr (o := 57) rfl]⟩
          refine rOw_ch (A := fun p => hh_i h3 (m + 18) p = (Int32.ofNat 1)) W3 up hi g4 rfl rfl (fun q hq => s4 q (by omega)) (fun t1 _ => by rw [g4.arr (o := 58) rfl]) ⟨ht', by rw [g4.arr (o := 58) rfl]; exact TT3.2.1, TT3.2.2.1, fun o' ho' => ?_⟩ (fun p hp l => ?_) (fun p hp u => ?_) (fun p q hp hq u v e1 e2 => ?_) (fun p hp u => (tp3.at hp u).1) (fun I l p L hl hp hp6 _ q hq a e1 e2 => ?_)
          · show (fu (zt_ob (zd_tr d)) ob (some (zn_pt_ N pt)) o' = none ∧ _) ∨ ∃ N1, fu (zt_ob (zd_tr d)) ob (some (zn_pt_ N pt)) o' = some N1 ∧ _
            by_cases y : o' = ob
            · subst y
              rw [fu, if_pos rfl]
              refine Or.inr ⟨_, rfl, tn_pt N3 g4 (fun k hk => ?_)⟩
              rw [e55, if_pos (by omega), show 8 * (16 * t' + o') + k - 8 * (16 * t' + o') = k by omega, t104]
              rcases hN k hk with z | ⟨b, p, y1, y2, y3, y4, y5⟩
              · exact Or.inl z
              · refine Or.inr ⟨b, p, y1, y2, y3, tbk _ _ ?_, kN⟩
                rw [← y5]
                exact (tp3.at y2 (by rw [t18]; exact y4)).2.1
            · rw [fu, if_neg y]
              have s := s4 (16 * t' + o') (by omega)
              rcases TT3.2.2.2 o' ho' with ⟨z1, z2⟩ | ⟨N0, z1, z2⟩
              · exact Or.inl ⟨z1, by rw [s.1 40 (by decide) (by decide)]; exact z2⟩
              · exact Or.inr ⟨N0, z1, tn_so s (fun k p b0 _ _ _ B => tbk p b0 B) z2⟩
          · show hh_i h3 (m + 18) p = (Int32.ofNat 1)
            obtain ⟨o', k, o1, k1, q1, q2⟩ := l
            by_cases y : o' = ob
            · subst y
              rw [e55, if_pos (by omega), show 8 * (16 * t' + o') + k - 8 * (16 * t' + o') = k by omega, t104] at q2
              rcases hN k k1 with ⟨-, z⟩ | ⟨b, p', y1, y2, y3, y4, y5⟩
              · rw [q2] at z; exact absurd z (i_nm1 (by omega))
              · have : p' = p := (i_eq (by omega) (by omega)).mp (y3.symm.trans q2)
                rw [t18, ← this]
                exact y4
            · have s := s4 (16 * t' + o') (by omega)
              rw [s.1 40 (by decide) (by decide)] at q1
              rw [s.2.2.1 55 k (by decide) (by decide) k1] at q2
              rw [t18]
              refine hus p hp ((us03 p).mp ?_)
              rw [tw_uN.of R3, tw_us_l1, upE]
              exact ⟨t', (tw_sl_ot (rT_E_hs R3) hi (td_ne D3)).mpr (Or.inl f63), ht', o', k, o1, k1, q1, q2⟩
          · show hh_i h3 (m + 18) p = (Int32.ofNat 1)
            rw [t18]
            exact hus p hp ((us03 p).mp u)
          · have X := tp3.at hp u
            have Y := tp3.at hq v
            have k1 := tb_key X.2.1
            have k2 := tb_key Y.2.1
            have l1 := X.2.2.1.key K X.2.1.2.2.2.2.2.2.1
            have l2 := Y.2.2.1.key K Y.2.1.2.2.2.2.2.2.1
            rw [k1.1, k2.1] at e1
            rw [k1.2, k2.2] at e2
            exact tp3.2.2.2.1 p q hp hq u v (Prod.ext ((i_eq (by omega) (by omega)).mp e1) ((i_eq (by omega) (by omega)).mp e2))
          · obtain ⟨⟨I', f', d1, d2, d3⟩, -⟩ := RC3
            rw [rL_eq L d1 hl] at hp
            obtain ⟨-, -, z3, -⟩ := d3 l p hl hp
            have v : hh_i h3 (m + 18) p = (Int32.ofNat 1) := by rw [t18]; exact hus p hp6 ((us03 p).mp z3)
            have X := tp3.at hq a
            have Y := tp3.at hp6 v
            have k1 := tb_key X.2.1
            have k2 := tb_key Y.2.1
            have l1 := X.2.2.1.key K X.2.1.2.2.2.2.2.2.1
            have l2 := Y.2.2.1.key K Y.2.1.2.2.2.2.2.2.1
            rw [k1.1, k2.1] at e1
            rw [k1.2, k2.2] at e2
            exact tp3.2.2.2.1 q p hq hp6 a v (Prod.ext ((i_eq (by omega) (by omega)).mp e1) ((i_eq (by omega) (by omega)).mp e2))
        have g04 : fr (tO m oPP fPP) h h4 := g03.trans (g4.up rfl rfl)
        have f111 : hh_i h4 m 111 = bi rp := by rw [g04.fld (f := 111) rfl]; exact e111
        have f43 : hh_i h4 m 43 = (Int32.ofNat dn) := by rw [g04.fld (f := 43) rfl]; exact e43
        have f42 : hh_i h4 m 42 = zm_dbl (zs_M S) := by rw [g4.fld (f := 42) rfl, g3.fld (f := 42) rfl, g1.fld (f := 42) rfl]; exact r9.2.2.2.2.1
        have f110 : hh_i h4 m 110 = hh_i h m 110 := by rw [g4.fld (f := 110) rfl, g3.fld (f := 110) rfl, g1.fld (f := 110) rfl]
        refine w_442_51 (W4.1.1) ⟨fun _ => ?_, fun z => absurd z (by decide)⟩
        rw [f111, f43]
        cases rp with
        | false =>
          refine ⟨fun _ h5 a5 => w_442_120 (by rw [a5]; exact W4.1.1) (fun h6 a6 w6 => ?_), fun z => absurd rfl z⟩
          have g6 : fr (tO m [] [41, 42, 110]) h4 h6 := by rw [a6, a5]; exact (fr.f rfl).trans (fr.f rfl)
          refine Hk hq ek h6 t' w6 (rOw_dbl (S := zs_P_ S P') W4 hi g6 ?_) ?_ ?_ (g04.trans (g6.up rfl rfl))
          · rw [a6, hi_n (by omega), a5, hi_n (by omega), f42]; rfl
          · rw [a6, hi_n (by omega), a5, hi_e ⟨rfl, rfl⟩]; rfl
          · rw [a6, hi_e ⟨rfl, rfl⟩]
        | true =>
          refine ⟨fun z => absurd z (by decide), fun _ h5 a5 => w_442_120 (by rw [a5]; exact W4.1.1) (fun h6 a6 w6 => ?_)⟩
          have g6 : fr (tO m [] [41, 42, 110]) h4 h6 := by rw [a6, a5]; exact (fr.f rfl).trans (fr.f rfl)
          refine Hk hq ek h6 t' w6 (rOw_dbl (S := zs_P_ S P') W4 hi g6 ?_) ?_ ?_ (g04.trans (g6.up rfl rfl))
          · rw [a6, hi_n (by omega), a5, hi_e ⟨rfl, rfl⟩, f42]; rfl
          · rw [a6, hi_n (by omega), a5, hi_n (by omega), f110]; rfl
          · rw [a6, hi_e ⟨rfl, rfl⟩]
    · refine ⟨fun z => absurd rfl z, fun _ w' => ?_⟩
      exact Hc hq ek h1 w' RX (g1.up rfl rfl)
  refine w_442_0 r0 ⟨i, ix_n (by omega) (by omega), ?_⟩
  rw [e111, e63]
  cases rp with
  | true => exact ⟨fun _ => go (Or.inl rfl), fun z => absurd z (by decide)⟩
  | false =>
    refine ⟨fun z => absurd rfl z, fun _ => ?_⟩
    rw [i_mul, i_add]
    refine t_isOver r0 r3 K hi D TT hob eN hz (pt := pt) (fun k hk => ?_) ?_
    · rcases hN k hk with z | ⟨b, p, y1, y2, y3, y4, y5⟩
      · exact Or.inl z
      · obtain ⟨-, x1, x2, -⟩ := tp.at y2 y4
        rw [y5] at x1 x2
        exact Or.inr ⟨b, p, y1, y2, y3, x1, x2⟩
    · cases eo : zd_over (zs_G S) d N pt with
      | true => exact ⟨fun z => absurd z (by decide), fun _ _ => Hs rfl eo⟩
      | false => exact ⟨fun _ => go (Or.inr eo), fun z => absurd rfl z⟩
end PP
