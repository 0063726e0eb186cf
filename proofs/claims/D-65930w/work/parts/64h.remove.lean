/-! STAGE 3: an entry is removed -/
section OW2
variable {h h' : hh_T} {m : Nat} {Q : Option Value ⊕ Nat → hh_T → Prop} {E : zE}
theorem t_ownTree2 {i t : Nat} {d : zD} (hT : tw_ok h m) (w : gy_wf h) (R : rT_E h m E) (up : ze_up E = true) (hu : ∀ x, x ∈ zu_sets (ze_liv E) → zd_no x = zd_no d → x = d) (hi : i < 8) (D : td h m i d) (e63 : hh_i h (m + 63) i = (Int32.ofNat t)) (TT : tt h m t (zd_tr d))
    (H : ∀ h' t', gy_wf h' → fr (tO m oOw []) h h' → rT_E h' m E → td h' m i d → hh_i h' (m + 63) i = (Int32.ofNat t') → tt h' m t' (zd_tr d) → ¬ tw_ot h' m (ze_heads E).length i t' → (∀ p, tw_uN h' m p ↔ tw_uN h m p) → (∀ o, o < 16 → so h h' m (16 * t + o) (16 * t' + o)) → Q (.inl (some (.int (Int32.ofNat t')))) h') : gm_G 420 0 [some (.ref m), some (.int (Int32.ofNat i))] [] h Q := by
  obtain ⟨r1, r2, r3, r4, r5, r6, r7, r8, r9⟩ := id R
  have hs0 := rT_E_hs R
  have hs : ∀ k, k < (ze_heads E).length → ∃ j, j < 4 ∧ hh_i h (m + 78) k = (Int32.ofNat j) := fun k hk => by
    obtain ⟨j, z1, z2, z3⟩ := hs0 k hk
    exact ⟨j, z3, z1⟩
  have h59 := td_ne D
  have ht := TT.1
  refine gy_use w ?_
  refine w_420_0 hT ⟨i, ix_n (by omega) (by omega), ?_⟩
  rw [e63]
  refine t_refs hT r4 r5 hs (fun hle => ?_)
  refine ⟨fun z => ?_, fun z => ?_⟩
  · rw [i_lt (by decide) (by omega)] at z
    refine w_420_37 hT ⟨i, ix_n (by omega) (by omega), fun w' => ?_⟩
    rw [e63]
    refine H h t w' (fr.refl _ _) R D e63 TT (fun q => ?_) (fun p => Iff.rfl) (fun o _ => so.refl _ _ _)
    have := tr_two R up hi h59 e63 q
    omega
  · rw [i_lt (by decide) (by omega)] at z
    refine t_freeTree hT r4 r5 hs (fun t' ht' hfree => ?_)
    refine ⟨i, ix_n (by omega) (by omega), ?_⟩
    rw [e63]
    have hne : ¬ t = t' := fun e => by rw [e] at z; omega
    refine t_copyTree hT w ht ht' hne (fun h7 w7 g7 s1 s2 e58 e58' => ?_)
    refine ⟨i, ix_n (by omega) (by omega), fun h9 a9 => ?_⟩
    have g9 : fr (tO m [63] []) h7 h9 := by rw [a9]; exact fr.a rfl
    have g0 : fr (tO m oOw []) h h9 := (g7.up rfl rfl).trans (g9.up rfl rfl)
    have f63 : hh_i h9 (m + 63) i = (Int32.ofNat t') := by rw [a9, hi_e ⟨rfl, rfl⟩]
    have g63 : ∀ k, ¬ k = i → hh_i h9 (m + 63) k = hh_i h (m + 63) k := fun k hk => by rw [a9, hi_n (by omega), g7.arr (o := 63) rfl]
    have a : aSt h h9 m := fun o h1 h2 h3 => g0.arrs (P := fun o => Nat.ble 59 o && Nat.ble o 79 && !(Nat.beq o 63)) rfl (by
      (try dsimp only)
      rw [Bool.and_eq_true, Bool.and_eq_true, Nat.ble_eq, Nat.ble_eq]
      refine ⟨⟨h1, h2⟩, ?_⟩
      cases q : Nat.beq o 63 with
      | false => rfl
      | true => exact absurd (Nat.eq_of_beq_eq_true q) h3) (by omega)
    have s1' : ∀ o, o < 16 → so h h9 m (16 * t + o) (16 * t' + o) := fun o ho => (s1 o ho).trans (so_fr g9 rfl)
    have s2' : ∀ q, ¬ q / 16 = t' → so h h9 m q q := fun q hq => (s2 q hq).trans (so_fr g9 rfl)
    have B9 : ∀ p b0, tb h m p b0 → tb h9 m p b0 := fun p b0 B => tb_f8 B g0 rfl
    have not' : ∀ t1, tw_ot h m (ze_heads E).length i t1 → ¬ t1 = t' := fun t1 q e => by
      have := tr_ot R up q
      rw [e] at this
      omega
    have N : tt h9 m t' (zd_tr d) := tt_so ht' (by rw [a9, hi_n (by omega)]; exact e58) s1' (fun p b0 _ _ B => B9 p b0 B) TT
    have keep : ∀ t1 T, tw_ot h m (ze_heads E).length i t1 → tt h m t1 T → tt h9 m t1 T := fun t1 T q X => tt_so X.1 (by rw [a9, hi_n (by omega)]; exact e58' t1 (not' t1 q)) (fun o ho => s2' _ (by have := not' t1 q; omega)) (fun p b0 _ _ B => B9 p b0 B) X
    have hs9 : ∀ c, c < (ze_heads E).length → ∃ j, hh_i h9 (m + 78) c = (Int32.ofNat j) ∧ 1 ≤ j ∧ j < 4 := by rw [a 78 (by decide) (by decide) (by decide)]; exact hs0
    have h599 : ¬ hh_i h9 (m + 59) i = Int32.ofInt (-1) := by rw [a 59 (by decide) (by decide) (by decide)]; exact h59
    have hus : ∀ p, tw_us h9 m (tw_sl h9 m (ze_up E) (ze_heads E).length) p ↔ tw_us h m (tw_sl h m (ze_up E) (ze_heads E).length) p := fun p => by
      rw [up, tw_us_l1, tw_us_l1]
      constructor
      · rintro ⟨t1, q1, q0, q2⟩
        rcases (tw_sl_ot hs9 hi h599).mp q1 with q1 | q1
        · rw [f63] at q1
          have e : t' = t1 := (i_eq (by omega) (by omega)).mp q1
          subst e
          exact ⟨t, (tw_sl_ot hs0 hi h59).mpr (Or.inl e63), ht, (tw_l1_so s1').mp q2⟩
        · have q1 := (tw_ot_a a g63 hi).mp q1
          have hn := not' t1 q1
          exact ⟨t1, (tw_sl_ot hs0 hi h59).mpr (Or.inr q1), q0, (tw_l1_so (fun o ho => s2' _ (by omega))).mp q2⟩
      · rintro ⟨t1, q1, q0, q2⟩
        rcases (tw_sl_ot hs0 hi h59).mp q1 with q1 | q1
        · rw [e63] at q1
          have e : t = t1 := (i_eq (by omega) (by omega)).mp q1
          subst e
          exact ⟨t', (tw_sl_ot hs9 hi h599).mpr (Or.inl f63), ht', (tw_l1_so s1').mpr q2⟩
        · have hn := not' t1 q1
          exact ⟨t1, (tw_sl_ot hs9 hi h599).mpr (Or.inr ((tw_ot_a a g63 hi).mpr q1)), q0, (tw_l1_so (fun o ho => s2' _ (by omega))).mpr q2⟩
    have R9 : rT_E h9 m E := by
      have := rT_E_tree (T' := zd_tr d) R up hi D a (fun o ho => g0.fld (by
        cases q : ([] : List Nat).contains o with
        | false => rfl
        | true => cases q)) g63 f63 keep N (fun p q hp hq u v => by
          rw [g0.arr (o := 23) rfl, g0.arr (o := 24) rfl]
          exact r8 p q hp hq ((hus p).mp u) ((hus q).mp v)) (fun p hp u => by rw [g0.arr (o := 17) rfl]; exact r9 p hp ((hus p).mp u))
      rw [zu_up_id hu] at this
      exact this
    refine w_420_37 (hT.fr g0) ⟨i, ix_n (by omega) (by omega), fun w' => ?_⟩
    rw [f63]
    refine H h9 t' w' g0 R9 (td_of (T' := zd_tr d) a D ⟨t', f63, N⟩) f63 N (fun q => not' t' ((tw_ot_a a g63 hi).mp q) rfl) (fun p => ?_) s1'
    rw [tw_uN.of R9, tw_uN.of R]
    exact hus p
end OW2
section RM
variable {h h' : hh_T} {m : Nat} {S : zS} {i t : Nat} {d : zD} {T : zT} {Q : Option Value ⊕ Nat → hh_T → Prop}
theorem t_ownq2 (e63 : hh_i h (m + 63) i = (Int32.ofNat t)) (R : rTq h m S) (w : gy_wf h) (up : zs_up S = true) (hu : ∀ x, x ∈ zu_sets (zs_liv S) → zd_no x = zd_no d → x = d) (hi : i < 8) (D : td h m i d) (hl : t < 96) (H : ∀ h' t', gy_wf h' → fr (tO m oOw []) h h' → rOw h' m S i t' d (zd_tr d) → (∀ o, o < 16 → so h h' m (16 * t + o) (16 * t' + o)) → Q (.inl (some (.int (Int32.ofNat t')))) h') : gm_G 420 0 [some (.ref m), some (.int (Int32.ofNat i))] [] h Q := by
  obtain ⟨r0, r1, r2, r3, r4, r5, r6, r7, r8, r9⟩ := R
  obtain ⟨t0, e630, TT0⟩ := D.2.2.2.2.2.2.2.2.1
  have TT : t < 2147483648 → tt h m t (zd_tr d) := fun hl => by
    have : t0 = t := (i_eq (by have := TT0.1; omega) hl).mp (e630.symm.trans e63)
    rw [← this]
    exact TT0
  refine t_ownTree2 r0 w r4 up hu hi D e63 (TT (by omega)) (fun h' t' w' g R' D' e63' TT' hot us sS => H h' t' w' g (rOw_id hu ⟨r0.fr g, r1.fr g rfl rfl, r2.fr g rfl rfl, r3.fr g rfl rfl, R', ?_, r6.fr g rfl, r7.fr g rfl, r8.fr g rfl, r9.fr g rfl rfl⟩ D' e63' TT' hot) sS)
  obtain ⟨⟨I, f, d1, d2, d3⟩, d4⟩ := r5
  refine ⟨⟨I, f, d1.fr g rfl rfl, d2, fun l p hl hp => ?_⟩, ?_⟩
  · obtain ⟨z1, z2, z3, z4⟩ := d3 l p hl hp
    refine ⟨z1, tb_f8 z2 g rfl, fun q hq u e1 e2 => ?_, fun hl2 i hi => by rw [g.arr (o := 36) rfl]; exact z4 hl2 i hi⟩
    rw [g.arr (o := 23) rfl] at e1
    rw [g.arr (o := 24) rfl] at e2
    exact z3 q hq ((us q).mp u) e1 e2
  · rw [g.fld (f := 46) rfl, g.fld (f := 47) rfl, g.fld (f := 48) rfl]
    exact d4
theorem zs_nt_hu {S : zS} {d : zD} (N : zs_nt S d) : ∀ x, x ∈ zu_sets (zs_liv S) → zd_no x = zd_no d → x = d := N.2.2.2.2.2.2.2.2
/-- an own tree stays one when a row grows -/
theorem rOw_g {S' : zS} {O F : List Nat} (W : rOw h m S i t d (zd_tr d)) (hi : i < 8) (hu : ∀ x, x ∈ zu_sets (zs_liv S') → zd_no x = zd_no d → x = d) (he : ze_heads (zs_E S') = ze_heads (zs_E S)) (R : rTq h' m S') (g : fr (tO m O F) h h') (hO : (O.all fun o => !(oE o)) = true) : rOw h' m S' i t d (zd_tr d) := by
  obtain ⟨-, D, e63, TT, hot⟩ := W
  have hF : (F.all fun f => !(f0 f)) = true := by rw [List.all_eq_true]; exact fun _ _ => rfl
  have a : aSt h h' m := fun o h1 h2 _ => g.arrs hO (by unfold oE; rw [Bool.or_eq_true, Bool.and_eq_true, Nat.ble_eq, Nat.ble_eq]; right; omega) (by omega)
  have a63 : hh_i h' (m + 63) = hh_i h (m + 63) := g.arrs (o := 63) hO rfl (by decide)
  refine rOw_id hu R (D.sm (F := f0) (g.sm hO hF)) (by rw [a63]; exact e63) (TT.sm (F := f0) (g.sm hO hF)) (fun q => hot ?_)
  rw [he] at q
  exact (tw_ot_a a (fun k _ => by rw [a63]) hi).mp q
theorem tw_wa_0 {k : Nat} (e : hh_i h' (m + 97) k = (Int32.ofNat 0)) : tw_wa h' m k none := e
/-- watches of a folder that goes -/
def zw_en1 (n ob : Nat) (x : Option zW) : Option zW := x.filter (fun W => !(decide (zw_set W = n) && (decide (some ob = none) || decide (some ob = some (zw_folder W)))))
theorem t_rm149 {ob q : Nat} (hT : tw_ok h m) (R : rT_F h m (zs_F S)) (hi : i < 8) (e59 : hh_i h (m + 59) i = (Int32.ofNat (zd_no d))) (hno : zd_no d < 1000) (hob : ob < 16)
    (H : ∀ h', fr (tO m [97] []) h h' → rT_F h' m (zs_F (zs_wend S (zd_no d) (some ob))) → gm_G 439 207 [some (.ref m), none, none, none, none, none, none, some (.int (Int32.ofNat q))] [] h' Q) : gm_G 439 149 [some (.ref m), some (.int (Int32.ofNat i)), none, none, none, none, some (.int (Int32.ofNat ob)), some (.int (Int32.ofNat q)), some (.int (Int32.ofNat 0))] [] h Q := by
  obtain ⟨f1, f2, f3, f4⟩ := R
  have lp : ∀ e k h1, k + e = 4 → fr (tO m [97] []) h h1 → (∀ x, x < k → tw_wa h1 m x (zw_en1 (zd_no d) ob (zf_wt (zs_F S) x))) → (∀ x, k ≤ x → x < 4 → tw_wa h1 m x (zf_wt (zs_F S) x)) → gm_G 439 149 [some (.ref m), some (.int (Int32.ofNat i)), none, none, none, none, some (.int (Int32.ofNat ob)), some (.int (Int32.ofNat q)), some (.int (Int32.ofNat k))] [] h1 Q := by
    intro e
    induction e with
    | zero =>
      intro k h1 ek g1 c1 c2
      have ek : k = 4 := by omega
      subst ek
      refine w_439_149 (hT.fr g1) ⟨fun _ => H h1 g1 ⟨fun f hf => ?_, fun x hx => c1 x hx, fun c hc => ?_, ?_⟩, fun z => absurd z (by decide)⟩
      · have := f1 f hf
        show tw_of h1 m f (zf_fl (zs_F S) f)
        unfold tw_of at this ⊢
        simp only [g1.arr (o := 88) rfl, g1.arr (o := 89) rfl, g1.arr (o := 90) rfl, g1.arr (o := 91) rfl, g1.arr (o := 92) rfl, g1.arr (o := 93) rfl, g1.arr (o := 94) rfl, g1.arr (o := 95) rfl, g1.arr (o := 96) rfl]
        exact this
      · have := f3 c hc
        show tw_kp h1 m c (zf_kp (zs_F S) c)
        unfold tw_kp at this ⊢
        simp only [g1.arr (o := 117) rfl, g1.arr (o := 118) rfl, g1.arr (o := 119) rfl, g1.arr (o := 120) rfl]
        exact this
      · show ∀ c i, c < 4 → i < 8 → _
        rw [g1.arr (o := 116) rfl, g1.arr (o := 59) rfl]
        exact f4
    | succ e ih =>
      intro k h1 ek g1 c1 c2
      have hk : k < 4 := by omega
      have hT1 := hT.fr g1
      have ck := c2 k (Nat.le_refl _) hk
      have v59 : hh_i h1 (m + 59) i = (Int32.ofNat (zd_no d)) := by rw [g1.arr (o := 59) rfl]; exact e59
      have nx : ∀ h2, fr (tO m [97] []) h1 h2 → (∀ x, ¬ x = k → hh_i h2 (m + 97) x = hh_i h1 (m + 97) x) → tw_wa h2 m k (zw_en1 (zd_no d) ob (zf_wt (zs_F S) k)) → gm_G 439 201 [some (.ref m), some (.int (Int32.ofNat i)), none, none, none, none, some (.int (Int32.ofNat ob)), some (.int (Int32.ofNat q)), some (.int (Int32.ofNat k))] [] h2 Q := by
        intro h2 g2 o1 ck2
        refine w_439_201 (hT1.fr g2) ?_
        rw [i_add]
        have cg : ∀ x y, ¬ x = k → tw_wa h1 m x y → tw_wa h2 m x y := fun x y hx R => tw_wa_cg (fun o h3 h4 => by
          by_cases y : o = 97
          · subst y; exact o1 x hx
          · rw [g2.arrs (P := fun o => Nat.ble 98 o) rfl (by rw [Nat.ble_eq]; omega) (by omega)]) (fun j hj => by rw [g2.arr (o := 102) rfl]) R
        refine ih (k + 1) h2 (by omega) (g1.trans g2) (fun x hx => ?_) (fun x hx hx4 => cg x _ (by omega) (c2 x (by omega) hx4))
        by_cases y : x = k
        · subst y; exact ck2
        · exact cg x _ y (c1 x (by omega))
      have sk : tw_wa h1 m k (zw_en1 (zd_no d) ob (zf_wt (zs_F S) k)) → gm_G 439 201 [some (.ref m), some (.int (Int32.ofNat i)), none, none, none, none, some (.int (Int32.ofNat ob)), some (.int (Int32.ofNat q)), some (.int (Int32.ofNat k))] [] h1 Q := fun y => nx h1 (fr.refl _ _) (fun _ _ => rfl) y
      refine w_439_149 hT1 ⟨fun z => absurd (by rw [i_lt (by omega) (by decide)]; exact hk) z, fun _ => ⟨k, ix_n hk (by omega), ?_⟩⟩
      cases eW : zf_wt (zs_F S) k with
      | none =>
        rw [eW] at ck sk
        have ck' : hh_i h1 (m + 97) k = (Int32.ofNat 0) := ck
        exact ⟨fun _ => sk ck, fun z => absurd ck' z⟩
      | some W =>
        rw [eW] at ck sk nx
        obtain ⟨r1, r2, r3, r4, r5, r6, r7, r8, r9⟩ := id ck
        have keep : ¬ (zw_set W = zd_no d ∧ zw_folder W = ob) → zw_en1 (zd_no d) ob (some W) = some W := fun y => by
          unfold zw_en1
          rw [Option.filter_some, if_pos]
          cases c1 : decide (zw_set W = zd_no d) with
          | false => rfl
          | true =>
            have y1 := of_decide_eq_true c1
            have : ¬ some ob = some (zw_folder W) := fun z => y ⟨y1, (Option.some.inj z).symm⟩
            rw [decide_eq_false this]
            rfl
        refine ⟨fun z => absurd (r1.symm.trans z) (by decide), fun _ => ⟨k, ix_n hk (by omega), i, ix_n (by omega) (by omega), ?_⟩⟩
        rw [r3, v59]
        refine ⟨fun z => sk ?_, fun z => ⟨k, ix_n hk (by omega), ?_⟩⟩
        · rw [keep (fun y => z (by rw [y.1]))]
          exact ck
        · have z : zw_set W = zd_no d := (i_eq (by omega) (by omega)).mp z
          rw [r5]
          refine ⟨fun y => sk ?_, fun y => ⟨k, ix_n hk (by omega), fun h6 a6 => ?_⟩⟩
          · rw [keep (fun q2 => y (by rw [q2.2]))]
            exact ck
          · have y : zw_folder W = ob := (i_eq (by omega) (by omega)).mp y
            refine nx h6 (by rw [a6]; exact fr.a rfl) (fun x hx => by rw [a6, hi_n (by omega)]) ?_
            have : zw_en1 (zd_no d) ob (some W) = none := by
              unfold zw_en1
              rw [Option.filter_some, if_neg]
              rw [decide_eq_true z, decide_eq_true (show some ob = some (zw_folder W) by rw [y]), Bool.or_true]
              decide
            rw [this]
            exact tw_wa_0 (by rw [a6, hi_e ⟨rfl, rfl⟩])
  exact lp 4 0 h rfl (fr.refl _ _) (fun x hx => absurd hx (Nat.not_lt_zero _)) (fun x _ hx => f2 x hx)
end RM
section RN
variable {h h' : hh_T} {m : Nat} {S : zS} {i t : Nat} {d : zD} {T : zT} {Q : Option Value ⊕ Nat → hh_T → Prop}
theorem rTq_F97 {F' : zF} {O : List Nat} (hO : (O.all fun o => Nat.ble 97 o && Nat.ble o 102) = true) (R : rTq h m S) (g : fr (tO m O []) h h') (RF : rT_F h' m F') : rTq h' m (zs_F_ S F') := by
  have nO : ∀ (P : Nat → Bool), (∀ o, 97 ≤ o → o ≤ 102 → P o = false) → (O.all fun o => !(P o)) = true := fun P hP => by
    rw [List.all_eq_true] at hO ⊢
    intro o ho
    have := hO o ho
    rw [Bool.and_eq_true, Nat.ble_eq, Nat.ble_eq] at this
    rw [hP o this.1 this.2]
    rfl
  have ar : ∀ o, (Nat.ble 97 o && Nat.ble o 102) = false → ¬ o = 0 → hh_i h' (m + o) = hh_i h (m + o) := fun o h1 h2 => by
    refine g.arr ?_
    rw [Bool.or_eq_false_iff]
    constructor
    · cases q : O.contains o with
      | false => rfl
      | true =>
        have := List.all_eq_true.mp hO o (by simpa using q)
        rw [h1] at this
        cases this
    · cases q : Nat.beq o 0 with
      | false => rfl
      | true => exact absurd (Nat.eq_of_beq_eq_true q) h2
  obtain ⟨r0, r1, r2, r3, r4, r5, r6, r7, r8, r9⟩ := R
  have cs : ∀ o, 97 ≤ o → o ≤ 102 → o = 97 ∨ o = 98 ∨ o = 99 ∨ o = 100 ∨ o = 101 ∨ o = 102 := fun o h1 h2 => by omega
  refine ⟨r0.fr g, r1.fr g (nO _ (fun o h1 h2 => by rcases cs o h1 h2 with u | u | u | u | u | u <;> subst u <;> rfl)) rfl, r2.fr g (nO _ (fun o h1 h2 => by rcases cs o h1 h2 with u | u | u | u | u | u <;> subst u <;> rfl)) rfl, r3.fr g (nO _ (fun o h1 h2 => by rcases cs o h1 h2 with u | u | u | u | u | u <;> subst u <;> rfl)) rfl, r4.fr g (nO _ (fun o h1 h2 => by rcases cs o h1 h2 with u | u | u | u | u | u <;> subst u <;> rfl)) rfl, ?_, r6.fr g (nO _ (fun o h1 h2 => by rcases cs o h1 h2 with u | u | u | u | u | u <;> subst u <;> rfl)), RF, r8.fr g (nO _ (fun o h1 h2 => by rcases cs o h1 h2 with u | u | u | u | u | u <;> subst u <;> rfl)), r9.fr g (nO _ (fun o h1 h2 => by rcases cs o h1 h2 with u | u | u | u | u | u <;> subst u <;> rfl)) rfl⟩
  have us : ∀ p, tw_uN h' m p → tw_uN h m p := fun p u => by
    unfold tw_uN tw_us tw_sl tw_st at u ⊢
    rw [ar 40 rfl (by decide), ar 55 rfl (by decide), ar 59 rfl (by decide), ar 63 rfl (by decide), ar 69 rfl (by decide), ar 74 rfl (by decide), ar 78 rfl (by decide), g.fld (f := 77) rfl, g.fld (f := 99) rfl] at u
    exact u
  obtain ⟨⟨I, f, d1, d2, d3⟩, d4⟩ := r5
  refine ⟨⟨I, f, fun l hl => (d1 l hl).fr (by rw [ar 33 rfl (by decide)]) (fun j _ => by rw [ar 32 rfl (by decide)]), d2, fun l p hl hp => ?_⟩, ?_⟩
  · obtain ⟨z1, z2, z3, z4⟩ := d3 l p hl hp
    refine ⟨z1, tb_f8 z2 g (nO _ (fun o h1 h2 => by rcases cs o h1 h2 with u | u | u | u | u | u <;> subst u <;> rfl)), fun q hq u e1 e2 => ?_, fun hl2 i hi => by rw [ar 36 rfl (by decide)]; exact z4 hl2 i hi⟩
    rw [ar 23 rfl (by decide)] at e1
    rw [ar 24 rfl (by decide)] at e2
    exact z3 q hq (us q u) e1 e2
  · rw [g.fld (f := 46) rfl, g.fld (f := 47) rfl, g.fld (f := 48) rfl]
    exact d4
/-- an own tree stays one when watches change -/
theorem rOw_F {F' : zF} {O : List Nat} (hO : (O.all fun o => Nat.ble 97 o && Nat.ble o 102) = true) (W : rOw h m S i t d T) (hi : i < 8) (g : fr (tO m O []) h h') (RF : rT_F h' m F') : rOw h' m (zs_F_ S F') i t d T := by
  have hO2 : (O.all fun o => !(oE o)) = true := by
    rw [List.all_eq_true] at hO ⊢
    intro o ho
    have := hO o ho
    rw [Bool.and_eq_true, Nat.ble_eq, Nat.ble_eq] at this
    rcases (show o = 97 ∨ o = 98 ∨ o = 99 ∨ o = 100 ∨ o = 101 ∨ o = 102 by omega) with u | u | u | u | u | u <;> subst u <;> rfl
  obtain ⟨RQ, D, e63, TT, hot⟩ := W
  have a : aSt h h' m := fun o h1 h2 _ => g.arrs hO2 (by unfold oE; rw [Bool.or_eq_true, Bool.and_eq_true, Nat.ble_eq, Nat.ble_eq]; right; omega) (by omega)
  have a63 : hh_i h' (m + 63) = hh_i h (m + 63) := g.arrs (o := 63) hO2 rfl (by decide)
  have R' := rTq_F97 hO RQ g RF
  refine ⟨?_, D.sm (F := f0) (g.sm hO2 rfl), by rw [a63]; exact e63, TT.sm (F := f0) (g.sm hO2 rfl), fun q => hot ((tw_ot_a a (fun k _ => by rw [a63]) hi).mp q)⟩
  exact R'
end RN
