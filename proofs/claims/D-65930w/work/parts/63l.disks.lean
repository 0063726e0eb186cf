/-! STAGE 3: the twin reads a block from disks, 2 -/
def oFD : List Nat := [6, 8, 9, 10, 16, 29, 34, 35, 37, 38, 39]
def fFD : List Nat := [15, 17, 18, 49, 53]
theorem zb_ok.key {P : zP} {G : zG} {b : zB} (K : zg_ok P G) (z : zb_ok G b) (h1 : 1 ≤ (zb_cp b).length) : (zb_key b).1 < 3 ∧ (zb_key b).2 < 400 := by
  obtain ⟨k0, k1, -⟩ := K
  have hm : zb_key b ∈ zb_cp b := by
    unfold zb_key
    cases hc : zb_cp b with
    | nil => rw [hc] at h1; exact absurd h1 (by decide)
    | cons x r => exact List.mem_cons_self ..
  obtain ⟨z1, z2⟩ := z _ hm
  obtain ⟨c1, c2, c3, c4, -⟩ := k1 _ z1
  refine ⟨by omega, ?_⟩
  have : zg_pl G (zb_key b).1 ≤ 384 := by
    unfold zg_pl
    split
    · exact Nat.le_trans (Nat.mul_le_mul c2 c4) (by decide)
    · omega
  omega
section TFd
variable {h : hh_T} {m : Nat} {Q : Option Value ⊕ Nat → hh_T → Prop} {S : zS}
theorem tb.fr {O F : List Nat} {h h' : hh_T} {m p : Nat} {b : zB} (B : tb h m p b) (g : fr (tO m O F) h h') (hO : (O.all fun o => !(oE o)) = true) : tb h' m p b := B.sm (F := fun _ => false) (g.sm hO (by rw [List.all_eq_true]; exact fun _ _ => rfl))
theorem rT0.oT {h' : hh_T} (R : rT0 h m S) (g : fr (tO m [29, 35, 37, 38, 39] [53]) h h') : rT0 h' m S := R.oN (g.up rfl rfl)
theorem t_fromDisks {p : Nat} {b : zB} (R : rT0 h m S) (w : gy_wf h) (K : zg_ok (zs_P S) (zs_G S)) (hp : p < 640) (B : tb h m p b) (hz : zb_ok (zs_G S) b) (hne : zm_ne (zs_M S) < 999999999)
    (H1 : zs_fetch S b false = (zs_err S b, (Int32.ofInt (-8)), []) → ∀ h', gy_wf h' → fr (tO m oFD fFD) h h' → rT_P h' m (zs_P S) → rT_M h' m (zs_M (zs_err S b)) → Q (.inl (some (.int (Int32.ofInt (-8))))) h')
    (H2 : ∀ o P', zs_fetch S b false = (zs_P_ S P', (Int32.ofNat 0), o) → o.length = 32 → zp_nd P' = zp_nd (zs_P S) → zp_sec P' = zp_sec (zs_P S) → ∀ h', gy_wf h' → fr (tO m oFD fFD) h h' → rT_P h' m P' → rT_M h' m (zs_M S) → ta_c h' (m + 29) o → Q (.inl (some (.int (Int32.ofNat 0)))) h')
    (H3 : ∀ P', zs_fetch S b false = (zs_fall (zs_P_ S P'), (Int32.ofInt (-12)), []) → ∀ h', gy_wf h' → rTx h' m (zs_fall (zs_P_ S P')) → fr (tO m (oFD ++ oFall) (fFD ++ fFall)) h h' → Q (.inl (some (.int (Int32.ofInt (-12))))) h') : gm_G 441 0 [some (.ref m), some (.int (Int32.ofNat p))] [] h Q := by
  obtain ⟨b1, b2, b3, b4, b5, b6, b7, b8, b9, b10, b11⟩ := id B
  obtain ⟨k0, k1, k2⟩ := id K
  have htear : zp_tear (zs_P S) ≤ 8 := by have := R.2.2.1.2.2.2.2.2.2.2.1; omega
  have hkey := hz.key K b7
  obtain ⟨P, hP⟩ : ∃ P, P = zs_P S := ⟨_, rfl⟩
  obtain ⟨G, hG⟩ : ∃ G, G = zs_G S := ⟨_, rfl⟩
  -- the ends
  have finN : ∀ f o h1, fr (tO m [29, 35, 37, 38, 39] [53]) h h1 → gy_wf h1 → zr_blk (zs_P S) (zs_G S) b = some (f, o, false) → ta_c h1 (m + 29) o → o.length = 32 → Q (.inl (some (.int (Int32.ofNat 0)))) h1 := by
    intro f o h1 g1 w1 eb c1 ol
    have ef : zs_fetch S b false = (zs_P_ S (zs_P S), (Int32.ofNat 0), o) := by
      unfold zs_fetch
      rw [eb]
      rfl
    exact H2 o (zs_P S) ef ol rfl rfl h1 w1 (g1.up rfl rfl) (R.oT g1).2.2.1 (R.oT g1).2.2.2.2.2.2.2.2 c1
  have finM : ∀ f o h1 Q', fr (tO m [29, 35, 37, 38, 39] [53]) h h1 → gy_wf h1 → zr_blk (zs_P S) (zs_G S) b = some (f, o, true) → (∀ j, j < 8 * zb_k b → hh_i h1 (m + 35) j = f j) → ta_c h1 (m + 29) o → o.length = 32 → (∀ h2, tw_ok h2 m → Q (.inl (some (.int (Int32.ofNat 0)))) h2 → Q' (.inl (some (.int (Int32.ofNat 1)))) h2) → (∀ h2, Q (.inl (some (.int (Int32.ofInt (-12))))) h2 → Q' (.inl (some (.int (Int32.ofNat 0)))) h2) → gm_G 419 0 [some (.ref m), some (.int (Int32.ofNat p))] [] h1 Q' := by
    intro f o h1 Q' g1 w1 eb eq c1 ol q1 q2
    have ecg := zp_cps_cg K eq (zb_cp b) (zs_P S) htear (fun c hc => (hz c hc).1)
    refine gy_use w1 ?_
    refine t_mend (R.oT g1) w1 K hp (B.fr g1 rfl) hz (fun y h2 g2 RP2 w2 => ?_) (fun y h2 RX g2 w2 => ?_)
    · rw [ecg] at y RP2
      refine q1 h2 ((R.oT g1).1.fr g2) (H2 o (zp_cps zp_men (zs_G S) (zb_k b) f (zs_P S) (zb_cp b)).1 ?_ ol (zp_cps_nd ..).1 (zp_cps_nd ..).2 h2 w2 ((g1.up rfl rfl).trans (g2.up rfl rfl)) RP2 (((R.oT g1).2.2.2.2.2.2.2.2).fr g2 rfl rfl) ?_)
      · unfold zs_fetch
        rw [eb]
        dsimp only
        rw [if_pos (show (true || false) = true from rfl), if_pos y]
      · exact c1.fr (A := fun _ _ => True) (g2.arr (o := 29) rfl)
    · rw [ecg] at y RX
      refine q2 h2 (H3 (zp_cps zp_men (zs_G S) (zb_k b) f (zs_P S) (zb_cp b)).1 ?_ h2 w2 RX ((g1.up rfl rfl).trans (g2.up rfl rfl)))
      unfold zs_fetch
      rw [eb]
      dsimp only
      rw [if_pos (show (true || false) = true from rfl), if_neg (by rw [y]; decide)]
  -- one try
  have step : ∀ c x rest F h1 (A C : hh_T → Prop), (hc : c < (zb_cp b).length) → fr (tO m [29, 35, 37, 38, 39] [53]) h h1 → gy_wf h1 → x < 64 → (zg_par (zs_G S) (zb_cp b)[c].1 = false → x < zg_many (zs_G S) (zb_cp b)[c].1) → zr_blk (zs_P S) (zs_G S) b = zr_find (zr_fit b) (zr_t (zs_P S) (zs_G S) (zb_cp b)[c].1 x (zb_cp b)[c].2 (zb_k b) :: rest) F
      → (∀ h2, fr (tO m [29, 35, 37, 38, 39] [53]) h h2 → gy_wf h2 → zr_blk (zs_P S) (zs_G S) b = zr_find (zr_fit b) rest false → A h2)
      → (∀ h2 f o, fr (tO m [29, 35, 37, 38, 39] [53]) h h2 → gy_wf h2 → zr_blk (zs_P S) (zs_G S) b = some (f, o, !F || (zr_t (zs_P S) (zs_G S) (zb_cp b)[c].1 x (zb_cp b)[c].2 (zb_k b)).2) → (∀ j, j < 8 * zb_k b → hh_i h2 (m + 35) j = f j) → ta_c h2 (m + 29) o → o.length = 32 → hh_i h2 m 53 = bi (zr_t (zs_P S) (zs_G S) (zb_cp b)[c].1 x (zb_cp b)[c].2 (zb_k b)).2 → C h2)
      → gm_G 423 0 [some (.ref m), some (.int (Int32.ofNat p)), some (.int (Int32.ofNat c)), some (.int (Int32.ofNat x))] [] h1 (pI (fun v2 h2 => (v2 = (Int32.ofNat 0) → A h2) ∧ (¬ v2 = (Int32.ofNat 0) → gm_G 278 0 [some (.ref m), some (.int (Int32.ofNat p))] [] h2 (pI (fun v4 h3 => (v4 = (Int32.ofNat 0) → A h3) ∧ (¬ v4 = (Int32.ofNat 0) → C h3)) (fun _ _ => False)))) (fun _ _ => False)) := by
    intro c x rest F h1 A C hc g1 w1 hx hx2 eb hA hC
    have ed : (zb_cp b).getD c (0, 0) = (zb_cp b)[c] := by rw [List.getD_eq_getElem?_getD, List.getElem?_eq_getElem hc]; rfl
    obtain ⟨e23, e24⟩ := b9 c hc
    rw [ed] at e23 e24
    obtain ⟨z1, z2⟩ := hz (zb_cp b)[c] (List.getElem_mem hc)
    have R1 := R.oT g1
    refine gy_use w1 ?_
    refine t_tryCopy R1.1 w1 R1.2.2.2.1 R1.2.2.1 K hp (by omega) z1 (by rw [g1.arr (o := 23) rfl]; exact e23) (by rw [g1.arr (o := 24) rfl]; exact e24) (by rw [g1.arr (o := 21) rfl]; exact b3) b4 b5 z2 hx hx2 (fun y h2 g2 w2 => ?_) (fun f y h2 g2 q35 q53 w2 => ?_)
    · refine ⟨fun _ => ?_, fun z => absurd rfl z⟩
      rw [zr_find_n _ _ _ _ y] at eb
      exact hA h2 (g1.trans (g2.up rfl rfl)) w2 eb
    · refine ⟨fun z => absurd z (by decide), fun _ => ?_⟩
      have g12 := g1.trans (g2.up (O' := [29, 35, 37, 38, 39]) (F' := [53]) rfl rfl)
      refine gy_use w2 ?_
      refine t_fits (R.oT g12).1 w2 hp (B.fr g12 rfl) (fun y2 h3 g3 w3 => ?_) (fun o y2 ol h3 g3 c3 w3 => ?_)
      · refine ⟨fun _ => ?_, fun z => absurd rfl z⟩
        rw [zr_fit_cg q35] at y2
        rw [zr_find_u _ _ _ _ y y2] at eb
        exact hA h3 (g12.trans (g3.up rfl rfl)) w3 eb
      · refine ⟨fun z => absurd z (by decide), fun _ => ?_⟩
        rw [zr_fit_cg q35] at y2
        rw [zr_find_s _ _ _ _ y y2] at eb
        exact hC h3 f o (g12.trans (g3.up rfl rfl)) w3 eb (fun j hj => by rw [g3.arr (o := 35) rfl]; exact q35 j hj) c3 ol (by rw [g3.fld (f := 53) rfl]; exact q53)
  -- over the copies
  have lp : ∀ e c F h1, c + e = (zb_cp b).length → fr (tO m [29, 35, 37, 38, 39] [53]) h h1 → gy_wf h1 → zr_blk (zs_P S) (zs_G S) b = zr_find (zr_fit b) (((zb_cp b).drop c).flatMap (zr_try (zs_P S) (zs_G S) (zb_k b))) F → gm_G 441 4 [some (.ref m), some (.int (Int32.ofNat p)), some (.int (bi F)), some (.int (Int32.ofNat c))] [] h1 Q := by
    intro e
    induction e with
    | zero =>
      intro c F h1 ec g1 w1 eb
      have ec : c = (zb_cp b).length := by omega
      rw [ec, List.drop_length] at eb
      have eb : zr_blk (zs_P S) (zs_G S) b = none := eb
      have b6' : hh_i h1 (m + 22) p = (Int32.ofNat ((zb_cp b).length)) := by rw [g1.arr (o := 22) rfl]; exact b6
      have R1 := R.oT g1
      refine w_441_4 R1.1 ⟨p, ix_n hp (by omega), fun _ => ?_, fun z => absurd z (by rw [b6', i_lt (by omega) (by omega)]; omega)⟩
      refine gy_use w1 ?_
      refine t_noteError R1.1 hp (B.fr g1 rfl) hkey R1.2.2.2.2.2.2.2.2 hne (fun h2 g2 RM w2 => ?_)
      refine H1 ?_ h2 w2 ((g1.up rfl rfl).trans (g2.up rfl rfl)) (R1.2.2.1.fr g2 rfl rfl) RM
      unfold zs_fetch
      rw [eb]
    | succ e ih =>
      intro c F h1 ec g1 w1 eb
      have hc : c < (zb_cp b).length := by omega
      have b6' : hh_i h1 (m + 22) p = (Int32.ofNat ((zb_cp b).length)) := by rw [g1.arr (o := 22) rfl]; exact b6
      have ed : (zb_cp b).getD c (0, 0) = (zb_cp b)[c] := by rw [List.getD_eq_getElem?_getD, List.getElem?_eq_getElem hc]; rfl
      obtain ⟨e23, e24⟩ := b9 c hc
      rw [ed] at e23 e24
      obtain ⟨z1, z2⟩ := hz (zb_cp b)[c] (List.getElem_mem hc)
      rw [List.drop_eq_getElem_cons hc, List.flatMap_cons] at eb
      obtain ⟨c1, c2, c3, c4, c5, c6, c7⟩ := k1 _ z1
      have R1 := R.oT g1
      obtain ⟨r1, r2, r3, r4⟩ := id R1.2.2.2.1
      obtain ⟨s1, s2, s3, s4, s5⟩ := r3 _ z1
      have e23' : hh_i h1 (m + 23) (2 * p + c) = (Int32.ofNat ((zb_cp b)[c].1)) := by rw [g1.arr (o := 23) rfl]; exact e23
      have nx : ∀ F h2, fr (tO m [29, 35, 37, 38, 39] [53]) h h2 → gy_wf h2 → zr_blk (zs_P S) (zs_G S) b = zr_find (zr_fit b) (((zb_cp b).drop (c + 1)).flatMap (zr_try (zs_P S) (zs_G S) (zb_k b))) F → gm_G 441 227 [some (.ref m), some (.int (Int32.ofNat p)), some (.int (bi F)), some (.int (Int32.ofNat c))] [] h2 Q := by
        intro F h2 g2 w2 eb2
        refine w_441_227 (R.1.fr g2) ?_
        rw [i_add]
        exact ih (c + 1) F h2 (by omega) g2 w2 eb2
      obtain ⟨rest, hrest⟩ : ∃ rest, rest = ((zb_cp b).drop (c + 1)).flatMap (zr_try (zs_P S) (zs_G S) (zb_k b)) := ⟨_, rfl⟩
      rw [← hrest] at eb nx
      have h63 : zg_ng (zs_G S) ≤ 3 := k0
      cases hpar : zg_par (zs_G S) (zb_cp b)[c].1 with
      | false =>
        have ki : zg_ki (zs_G S) (zb_cp b)[c].1 < 2 := by unfold zg_ki; rw [if_neg (by rw [hpar]; decide)]; split <;> omega
        have et : zr_try (zs_P S) (zs_G S) (zb_k b) (zb_cp b)[c] = (List.range' 0 (zg_many (zs_G S) (zb_cp b)[c].1)).map (fun x => zr_t (zs_P S) (zs_G S) (zb_cp b)[c].1 x (zb_cp b)[c].2 (zb_k b)) := by
          unfold zr_try
          rw [if_neg (by rw [hpar]; decide), List.range_eq_range']
          congr 1
          funext x
          unfold zr_t
          rw [if_neg (by rw [hpar]; decide)]
        rw [et] at eb
        have l2 : ∀ e2 x F h2, x + e2 = zg_many (zs_G S) (zb_cp b)[c].1 → fr (tO m [29, 35, 37, 38, 39] [53]) h h2 → gy_wf h2 → zr_blk (zs_P S) (zs_G S) b = zr_find (zr_fit b) ((List.range' x e2).map (fun x => zr_t (zs_P S) (zs_G S) (zb_cp b)[c].1 x (zb_cp b)[c].2 (zb_k b)) ++ rest) F → gm_G 441 49 [some (.ref m), some (.int (Int32.ofNat p)), some (.int (bi F)), some (.int (Int32.ofNat c)), none, some (.int (Int32.ofNat ((zg_many (zs_G S) (zb_cp b)[c].1)))), some (.int (Int32.ofNat x))] [] h2 Q := by
          intro e2
          induction e2 with
          | zero =>
            intro x F h2 ex g2 w2 eb2
            refine w_441_49 (R.1.fr g2) ⟨fun _ => nx F h2 g2 w2 eb2, fun z => absurd z (by rw [i_lt (by omega) (by omega)]; omega)⟩
          | succ e2 ih2 =>
            intro x F h2 ex g2 w2 eb2
            rw [List.range'_succ, List.map_cons, List.cons_append] at eb2
            refine w_441_49 (R.1.fr g2) ⟨fun z => absurd (by rw [i_lt (by omega) (by omega)]; omega) z, fun _ => ?_⟩
            refine step c x _ F h2 _ _ hc g2 w2 (by omega) (fun _ => by omega) eb2 (fun h3 g3 w3 eb3 => ?_) (fun h3 f o g3 w3 eb3 q35 c29 ol q53 => ?_)
            · refine w_441_94 (R.1.fr g3) ?_
              rw [i_add]
              exact ih2 (x + 1) false h3 (by omega) g3 w3 eb3
            · have e2f : (zr_t (zs_P S) (zs_G S) (zb_cp b)[c].1 x (zb_cp b)[c].2 (zb_k b)).2 = false := by unfold zr_t; rw [if_neg (by rw [hpar]; decide)]; rfl
              rw [e2f] at eb3
              cases F with
              | true => exact ⟨fun _ => w_441_87 (R.1.fr g3) (finN f o h3 g3 w3 eb3 c29 ol), fun z => absurd z (by decide)⟩
              | false => exact ⟨fun z => absurd rfl z, fun _ => finM f o h3 _ g3 w3 eb3 q35 c29 ol (fun h4 t4 q => ⟨fun z => absurd z (by decide), fun _ => w_441_87 t4 q⟩) (fun h4 q => ⟨fun _ => q, fun z => absurd rfl z⟩)⟩
        refine w_441_4 R1.1 ⟨p, ix_n hp (by omega), fun z => absurd (by rw [b6', i_lt (by omega) (by omega)]; exact hc) z, fun _ => ?_⟩
        simp (disch := omega) only [forall_eq, exists_eq_left, exists_eq_left', Option.some.injEq, ex_ix, i_add, i_mul, i_sub, i_lt, i_le, i_eq, i_tn, hi_e, hi_n, hj_e, hj_n, hi_wj, hj_wi, hr_wi, hr_wj, ht_wi, ht_wj, hl_wi, hl_wj, hz_wi, hz_wj, hs_wi, hs_wj, hi_wr, hj_wr, hr_e, hr_n, ht_wr, hl_wr, hz_wr, hs_wr, n_lt_t, n_lt_f, n_le_t, n_le_f, n_eq_t, n_eq_f, true_and, and_true, false_and, and_false, true_or, or_true, false_or, or_false, not_true_eq_false, not_false_eq_true, forall_const, implies_true, true_imp_iff, false_imp_iff, gs_t, reduceIte, ite_true, ite_false, e23', s1, s3]
        exact l2 _ 0 F h1 (Nat.zero_add _) g1 w1 eb
      | true =>
        have ki : zg_ki (zs_G S) (zb_cp b)[c].1 = 2 := by unfold zg_ki; rw [if_pos hpar]
        rw [ki] at s1
        obtain ⟨n, hn⟩ : ∃ n, n = zg_many (zs_G S) (zb_cp b)[c].1 := ⟨_, rfl⟩
        have h6 : 2 ^ n ≤ 2 ^ 6 := Nat.pow_le_pow_right (by decide) (by omega)
        have et : zr_try (zs_P S) (zs_G S) (zb_k b) (zb_cp b)[c] = (List.range' 0 (n + 1)).flatMap (fun c' => ((List.range' 0 (2 ^ n)).filter (fun s => decide (zr_bits s = c'))).map (fun x => zr_t (zs_P S) (zs_G S) (zb_cp b)[c].1 x (zb_cp b)[c].2 (zb_k b))) := by
          unfold zr_try
          rw [if_pos hpar, ← hn]
          unfold zr_ord
          rw [List.map_flatMap, List.range_eq_range', List.range_eq_range']
          congr 1
          funext c'
          congr 1
          funext x
          unfold zr_t
          rw [if_pos hpar]
        rw [et] at eb
        rw [← hn] at s3
        have l3 : ∀ e3 c' F h2, c' + e3 = n + 1 → fr (tO m [29, 35, 37, 38, 39] [53]) h h2 → gy_wf h2 → zr_blk (zs_P S) (zs_G S) b = zr_find (zr_fit b) ((List.range' c' e3).flatMap (fun c' => ((List.range' 0 (2 ^ n)).filter (fun s => decide (zr_bits s = c'))).map (fun x => zr_t (zs_P S) (zs_G S) (zb_cp b)[c].1 x (zb_cp b)[c].2 (zb_k b))) ++ rest) F → gm_G 441 108 [some (.ref m), some (.int (Int32.ofNat p)), some (.int (bi F)), some (.int (Int32.ofNat c)), none, some (.int (Int32.ofNat n)), some (.int (Int32.ofNat c'))] [] h2 Q := by
          intro e3
          induction e3 with
          | zero =>
            intro c' F h2 ex g2 w2 eb2
            exact w_441_108 (R.1.fr g2) ⟨fun _ => nx F h2 g2 w2 eb2, fun z => absurd (by rw [i_lt (by omega) (by omega)]; omega) z⟩
          | succ e3 ih3 =>
            intro c' F h2 ex g2 w2 eb2
            rw [List.range'_succ, List.flatMap_cons, List.append_assoc] at eb2
            obtain ⟨rest2, hrest2⟩ : ∃ rest2, rest2 = (List.range' (c' + 1) e3).flatMap (fun c' => ((List.range' 0 (2 ^ n)).filter (fun s => decide (zr_bits s = c'))).map (fun x => zr_t (zs_P S) (zs_G S) (zb_cp b)[c].1 x (zb_cp b)[c].2 (zb_k b))) ++ rest := ⟨_, rfl⟩
            rw [← hrest2] at eb2
            have l4 : ∀ e4 s F h3, s + e4 = 2 ^ n → fr (tO m [29, 35, 37, 38, 39] [53]) h h3 → gy_wf h3 → zr_blk (zs_P S) (zs_G S) b = zr_find (zr_fit b) (((List.range' s e4).filter (fun s => decide (zr_bits s = c'))).map (fun x => zr_t (zs_P S) (zs_G S) (zb_cp b)[c].1 x (zb_cp b)[c].2 (zb_k b)) ++ rest2) F → gm_G 441 118 [some (.ref m), some (.int (Int32.ofNat p)), some (.int (bi F)), some (.int (Int32.ofNat c)), none, some (.int (Int32.ofNat n)), some (.int (Int32.ofNat c')), some (.int (Int32.ofNat s))] [] h3 Q := by
              intro e4
              induction e4 with
              | zero =>
                intro s F h3 es g3 w3 eb3
                refine w_441_118 (R.1.fr g3) ⟨fun _ => ?_, fun z => absurd z (by rw [i_shl (by omega), i_lt (by omega) (by omega)]; omega)⟩
                rw [i_add]
                refine ih3 (c' + 1) F h3 (by omega) g3 w3 ?_
                rw [eb3, ← hrest2]
                rfl
              | succ e4 ih4 =>
                intro s F h3 es g3 w3 eb3
                obtain ⟨q1, q2⟩ := zr_cnt_b (s := s) (n := n) (by omega) (by omega)
                have nx4 : ∀ F h4, fr (tO m [29, 35, 37, 38, 39] [53]) h h4 → gy_wf h4 → zr_blk (zs_P S) (zs_G S) b = zr_find (zr_fit b) (((List.range' (s + 1) e4).filter (fun s => decide (zr_bits s = c'))).map (fun x => zr_t (zs_P S) (zs_G S) (zb_cp b)[c].1 x (zb_cp b)[c].2 (zb_k b)) ++ rest2) F → gm_G 441 215 [some (.ref m), some (.int (Int32.ofNat p)), some (.int (bi F)), some (.int (Int32.ofNat c)), none, some (.int (Int32.ofNat n)), some (.int (Int32.ofNat c')), some (.int (Int32.ofNat s))] [] h4 Q := by
                  intro F h4 g4 w4 eb4
                  refine w_441_215 (R.1.fr g4) ?_
                  rw [i_add]
                  exact ih4 (s + 1) F h4 (by omega) g4 w4 eb4
                have l5 : ∀ e5 i, i + e5 = n → gm_G 441 133 [some (.ref m), some (.int (Int32.ofNat p)), some (.int (bi F)), some (.int (Int32.ofNat c)), none, some (.int (Int32.ofNat n)), some (.int (Int32.ofNat c')), some (.int (Int32.ofNat s)), some (.int (Int32.ofNat ((zr_cnt s i)))), some (.int (Int32.ofNat i))] [] h3 Q := by
                  intro e5
                  induction e5 with
                  | zero =>
                    intro i ei
                    have ei : i = n := by omega
                    subst ei
                    rw [q1]
                    have hbb : zr_bits s ≤ 6 := by rw [← q1]; unfold zr_cnt; exact Nat.le_trans (List.length_filter_le ..) (by rw [List.length_range]; omega)
                    refine w_441_133 (R.1.fr g3) ⟨fun _ => ⟨fun z => ?_, fun z => ?_⟩, fun z => absurd z (by rw [i_lt (by omega) (by omega)]; omega)⟩
                    · have z : zr_bits s = c' := (i_eq (by omega) (by omega)).mp z
                      rw [List.range'_succ, List.filter_cons_of_pos (p := fun s => decide (zr_bits s = c')) (decide_eq_true z), List.map_cons, List.cons_append] at eb3
                      refine step c s _ F h3 _ _ hc g3 w3 q2 (fun y => absurd (hpar.symm.trans y) (by decide)) eb3 (fun h4 g4 w4 eb4 => ?_) (fun h4 f o g4 w4 eb4 q35 c29 ol q53 => ?_)
                      · exact w_441_213 (R.1.fr g4) (nx4 false h4 g4 w4 eb4)
                      · obtain ⟨M, hM⟩ : ∃ M, M = (zr_t (zs_P S) (zs_G S) (zb_cp b)[c].1 s (zb_cp b)[c].2 (zb_k b)).2 := ⟨_, rfl⟩
                        rw [← hM] at eb4 q53
                        have md : (!F || M) = true → gm_G 441 198 [some (.ref m), some (.int (Int32.ofNat p))] [] h4 Q := by
                          intro y
                          rw [y] at eb4
                          exact w_441_198 (R.1.fr g4) (finM f o h4 _ g4 w4 eb4 q35 c29 ol (fun h5 t5 q => ⟨fun z => absurd z (by decide), fun _ => w_441_206 t5 q⟩) (fun h5 q => ⟨fun _ => q, fun z => absurd rfl z⟩))
                        cases F with
                        | false => exact ⟨fun _ => md rfl, fun z => absurd rfl z⟩
                        | true =>
                          refine ⟨fun z => absurd z (by decide), fun _ => ?_⟩
                          rw [q53]
                          cases M with
                          | true => exact ⟨fun z => absurd z (by decide), fun _ => md rfl⟩
                          | false => exact ⟨fun _ => w_441_206 (R.1.fr g4) (finN f o h4 g4 w4 eb4 c29 ol), fun z => absurd rfl z⟩
                    · have z : ¬ zr_bits s = c' := fun y => z (by rw [y])
                      rw [List.range'_succ, List.filter_cons_of_neg (p := fun s => decide (zr_bits s = c')) (by rw [decide_eq_false z]; decide)] at eb3
                      exact nx4 F h3 g3 w3 eb3
                  | succ e5 ih5 =>
                    intro i ei
                    refine w_441_133 (R.1.fr g3) ⟨fun z => absurd (by rw [i_lt (by omega) (by omega)]; omega) z, fun _ => ?_⟩
                    rw [b_bit (by omega) (by omega), i_add, i_add, ← zr_cnt_S]
                    exact ih5 (i + 1) (by omega)
                refine w_441_118 (R.1.fr g3) ⟨fun z => absurd (by rw [i_shl (by omega), i_lt (by omega) (by omega)]; omega) z, fun _ => ?_⟩
                exact l5 n 0 (Nat.zero_add _)
            exact w_441_108 (R.1.fr g2) ⟨fun z => absurd z (by rw [i_lt (by omega) (by omega)]; omega), fun _ => l4 (2 ^ n) 0 F h2 (Nat.zero_add _) g2 w2 eb2⟩
        refine w_441_4 R1.1 ⟨p, ix_n hp (by omega), fun z => absurd (by rw [b6', i_lt (by omega) (by omega)]; exact hc) z, fun _ => ?_⟩
        simp (disch := omega) only [forall_eq, exists_eq_left, exists_eq_left', Option.some.injEq, ex_ix, i_add, i_mul, i_sub, i_lt, i_le, i_eq, i_tn, hi_e, hi_n, hj_e, hj_n, hi_wj, hj_wi, hr_wi, hr_wj, ht_wi, ht_wj, hl_wi, hl_wj, hz_wi, hz_wj, hs_wi, hs_wj, hi_wr, hj_wr, hr_e, hr_n, ht_wr, hl_wr, hz_wr, hs_wr, n_lt_t, n_lt_f, n_le_t, n_le_f, n_eq_t, n_eq_f, true_and, and_true, false_and, and_false, true_or, or_true, false_or, or_false, not_true_eq_false, not_false_eq_true, forall_const, implies_true, true_imp_iff, false_imp_iff, gs_t, reduceIte, ite_true, ite_false, e23', s1, s3]
        exact l3 (n + 1) 0 F h1 (Nat.zero_add _) g1 w1 eb
  exact w_441_0 R.1 (lp (zb_cp b).length 0 true h (Nat.zero_add _) (fr.refl _ _) w rfl)
end TFd
