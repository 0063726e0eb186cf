/-! STAGE 3: rows of rights -/
section GR
variable {h h' : hh_T} {m : Nat} {S : zS} {i t : Nat} {d : zD} {T : zT} {Q : Option Value ⊕ Nat → hh_T → Prop}
/-- rows of an object become others -/
theorem tn_rw {q : Nat} {N : zN} {rs : List (Nat × Nat × Nat)} (R : tn h m q N) (g : fr (tO m [49, 50, 51, 52] []) h h') (e49 : hh_i h' (m + 49) q = (Int32.ofNat rs.length)) (hl : rs.length ≤ 4) (hr : ∀ k, k < rs.length → hh_i h' (m + 50) (4 * q + k) = (Int32.ofNat ((rs.getD k (0, 0, 0)).1)) ∧ hh_i h' (m + 51) (4 * q + k) = (Int32.ofNat ((rs.getD k (0, 0, 0)).2.1)) ∧ hh_i h' (m + 52) (4 * q + k) = (Int32.ofNat ((rs.getD k (0, 0, 0)).2.2)) ∧ (rs.getD k (0, 0, 0)).1 < 2 ∧ rt_w (rs.getD k (0, 0, 0)).2.1 ∧ (rs.getD k (0, 0, 0)).2.2 < 8) : tn h' m q (zn_rw_ N rs) := by
  obtain ⟨r1, r2, r3, r4, r5, r6, r7, r8, r9, r10, r11, r12⟩ := R
  have b : ∀ f, f < 8 → hh_i h' (m + (40 + f)) = hh_i h (m + (40 + f)) := fun f hf => g.arrs (P := fun o => Nat.ble 40 o && Nat.ble o 47) rfl (by rw [Bool.and_eq_true, Nat.ble_eq, Nat.ble_eq]; omega) (by omega)
  refine ⟨fun f hf => by rw [b f hf]; exact r1 f hf, r2, r3, r4, r5, r6, e49, hl, hr, fun z => ?_, by rw [g.arr (o := 57) rfl]; exact r11, fun k hk => ?_⟩
  · obtain ⟨s1, s2, s3, s4, s5, s6⟩ := r10 z
    refine ⟨by rw [g.arr (o := 48) rfl]; exact s1, s2, s3, s4, ?_, ?_⟩
    · unfold tw_en
      rw [g.arr (o := 53) rfl, g.arr (o := 54) rfl, g.arr (o := 56) rfl]
      exact s5
    · unfold tw_en
      rw [g.arr (o := 53) rfl, g.arr (o := 54) rfl, g.arr (o := 56) rfl]
      exact s6
  · rw [g.arr (o := 55) rfl]
    rcases r12 k hk with z | ⟨b1, p, z1, z2, z3, z4, z5⟩
    · exact Or.inl z
    · exact Or.inr ⟨b1, p, z1, z2, z3, tb_f8 z4 g rfl, z5⟩
theorem rOw_rw {o : Nat} {N : zN} {rs : List (Nat × Nat × Nat)} (R : rOw h m S i t d T) (up : zs_up S = true) (hi : i < 8) (ho : o < 16) (eN : zt_ob T o = some N) (g : fr (tO m [49, 50, 51, 52] []) h h') (x49 : ∀ x, ¬ x = 16 * t + o → hh_i h' (m + 49) x = hh_i h (m + 49) x) (x5 : ∀ a x, 50 ≤ a → a < 53 → ¬ x / 4 = 16 * t + o → hh_i h' (m + a) x = hh_i h (m + a) x)
    (e49 : hh_i h' (m + 49) (16 * t + o) = (Int32.ofNat rs.length)) (hl : rs.length ≤ 4) (hr : ∀ k, k < rs.length → hh_i h' (m + 50) (4 * (16 * t + o) + k) = (Int32.ofNat ((rs.getD k (0, 0, 0)).1)) ∧ hh_i h' (m + 51) (4 * (16 * t + o) + k) = (Int32.ofNat ((rs.getD k (0, 0, 0)).2.1)) ∧ hh_i h' (m + 52) (4 * (16 * t + o) + k) = (Int32.ofNat ((rs.getD k (0, 0, 0)).2.2)) ∧ (rs.getD k (0, 0, 0)).1 < 2 ∧ rt_w (rs.getD k (0, 0, 0)).2.1 ∧ (rs.getD k (0, 0, 0)).2.2 < 8) : rOw h' m S i t d (zt_put T o (zn_rw_ N rs)) := by
  have R0 := rOw_N R ho eN
  refine rOw_ob R up hi ho g rfl rfl (fun q hq => ?_) (Or.inr ⟨_, rfl, tn_rw R0 g e49 hl hr⟩) (fun k p hk h1 h2 hp => ?_)
  · refine ⟨fun a h1 h2 => ?_, fun a k h1 h2 hk => x5 a _ h1 h2 (by omega), fun a k h1 h2 _ => ?_, fun k _ => by rw [g.arr (o := 56) rfl], fun k _ => by rw [g.arr (o := 57) rfl]⟩
    · by_cases y : a = 49
      · subst y; exact x49 q hq
      · rw [g.arrs (P := fun o => Nat.ble o 48) rfl (by rw [Nat.ble_eq]; omega) (by omega)]
    · rw [g.arrs (P := fun o => Nat.ble 53 o) rfl (by rw [Nat.ble_eq]; omega) (by omega)]
  · refine ⟨tn_k0 R0, ?_⟩
    rw [g.arr (o := 55) rfl] at h2
    exact h2
/-- begin for rows of rights: what goes is not noted -/
theorem t_bng {ob kind : Nat} {y z : Int32} {y' z' : Nat} {rp : Bool} (R : rTq h m S) (w : gy_wf h) (N : zs_nt S d) (hi : i < 8) (D : td h m i d) (e111 : hh_i h m 111 = bi rp) (hob : ob < 16) (hkd : kind ≤ 2) (hy : (kind = 2 ∧ y' = 0 ∧ z' = 0) ∨ (y = (Int32.ofNat y') ∧ z = (Int32.ofNat z') ∧ y' < 100 ∧ z' < 100))
    (H : ∀ h', gy_wf h' → fr (tO m [80, 81, 82] [108, 109, 112]) h h' → rTq h' m (zs_row S (zd_no d) (zx_ch [6, ob, 0, kind, y', z', zs_ck S, zs_ac S] 0 0 []) (zs_pm S d rp).1) → hh_i h' m 112 = (if (zs_pm S d rp).2 then (Int32.ofNat 1) else hh_i h m 112) → Q (.inl none) h') : gm_G 364 0 [some (.ref m), some (.int (Int32.ofNat i)), some (.int (Int32.ofNat 6)), some (.int (Int32.ofNat ob)), some (.int (Int32.ofNat 0)), some (.int (Int32.ofNat kind)), some (.int y), some (.int z)] [] h Q := by
  obtain ⟨n1, n2, n3, n4, n5, n6, n7, n8, n9⟩ := N
  have RA := R.2.1
  have RE := R.2.2.2.2.1
  have RR := R.2.2.2.2.2.2.1
  have hck : za_clock (zs_A S) ≤ 2000000000 := RA.2.2.2.2.2.2.2.1
  have hac : za_actor (zs_A S) < 8 := RA.2.2.2.2.2.2.2.2.2.1
  have hle := ((rT_R_up RR RE n1 n2).2 i d hi D).2.2.1
  refine gy_use w ?_
  refine t_begin R.1 RA RE RR n1 n2 n3 hi D n4 n5 n6 n7 e111 (fun h' g e80 e81 e112 ee w' => ?_)
  refine H h' w' g (rTq_row R n1 n2 hi D g e80 e81 (zs_pm_le S d rp hle) n8 (fun q hq => ?_) (fun hl => ?_)) e112
  · rcases ee with ⟨y1, y2, y3⟩ | ⟨y1, y2, y3, y4⟩
    · rw [y3]
    · rcases hq with hq | hq
      · rw [y4, if_neg (by omega)]
      · omega
  · rcases ee with ⟨y1, -⟩ | ⟨y1, y2, y3, y4⟩
    · omega
    · obtain ⟨A, eA⟩ : ∃ A, A = 290 * (16 * i + (zs_R S (zd_no d)).1.length) := ⟨_, rfl⟩
      rw [← eA] at y4 ⊢
      have v : ∀ f, f < 10 → hh_i h' (m + 82) (A + f) = [(Int32.ofNat 6), (Int32.ofNat ob), (Int32.ofNat 0), (Int32.ofNat kind), y, z, (Int32.ofNat (za_clock (zs_A S))), (Int32.ofNat (za_actor (zs_A S))), (Int32.ofNat 0), (Int32.ofNat 0)].getD f 0 := fun f hf => by
        rw [y4, if_pos (by omega), show A + f - A = f by omega]
      refine ⟨fun f hf => ?_, (show 1 ≤ 6 by decide), (show 6 ≤ 11 by decide), 0, 0, v 8 (by decide), v 9 (by decide), by decide, by decide, by decide, fun q => absurd q (show ¬ 6 ≤ 4 by decide), fun q => absurd q (show ¬ 6 = 4 by decide), fun _ => rfl, fun _ => rfl, fun _ => rfl, fun x hx => absurd hx (Nat.not_lt_zero _)⟩
      have l : ∀ f, zh_f (zx_ch [6, ob, 0, kind, y', z', zs_ck S, zs_ac S] 0 0 []) f = [6, ob, 0, kind, y', z', zs_ck S, zs_ac S].getD f 0 := fun _ => rfl
      have vf := v f (by omega)
      rw [l f]
      rcases (show f = 0 ∨ f = 1 ∨ f = 2 ∨ f = 3 ∨ f = 4 ∨ f = 5 ∨ f = 6 ∨ f = 7 by omega) with u | u | u | u | u | u | u | u <;> subst u
      · exact ⟨Or.inl vf, (by decide : 6 < 2147483648)⟩
      · exact ⟨Or.inl vf, (by omega : ob < 2147483648)⟩
      · exact ⟨Or.inl vf, (by decide : 0 < 2147483648)⟩
      · exact ⟨Or.inl vf, (by omega : kind < 2147483648)⟩
      · rcases hy with ⟨q1, q2, q3⟩ | ⟨q1, q2, q3, q4⟩
        · exact ⟨Or.inr ⟨rfl, q1, Or.inl rfl⟩, (by omega : y' < 2147483648)⟩
        · exact ⟨Or.inl (vf.trans q1), (by omega : y' < 2147483648)⟩
      · rcases hy with ⟨q1, q2, q3⟩ | ⟨q1, q2, q3, q4⟩
        · exact ⟨Or.inr ⟨rfl, q1, Or.inr rfl⟩, (by omega : z' < 2147483648)⟩
        · exact ⟨Or.inl (vf.trans q2), (by omega : z' < 2147483648)⟩
      · exact ⟨Or.inl vf, (by omega : za_clock (zs_A S) < 2147483648)⟩
      · exact ⟨Or.inl vf, (by omega : za_actor (zs_A S) < 2147483648)⟩
theorem t_doGrant {ob kind : Nat} {y z : Int32} {y' z' : Nat} {Nd : zN} {rp : Bool} (R : rTq h m S) (w : gy_wf h) (N : zs_nt S d) (hi : i < 8) (D : td h m i d) (e111 : hh_i h m 111 = bi rp) (hob : ob < 16) (eN : zt_ob (zd_tr d) ob = some Nd) (hwf : zt_wf (zd_tr d)) (hkd : kind ≤ 2) (hy : (kind = 2 ∧ y' = 0 ∧ z' = 0) ∨ (y = (Int32.ofNat y') ∧ z = (Int32.ofNat z') ∧ y' < 100 ∧ z' < 100)) (h4 : ¬ kind = 2 → (zn_rw Nd).length < 4 ∧ rt_w y' ∧ z' < 8)
    (H : ∀ h', gy_wf h' → fr (tO m oDo fDo) h h' → rTq h' m (zs_tla rp (zs_trc (zs_row S (zd_no d) (zx_ch [6, ob, 0, kind, y', z', zs_ck S, zs_ac S] 0 0 []) (zs_pm S d rp).1) (zd_no d) (zt_row (zd_tr d) ob kind y' z' (zs_ck S))) (zd_no d) ob 6) → hh_i h' m 112 = (if (zs_pm S d rp).2 then (Int32.ofNat 1) else hh_i h m 112) → Q (.inl none) h') : gm_G 435 0 [some (.ref m), some (.int (Int32.ofNat i)), some (.int (Int32.ofNat ob)), some (.int (Int32.ofNat kind)), some (.int y), some (.int z)] [] h Q := by
  obtain ⟨n1, n2, n3, n4, n5, n6, n7, n8, n9⟩ := id N
  refine gy_use w ?_
  refine w_435_0 R.1 ?_
  refine t_bng R w N hi D e111 hob hkd hy (fun h1 w1 g1 R1 e112 => ?_)
  have D1 : td h1 m i d := D.sm (F := f0) (g1.sm rfl rfl)
  refine t_ownq R1 w1 n1 n9 hi D1 (fun h2 t' w2 g2 W2 => ?_)
  have ht := W2.2.2.2.1.1
  have en : zt_n (zd_tr d) ob = Nd := by unfold zt_n; rw [eN]; rfl
  have N2 := rOw_N W2 hob eN
  obtain ⟨q, eq⟩ : ∃ q, q = 16 * t' + ob := ⟨_, rfl⟩
  have hq : q < 1536 := by omega
  have em : (Int32.ofNat 16) * (Int32.ofNat t') + (Int32.ofNat ob) = (Int32.ofNat q) := by rw [i_mul, i_add, eq]
  rw [← eq] at N2
  have e49 := N2.2.2.2.2.2.2.1
  have l49 := N2.2.2.2.2.2.2.2.1
  have r9 := N2.2.2.2.2.2.2.2.2.1
  -- behind the rows
  have go : ∀ h5 rs, fr (tO m [49, 50, 51, 52] []) h2 h5 → rs = (if kind = 2 then [] else zn_rw Nd ++ [(kind, y', z')]) → rOw h5 m (zs_row S (zd_no d) (zx_ch [6, ob, 0, kind, y', z', zs_ck S, zs_ac S] 0 0 []) (zs_pm S d rp).1) i t' d (zt_put (zd_tr d) ob (zn_rw_ Nd rs)) → gm_G 435 93 [some (.ref m), some (.int (Int32.ofNat i)), some (.int (Int32.ofNat ob)), none, none, none, some (.int (Int32.ofNat q))] [] h5 (fun r h' => gy_wf h' → Q r h') := by
    intro h5 rs g5 ers W5
    refine w_435_93 W5.1.1 ?_
    have e5 : zt_ob (zt_put (zd_tr d) ob (zn_rw_ Nd rs)) ob = some (zn_rw_ Nd rs) := if_pos rfl
    rw [eq]
    refine ow_time W5 n1 hi hob e5 (fun h6 g6 W6 => ?_)
    have eT : zt_put (zt_put (zd_tr d) ob (zn_rw_ Nd rs)) ob (zn_tm (zn_rw_ Nd rs) (zs_ck S)) = zt_row (zd_tr d) ob kind y' z' (zs_ck S) := by
      show (zt_ma (zd_tr d), fu (fu (zt_ob (zd_tr d)) ob _) ob _) = (zt_ma (zd_tr d), fu (zt_ob (zd_tr d)) ob _)
      rw [en, ers]
      congr 1
      funext x
      unfold fu
      by_cases u : x = ob
      · rw [if_pos u, if_pos u]
      · rw [if_neg u, if_neg u, if_neg u]
    have W6' : rOw h6 m (zs_row S (zd_no d) (zx_ch [6, ob, 0, kind, y', z', zs_ck S, zs_ac S] 0 0 []) (zs_pm S d rp).1) i t' d (zt_row (zd_tr d) ob kind y' z' (zs_ck S)) := by
      rw [← eT]
      exact W6
    have g06 : fr (tO m oDo fDo) h h6 := ((g1.up rfl rfl).trans (g2.up rfl rfl)).trans ((g5.up rfl rfl).trans (g6.up rfl rfl))
    have hwf' : zt_wf (zt_row (zd_tr d) ob kind y' z' (zs_ck S)) := by
      unfold zt_row
      rw [en]
      refine zt_wf_put hwf eN ?_ rfl rfl
      show fu (zn_at Nd) 6 (zs_ck S) 0 = zn_at Nd 0
      rw [fu, if_neg (by decide)]
    refine ow_tella W6' n4 n9 (by rw [g6.fld (f := 111) rfl, g5.fld (f := 111) rfl, g2.fld (f := 111) rfl, g1.fld (f := 111) rfl]; exact e111) hi hwf' hob (by decide) (fun h7 g7 R7 w7 => ?_)
    refine H h7 w7 (g06.trans (g7.up rfl rfl)) R7 ?_
    rw [g7.fld (f := 112) rfl, g6.fld (f := 112) rfl, g5.fld (f := 112) rfl, g2.fld (f := 112) rfl]
    exact e112
  by_cases k2 : kind = 2
  · refine ⟨fun u => absurd (by rw [k2]) u, fun _ => ⟨q, by rw [em]; exact ix_n hq (by omega), fun h5 a5 => ?_⟩⟩
    rw [em]
    have g5 : fr (tO m [49, 50, 51, 52] []) h2 h5 := by rw [a5]; exact fr.a rfl
    refine go h5 [] g5 (by rw [if_pos k2]) (rOw_rw W2 n1 hi hob eN g5 (fun x hx => ?_) (fun a x h1 h2 _ => by rw [a5, hi_n (by omega)]) (by rw [a5, ← eq, hi_e ⟨rfl, rfl⟩]; rfl) (Nat.zero_le _) (fun k hk => absurd hk (Nat.not_lt_zero _)))
    rw [a5, hi_n (by omega)]
  · obtain ⟨h4a, h4b, h4c⟩ := h4 k2
    rcases hy with ⟨q1, -⟩ | ⟨q1, q2, q3, q4⟩
    · exact absurd q1 k2
    · obtain ⟨L, eL⟩ : ∃ L, L = (zn_rw Nd).length := ⟨_, rfl⟩
      rw [← eL] at e49 l49 r9 h4a
      have ek : (Int32.ofNat 4) * (Int32.ofNat q) + (Int32.ofNat L) = (Int32.ofNat (4 * q + L)) := by rw [i_mul, i_add]
      refine ⟨fun _ => ⟨q, by rw [em]; exact ix_n hq (by omega), ?_⟩, fun u => absurd ((i_eq (by omega) (by decide)).mp u) k2⟩
      rw [em, e49, ek]
      refine ⟨4 * q + L, ix_n (by omega) (by omega), fun h6 a6 => ⟨4 * q + L, ix_n (by omega) (by omega), fun h8 a8 => ⟨4 * q + L, ix_n (by omega) (by omega), fun h10 a10 => ⟨q, ix_n hq (by omega), q, ix_n hq (by omega), fun h13 a13 => ?_⟩⟩⟩⟩
      have f49 : hh_i h10 (m + 49) q = (Int32.ofNat L) := by rw [a10, hi_n (by omega), a8, hi_n (by omega), a6, hi_n (by omega)]; exact e49
      rw [f49, i_add] at a13
      have g13 : fr (tO m [49, 50, 51, 52] []) h2 h13 := by rw [a13, a10, a8, a6]; exact (((fr.a rfl).trans (fr.a rfl)).trans (fr.a rfl)).trans (fr.a rfl)
      have el : (zn_rw Nd ++ [(kind, y', z')]).length = L + 1 := by rw [List.length_append, eL]; rfl
      refine go h13 (zn_rw Nd ++ [(kind, y', z')]) g13 (by rw [if_neg k2]) (rOw_rw W2 n1 hi hob eN g13 (fun x hx => ?_) (fun a x h1 h2 hx => ?_) (by rw [el, a13, ← eq, hi_e ⟨rfl, rfl⟩]) (by rw [el]; omega) (fun k hk => ?_))
      · rw [a13, hi_n (by omega), a10, hi_n (by omega), a8, hi_n (by omega), a6, hi_n (by omega)]
      · rw [a13, hi_n (by omega), a10, hi_n (by omega), a8, hi_n (by omega), a6, hi_n (by omega)]
      · rw [el] at hk
        rw [← eq]
        by_cases u : k = L
        · subst u
          have eg : (zn_rw Nd ++ [(kind, y', z')]).getD k (0, 0, 0) = (kind, y', z') := by
            rw [List.getD_eq_getElem?_getD, List.getElem?_append_right (by omega), show k - (zn_rw Nd).length = 0 by omega]
            rfl
          rw [eg]
          refine ⟨?_, ?_, ?_, by show kind < 2; omega, h4b, h4c⟩
          · rw [a13, hi_n (by omega), a10, hi_n (by omega), a8, hi_n (by omega), a6, hi_e ⟨rfl, rfl⟩]
          · rw [a13, hi_n (by omega), a10, hi_n (by omega), a8, hi_e ⟨rfl, rfl⟩, q1]
          · rw [a13, hi_n (by omega), a10, hi_e ⟨rfl, rfl⟩, q2]
        · have eg : (zn_rw Nd ++ [(kind, y', z')]).getD k (0, 0, 0) = (zn_rw Nd).getD k (0, 0, 0) := by
            rw [List.getD_eq_getElem?_getD, List.getD_eq_getElem?_getD, List.getElem?_append_left (by omega)]
          rw [eg]
          obtain ⟨x1, x2, x3, x4⟩ := r9 k (by omega)
          refine ⟨?_, ?_, ?_, x4⟩
          · rw [a13, hi_n (by omega), a10, hi_n (by omega), a8, hi_n (by omega), a6, hi_n (by omega)]; exact x1
          · rw [a13, hi_n (by omega), a10, hi_n (by omega), a8, hi_n (by omega), a6, hi_n (by omega)]; exact x2
          · rw [a13, hi_n (by omega), a10, hi_n (by omega), a8, hi_n (by omega), a6, hi_n (by omega)]; exact x3
end GR
