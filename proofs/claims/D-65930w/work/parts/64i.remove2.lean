/-! STAGE 3: an entry is removed, 2 -/
section RO2
variable {h h' : hh_T} {m : Nat} {S : zS} {i t : Nat} {d : zD} {T : zT} {Q : Option Value ⊕ Nat → hh_T → Prop}
theorem ow_clear {o : Nat} (R : rOw h m S i t d T) (up : zs_up S = true) (hi : i < 8) (ho : o < 16) (H : ∀ h', fr (tO m oCl []) h h' → rOw h' m S i t d (zt_ob_ T (fu (zt_ob T) o none)) → Q (.inl none) h') : gm_G 95 0 [some (.ref m), some (.int (Int32.ofNat ((16 * t + o))))] [] h Q := by
  have ht := R.2.2.2.1.1
  refine t_clearObject R.1.1 (by omega) (fun h' g c40 cO c55 => H h' g (rOw_ob R up hi ho g rfl rfl (fun q hq => ?_) (Or.inl ⟨rfl, c40⟩) (fun k p hk h1 => absurd c40 h1)))
  refine ⟨fun a h1 h2 => ?_, fun a k h1 h2 _ => ?_, fun a k h1 h2 hk => ?_, fun k _ => by rw [g.arr (o := 56) rfl], fun k _ => by rw [g.arr (o := 57) rfl]⟩
  · rcases (show a = 40 ∨ a = 41 ∨ a = 42 ∨ a = 43 ∨ a = 44 ∨ a = 45 ∨ a = 46 ∨ a = 47 ∨ a = 48 ∨ a = 49 by omega) with u | u | u | u | u | u | u | u | u | u <;> subst u
    · exact cO 40 q rfl hq
    · rw [g.arr (o := 41) rfl]
    · rw [g.arr (o := 42) rfl]
    · rw [g.arr (o := 43) rfl]
    · exact cO 44 q rfl hq
    · exact cO 45 q rfl hq
    · rw [g.arr (o := 46) rfl]
    · rw [g.arr (o := 47) rfl]
    · exact cO 48 q rfl hq
    · exact cO 49 q rfl hq
  · rw [g.arrs (P := fun o => Nat.ble 50 o && Nat.ble o 54) rfl (by rw [Bool.and_eq_true, Nat.ble_eq, Nat.ble_eq]; omega) (by omega)]
  · by_cases u : a = 55
    · subst u; rw [c55, if_neg (by omega)]
    · rw [g.arrs (P := fun o => Nat.ble 50 o && Nat.ble o 54) rfl (by rw [Bool.and_eq_true, Nat.ble_eq, Nat.ble_eq]; omega) (by omega)]
def oDr : List Nat := oDo ++ [97]
/-- told and, for a folder, no longer watched -/
def zs_rmF (rp : Bool) (S : zS) (n fo ob : Nat) (k2 : Bool) : zS := if k2 then zs_wend (zs_tl1 rp S n fo ob 2) n (some ob) else zs_tl1 rp S n fo ob 2
theorem t_doRemove {fo ob e : Nat} {Nf Nd : zN} {na : Int64} {rp : Bool} (R : rTq h m S) (w : gy_wf h) (N : zs_nt S d) (hi : i < 8) (D : td h m i d) (e111 : hh_i h m 111 = bi rp) (e63 : hh_i h (m + 63) i = (Int32.ofNat t)) (ht : t < 96) (hfo : fo < 16) (hob : ob < 16) (eF : zt_ob (zd_tr d) fo = some Nf) (k2 : zn_at Nf 0 = 2) (nd : ((zn_en Nf).map (fun x => x.1)).Nodup) (he : e < (zn_en Nf).length) (ee : tw_en h m (8 * (16 * t + fo) + e) (na, ob)) (eN : zt_ob (zd_tr d) ob = some Nd) (hne : ¬ fo = ob) (h4 : 1 ≤ zn_at Nd 4) (hk2 : zn_at Nd 0 = 2 → zn_at Nd 4 = 1)
    (H : ∀ h', gy_wf h' → fr (tO m oDr fDo) h h' → rTq h' m (zs_rmF rp (zs_trc (zs_row S (zd_no d) (zx_ch [3, fo, ob, 0, 0, 0, zs_ck S, zs_ac S] na 0 []) (zs_pm S d rp).1) (zd_no d) (zt_rem (zd_tr d) fo (zs_ck S) na)) (zd_no d) fo ob (decide (zn_at Nd 0 = 2))) → hh_i h' m 112 = (if (zs_pm S d rp).2 then (Int32.ofNat 1) else hh_i h m 112) → Q (.inl none) h') : gm_G 439 0 [some (.ref m), some (.int (Int32.ofNat i)), some (.int (Int32.ofNat fo)), some (.int (Int32.ofNat e))] [] h Q := by
  obtain ⟨n1, n2, n3, n4, n5, n6, n7, n8, n9⟩ := id N
  have hck : zs_ck S ≤ 2000000000 := R.2.1.2.2.2.2.2.2.2.1
  have hac : zs_ac S < 8 := R.2.1.2.2.2.2.2.2.2.2.2.1
  refine gy_use w ?_
  refine w_439_0 R.1 ?_
  refine t_ownq2 e63 R w n1 n9 hi D ht (fun h1 t' w1 g1 W1 s1 => ?_)
  have ht' := W1.2.2.2.1.1
  have F1 := rOw_N W1 hfo eF
  have l8 := (F1.2.2.2.2.2.2.2.2.2.1 k2).2.2.2.1
  have te : tw_en h1 m (8 * (16 * t' + fo) + e) (na, ob) := tw_en_so (s1 fo hfo) (by omega) ee
  obtain ⟨t53, -, nl, t54, tok, tnv⟩ := id te
  have nl8 := (nm_ok_inv tok).2.1
  have t53 : hh_i h1 (m + 53) (8 * (16 * t' + fo) + e) = (Int32.ofNat ob) := t53
  have em : (Int32.ofNat 16) * (Int32.ofNat t') + (Int32.ofNat fo) = (Int32.ofNat (16 * t' + fo)) := by rw [i_mul, i_add]
  have em2 : (Int32.ofNat 16) * (Int32.ofNat t') + (Int32.ofNat ob) = (Int32.ofNat (16 * t' + ob)) := by rw [i_mul, i_add]
  have ex : (Int32.ofNat 8) * (Int32.ofNat (16 * t' + fo)) + (Int32.ofNat e) = (Int32.ofNat (8 * (16 * t' + fo) + e)) := by rw [i_mul, i_add]
  have xe : gm_ix (Int32.ofNat (8 * (16 * t' + fo) + e)) (8 * (16 * t' + fo) + e) 12288 := ix_n (by omega) (by omega)
  have R1 : rTq h1 m S := by
    have := W1.1
    rw [zs_trc_id n9] at this
    exact this
  refine ⟨8 * (16 * t' + fo) + e, by rw [em, ex]; exact xe, ?_⟩
  rw [t53]
  refine t_beginp (f1 := fun _ => 0) (f2 := fun _ => 0) R1 w1 N hi W1.2.1 (by rw [g1.fld (f := 111) rfl]; exact e111) (fun h4' w4 PB => ?_)
  have hT4 := R1.1.fr PB.1
  have e56 : hh_i h4' (m + 56) = hh_i h1 (m + 56) := PB.1.arr rfl
  have l56 : hh_ln h4' (m + 56) = 98304 := (hT4.2.2 56 (by decide)).2
  refine ⟨8 * (16 * t' + fo) + e, by rw [em, ex]; exact xe, ?_⟩
  rw [show hh_i h4' (m + 54) (8 * (16 * t' + fo) + e) = (Int32.ofNat nl) by rw [PB.1.arr (o := 54) rfl]; exact t54, em, ex, i_mul]
  refine t_noteA hT4 w4 hi PB (hT4.2.2 56 (by decide)).1 (by rw [l56]; omega) (by rw [l56]; decide) (by omega) (fun h6 w6 g6 PB6 => ?_)
  rw [e56] at PB6
  have Bb : ∀ x, gy_b (hh_i h1 (m + 56) x) := fun x => w1.2.1 _ _ (R1.1.2.2 56 (by decide)).1
  obtain ⟨R6, g16, e112⟩ := rTq_pb (n1 := na) (n2 := 0) (b := []) R1 N hi W1.2.1 PB6 (fun f hf => by
    rcases (show f = 0 ∨ f = 1 ∨ f = 2 ∨ f = 3 ∨ f = 4 ∨ f = 5 ∨ f = 6 ∨ f = 7 by omega) with u | u | u | u | u | u | u | u <;> subst u
    · exact (by decide : 3 < 2147483648)
    · exact (by omega : fo < 2147483648)
    · exact (by omega : ob < 2147483648)
    · exact (by decide : 0 < 2147483648)
    · exact (by decide : 0 < 2147483648)
    · exact (by decide : 0 < 2147483648)
    · exact (by omega : zs_ck S < 2147483648)
    · exact (by omega : zs_ac S < 2147483648)) (show 1 ≤ 3 by decide) (show 3 ≤ 11 by decide) (by decide) (by omega) (fun _ => by
      obtain ⟨z1, z2⟩ := nm_cg (f := hh_i h1 (m + 56)) (g := fun x => hh_i h1 (m + 56) (8 * (8 * (16 * t' + fo) + e) + x)) (p := 8 * (8 * (16 * t' + fo) + e)) (q := 0) (n := nl) (fun x hx => by rw [Nat.zero_add])
      exact ⟨z1.trans tok, z2.trans tnv⟩) (fun q => absurd q (show ¬ 3 = 4 by decide)) (fun q => absurd q (show ¬ 3 = 1 by decide)) (fun q => by
      rcases q with q | q
      · exact absurd q (show ¬ 3 = 7 by decide)
      · exact absurd q.1 (show ¬ 3 = 11 by decide)) (fun _ => rfl) (fun x _ => Bb _) (fun x hx => absurd hx (Nat.not_lt_zero _)) w6
  have W6 := rOw_g (S' := zs_row S (zd_no d) (zx_ch [3, fo, ob, 0, 0, 0, zs_ck S, zs_ac S] na 0 []) (zs_pm S d rp).1) W1 hi n9 rfl R6 g16 rfl
  obtain ⟨S0, eS0⟩ : ∃ S0, S0 = zs_row S (zd_no d) (zx_ch [3, fo, ob, 0, 0, 0, zs_ck S, zs_ac S] na 0 []) (zs_pm S d rp).1 := ⟨_, rfl⟩
  have up0 : zs_up S0 = true := by rw [eS0]; exact n1
  have ck0 : zs_ck S0 = zs_ck S := by rw [eS0]; rfl
  rw [← eS0] at W6 H
  have te6 : tw_en h6 m (8 * (16 * t' + fo) + e) (na, ob) := tw_en_so (so_fr g16 rfl) (by omega) te
  show gm_G 102 0 _ [] h6 _
  refine ow_drop W6 w6 up0 hi hfo eF k2 nd he te6 (fun h7 g7 W7 => ?_)
  have e7 : zt_ob (zt_put (zd_tr d) fo (zn_dr0 Nf na)) fo = some (zn_dr0 Nf na) := if_pos rfl
  show gm_G 93 0 _ [] h7 _
  refine ow_time W7 up0 hi hfo e7 (fun h8 g8 W8 => ?_)
  rw [ck0] at W8
  have e8 : zt_ob (zt_put (zt_put (zd_tr d) fo (zn_dr0 Nf na)) fo (zn_tm (zn_dr0 Nf na) (zs_ck S))) ob = some Nd := (if_neg (fun q => hne q.symm)).trans ((if_neg (fun q => hne q.symm)).trans eN)
  have M8 := rOw_N W8 hob e8
  have v44 : hh_i h8 (m + 44) (16 * t' + ob) = (Int32.ofNat (zn_at Nd 4)) := (M8.1 4 (by decide)).1
  have l44 := (M8.1 4 (by decide)).2
  have xo : gm_ix (Int32.ofNat (16 * t' + ob)) (16 * t' + ob) 1536 := ix_n (by omega) (by omega)
  refine ⟨16 * t' + ob, by rw [em2]; exact xo, 16 * t' + ob, by rw [em2]; exact xo, fun h11 a11 => ?_⟩
  rw [v44, i_sub h4] at a11
  have W11 := rOw_at (f := 4) W8 up0 hi hob e8 a11 (by decide) (by decide) (by omega) (fun q => by omega) (fun q => by omega)
  have g11 : fr (tO m [44] []) h8 h11 := by rw [a11]; exact fr.a rfl
  have g1b : fr (tO m oDr fDo) h h11 := (g1.up rfl rfl).trans ((g16.up rfl rfl).trans ((g7.up rfl rfl).trans ((g8.up rfl rfl).trans (g11.up rfl rfl))))
  obtain ⟨T3, eT3⟩ : ∃ T3, T3 = zt_put (zt_put (zt_put (zd_tr d) fo (zn_dr0 Nf na)) fo (zn_tm (zn_dr0 Nf na) (zs_ck S))) ob (zn_at_ Nd (fu (zn_at Nd) 4 (zn_at Nd 4 - 1))) := ⟨_, rfl⟩
  rw [← eT3] at W11
  have e3 : zt_ob T3 ob = some (zn_at_ Nd (fu (zn_at Nd) 4 (zn_at Nd 4 - 1))) := by rw [eT3]; exact if_pos rfl
  have x111 : hh_i h11 m 111 = bi rp := by rw [g11.fld (f := 111) rfl, g8.fld (f := 111) rfl, g7.fld (f := 111) rfl, g16.fld (f := 111) rfl, g1.fld (f := 111) rfl]; exact e111
  have x112 : hh_i h11 m 112 = (if (zs_pm S d rp).2 then (Int32.ofNat 1) else hh_i h m 112) := by
    rw [g11.fld (f := 112) rfl, g8.fld (f := 112) rfl, g7.fld (f := 112) rfl, e112, g1.fld (f := 112) rfl]
  have RF11 : rT_F h11 m (zs_F S0) := W11.1.2.2.2.2.2.2.2.1
  refine t_tellr (S := S0) (d := d) W11.1.1 RF11 x111 hi W11.2.1.1 W11.2.1.2.1 hfo hob (by decide) (fun h12 g12 RF12 => ?_)
  have W12 := rOw_F rfl W11 hi g12 RF12
  obtain ⟨F1', eF1⟩ : ∃ F1', F1' = zs_F (if rp then S0 else zs_tell S0 (zd_no d) fo ob 2) := ⟨_, rfl⟩
  rw [← eF1] at W12 RF12
  have M12 := rOw_N W12 hob e3
  have x44 : hh_i h12 (m + 44) (16 * t' + ob) = (Int32.ofNat (zn_at Nd 4 - 1)) := (M12.1 4 (by decide)).1
  have x40 : hh_i h12 (m + 40) (16 * t' + ob) = (Int32.ofNat (zn_at Nd 0)) := (M12.1 0 (by decide)).1
  have l40 : zn_at Nd 0 < 2147483648 := (M12.1 0 (by decide)).2
  have enf : zt_n (zd_tr d) fo = Nf := by unfold zt_n; rw [eF]; rfl
  have end' : zt_n (zd_tr d) ob = Nd := by unfold zt_n; rw [eN]; rfl
  have zf : zn_f (zt_n (zd_tr d) fo) na = some ob := by
    rw [enf]
    obtain ⟨x, hx, tx⟩ := (F1.2.2.2.2.2.2.2.2.2.1 k2).2.2.2.2.1 e he
    have : x = (na, ob) := tw_en_det tx te
    rw [this] at hx
    exact zn_f_some (nd_e nd) hx rfl
  have eRem : zt_rem (zd_tr d) fo (zs_ck S) na = if 1 < zn_at Nd 4 then zt_put (zt_put (zd_tr d) fo (zn_drop Nf na (zs_ck S))) ob (zn_nm Nd (zn_at Nd 4 - 1) (zs_ck S)) else zt_ob_ (zd_tr d) (fu (fu (zt_ob (zd_tr d)) fo (some (zn_drop Nf na (zs_ck S)))) ob none) := by
    unfold zt_rem
    rw [zf]
    show (if 1 < zn_at (zt_n (zd_tr d) ob) 4 then _ else _) = _
    rw [end', enf]
  refine ⟨16 * t' + ob, by rw [em2]; exact xo, ?_⟩
  rw [x44]
  -- the object goes
  have gone : ∀ h13 (F2 : zF), fr (tO m [97] []) h12 h13 → rOw h13 m (zs_F_ S0 F2) i t' d T3 → zn_at Nd 4 = 1 → (∀ hz, rTq hz m (zs_trc (zs_F_ S0 F2) (zd_no d) (zt_rem (zd_tr d) fo (zs_ck S) na)) → rTq hz m (zs_rmF rp (zs_trc S0 (zd_no d) (zt_rem (zd_tr d) fo (zs_ck S) na)) (zd_no d) fo ob (decide (zn_at Nd 0 = 2)))) → gm_G 439 207 [some (.ref m), none, none, none, none, none, none, some (.int (Int32.ofNat ((16 * t' + ob))))] [] h13 (fun r h' => gy_wf h' → Q r h') := by
    intro h13 F2 g13 W13 h41 cv
    refine w_439_207 W13.1.1 ?_
    refine ow_clear W13 up0 hi hob (fun h14 g14 W14 w14 => ?_)
    have eT : zt_ob_ T3 (fu (zt_ob T3) ob none) = zt_rem (zd_tr d) fo (zs_ck S) na := by
      rw [eRem, if_neg (by omega), eT3]
      show (zt_ma (zd_tr d), fu (fu (fu (fu (zt_ob (zd_tr d)) fo _) fo _) ob _) ob none) = (zt_ma (zd_tr d), fu (fu (zt_ob (zd_tr d)) fo _) ob none)
      congr 1
      funext x
      unfold fu
      by_cases u : x = ob
      · simp only [if_pos u]
      · simp only [if_neg u]
        by_cases u2 : x = fo
        · simp only [if_pos u2]
          rfl
        · simp only [if_neg u2]
    rw [eT] at W14
    refine H h14 w14 (g1b.trans ((g12.up rfl rfl).trans ((g13.up rfl rfl).trans (g14.up rfl rfl)))) (cv h14 W14.1) ?_
    rw [g14.fld (f := 112) rfl, g13.fld (f := 112) rfl, g12.fld (f := 112) rfl]
    exact x112
  by_cases h41 : 1 < zn_at Nd 4
  · refine ⟨fun z => absurd (by rw [i_lt (by decide) (by omega)]; omega) z, fun _ => ?_⟩
    rw [em2]
    refine ow_time W12 up0 hi hob e3 (fun h15 g15 W15 w15 => ?_)
    have eT : zt_put T3 ob (zn_tm (zn_at_ Nd (fu (zn_at Nd) 4 (zn_at Nd 4 - 1))) (zs_ck S)) = zt_rem (zd_tr d) fo (zs_ck S) na := by
      rw [eRem, if_pos h41, eT3]
      show (zt_ma (zd_tr d), fu (fu (fu (fu (zt_ob (zd_tr d)) fo _) fo _) ob _) ob _) = (zt_ma (zd_tr d), fu (fu (zt_ob (zd_tr d)) fo _) ob _)
      congr 1
      funext x
      unfold fu
      by_cases u : x = ob
      · simp only [if_pos u]
        rfl
      · simp only [if_neg u]
        by_cases u2 : x = fo
        · simp only [if_pos u2]
          rfl
        · simp only [if_neg u2]
    have ck1 : zs_ck (zs_F_ S0 F1') = zs_ck S := ck0
    rw [ck1, eT] at W15
    refine H h15 w15 (g1b.trans ((g12.up rfl rfl).trans (g15.up rfl rfl))) ?_ ?_
    · have R15 := W15.1
      have hk : ¬ zn_at Nd 0 = 2 := fun q => by have := hk2 q; omega
      unfold zs_rmF
      rw [decide_eq_false hk, if_neg (by decide)]
      rw [eF1] at R15
      unfold zs_tl1
      cases rp with
      | true => exact R15
      | false => exact R15
    · rw [g15.fld (f := 112) rfl, g12.fld (f := 112) rfl]
      exact x112
  · have h1 : zn_at Nd 4 = 1 := by omega
    refine ⟨fun _ => ⟨16 * t' + ob, by rw [em2]; exact xo, ?_⟩, fun z => absurd z (by rw [i_lt (by decide) (by omega)]; omega)⟩
    rw [x40, em2]
    refine ⟨fun z => ?_, fun z => ?_⟩
    · have hk : ¬ zn_at Nd 0 = 2 := fun q => z (by rw [q])
      refine gone h12 F1' (fr.refl _ _) W12 h1 (fun hz Rz => ?_)
      unfold zs_rmF
      rw [decide_eq_false hk, if_neg (by decide)]
      rw [eF1] at Rz
      unfold zs_tl1
      cases rp with
      | true => exact Rz
      | false => exact Rz
    · have hk : zn_at Nd 0 = 2 := (i_eq l40 (by decide)).mp z
      have RFx : rT_F h12 m (zs_F (zs_F_ S0 F1')) := RF12
      refine t_rm149 (S := zs_F_ S0 F1') (d := d) W12.1.1 RFx hi W12.2.1.1 W12.2.1.2.1 hob (fun h13 g13 RF13 => ?_)
      have W13 := rOw_F rfl W12 hi g13 RF13
      refine gone h13 (zs_F (zs_wend (zs_F_ S0 F1') (zd_no d) (some ob))) g13 W13 h1 (fun hz Rz => ?_)
      unfold zs_rmF
      rw [decide_eq_true hk, if_pos rfl]
      rw [eF1] at Rz
      unfold zs_tl1
      cases rp with
      | true => exact Rz
      | false => exact Rz
end RO2
