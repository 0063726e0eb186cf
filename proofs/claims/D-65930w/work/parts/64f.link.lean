/-! STAGE 3: one more name for a file -/
section LK
variable {h h' : hh_T} {m : Nat} {S : zS} {i t : Nat} {d : zD} {T : zT} {Q : Option Value ⊕ Nat → hh_T → Prop}
/-- bytes elsewhere stay -/
theorem fr_b {O F : List Nat} {b1 : Nat} (hT : tw_ok h m) (g : fr (tO m O F) h h') (ht : hh_tg h b1 = 101) (hO : (O.all fun o => !(Nat.beq (tw_t o) 0)) = true) (hb : ∀ o, o ∈ O → tw_t o = 101 → ¬ b1 = m + o) : hh_i h' b1 = hh_i h b1 := by
  refine g.out (Or.inr ⟨fun o ho e => ?_, fun e => ?_⟩)
  · have h0 : ¬ tw_t o = 0 := fun q => by
      have := List.all_eq_true.mp hO o ho
      rw [q] at this
      cases this
    have := (hT.2.2 o h0).1
    rw [← e, ht] at this
    exact hb o ho this.symm e
  · rw [e, hT.1] at ht
    exact absurd ht (by decide)
/-- one folder is told, in the midst of a change -/
theorem ow_tell {fo ob what : Nat} {rp : Bool} (R : rOw h m S i t d T) (e111 : hh_i h m 111 = bi rp) (hi : i < 8) (hfo : fo < 16) (hob : ob < 16) (hwh : what < 16)
    (H : ∀ h', fr (tO m [98, 101, 102] []) h h' → rTq h' m (zs_tl1 rp (zs_trc S (zd_no d) T) (zd_no d) fo ob what) → Q (.inl none) h') : gm_G 160 0 [some (.ref m), some (.int (Int32.ofNat i)), some (.int (Int32.ofNat fo)), some (.int (Int32.ofNat ob)), some (.int (Int32.ofNat what))] [] h Q := by
  obtain ⟨RQ, D, e63, TT, hot⟩ := R
  have RF := RQ.2.2.2.2.2.2.2.1
  have D1 : hh_i h (m + 59) i = (Int32.ofNat (zd_no d)) := D.1
  refine t_tellr (d := d) RQ.1 RF e111 hi D1 D.2.1 hfo hob hwh (fun h' g RF' => H h' g ?_)
  unfold zs_tl1
  cases rp with
  | true => exact rTq_F RQ g RF'
  | false => exact rTq_F RQ g RF'
/-- bytes that changes leave as they are -/
def by_ok (h : hh_T) (m b1 : Nat) : Prop := hh_tg h b1 = 101 ∧ hh_ln h b1 < 1000000 ∧ ¬ b1 = m + 56 ∧ ¬ b1 = m + 57
theorem by_ok.out {O F : List Nat} {b1 : Nat} (B : by_ok h m b1) (hT : tw_ok h m) (g : fr (tO m O F) h h') (hO : (O.all fun o => !(Nat.beq (tw_t o) 0) && (!(Nat.beq (tw_t o) 101) || Nat.beq o 56 || Nat.beq o 57)) = true) : hh_i h' b1 = hh_i h b1 ∧ by_ok h' m b1 := by
  refine ⟨fr_b hT g B.1 ?_ (fun o ho e => ?_), by unfold by_ok; rw [g.tg, g.ln]; exact B⟩
  · rw [List.all_eq_true] at hO ⊢
    intro o ho
    have := hO o ho
    rw [Bool.and_eq_true] at this
    exact this.1
  · have := List.all_eq_true.mp hO o ho
    rw [e, Bool.and_eq_true, Bool.or_eq_true, Bool.or_eq_true] at this
    rcases this.2 with (q | q) | q
    · cases q
    · rw [Nat.eq_of_beq_eq_true q]; exact B.2.2.1
    · rw [Nat.eq_of_beq_eq_true q]; exact B.2.2.2
theorem t_doLink {fo ob b1 a k : Nat} {Nf Nd : zN} {na : Int64} {rp : Bool} (R : rTq h m S) (w : gy_wf h) (N : zs_nt S d) (hi : i < 8) (D : td h m i d) (e111 : hh_i h m 111 = bi rp) (hfo : fo < 16) (hob : ob < 16) (eF : zt_ob (zd_tr d) fo = some Nf) (k2 : zn_at Nf 0 = 2) (h8 : zn_at Nf 5 < 8) (eN : zt_ob (zd_tr d) ob = some Nd) (k1 : zn_at Nd 0 = 1) (h4 : zn_at Nd 4 < 2000000000) (B : by_ok h m b1) (hl : a + k ≤ hh_ln h b1) (hk : nm_ok (hh_i h b1) a k = true) (hna : nm_v (hh_i h b1) a k = na)
    (H : ∀ h', gy_wf h' → fr (tO m oDo fDo) h h' → rTq h' m (zs_tl1 rp (zs_trc (zs_row S (zd_no d) (zx_ch [2, fo, ob, 0, 0, 0, zs_ck S, zs_ac S] na 0 []) (zs_pm S d rp).1) (zd_no d) (zt_link (zd_tr d) fo ob (zs_ck S) na)) (zd_no d) fo ob 1) → hh_i h' m 112 = (if (zs_pm S d rp).2 then (Int32.ofNat 1) else hh_i h m 112) → Q (.inl none) h') : gm_G 436 0 [some (.ref m), some (.int (Int32.ofNat i)), some (.int (Int32.ofNat fo)), some (.int (Int32.ofNat ob)), some (.ref b1), some (.int (Int32.ofNat a)), some (.int (Int32.ofNat k))] [] h Q := by
  obtain ⟨n1, n2, n3, n4, n5, n6, n7, n8, n9⟩ := id N
  have hne : ¬ fo = ob := fun e => by rw [e, eN] at eF; cases eF; omega
  have hk8 := (nm_ok_inv hk).2.1
  have hck : zs_ck S ≤ 2000000000 := R.2.1.2.2.2.2.2.2.2.1
  have hac : zs_ac S < 8 := R.2.1.2.2.2.2.2.2.2.2.2.1
  have Bb : ∀ x, gy_b (hh_i h b1 x) := fun x => w.2.1 _ _ B.1
  refine gy_use w ?_
  refine w_436_0 R.1 ?_
  refine t_beginp (f1 := fun _ => 0) (f2 := fun _ => 0) R w N hi D e111 (fun h1 w1 PB => ?_)
  have hT1 := R.1.fr PB.1
  obtain ⟨eb1, B1⟩ := B.out R.1 PB.1 rfl
  refine t_noteA hT1 w1 hi PB B1.1 (by rw [PB.1.ln]; exact hl) B1.2.1 (by omega) (fun h2 w2 g2 PB2 => ?_)
  rw [eb1] at PB2
  obtain ⟨R2, g02, e112⟩ := rTq_pb (n1 := na) (n2 := 0) (b := []) R N hi D PB2 (fun f hf => by
    rcases (show f = 0 ∨ f = 1 ∨ f = 2 ∨ f = 3 ∨ f = 4 ∨ f = 5 ∨ f = 6 ∨ f = 7 by omega) with u | u | u | u | u | u | u | u <;> subst u
    · exact (by decide : 2 < 2147483648)
    · exact (by omega : fo < 2147483648)
    · exact (by omega : ob < 2147483648)
    · exact (by decide : 0 < 2147483648)
    · exact (by decide : 0 < 2147483648)
    · exact (by decide : 0 < 2147483648)
    · exact (by omega : zs_ck S < 2147483648)
    · exact (by omega : zs_ac S < 2147483648)) (show 1 ≤ 2 by decide) (show 2 ≤ 11 by decide) (by decide) (by omega) (fun _ => by
      obtain ⟨z1, z2⟩ := nm_cg (f := hh_i h b1) (g := fun x => hh_i h b1 (a + x)) (p := a) (q := 0) (n := k) (fun x hx => by rw [Nat.zero_add])
      exact ⟨z1.trans hk, z2.trans hna⟩) (fun q => absurd q (show ¬ 2 = 4 by decide)) (fun q => absurd q (show ¬ 2 = 1 by decide)) (fun q => by
      rcases q with q | q
      · exact absurd q (show ¬ 2 = 7 by decide)
      · exact absurd q.1 (show ¬ 2 = 11 by decide)) (fun _ => rfl) (fun x _ => Bb _) (fun x hx => absurd hx (Nat.not_lt_zero _)) w2
  have D2 : td h2 m i d := D.sm (F := f0) (g02.sm rfl rfl)
  obtain ⟨eb2, B2⟩ := B.out R.1 g02 rfl
  refine t_ownq R2 w2 n1 n9 hi D2 (fun h3 t' w3 g3 W3 => ?_)
  have ht := W3.2.2.2.1.1
  obtain ⟨eb3, B3⟩ := B2.out (R.1.fr g02) g3 rfl
  rw [eb2] at eb3
  have em : (Int32.ofNat 16) * (Int32.ofNat t') + (Int32.ofNat fo) = (Int32.ofNat (16 * t' + fo)) := by rw [i_mul, i_add]
  have em2 : (Int32.ofNat 16) * (Int32.ofNat t') + (Int32.ofNat ob) = (Int32.ofNat (16 * t' + ob)) := by rw [i_mul, i_add]
  show gm_G 88 0 _ [] h3 _
  rw [em]
  refine gy_use w3 ?_
  refine ow_add (na := na) W3 w3 n1 hi hfo hob eF k2 h8 B3.1 (by rw [g3.ln, g02.ln]; exact hl) B3.2.1 B3.2.2.1 (by rw [eb3]; exact hk) (by rw [eb3]; exact hna) (fun h5 g5 W5 w5 => ?_)
  have e5 : zt_ob (zt_put (zd_tr d) fo (zn_ad0 Nf na ob)) ob = some Nd := (if_neg (fun q => hne q.symm)).trans eN
  have M5 := rOw_N W5 hob e5
  have v44 : hh_i h5 (m + 44) (16 * t' + ob) = (Int32.ofNat (zn_at Nd 4)) := (M5.1 4 (by decide)).1
  refine ⟨16 * t' + ob, by rw [em2]; exact ix_n (by omega) (by omega), 16 * t' + ob, by rw [em2]; exact ix_n (by omega) (by omega), fun h8 a8 => ?_⟩
  rw [v44, i_add] at a8
  have W8 := rOw_at (f := 4) W5 n1 hi hob e5 a8 (by decide) (by decide) (by omega) (fun q => by omega) (fun q => by omega)
  have g8 : fr (tO m [44] []) h5 h8 := by rw [a8]; exact fr.a rfl
  have e8 : zt_ob (zt_put (zt_put (zd_tr d) fo (zn_ad0 Nf na ob)) ob (zn_at_ Nd (fu (zn_at Nd) 4 (zn_at Nd 4 + 1)))) fo = some (zn_ad0 Nf na ob) := (if_neg hne).trans (if_pos rfl)
  refine ow_time W8 n1 hi hfo e8 (fun h9 g9 W9 => ?_)
  have e9 : zt_ob (zt_put (zt_put (zt_put (zd_tr d) fo (zn_ad0 Nf na ob)) ob (zn_at_ Nd (fu (zn_at Nd) 4 (zn_at Nd 4 + 1)))) fo (zn_tm (zn_ad0 Nf na ob) (zs_ck S))) ob = some (zn_at_ Nd (fu (zn_at Nd) 4 (zn_at Nd 4 + 1))) := (if_neg (fun q => hne q.symm)).trans (if_pos rfl)
  show gm_G 93 0 _ [] h9 _
  rw [em2]
  refine ow_time W9 n1 hi hob e9 (fun h10 g10 W10 => ?_)
  have enf : zt_n (zd_tr d) fo = Nf := by unfold zt_n; rw [eF]; rfl
  have end' : zt_n (zd_tr d) ob = Nd := by unfold zt_n; rw [eN]; rfl
  have eT : zt_put (zt_put (zt_put (zt_put (zd_tr d) fo (zn_ad0 Nf na ob)) ob (zn_at_ Nd (fu (zn_at Nd) 4 (zn_at Nd 4 + 1)))) fo (zn_tm (zn_ad0 Nf na ob) (zs_ck S))) ob (zn_tm (zn_at_ Nd (fu (zn_at Nd) 4 (zn_at Nd 4 + 1))) (zs_ck S)) = zt_link (zd_tr d) fo ob (zs_ck S) na := by
    unfold zt_link
    rw [enf, end']
    show (zt_ma (zd_tr d), fu (fu (fu (fu (zt_ob (zd_tr d)) fo _) ob _) fo _) ob _) = (zt_ma (zd_tr d), fu (fu (zt_ob (zd_tr d)) fo _) ob _)
    congr 1
    funext x
    unfold fu
    by_cases u : x = ob
    · rw [if_pos u, if_pos u]
      rfl
    · simp only [if_neg u]
      by_cases u2 : x = fo
      · simp only [if_pos u2]
        rfl
      · simp only [if_neg u2]
  rw [← eT] at H
  refine ow_tell W10 (by rw [g10.fld (f := 111) rfl, g9.fld (f := 111) rfl, g8.fld (f := 111) rfl, g5.fld (f := 111) rfl, g3.fld (f := 111) rfl, g02.fld (f := 111) rfl]; exact e111) hi hfo hob (by decide) (fun h11 g11 R11 w11 => ?_)
  refine H h11 w11 (((g02.up rfl rfl).trans (g3.up rfl rfl)).trans ((g5.up rfl rfl).trans ((g8.up rfl rfl).trans ((g9.up rfl rfl).trans ((g10.up rfl rfl).trans (g11.up rfl rfl)))))) R11 ?_
  rw [g11.fld (f := 112) rfl, g10.fld (f := 112) rfl, g9.fld (f := 112) rfl, g8.fld (f := 112) rfl, g5.fld (f := 112) rfl, g3.fld (f := 112) rfl]
  exact e112
end LK
