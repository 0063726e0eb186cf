/-! STAGE 3: an entry is moved -/
section MV
variable {h h' : hh_T} {m : Nat} {S : zS} {i t : Nat} {d : zD} {T : zT} {Q : Option Value ⊕ Nat → hh_T → Prop}
theorem tn_pa {q to : Nat} {N : zN} (e : h' = hh_wi h (m + 48) q (Int32.ofNat to)) (hto : to < 16) (R : tn h m q N) : tn h' m q (zn_pa_ N to) := by
  obtain ⟨r1, r2, r3, r4, r5, r6, r7, r8, r9, r10, r11, r12⟩ := R
  have g : fr (tO m [48] []) h h' := by rw [e]; exact fr.a rfl
  have b : ∀ f, f < 8 → hh_i h' (m + (40 + f)) = hh_i h (m + (40 + f)) := fun f hf => g.arrs (P := fun o => Nat.ble 40 o && Nat.ble o 47) rfl (by rw [Bool.and_eq_true, Nat.ble_eq, Nat.ble_eq]; omega) (by omega)
  refine ⟨fun f hf => by rw [b f hf]; exact r1 f hf, r2, r3, r4, r5, r6, by rw [g.arr (o := 49) rfl]; exact r7, r8, by rw [g.arr (o := 50) rfl, g.arr (o := 51) rfl, g.arr (o := 52) rfl]; exact r9, fun z => ?_, by rw [g.arr (o := 57) rfl]; exact r11, fun k hk => ?_⟩
  · obtain ⟨s1, s2, s3, s4, s5, s6⟩ := r10 z
    refine ⟨by rw [e, hi_e ⟨rfl, rfl⟩]; rfl, hto, s3, s4, ?_, ?_⟩
    · unfold tw_en
      rw [g.arr (o := 53) rfl, g.arr (o := 54) rfl, g.arr (o := 56) rfl]
      exact s5
    · unfold tw_en
      rw [g.arr (o := 53) rfl, g.arr (o := 54) rfl, g.arr (o := 56) rfl]
      exact s6
  · rw [g.arr (o := 55) rfl]
    rcases r12 k hk with z | ⟨b1, p, z1, z2, z3, z4, z5⟩
    · exact Or.inl z
    · exact Or.inr ⟨b1, p, z1, z2, z3, tb_f8 z4 g rfl, z5⟩
theorem rOw_pa {o to : Nat} {N : zN} (R : rOw h m S i t d T) (up : zs_up S = true) (hi : i < 8) (ho : o < 16) (eN : zt_ob T o = some N) (e : h' = hh_wi h (m + 48) (16 * t + o) (Int32.ofNat to)) (hto : to < 16) : rOw h' m S i t d (zt_put T o (zn_pa_ N to)) := by
  have R0 := rOw_N R ho eN
  have g : fr (tO m [48] []) h h' := by rw [e]; exact fr.a rfl
  refine rOw_ob R up hi ho g rfl rfl (fun q hq => ?_) (Or.inr ⟨_, rfl, tn_pa e hto R0⟩) (fun k p hk h1 h2 hp => ?_)
  · exact ⟨fun a h1 h2 => by rw [e, hi_n (by omega)], fun a k h1 h2 _ => by rw [e, hi_n (by omega)], fun a k h1 h2 _ => by rw [e, hi_n (by omega)], fun k _ => by rw [e, hi_n (by omega)], fun k _ => by rw [e, hi_n (by omega)]⟩
  · refine ⟨tn_k0 R0, ?_⟩
    rw [g.arr (o := 55) rfl] at h2
    exact h2
theorem fu_get {α : Type} (f : Nat → α) (k : Nat) (v : α) : fu f k v k = v := if_pos rfl
theorem fu_ne {α : Type} {f : Nat → α} {k j : Nat} {v : α} (hj : ¬ j = k) : fu f k v j = f j := if_neg hj
theorem fu_fu {α : Type} (f : Nat → α) (k : Nat) (v v' : α) : fu (fu f k v) k v' = fu f k v' := by
  funext x
  unfold fu
  by_cases u : x = k
  · rw [if_pos u, if_pos u]
  · rw [if_neg u, if_neg u, if_neg u]
theorem zt_put_put (T : zT) (o : Nat) (N N' : zN) : zt_put (zt_put T o N) o N' = zt_put T o N' := by
  show (zt_ma T, fu (fu (zt_ob T) o _) o _) = (zt_ma T, fu (zt_ob T) o _)
  rw [fu_fu]
theorem zt_put_sw {T : zT} {o o' : Nat} (hne : ¬ o = o') (N N' : zN) : zt_put (zt_put T o N) o' N' = zt_put (zt_put T o' N') o N := by
  show (zt_ma T, fu (fu (zt_ob T) o _) o' _) = (zt_ma T, fu (fu (zt_ob T) o' _) o _)
  congr 1
  funext x
  unfold fu
  by_cases u : x = o'
  · have u2 : ¬ x = o := fun z => hne (z.symm.trans u)
    simp only [if_pos u, if_neg u2]
  · simp only [if_neg u]
/-- the moved entry, when it stays in its folder -/
theorem zn_mv_eq (N : zN) (na n2 : Int64) (ob tm : Nat) : zn_tm (zn_tm (zn_ad0 (zn_dr0 N na) n2 ob) tm) tm = zn_add (zn_drop N na tm) n2 ob tm := by
  have : fu (fu (fu (fu (zn_at N) 5 (zn_at N 5 - 1)) 5 (fu (zn_at N) 5 (zn_at N 5 - 1) 5 + 1)) 6 tm) 6 tm = fu (fu (fu (fu (zn_at N) 5 (zn_at N 5 - 1)) 6 tm) 5 (fu (fu (zn_at N) 5 (zn_at N 5 - 1)) 6 tm 5 + 1)) 6 tm := by
    rw [fu_fu, fu_fu, fu_get, fu_ne (show ¬ 5 = 6 by decide), fu_get]
    funext x
    unfold fu
    by_cases u : x = 6
    · simp only [if_pos u]
    · simp only [if_neg u]
      by_cases u2 : x = 5
      · simp only [if_pos u2]
      · simp only [if_neg u2]
  exact congrArg (fun f => (f, zn_rw N, zn_ins (n2, ob) ((zn_en N).filter (fun x => !(decide (x.1 = na)))), zn_pa N, zn_ph N, zn_pt N)) this
theorem zs_tl1_F (rp : Bool) (S : zS) (n fo ob w : Nat) : zs_F_ S (zs_F (zs_tl1 rp S n fo ob w)) = zs_tl1 rp S n fo ob w := by cases rp <;> rfl
theorem zs_tl1_trc (rp : Bool) (S : zS) (k : Nat) (T : zT) (n fo ob w : Nat) : zs_tl1 rp (zs_trc S k T) n fo ob w = zs_trc (zs_tl1 rp S n fo ob w) k T := by cases rp <;> rfl
/-- watches of the two folders are told -/
def zs_mvF (rp : Bool) (S : zS) (n fo to ob : Nat) : zS := zs_tl1 rp (zs_tl1 rp S n fo ob 3) n to ob 4
theorem t_doMove {fo to ob e b1 a k : Nat} {Nf Nt Nd : zN} {na n2 : Int64} {rp : Bool} (R : rTq h m S) (w : gy_wf h) (N : zs_nt S d) (hi : i < 8) (D : td h m i d) (e111 : hh_i h m 111 = bi rp) (e63 : hh_i h (m + 63) i = (Int32.ofNat t)) (ht : t < 96) (hfo : fo < 16) (hto : to < 16) (hob : ob < 16) (eF : zt_ob (zd_tr d) fo = some Nf) (k2 : zn_at Nf 0 = 2) (nd : ((zn_en Nf).map (fun x => x.1)).Nodup) (he : e < (zn_en Nf).length) (ee : tw_en h m (8 * (16 * t + fo) + e) (na, ob)) (eTo : zt_ob (zd_tr d) to = some Nt) (k2t : zn_at Nt 0 = 2) (h8 : ¬ to = fo → zn_at Nt 5 < 8) (eN : zt_ob (zd_tr d) ob = some Nd) (hne : ¬ fo = ob) (hne2 : ¬ to = ob)
    (B : by_ok h m b1) (hl : a + k ≤ hh_ln h b1) (hk : nm_ok (hh_i h b1) a k = true) (hna : nm_v (hh_i h b1) a k = n2)
    (H : ∀ h', gy_wf h' → fr (tO m oDo fDo) h h' → rTq h' m (zs_mvF rp (zs_trc (zs_row S (zd_no d) (zx_ch [4, fo, ob, to, 0, 0, zs_ck S, zs_ac S] na n2 []) (zs_pm S d rp).1) (zd_no d) (zt_move (zd_tr d) fo to (zs_ck S) na n2)) (zd_no d) fo to ob) → hh_i h' m 112 = (if (zs_pm S d rp).2 then (Int32.ofNat 1) else hh_i h m 112) → Q (.inl none) h') : gm_G 438 0 [some (.ref m), some (.int (Int32.ofNat i)), some (.int (Int32.ofNat fo)), some (.int (Int32.ofNat e)), some (.int (Int32.ofNat to)), some (.ref b1), some (.int (Int32.ofNat a)), some (.int (Int32.ofNat k))] [] h Q := by
  obtain ⟨n1, n2', n3, n4, n5, n6, n7, n8, n9⟩ := id N
  have hck : zs_ck S ≤ 2000000000 := R.2.1.2.2.2.2.2.2.2.1
  have hac : zs_ac S < 8 := R.2.1.2.2.2.2.2.2.2.2.2.1
  have hk8 := (nm_ok_inv hk).2.1
  have Bb1 : ∀ x, gy_b (hh_i h b1 x) := fun x => w.2.1 _ _ B.1
  refine gy_use w ?_
  refine w_438_0 R.1 ?_
  refine t_ownq2 e63 R w n1 n9 hi D ht (fun h1 t' w1 g1 W1 s1 => ?_)
  have ht' := W1.2.2.2.1.1
  have F1 := rOw_N W1 hfo eF
  have l8 := (F1.2.2.2.2.2.2.2.2.2.1 k2).2.2.2.1
  have a5 := (F1.2.2.2.2.2.2.2.2.2.1 k2).2.2.1
  have te : tw_en h1 m (8 * (16 * t' + fo) + e) (na, ob) := tw_en_so (s1 fo hfo) (by omega) ee
  obtain ⟨t53, -, nl, t54, tok, tnv⟩ := id te
  have nl8 := (nm_ok_inv tok).2.1
  have t53 : hh_i h1 (m + 53) (8 * (16 * t' + fo) + e) = (Int32.ofNat ob) := t53
  have em : (Int32.ofNat 16) * (Int32.ofNat t') + (Int32.ofNat fo) = (Int32.ofNat (16 * t' + fo)) := by rw [i_mul, i_add]
  have emt : (Int32.ofNat 16) * (Int32.ofNat t') + (Int32.ofNat to) = (Int32.ofNat (16 * t' + to)) := by rw [i_mul, i_add]
  have em2 : (Int32.ofNat 16) * (Int32.ofNat t') + (Int32.ofNat ob) = (Int32.ofNat (16 * t' + ob)) := by rw [i_mul, i_add]
  have ex : (Int32.ofNat 8) * (Int32.ofNat (16 * t' + fo)) + (Int32.ofNat e) = (Int32.ofNat (8 * (16 * t' + fo) + e)) := by rw [i_mul, i_add]
  have xe : gm_ix (Int32.ofNat (8 * (16 * t' + fo) + e)) (8 * (16 * t' + fo) + e) 12288 := ix_n (by omega) (by omega)
  have R1 : rTq h1 m S := by
    have := W1.1
    rw [zs_trc_id n9] at this
    exact this
  obtain ⟨eb1, B1⟩ := B.out R.1 g1 rfl
  refine ⟨8 * (16 * t' + fo) + e, by rw [em, ex]; exact xe, ?_⟩
  rw [t53]
  refine t_beginp (f1 := fun _ => 0) (f2 := fun _ => 0) R1 w1 N hi W1.2.1 (by rw [g1.fld (f := 111) rfl]; exact e111) (fun h4' w4 PB => ?_)
  have hT4 := R1.1.fr PB.1
  have e56 : hh_i h4' (m + 56) = hh_i h1 (m + 56) := PB.1.arr rfl
  have l56 : hh_ln h4' (m + 56) = 98304 := (hT4.2.2 56 (by decide)).2
  refine ⟨8 * (16 * t' + fo) + e, by rw [em, ex]; exact xe, ?_⟩
  rw [show hh_i h4' (m + 54) (8 * (16 * t' + fo) + e) = (Int32.ofNat nl) by rw [PB.1.arr (o := 54) rfl]; exact t54, em, ex, i_mul]
  refine t_noteA hT4 w4 hi PB (hT4.2.2 56 (by decide)).1 (by rw [l56]; omega) (by rw [l56]; decide) (by omega) (fun h6 w6 g6 PB6 => ?_)
  rw [e56] at PB6
  obtain ⟨eb6, B6⟩ := B1.out R1.1 PB6.1 rfl
  rw [eb1] at eb6
  refine t_noteB (hT4.fr g6) w6 hi PB6 B6.1 (by rw [PB6.1.ln, g1.ln]; exact hl) B6.2.1 (by omega) (fun h7 w7 g7 PB7 => ?_)
  rw [eb6] at PB7
  have Bb : ∀ x, gy_b (hh_i h1 (m + 56) x) := fun x => w1.2.1 _ _ (R1.1.2.2 56 (by decide)).1
  obtain ⟨R7, g17, e112⟩ := rTq_pb (n1 := na) (n2 := n2) (b := []) R1 N hi W1.2.1 PB7 (fun f hf => by
    rcases (show f = 0 ∨ f = 1 ∨ f = 2 ∨ f = 3 ∨ f = 4 ∨ f = 5 ∨ f = 6 ∨ f = 7 by omega) with u | u | u | u | u | u | u | u <;> subst u
    · exact (by decide : 4 < 2147483648)
    · exact (by omega : fo < 2147483648)
    · exact (by omega : ob < 2147483648)
    · exact (by omega : to < 2147483648)
    · exact (by decide : 0 < 2147483648)
    · exact (by decide : 0 < 2147483648)
    · exact (by omega : zs_ck S < 2147483648)
    · exact (by omega : zs_ac S < 2147483648)) (show 1 ≤ 4 by decide) (show 4 ≤ 11 by decide) (by omega) (by omega) (fun _ => by
      obtain ⟨z1, z2⟩ := nm_cg (f := hh_i h1 (m + 56)) (g := fun x => hh_i h1 (m + 56) (8 * (8 * (16 * t' + fo) + e) + x)) (p := 8 * (8 * (16 * t' + fo) + e)) (q := 0) (n := nl) (fun x hx => by rw [Nat.zero_add])
      exact ⟨z1.trans tok, z2.trans tnv⟩) (fun _ => by
      obtain ⟨z1, z2⟩ := nm_cg (f := hh_i h b1) (g := fun x => hh_i h b1 (a + x)) (p := a) (q := 0) (n := k) (fun x hx => by rw [Nat.zero_add])
      exact ⟨z1.trans hk, z2.trans hna⟩) (fun q => absurd q (show ¬ 4 = 1 by decide)) (fun q => by
      rcases q with q | q
      · exact absurd q (show ¬ 4 = 7 by decide)
      · exact absurd q.1 (show ¬ 4 = 11 by decide)) (fun q => by
      rcases q with q | q
      · exact absurd q (show ¬ 4 = 2 by decide)
      · exact absurd q (show ¬ 4 = 3 by decide)) (fun x _ => Bb _) (fun x _ => Bb1 _) w7
  have W7 := rOw_g (S' := zs_row S (zd_no d) (zx_ch [4, fo, ob, to, 0, 0, zs_ck S, zs_ac S] na n2 []) (zs_pm S d rp).1) W1 hi n9 rfl R7 g17 rfl
  obtain ⟨S0, eS0⟩ : ∃ S0, S0 = zs_row S (zd_no d) (zx_ch [4, fo, ob, to, 0, 0, zs_ck S, zs_ac S] na n2 []) (zs_pm S d rp).1 := ⟨_, rfl⟩
  have up0 : zs_up S0 = true := by rw [eS0]; exact n1
  have ck0 : zs_ck S0 = zs_ck S := by rw [eS0]; rfl
  rw [← eS0] at W7 H
  have te7 : tw_en h7 m (8 * (16 * t' + fo) + e) (na, ob) := tw_en_so (so_fr g17 rfl) (by omega) te
  obtain ⟨eb7, B7⟩ := B1.out R1.1 g17 rfl
  rw [eb1] at eb7
  show gm_G 102 0 _ [] h7 _
  refine gy_use w7 ?_
  refine ow_drop W7 w7 up0 hi hfo eF k2 nd he te7 (fun h8' g8 W8 w8 => ?_)
  obtain ⟨eb8, B8⟩ := B7.out W7.1.1 g8 rfl
  rw [eb7] at eb8
  -- the folder it comes to
  obtain ⟨N1, eN1⟩ : ∃ N1, N1 = (if to = fo then zn_dr0 Nf na else Nt) := ⟨_, rfl⟩
  have e8 : zt_ob (zt_put (zd_tr d) fo (zn_dr0 Nf na)) to = some N1 := by
    show fu (zt_ob (zd_tr d)) fo _ to = _
    rw [fu, eN1]
    by_cases u : to = fo
    · rw [if_pos u, if_pos u]
    · rw [if_neg u, if_neg u]; exact eTo
  have kN1 : zn_at N1 0 = 2 := by
    rw [eN1]
    by_cases u : to = fo
    · rw [if_pos u]
      show fu (zn_at Nf) 5 (zn_at Nf 5 - 1) 0 = 2
      rw [fu_ne (by decide)]
      exact k2
    · rw [if_neg u]; exact k2t
  have sN1 : zn_at N1 5 < 8 := by
    rw [eN1]
    by_cases u : to = fo
    · rw [if_pos u]
      show fu (zn_at Nf) 5 (zn_at Nf 5 - 1) 5 < 8
      rw [fu_get]
      omega
    · rw [if_neg u]; exact h8 u
  show gm_G 88 0 _ [] h8' _
  rw [emt]
  refine ow_add (na := n2) W8 w8 up0 hi hto hob e8 kN1 sN1 B8.1 (by rw [g8.ln, g17.ln, g1.ln]; exact hl) B8.2.1 B8.2.2.1 (by rw [eb8]; exact hk) (by rw [eb8]; exact hna) (fun h9 g9 W9 => ?_)
  show gm_G 93 0 _ [] h9 _
  obtain ⟨T2, eT2⟩ : ∃ T2, T2 = zt_put (zt_put (zd_tr d) fo (zn_dr0 Nf na)) to (zn_ad0 N1 n2 ob) := ⟨_, rfl⟩
  rw [← eT2] at W9
  obtain ⟨N2, eN2⟩ : ∃ N2, N2 = (if to = fo then zn_ad0 N1 n2 ob else zn_dr0 Nf na) := ⟨_, rfl⟩
  have e9 : zt_ob T2 fo = some N2 := by
    rw [eT2, eN2]
    show fu (fu (zt_ob (zd_tr d)) fo _) to _ fo = _
    by_cases u : to = fo
    · rw [u, fu_get, if_pos rfl]
    · rw [fu_ne (fun z => u z.symm), fu_get, if_neg u]
  refine ow_time W9 up0 hi hfo e9 (fun h10 g10 W10 => ?_)
  rw [ck0] at W10
  show gm_G 93 0 _ [] h10 _
  obtain ⟨N3, eN3⟩ : ∃ N3, N3 = (if to = fo then zn_tm N2 (zs_ck S) else zn_ad0 N1 n2 ob) := ⟨_, rfl⟩
  have e10 : zt_ob (zt_put T2 fo (zn_tm N2 (zs_ck S))) to = some N3 := by
    rw [eN3]
    show fu (zt_ob T2) fo _ to = _
    by_cases u : to = fo
    · rw [u, fu_get, if_pos rfl]
    · rw [fu_ne u, if_neg u, eT2]
      exact fu_get _ _ _
  refine ow_time W10 up0 hi hto e10 (fun h11 g11 W11 => ?_)
  rw [ck0] at W11
  show gm_G 93 0 _ [] h11 _
  rw [em2]
  obtain ⟨T4, eT4⟩ : ∃ T4, T4 = zt_put (zt_put T2 fo (zn_tm N2 (zs_ck S))) to (zn_tm N3 (zs_ck S)) := ⟨_, rfl⟩
  rw [← eT4] at W11
  have e11 : zt_ob T4 ob = some Nd := by
    rw [eT4, eT2]
    show fu (fu (fu (fu (zt_ob (zd_tr d)) fo _) to _) fo _) to _ ob = _
    rw [fu_ne (fun z => hne2 z.symm), fu_ne (fun z => hne z.symm), fu_ne (fun z => hne2 z.symm), fu_ne (fun z => hne z.symm)]
    exact eN
  refine ow_time W11 up0 hi hob e11 (fun h12 g12 W12 => ?_)
  rw [ck0] at W12
  have e12 : zt_ob (zt_put T4 ob (zn_tm Nd (zs_ck S))) ob = some (zn_tm Nd (zs_ck S)) := fu_get _ _ _
  have M12 := rOw_N W12 hob e12
  have x40 : hh_i h12 (m + 40) (16 * t' + ob) = (Int32.ofNat (zn_at Nd 0)) := (M12.1 0 (by decide)).1
  have l40 : zn_at Nd 0 < 2147483648 := (M12.1 0 (by decide)).2
  have xo : gm_ix (Int32.ofNat (16 * t' + ob)) (16 * t' + ob) 1536 := ix_n (by omega) (by omega)
  -- the tree as it must be
  have enf : zt_n (zd_tr d) fo = Nf := by unfold zt_n; rw [eF]; rfl
  have ent : zt_n (zd_tr d) to = Nt := by unfold zt_n; rw [eTo]; rfl
  have end' : zt_n (zd_tr d) ob = Nd := by unfold zt_n; rw [eN]; rfl
  have zf : zn_f (zt_n (zd_tr d) fo) na = some ob := by
    rw [enf]
    obtain ⟨x, hx, tx⟩ := (F1.2.2.2.2.2.2.2.2.2.1 k2).2.2.2.2.1 e he
    have : x = (na, ob) := tw_en_det tx te
    rw [this] at hx
    exact zn_f_some (nd_e nd) hx rfl
  have eMv : zt_mv1 (zd_tr d) fo to ob (zs_ck S) na n2 = T4 := by
    unfold zt_mv1
    rw [enf, eT4, eT2]
    by_cases u : to = fo
    · rw [if_pos u] at eN1 eN2 eN3
      have ex1 : zt_n (zt_put (zd_tr d) fo (zn_drop Nf na (zs_ck S))) to = zn_drop Nf na (zs_ck S) := by
        show (fu (zt_ob (zd_tr d)) fo (some (zn_drop Nf na (zs_ck S))) to).getD _ = _
        rw [u, fu_get]
        rfl
      rw [ex1, u, zt_put_put, zt_put_put, zt_put_put, zt_put_put, eN3, eN2, eN1, zn_mv_eq]
    · rw [if_neg u] at eN1 eN2 eN3
      have ex1 : zt_n (zt_put (zd_tr d) fo (zn_drop Nf na (zs_ck S))) to = Nt := by
        show (fu (zt_ob (zd_tr d)) fo (some (zn_drop Nf na (zs_ck S))) to).getD _ = _
        rw [fu_ne u, eTo]
        rfl
      rw [ex1, zt_put_sw (T := zt_put (zd_tr d) fo (zn_dr0 Nf na)) u, zt_put_put, zt_put_put, eN3, eN2, eN1]
      rfl
  have eMo : zt_move (zd_tr d) fo to (zs_ck S) na n2 = zt_put T4 ob (if zn_at Nd 0 = 2 then zn_pa_ (zn_tm Nd (zs_ck S)) to else zn_tm Nd (zs_ck S)) := by
    have ex2 : zt_n T4 ob = Nd := by unfold zt_n; rw [e11]; rfl
    unfold zt_move
    rw [zf]
    show zt_put (zt_mv1 (zd_tr d) fo to ob (zs_ck S) na n2) ob (if zn_at (zt_n (zd_tr d) ob) 0 = 2 then zn_pa_ (zn_tm (zt_n (zt_mv1 (zd_tr d) fo to ob (zs_ck S) na n2) ob) (zs_ck S)) to else zn_tm (zt_n (zt_mv1 (zd_tr d) fo to ob (zs_ck S) na n2) ob) (zs_ck S)) = _
    rw [eMv, ex2, end']
  have g0c : fr (tO m oDo fDo) h h12 := (g1.up rfl rfl).trans ((g17.up rfl rfl).trans ((g8.up rfl rfl).trans ((g9.up rfl rfl).trans ((g10.up rfl rfl).trans ((g11.up rfl rfl).trans (g12.up rfl rfl))))))
  have x111 : hh_i h12 m 111 = bi rp := by rw [g12.fld (f := 111) rfl, g11.fld (f := 111) rfl, g10.fld (f := 111) rfl, g9.fld (f := 111) rfl, g8.fld (f := 111) rfl, g17.fld (f := 111) rfl, g1.fld (f := 111) rfl]; exact e111
  have x112 : hh_i h12 m 112 = (if (zs_pm S d rp).2 then (Int32.ofNat 1) else hh_i h m 112) := by
    rw [g12.fld (f := 112) rfl, g11.fld (f := 112) rfl, g10.fld (f := 112) rfl, g9.fld (f := 112) rfl, g8.fld (f := 112) rfl, e112, g1.fld (f := 112) rfl]
  -- folders are told
  have tell : ∀ h15, fr (tO m [48] []) h12 h15 → rOw h15 m S0 i t' d (zt_move (zd_tr d) fo to (zs_ck S) na n2) → gm_G 438 174 [some (.ref m), some (.int (Int32.ofNat i)), some (.int (Int32.ofNat fo)), none, some (.int (Int32.ofNat to)), none, none, none, none, none, some (.int (Int32.ofNat ob))] [] h15 (fun r h' => gy_wf h' → Q r h') := by
    intro h15 g15 W15
    refine w_438_174 W15.1.1 ?_
    have RF15 : rT_F h15 m (zs_F S0) := W15.1.2.2.2.2.2.2.2.1
    refine t_tellr (S := S0) (d := d) W15.1.1 RF15 (by rw [g15.fld (f := 111) rfl]; exact x111) hi W15.2.1.1 W15.2.1.2.1 hfo hob (by decide) (fun h16 g16 RF16 => ?_)
    have RF16 : rT_F h16 m (zs_F (zs_tl1 rp S0 (zd_no d) fo ob 3)) := RF16
    have W16 := rOw_F rfl W15 hi g16 RF16
    rw [zs_tl1_F] at W16
    obtain ⟨S1, eS1⟩ : ∃ S1, S1 = zs_tl1 rp S0 (zd_no d) fo ob 3 := ⟨_, rfl⟩
    rw [← eS1] at W16 RF16
    show gm_G 160 0 _ [] h16 _
    refine t_tellr (S := S1) (d := d) W16.1.1 RF16 (by rw [g16.fld (f := 111) rfl, g15.fld (f := 111) rfl]; exact x111) hi W16.2.1.1 W16.2.1.2.1 hto hob (by decide) (fun h17 g17 RF17 w17 => ?_)
    have RF17 : rT_F h17 m (zs_F (zs_tl1 rp S1 (zd_no d) to ob 4)) := RF17
    have W17 := rOw_F rfl W16 hi g17 RF17
    rw [zs_tl1_F] at W17
    refine H h17 w17 (g0c.trans ((g15.up rfl rfl).trans ((g16.up rfl rfl).trans (g17.up rfl rfl)))) ?_ ?_
    · have R17 := W17.1
      unfold zs_mvF
      rw [zs_tl1_trc, zs_tl1_trc, ← eS1]
      exact R17
    · rw [g17.fld (f := 112) rfl, g16.fld (f := 112) rfl, g15.fld (f := 112) rfl]
      exact x112
  refine ⟨16 * t' + ob, xo, ?_⟩
  rw [x40]
  refine ⟨fun z => ?_, fun z => ⟨16 * t' + ob, xo, fun h15 a15 => ?_⟩⟩
  · have z : ¬ zn_at Nd 0 = 2 := fun q => z (by rw [q])
    rw [if_neg z] at eMo
    refine tell h12 (fr.refl _ _) ?_
    rw [eMo]
    exact W12
  · have z : zn_at Nd 0 = 2 := (i_eq l40 (by decide)).mp z
    rw [if_pos z] at eMo
    refine tell h15 (by rw [a15]; exact fr.a rfl) ?_
    have W15 := rOw_pa W12 up0 hi hob e12 a15 hto
    rw [zt_put_put] at W15
    rw [eMo]
    exact W15
end MV
