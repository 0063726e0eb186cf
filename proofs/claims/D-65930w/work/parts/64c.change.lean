/-! STAGE 3: rights of objects are changed -/
theorem zu_set_d {s : zU} {d : zD} (hd : d ∈ zu_sets s) (hu : ∀ x, x ∈ zu_sets s → zd_no x = zd_no d → x = d) : zu_set s (zd_no d) = some d := by
  cases q : zu_set s (zd_no d) with
  | none =>
    unfold zu_set at q
    rw [List.find?_eq_none] at q
    exact absurd (decide_eq_true rfl) (q d hd)
  | some x =>
    obtain ⟨h1, h2⟩ := zu_set_m q
    rw [hu x h1 h2]
theorem zu_set_trc {S : zS} {d : zD} (hd : d ∈ zu_sets (zs_liv S)) (hu : ∀ x, x ∈ zu_sets (zs_liv S) → zd_no x = zd_no d → x = d) (T : zT) : zu_set (zs_liv (zs_trc S (zd_no d) T)) (zd_no d) = some (zd_tr_ d T) := by
  show zu_set (zu_up (zs_liv S) (zd_no d) (fun d => zd_tr_ d T)) (zd_no d) = _
  rw [zu_set_up (zs_liv S) (zd_no d) (fun d => zd_tr_ d T) (fun _ => rfl), zu_set_d hd hu, Option.map_some, if_pos rfl]
theorem zt_wf_put {T : zT} {o : Nat} {N N' : zN} (hw : zt_wf T) (eN : zt_ob T o = some N) (h0 : zn_at N' 0 = zn_at N 0) (h1 : zn_en N' = zn_en N) (h2 : zn_ph N' = zn_ph N) : zt_wf (zt_put T o N') := by
  have so : ∀ x, (zt_ob (zt_put T o N') x).isSome = (zt_ob T x).isSome := fun x => by
    show (fu (zt_ob T) o (some N') x).isSome = _
    rw [fu]
    by_cases y : x = o
    · rw [if_pos y, y, eN]; rfl
    · rw [if_neg y]
  intro x M hx e
  have e : fu (zt_ob T) o (some N') x = some M := e
  rw [fu] at e
  by_cases y : x = o
  · rw [if_pos y] at e
    cases e
    subst y
    obtain ⟨w1, w2, w3⟩ := hw x N hx eN
    rw [h0, h1, h2]
    refine ⟨fun q => ⟨(w1 q).1, fun z hz => ?_⟩, w2, w3⟩
    rw [so]
    exact (w1 q).2 z hz
  · rw [if_neg y] at e
    obtain ⟨w1, w2, w3⟩ := hw x M hx e
    refine ⟨fun q => ⟨(w1 q).1, fun z hz => ?_⟩, w2, w3⟩
    rw [so]
    exact (w1 q).2 z hz
section CG
variable {h h' : hh_T} {m : Nat} {S : zS} {i t : Nat} {d : zD} {T : zT} {Q : Option Value ⊕ Nat → hh_T → Prop}
theorem rTq_F {F' : zF} (R : rTq h m S) (g : fr (tO m [98, 101, 102] []) h h') (RF : rT_F h' m F') : rTq h' m (zs_F_ S F') := by
  obtain ⟨r0, r1, r2, r3, r4, r5, r6, r7, r8, r9⟩ := R
  refine ⟨r0.fr g, r1.fr g rfl rfl, r2.fr g rfl rfl, r3.fr g rfl rfl, r4.fr g rfl rfl, ?_, r6.fr g rfl, RF, r8.fr g rfl, r9.fr g rfl rfl⟩
  have us : ∀ p, tw_uN h' m p → tw_uN h m p := fun p u => by
    unfold tw_uN tw_us tw_sl tw_st at u ⊢
    rw [g.arr (o := 40) rfl, g.arr (o := 55) rfl, g.arr (o := 59) rfl, g.arr (o := 63) rfl, g.arr (o := 69) rfl, g.arr (o := 74) rfl, g.arr (o := 78) rfl, g.fld (f := 77) rfl, g.fld (f := 99) rfl] at u
    exact u
  obtain ⟨⟨I, f, d1, d2, d3⟩, d4⟩ := r5
  refine ⟨⟨I, f, d1.fr g rfl rfl, d2, fun l p hl hp => ?_⟩, ?_⟩
  · obtain ⟨z1, z2, z3, z4⟩ := d3 l p hl hp
    refine ⟨z1, tb_f8 z2 g rfl, fun q hq u e1 e2 => ?_, fun hl2 i hi => by rw [g.arr (o := 36) rfl]; exact z4 hl2 i hi⟩
    rw [g.arr (o := 23) rfl] at e1
    rw [g.arr (o := 24) rfl] at e2
    exact z3 q hq (us q u) e1 e2
  · rw [g.fld (f := 46) rfl, g.fld (f := 47) rfl, g.fld (f := 48) rfl]
    exact d4
/-- told, unless changes are done anew -/
def zs_tla (rp : Bool) (S : zS) (n ob what : Nat) : zS := if rp then S else zs_tella S n ob what
def zs_tl1 (rp : Bool) (S : zS) (n fo ob what : Nat) : zS := if rp then S else zs_tell S n fo ob what
theorem tella_F {n ob what : Nat} {h0 : hh_T} {d' : zD} (R : rT_F h0 m (zs_F S)) (e : zu_set (zs_liv S) n = some d') (RF : rT_F h' m (zs_F (zs_tk S n ob what (zt_has (zd_tr d') ob) 16))) : rT_F h' m (zs_F (zs_tella S n ob what)) := by
  obtain ⟨f1, f2, f3, f4⟩ := RF
  refine ⟨f1, fun w hw => ?_, f3, f4⟩
  have := f2 w hw
  have R2 := R.2.1 w hw
  have this : tw_wa h' m w (zw_ta n ob (Int32.ofNat (16 * ob + what)) (zt_has (zd_tr d') ob) 16 (zf_wt (zs_F S) w)) := this
  show tw_wa h' m w ((zf_wt (zs_F S) w).map (fun W => if zw_set W = n ∧ (match (zu_set (zs_liv S) n) with | none => false | some d => (zn_en (zt_n (zd_tr d) (zw_folder W))).any (fun x => decide (x.2 = ob))) = true then zw_row W (Int32.ofNat (16 * ob + what)) else W))
  cases q : zf_wt (zs_F S) w with
  | none => rw [q] at this; exact this
  | some W =>
    rw [q] at this R2
    have hf : zw_folder W < 16 := R2.2.2.2.2.2.1
    have this : tw_wa h' m w (some (if zw_set W = n ∧ zw_folder W < 16 ∧ zt_has (zd_tr d') ob (zw_folder W) = true then zw_row W (Int32.ofNat (16 * ob + what)) else W)) := this
    rw [Option.map_some, e]
    have e2 : (if zw_set W = n ∧ zw_folder W < 16 ∧ zt_has (zd_tr d') ob (zw_folder W) = true then zw_row W (Int32.ofNat (16 * ob + what)) else W) = (if zw_set W = n ∧ (zn_en (zt_n (zd_tr d') (zw_folder W))).any (fun x => decide (x.2 = ob)) = true then zw_row W (Int32.ofNat (16 * ob + what)) else W) := by
      by_cases c : zw_set W = n ∧ zt_has (zd_tr d') ob (zw_folder W) = true
      · rw [if_pos ⟨c.1, hf, c.2⟩]
        exact (if_pos c).symm
      · rw [if_neg (fun y => c ⟨y.1, y.2.2⟩)]
        exact (if_neg c).symm
    rw [e2] at this
    exact this
/-- all folders are told, in the midst of a change -/
theorem ow_tella {ob what : Nat} {rp : Bool} (R : rOw h m S i t d T) (hd : d ∈ zu_sets (zs_liv S)) (hu : ∀ x, x ∈ zu_sets (zs_liv S) → zd_no x = zd_no d → x = d) (e111 : hh_i h m 111 = bi rp) (hi : i < 8) (hwf : zt_wf T) (hob : ob < 16) (hwh : what < 16)
    (H : ∀ h', fr (tO m [98, 101, 102] []) h h' → rTq h' m (zs_tla rp (zs_trc S (zd_no d) T) (zd_no d) ob what) → Q (.inl none) h') : gm_G 304 0 [some (.ref m), some (.int (Int32.ofNat i)), some (.int (Int32.ofNat ob)), some (.int (Int32.ofNat what))] [] h Q := by
  obtain ⟨RQ, D, e63, TT, hot⟩ := R
  have RF := RQ.2.2.2.2.2.2.2.1
  have D1 : hh_i h (m + 59) i = (Int32.ofNat (zd_no d)) := D.1
  refine t_tellAll (d := d) RQ.1 RF e111 hi D1 D.2.1 e63 TT hwf hob hwh (fun h' g RF' => H h' g ?_)
  unfold zs_tla
  cases rp with
  | true => exact rTq_F RQ g RF'
  | false =>
    have := tella_F RF (zu_set_trc hd hu T) RF'
    exact rTq_F RQ g this
def oDo : List Nat := oOw ++ [80, 81, 82, 98, 101, 102]
def fDo : List Nat := [108, 109, 112]
theorem rOw_fr (R : rTq h' m S) (D : td h' m i d) (hu : ∀ x, x ∈ zu_sets (zs_liv S) → zd_no x = zd_no d → x = d) (e63 : hh_i h' (m + 63) i = (Int32.ofNat t)) (TT : tt h' m t (zd_tr d)) (hot : ¬ tw_ot h' m (ze_heads (zs_E S)).length i t) : rOw h' m S i t d (zd_tr d) := rOw_id hu R D e63 TT hot
theorem t_doChange {ob what v : Nat} {Nd : zN} {rp : Bool} (R : rTq h m S) (w : gy_wf h) (N : zs_nt S d) (hi : i < 8) (D : td h m i d) (e111 : hh_i h m 111 = bi rp) (hob : ob < 16) (eN : zt_ob (zd_tr d) ob = some Nd) (hwf : zt_wf (zd_tr d)) (hw1 : 1 ≤ what) (hw3 : what ≤ 3) (hv : v < 2147483648) (h23 : what = 2 ∨ what = 3 → v < 8)
    (H : ∀ h', gy_wf h' → fr (tO m oDo fDo) h h' → rTq h' m (zs_tla rp (zs_trc (zs_row S (zd_no d) (zx_ch [5, ob, 0, what, v, 0, zs_ck S, zs_ac S] 0 0 []) (zs_pm S d rp).1) (zd_no d) (zt_mode (zd_tr d) ob what v (zs_ck S))) (zd_no d) ob 6) → hh_i h' m 112 = (if (zs_pm S d rp).2 then (Int32.ofNat 1) else hh_i h m 112) → Q (.inl none) h') : gm_G 434 0 [some (.ref m), some (.int (Int32.ofNat i)), some (.int (Int32.ofNat ob)), some (.int (Int32.ofNat what)), some (.int (Int32.ofNat v))] [] h Q := by
  obtain ⟨n1, n2, n3, n4, n5, n6, n7, n8, n9⟩ := id N
  refine gy_use w ?_
  refine w_434_0 R.1 ?_
  refine t_bn0 rfl R w N hi D e111 (by decide) (by decide) (by decide) ⟨by omega, by decide, by omega, hv, by decide⟩ (fun h1 w1 g1 R1 e112 => ?_)
  have D1 : td h1 m i d := D.sm (F := f0) (g1.sm rfl rfl)
  refine t_ownq R1 w1 n1 n9 hi D1 (fun h2 t' w2 g2 W2 => ?_)
  have ht := W2.2.2.2.1.1
  have en : zt_n (zd_tr d) ob = Nd := by unfold zt_n; rw [eN]; rfl
  -- behind the attribute
  have go : ∀ h5, h5 = hh_wi h2 (m + (40 + what)) (16 * t' + ob) (Int32.ofNat v) → gm_G 434 67 [some (.ref m), some (.int (Int32.ofNat i)), some (.int (Int32.ofNat ob)), none, none, some (.int (Int32.ofNat ((16 * t' + ob))))] [] h5 (fun r h' => gy_wf h' → Q r h') := by
    intro h5 a5
    have W5 := rOw_at (f := what) W2 n1 hi hob eN a5 (by omega) hw1 hv h23 (fun q => by omega)
    have g5 : fr (tO m [41, 42, 43] []) h2 h5 := by
      rw [a5]
      rcases (show what = 1 ∨ what = 2 ∨ what = 3 by omega) with u | u | u <;> subst u <;> exact fr.a rfl
    refine w_434_67 W5.1.1 ?_
    have e5 : zt_ob (zt_put (zd_tr d) ob (zn_at_ Nd (fu (zn_at Nd) what v))) ob = some (zn_at_ Nd (fu (zn_at Nd) what v)) := if_pos rfl
    refine ow_time W5 n1 hi hob e5 (fun h6 g6 W6 => ?_)
    have eT : zt_put (zt_put (zd_tr d) ob (zn_at_ Nd (fu (zn_at Nd) what v))) ob (zn_tm (zn_at_ Nd (fu (zn_at Nd) what v)) (zs_ck S)) = zt_mode (zd_tr d) ob what v (zs_ck S) := by
      show (zt_ma (zd_tr d), fu (fu (zt_ob (zd_tr d)) ob _) ob _) = (zt_ma (zd_tr d), fu (zt_ob (zd_tr d)) ob _)
      rw [en]
      congr 1
      funext x
      unfold fu
      by_cases y : x = ob
      · rw [if_pos y, if_pos y]
      · rw [if_neg y, if_neg y, if_neg y]
    have W6' : rOw h6 m (zs_row S (zd_no d) (zx_ch [5, ob, 0, what, v, 0, zs_ck S, zs_ac S] 0 0 []) (zs_pm S d rp).1) i t' d (zt_mode (zd_tr d) ob what v (zs_ck S)) := by
      rw [← eT]
      exact W6
    have g06 : fr (tO m oDo fDo) h h6 := ((g1.up rfl rfl).trans (g2.up rfl rfl)).trans ((g5.up rfl rfl).trans (g6.up rfl rfl))
    have hwf' : zt_wf (zt_mode (zd_tr d) ob what v (zs_ck S)) := by
      unfold zt_mode
      rw [en]
      refine zt_wf_put hwf eN ?_ rfl rfl
      show fu (fu (zn_at Nd) what v) 6 (zs_ck S) 0 = zn_at Nd 0
      rw [fu, if_neg (by decide), fu, if_neg (by omega)]
    refine ow_tella W6' n4 n9 (by rw [g6.fld (f := 111) rfl, g5.fld (f := 111) rfl, g2.fld (f := 111) rfl, g1.fld (f := 111) rfl]; exact e111) hi hwf' hob (by decide) (fun h7 g7 R7 w7 => ?_)
    refine H h7 w7 (g06.trans (g7.up rfl rfl)) R7 ?_
    rw [g7.fld (f := 112) rfl, g6.fld (f := 112) rfl, g5.fld (f := 112) rfl, g2.fld (f := 112) rfl]
    exact e112
  have ix : gm_ix (Int32.ofNat (16 * t' + ob)) (16 * t' + ob) 1536 := ix_n (by omega) (by omega)
  have em : (Int32.ofNat 16) * (Int32.ofNat t') + (Int32.ofNat ob) = (Int32.ofNat (16 * t' + ob)) := by rw [i_mul, i_add]
  refine ⟨fun y => ⟨fun y2 => ⟨16 * t' + ob, by rw [em]; exact ix, fun h5 a5 => ?_⟩, fun y2 => ⟨16 * t' + ob, by rw [em]; exact ix, fun h5 a5 => ?_⟩⟩, fun y => ⟨16 * t' + ob, by rw [em]; exact ix, fun h5 a5 => ?_⟩⟩
  · have y : ¬ what = 1 := fun q => y (by rw [q])
    have y2 : ¬ what = 2 := fun q => y2 (by rw [q])
    rw [em]
    exact go h5 (by rw [a5, show what = 3 by omega])
  · have y2 : what = 2 := (i_eq (by omega) (by decide)).mp y2
    rw [em]
    exact go h5 (by rw [a5, y2])
  · have y : what = 1 := (i_eq (by omega) (by decide)).mp y
    rw [em]
    exact go h5 (by rw [a5, y])
end CG
