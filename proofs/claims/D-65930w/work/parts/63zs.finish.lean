/-! STAGE 3: a change ends -/
theorem zs_set_M (S : zS) (M : zM) : zs_set (zs_M_ (zs_set S) M) = zs_M_ (zs_set S) M := by
  show zs_C_ (zs_M_ (zs_set S) M) (zc_ls_ (zs_C (zs_set S)) (fun l => (zc_ls (zs_C (zs_set S)) l).filter (fun b => (zu_e (zs_E S)).any (zb_eq b)))) = zs_M_ (zs_set S) M
  have : (fun l => (zc_ls (zs_C (zs_set S)) l).filter (fun b => (zu_e (zs_E S)).any (zb_eq b))) = zc_ls (zs_C (zs_set S)) := by
    funext l
    show ((zc_ls (zs_C S) l).filter (fun b => (zu_e (zs_E S)).any (zb_eq b))).filter (fun b => (zu_e (zs_E S)).any (zb_eq b)) = (zc_ls (zs_C S) l).filter (fun b => (zu_e (zs_E S)).any (zb_eq b))
    rw [List.filter_filter]
    refine List.filter_congr (fun b _ => ?_)
    rw [Bool.and_self]
  rw [this]
  rfl
section FI
variable {h h' : hh_T} {m : Nat} {S : zS} {Q : Option Value ⊕ Nat → hh_T → Prop}
/-- doubles are counted at rest -/
theorem rTp_dbl {v : Int32} (R : rTp h m S) (g : fr (tO m [] [42]) h h') (e : hh_i h' m 42 = v) : rTp h' m (zs_M_ S (zm_dbl_ (zs_M S) v)) := by
  obtain ⟨r0, r1, r2, r3, r4, r5, r6, r7, r8, r9⟩ := R
  refine ⟨r0.fr g, r1.fr g rfl rfl, r2.fr g rfl rfl, r3.fr g rfl rfl, r4.fr g rfl rfl, r5.fr g rfl rfl, r6.fr g rfl, r7.fr g rfl, r8.fr g rfl, ?_⟩
  obtain ⟨m1, m2, m3, m4, m5, m6⟩ := r9
  refine ⟨by rw [g.fld (f := 49) rfl]; exact m1, m2, m3, by rw [g.arr (o := 34) rfl]; exact m4, e, ?_⟩
  rw [g.fld (f := 102) rfl, g.fld (f := 101) rfl, g.fld (f := 139) rfl]
  exact m6
theorem rTp_r (R : rTp h m S) (e1 : hh_i h m 111 = (Int32.ofNat 0)) (e2 : hh_i h m 112 = (Int32.ofNat 0)) (e3 : hh_i h m 110 = (Int32.ofNat 0)) : rT h m S := by
  obtain ⟨r0, r1, r2, r3, r4, r5, r6, r7, r8, r9⟩ := R
  exact ⟨r0, r1, r2, r3, r4, r5, r6, r7, r8, r9, e1, e2, e3⟩
theorem rTq_fl (R : rTq h m S) (g : fr (tO m [] [110, 112]) h h') : rTq h' m S := by
  obtain ⟨r0, r1, r2, r3, r4, r5, r6, r7, r8, r9⟩ := R
  refine ⟨r0.fr g, r1.fr g rfl rfl, r2.fr g rfl rfl, r3.fr g rfl rfl, r4.fr g rfl rfl, ?_, r6.fr g rfl, r7.fr g rfl, r8.fr g rfl, r9.fr g rfl rfl⟩
  have us : ∀ p, tw_uN h' m p → tw_uN h m p := fun p u => by
    unfold tw_uN tw_us tw_sl tw_st at u ⊢
    rw [g.arr (o := 40) rfl, g.arr (o := 55) rfl, g.arr (o := 59) rfl, g.arr (o := 63) rfl, g.arr (o := 69) rfl, g.arr (o := 74) rfl, g.arr (o := 78) rfl, g.fld (f := 77) rfl, g.fld (f := 99) rfl] at u
    exact u
  obtain ⟨⟨I, f, d1, d2, d3⟩, d4⟩ := r5
  refine ⟨⟨I, f, d1.fr g rfl rfl, d2, fun l p hl hp => ?_⟩, ?_⟩
  · obtain ⟨z1, z2, z3, z4⟩ := d3 l p hl hp
    refine ⟨z1, tb_f8 z2 g rfl, fun q hq u e1 e2 => ?_, fun hl2 i hi => by rw [g.arr (o := 36) rfl]; exact z4 hl2 i hi⟩
    rw [g.arr (o := 23) rfl] at e1
    rw [g.arr (o := 24) rfl] at e2
    exact z3 q hq (us q u) e1 e2
  · rw [g.fld (f := 46) rfl, g.fld (f := 47) rfl, g.fld (f := 48) rfl]
    exact d4
/-- settling in the midst of a change -/
theorem t_settleq (R : rTq h m S) (w : gy_wf h) (K : zg_ok (zs_P S) (zs_G S)) (up : zs_up S = true) (hU : zU_ok (zs_G S) (zu_e (zs_E S))) (hC : zc_zb (zs_G S) (zs_C S)) (H : ∀ h', gy_wf h' → fr (tO m [17, 18, 27, 32, 33] [41]) h h' → rTp h' m (zs_set S) → Q (.inl none) h') : gm_G 422 0 [some (.ref m)] [] h Q := by
  obtain ⟨r0, r1, r2, r3, r4, r5, r6, r7, r8, r9⟩ := R
  refine t_settle (P := zs_P S) r0 w r3 K r4 up hU r5 hC (fun h8 w8 g8 RE8 us8 _ _ RC8 => H h8 w8 g8 ?_)
  exact ⟨r0.fr g8, r1.fr g8 rfl rfl, r2.fr g8 rfl rfl, r3.fr g8 rfl rfl, RE8, RC8, r6.fr g8 rfl, r7.fr g8 rfl, r8.fr g8 rfl, r9.fr g8 rfl rfl⟩
theorem t_finish {v : Int32} {dn : Nat} {due : Bool} (R : rTq h m S) (w : gy_wf h) (K : zg_ok (zs_P S) (zs_G S)) (up : zs_up S = true) (hU : zU_ok (zs_G S) (zu_e (zs_E S))) (hC : zc_zb (zs_G S) (zs_C S)) (hno : zu_no (zs_liv S) < 2147482000) (e110 : hh_i h m 110 = (Int32.ofNat dn)) (e112 : hh_i h m 112 = bi due) (e111 : hh_i h m 111 = (Int32.ofNat 0))
    (H0 : due = true → (zs_turn S).2 < (Int32.ofNat 0) → ∀ h', gy_wf h' → rT h' m (zs_turn S).1 → Q (.inl (some (.int (Int32.ofInt (-12))))) h')
    (H1 : (due = true → ¬ (zs_turn S).2 < (Int32.ofNat 0)) → ∀ h', gy_wf h' → rT h' m (zs_good (if due then (zs_turn S).1 else S) v dn).1 → Q (.inl (some (.int v))) h') : gm_G 468 0 [some (.ref m), some (.int v)] [] h Q := by
  have r0 := R.1
  refine gy_use w ?_
  refine w_468_0 r0 (fun h1 a1 => ?_)
  have g1 : fr (tO m [] [110, 112]) h h1 := by rw [a1]; exact fr.f rfl
  have v110 : hh_i h1 m 110 = (Int32.ofNat 0) := by rw [a1, hi_e ⟨rfl, rfl⟩]
  have v112 : hh_i h1 m 112 = bi due := by rw [a1, hi_n (by omega)]; exact e112
  have v111 : hh_i h1 m 111 = (Int32.ofNat 0) := by rw [g1.fld (f := 111) rfl]; exact e111
  have R1 := rTq_fl R g1
  have wf : ∀ h1, fr (tO m [] [110, 112]) h h1 → gy_o (hh_i h1 m 112) → gy_wf h1 := fun h1 g ho => g.wf w r0 (fun o ho => absurd ho (List.not_mem_nil)) (fun o ho => absurd ho (List.not_mem_nil)) (fun f hf e => by
    have : f = 110 ∨ f = 112 := by simpa using hf
    rcases this with q | q <;> subst q
    · exact absurd e (by decide)
    · exact ho) (fun o ho => absurd ho (List.not_mem_nil))
  -- the end
  have fin : ∀ h2 S', gy_wf h2 → rTp h2 m S' → hh_i h2 m 110 = (Int32.ofNat 0) → hh_i h2 m 111 = (Int32.ofNat 0) → hh_i h2 m 112 = (Int32.ofNat 0) → (∀ h', gy_wf h' → rT h' m (zs_M_ S' (zm_dbl_ (zs_M S') (zm_dbl (zs_M S') + (Int32.ofNat dn)))) → Q (.inl (some (.int v))) h') → gm_G 468 40 [some (.ref m), some (.int v), some (.int (Int32.ofNat dn))] [] h2 (fun r h' => gy_wf h' → Q r h') := by
    intro h2 S' w2 R2 x110 x111 x112 K2
    refine w_468_40 R2.1 (fun h3 a3 w3 => ?_)
    have g3 : fr (tO m [] [42]) h2 h3 := by rw [a3]; exact fr.f rfl
    refine K2 h3 w3 (rTp_r (rTp_dbl R2 g3 ?_) (by rw [g3.fld (f := 111) rfl]; exact x111) (by rw [g3.fld (f := 112) rfl]; exact x112) (by rw [g3.fld (f := 110) rfl]; exact x110))
    rw [a3, hi_e ⟨rfl, rfl⟩, R2.2.2.2.2.2.2.2.2.2.2.2.2.2.1]
  rw [v112, e110]
  cases due with
  | false =>
    refine ⟨fun _ => ?_, fun z => absurd rfl z⟩
    refine t_settleq R1 (wf h1 g1 (by rw [v112]; exact Or.inl rfl)) K up hU hC (fun h2 w2 g2 R2 => ?_)
    refine fin h2 (zs_set S) w2 R2 (by rw [g2.fld (f := 110) rfl]; exact v110) (by rw [g2.fld (f := 111) rfl]; exact v111) (by rw [g2.fld (f := 112) rfl]; exact v112) (fun h' w' R' => ?_)
    exact H1 (fun z => by cases z) h' w' R'
  | true =>
    refine ⟨fun z => absurd z (by decide), fun _ h3 a3 => ?_⟩
    have g3 : fr (tO m [] [110, 112]) h h3 := g1.trans (by rw [a3]; exact fr.f rfl)
    have x112 : hh_i h3 m 112 = (Int32.ofNat 0) := by rw [a3, hi_e ⟨rfl, rfl⟩]
    have x110 : hh_i h3 m 110 = (Int32.ofNat 0) := by rw [a3, hi_n (by omega)]; exact v110
    have x111 : hh_i h3 m 111 = (Int32.ofNat 0) := by rw [g3.fld (f := 111) rfl]; exact e111
    have cut : zp_arm (zs_P S) = some 0 → (zs_turn S).2 < (Int32.ofNat 0) := fun z => by rw [zs_turn_0 z]; show (Int32.ofInt (-12)) < (Int32.ofNat 0); decide
    have ncut : ¬ zp_arm (zs_P S) = some 0 → ¬ (zs_turn S).2 < (Int32.ofNat 0) := fun z => by
      rw [zs_turn_1 z]
      show ¬ (Int32.ofNat (zu_no (zs_liv S) + 1)) < (Int32.ofNat 0)
      rw [i_n0 (by omega)]
      exact id
    refine t_doTurn (rTq_fl R g3) (wf h3 g3 (by rw [x112]; exact Or.inl rfl)) K up hU hC hno (fun z h4 w4 RX g4 => ?_) (fun z h4 w4 R4 g4 => ?_)
    · refine ⟨fun y => absurd (by decide) y, fun _ w' => H0 rfl (cut z) h4 w' (RX.r ?_)⟩
      rw [g4.fld (f := 111) rfl]
      exact x111
    · refine ⟨fun _ => ?_, fun y => absurd y (by rw [i_n0 (by omega)]; exact id)⟩
      refine fin h4 (zs_turn S).1 w4 R4 (by rw [g4.fld (f := 110) rfl]; exact x110) (by rw [g4.fld (f := 111) rfl]; exact x111) (by rw [g4.fld (f := 112) rfl]; exact x112) (fun h' w' R' => ?_)
      refine H1 (fun _ => ncut z) h' w' ?_
      show rT h' m (zs_set (zs_M_ (zs_turn S).1 (zm_dbl_ (zs_M (zs_turn S).1) (zm_dbl (zs_M (zs_turn S).1) + (Int32.ofNat dn)))))
      rw [zs_turn_1 z] at R' ⊢
      rw [zs_set_M]
      exact R'
end FI
