/-! STAGE 3: bytes come to blocks -/
theorem fm_cg {α β : Type} {f g : α → Option β} : ∀ (l : List α), (∀ x, x ∈ l → f x = g x) → l.filterMap f = l.filterMap g
  | [], _ => rfl
  | x :: r, e => by rw [List.filterMap_cons, List.filterMap_cons, e x (List.mem_cons_self ..), fm_cg r (fun y hy => e y (List.mem_cons_of_mem _ hy))]
section SR
variable {h h0 h' : hh_T} {m : Nat} {S : zS} {i t : Nat} {d : zD} {Q : Option Value ⊕ Nat → hh_T → Prop}
theorem t_oldPointers {q : Nat} (hT : tw_ok h m) (hq : q < 1536) (H : ∀ h', fr (tO m [104] []) h h' → (∀ k, k < 8 → hh_i h' (m + 104) k = hh_i h (m + 55) (8 * q + k)) → Q (.inl none) h') : gm_G 142 0 [some (.ref m), some (.int (Int32.ofNat q))] [] h Q := by
  refine w_142_0 hT ?_
  refine lp_fill (m := m) (o := 104) (b := 0) (n := 8) (fun k => [some (.ref m), some (.int (Int32.ofNat q)), some (.int (Int32.ofNat k))]) (fun k => hh_i h (m + 55) (8 * q + k)) (by decide) (fun k h1 hk g1 _ kk => ?_) (fun h1 g1 e1 => ?_)
  · refine w_142_2 (hT.fr g1) ⟨fun z => absurd (by rw [i_lt (by omega) (by decide)]; exact hk) z, fun _ => ⟨8 * q + k, by rw [i_mul, i_add]; exact ix_n (by omega) (by omega), k, ix_n hk (by omega), fun h3 a3 => ?_⟩⟩
    rw [g1.arr (o := 55) rfl] at a3
    rw [Nat.zero_add] at kk
    rw [a3, i_add]
    exact kk
  · refine w_142_2 (hT.fr g1) ⟨fun _ => H h1 g1 (fun k hk => ?_), fun z => absurd z (by decide)⟩
    rw [e1, if_pos (by omega), Nat.sub_zero]
/-- the picture stays while a plan is made -/
theorem rTp_pf (R : rTp h0 m S) (g : fq m oPl fPl h0 h) (s : ∀ p, p < 640 → tw_uN h0 m p → ts h0 h m p) : rTp h m S ∧ (∀ p, tw_uN h m p ↔ tw_uN h0 m p) ∧ ∀ t T, tw_sl h0 m (ze_up (zs_E S)) (ze_heads (zs_E S)).length t → tt h0 m t T → tt h m t T := by
  obtain ⟨r0, r1, r2, r3, r4, r5, r6, r7, r8, r9⟩ := R
  obtain ⟨RE, us, kt⟩ := rT_E_tb r4 (h' := h) (fun o h1 h2 => g.1.arrs (P := fun o => Nat.ble 40 o && Nat.ble o 79) rfl (by (try dsimp only); rw [Bool.and_eq_true, Nat.ble_eq, Nat.ble_eq]; exact ⟨h1, h2⟩) (by omega)) (fun o ho => g.fld (by
    have : o = 76 ∨ o = 77 ∨ o = 99 ∨ o = 100 := by unfold fE at ho; simpa using ho
    rcases this with q | q | q | q <;> subst q <;> rfl)) (fun p b0 hp u B => tb_ts (s p hp u) B) (fun p hp u => ⟨((s p hp u).2.1 0 (by decide)).1, ((s p hp u).2.1 0 (by decide)).2, by rw [(s p hp u).1 17 rfl]; exact us_17 r4 hp u⟩)
  have q1 := r1.fr g.1 rfl rfl
  have q2 := r2.fr g.1 rfl rfl
  have q3 := r3.fr g.1 rfl rfl
  have q6 := r6.fr g.1 rfl
  have q7 := r7.fr g.1 rfl
  have q8 := r8.fr g.1 rfl
  have q9 := r9.fr g.1 rfl rfl
  refine ⟨⟨g.tw r0, q1, q2, q3, RE, ?_, q6, q7, q8, q9⟩, us, kt⟩
  obtain ⟨⟨I, f, d1, d2, d3⟩, d4⟩ := r5
  have qd := d1.fr g.1 rfl rfl
  refine ⟨⟨I, f, qd, d2, fun l p hl hp => ?_⟩, ?_⟩
  · obtain ⟨z1, z2, z3, z4⟩ := d3 l p hl hp
    exact ⟨z1, tb_ts (s p z1 z3) z2, (us p).mpr z3, fun hl2 i hi => by rw [g.arr (o := 36) rfl]; exact z4 hl2 i hi⟩
  · rw [g.fld (f := 46) rfl, g.fld (f := 47) rfl, g.fld (f := 48) rfl]
    exact d4
theorem zx_ks_c {a b : Nat} (hab : a < b) : zx_ks a b = a :: zx_ks (a + 1) b := by
  unfold zx_ks
  rw [show b - a = (b - (a + 1)) + 1 by omega, List.range_succ_eq_map, List.map_cons, List.map_map]
  congr 1
  refine List.map_congr_left (fun x _ => ?_)
  show a + (x + 1) = a + 1 + x
  omega
theorem zx_ks_n {a b : Nat} (hab : ¬ a < b) : zx_ks a b = [] := by
  unfold zx_ks
  rw [show b - a = 0 by omega]
  rfl
theorem zl_pls_c (P : zP) (G : zG) (co n : Nat) (sh : Bool) (w : Nat → Int32) (k : Nat) (r : List Nat) (q : (Nat → Option zB) × List zB × List (zB × zBy) × Nat) : zl_pls P G co n sh w (k :: r) q = match zl_plan P G q.2.1 co n sh (fun i => w (32 * k + i)) with
    | none => none
    | some (b, nb) => zl_pls P G co n sh w r (fu q.1 k b, b.toList ++ q.2.1, q.2.2.1 ++ (match b, nb with | some b, some l => [(b, l)] | _, _ => []), q.2.2.2 + (match b, nb with | some _, none => 1 | _, _ => 0)) := rfl
def oSt : List Nat := oPl ++ (oPP ++ [104])
def fSt : List Nat := fPl ++ fPP
theorem t_store {ob a b : Nat} {N : zN} {rp : Bool} (R : rTp h m S) (w : gy_wf h) (K : zg_ok (zs_P S) (zs_G S)) (up : zs_up S = true) (hu : ∀ x, x ∈ zu_sets (zs_liv S) → zd_no x = zd_no d → x = d) (hd : d ∈ zu_sets (zs_liv S)) (hU : zU_ok (zs_G S) (zu_e (zs_E S))) (hch : zu_ch (zs_liv S) 9 d) (hco : zu_pr (zs_liv S) d 0 ≤ 2) (hn1 : 1 ≤ zu_pr (zs_liv S) d 1) (hn2 : zu_pr (zs_liv S) d 1 ≤ 2) (hs2 : zu_pr (zs_liv S) d 2 ≤ 2)
    (hi : i < 8) (D : td h m i d) (e63 : hh_i h (m + 63) i = (Int32.ofNat t)) (TT : tt h m t (zd_tr d)) (hob : ob < 16) (eN : zt_ob (zd_tr d) ob = some N) (kN : zn_at N 0 = 1 ∨ zn_at N 0 = 4) (e111 : hh_i h m 111 = bi rp) (hab : a ≤ b) (hb8 : b < 8)
    (HS : (zl_pls (zs_P S) (zs_G S) (zu_pr (zs_liv S) d 0) (zu_pr (zs_liv S) d 1) (decide (zu_pr (zs_liv S) d 2 = 1)) (hh_i h (m + 103)) (zx_ks a (b + 1)) (zn_pt N, zu_e (zs_E S), [], 0) = none ∨ ∃ q, zl_pls (zs_P S) (zs_G S) (zu_pr (zs_liv S) d 0) (zu_pr (zs_liv S) d 1) (decide (zu_pr (zs_liv S) d 2 = 1)) (hh_i h (m + 103)) (zx_ks a (b + 1)) (zn_pt N, zu_e (zs_E S), [], 0) = some q ∧ rp = false ∧ zd_over (zs_G S) d N q.1 = true) → ∀ h', gy_wf h' → rTp h' m S → fq m oSt fSt h h' → Q (.inl (some (.int (Int32.ofInt (-7))))) h')
    (HC : ∀ q, zl_pls (zs_P S) (zs_G S) (zu_pr (zs_liv S) d 0) (zu_pr (zs_liv S) d 1) (decide (zu_pr (zs_liv S) d 2 = 1)) (hh_i h (m + 103)) (zx_ks a (b + 1)) (zn_pt N, zu_e (zs_E S), [], 0) = some q → (rp = true ∨ zd_over (zs_G S) d N q.1 = false) → (zp_new (zs_G S) (zs_P S) q.2.2.1).2 = false → ∀ h', gy_wf h' → rTx h' m (zs_fall (zs_P_ S (zp_new (zs_G S) (zs_P S) q.2.2.1).1)) → fq m oSt fSt h h' → Q (.inl (some (.int (Int32.ofInt (-12))))) h')
    (HK : ∀ q, zl_pls (zs_P S) (zs_G S) (zu_pr (zs_liv S) d 0) (zu_pr (zs_liv S) d 1) (decide (zu_pr (zs_liv S) d 2 = 1)) (hh_i h (m + 103)) (zx_ks a (b + 1)) (zn_pt N, zu_e (zs_E S), [], 0) = some q → (rp = true ∨ zd_over (zs_G S) d N q.1 = false) → (zp_new (zs_G S) (zs_P S) q.2.2.1).2 = true → ∀ h' t', gy_wf h' → rOw h' m (zs_M_ (zs_P_ S (zp_new (zs_G S) (zs_P S) q.2.2.1).1) (zm_dbl_ (zs_M S) (if rp then zm_dbl (zs_M S) + (Int32.ofNat (q.2.2.2)) else zm_dbl (zs_M S)))) i t' d (zt_put (zd_tr d) ob (zn_pt_ N q.1)) → hh_i h' m 110 = (if rp then hh_i h m 110 else (Int32.ofNat (q.2.2.2))) → fq m oSt fSt h h' → Q (.inl (some (.int (Int32.ofNat 0)))) h') : gm_G 481 0 [some (.ref m), some (.int (Int32.ofNat i)), some (.int (Int32.ofNat ob)), some (.int (Int32.ofNat a)), some (.int (Int32.ofNat b))] [] h Q := by
  have r0 := R.1
  have ht := TT.1
  have RE := R.2.2.2.2.1
  have upE : ze_up (zs_E S) = true := up
  have hnh := hi
  refine gy_use w ?_
  refine w_481_0 r0 ⟨i, ix_n (by omega) (by omega), ?_⟩
  rw [e63]
  refine t_planAnew (π := fun _ => (none, none)) (P := zs_P S) r0 w R.2.2.2.1 K RE up hU (fun h1 w1 g1 RE1 us1 b18 tpn1 e43 => ?_)
  rw [i_mul, i_add]
  have R1 : rTp h1 m S := by
    obtain ⟨-, r1, r2, r3, -, r5, r6, r7, r8, r9⟩ := R
    exact ⟨r0.fr g1, r1.fr g1 rfl rfl, r2.fr g1 rfl rfl, r3.fr g1 rfl rfl, RE1, rT_C_us r5 g1 rfl rfl (fun p _ u => (us1 p).mpr u), r6.fr g1 rfl, r7.fr g1 rfl, r8.fr g1 rfl, r9.fr g1 rfl rfl⟩
  refine gy_use w1 ?_
  refine t_oldPointers (r0.fr g1) (by omega) (fun h2 g2 e104 w2 => ?_)
  show gm_G 481 26 _ [] h2 _
  -- behind the old pointers: h2
  have R2 : rTp h2 m S := by
    obtain ⟨s0, s1, s2, s3, s4, s5, s6, s7, s8, s9⟩ := R1
    exact ⟨s0.fr g2, s1.fr g2 rfl rfl, s2.fr g2 rfl rfl, s3.fr g2 rfl rfl, s4.fr g2 rfl rfl, s5.fr g2 rfl rfl, s6.fr g2 rfl, s7.fr g2 rfl, s8.fr g2 rfl, s9.fr g2 rfl rfl⟩
  have us2 : ∀ p, tw_uN h2 m p ↔ tw_uN h m p := fun p => by
    rw [← us1 p]
    unfold tw_uN tw_us tw_sl tw_st
    rw [g2.arr (o := 40) rfl, g2.arr (o := 55) rfl, g2.arr (o := 59) rfl, g2.arr (o := 63) rfl, g2.arr (o := 69) rfl, g2.arr (o := 74) rfl, g2.arr (o := 78) rfl, g2.fld (f := 77) rfl, g2.fld (f := 99) rfl]
  have g02 : fr (tO m ([17, 18, 27] ++ [104]) [41, 43]) h h2 := (g1.up rfl rfl).trans (g2.up rfl rfl)
  have k18 : ∀ p, p < 640 → (hh_i h2 (m + 18) p = (Int32.ofNat 1) ↔ tw_uN h m p) := fun p hp => by
    rw [g2.arr (o := 18) rfl]
    rcases b18 p hp with ⟨z1, z2⟩ | ⟨z1, z2⟩
    · exact ⟨fun _ => z2, fun _ => z1⟩
    · rw [z1]; exact ⟨fun q => absurd q (by decide), fun q => absurd q z2⟩
  have tp2 : tpn h2 m (zs_G S) (zu_e (zs_E S)) (tw_be h m (zs_E S)) 0 (fun _ => (none, none)) := ⟨tpt_fr tpn1.1 g2 rfl, by rw [g2.fld (f := 41) rfl]; exact tpn1.2.1, fun k hk => absurd hk (Nat.not_lt_zero _)⟩
  have TT2 : tt h2 m t (zd_tr d) := by
    have kt := (rT_E_tb RE (h' := h2) (fun o h1 h2 => g02.arrs (P := fun o => Nat.ble 40 o && Nat.ble o 79) rfl (by (try dsimp only); rw [Bool.and_eq_true, Nat.ble_eq, Nat.ble_eq]; exact ⟨h1, h2⟩) (by omega)) (fun o ho => g02.fld (by
      have : o = 76 ∨ o = 77 ∨ o = 99 ∨ o = 100 := by unfold fE at ho; simpa using ho
      rcases this with q | q | q | q <;> subst q <;> rfl)) (fun p b0 hp u B => tb_f8 B g02 rfl) (fun p hp u => ⟨by rw [g02.arr (o := 23) rfl], by rw [g02.arr (o := 24) rfl], (tp2.1.at hp ((k18 p hp).mpr u)).1⟩)).2.2
    exact kt t _ (by rw [upE]; exact (tw_sl_ot (rT_E_hs RE) hi (td_ne D)).mpr (Or.inl e63)) TT
  have f63 : hh_i h2 (m + 63) i = (Int32.ofNat t) := by rw [g02.arr (o := 63) rfl]; exact e63
  have aS2 : aSt h h2 m := fun o h1 h3 _ => g02.arrs (P := fun o => Nat.ble 40 o && Nat.ble o 79) rfl (by (try dsimp only); rw [Bool.and_eq_true, Nat.ble_eq, Nat.ble_eq]; omega) (by omega)
  have D2 : td h2 m i d := td_of (T' := zd_tr d) aS2 D ⟨t, f63, TT2⟩
  have sl2 : tw_sl h2 m (ze_up (zs_E S)) (ze_heads (zs_E S)).length t := by rw [upE]; exact (tw_sl_ot (rT_E_hs R2.2.2.2.2.1) hi (td_ne D2)).mpr (Or.inl f63)
  have e103 : hh_i h2 (m + 103) = hh_i h (m + 103) := g02.arr rfl
  have N2 : tn h2 m (16 * t + ob) N := by
    rcases TT2.2.2.2 ob hob with ⟨z, -⟩ | ⟨N', z1, z2⟩
    · rw [eN] at z; cases z
    · rw [eN] at z1
      cases z1
      exact z2
  obtain ⟨W, eW⟩ : ∃ W, W = hh_i h (m + 103) := ⟨_, rfl⟩
  rw [← eW] at HS HC HK
  have hzt : ∀ x, x ∈ zu_t (zd_tr d) → zb_ok (zs_G S) x := fun x hx => hU.1 x (by
    unfold zu_e
    rw [upE]
    exact List.mem_append_left _ (List.mem_append_left _ (List.mem_flatMap.mpr ⟨d, hd, hx⟩)))
  -- blocks are planned
  have lp : ∀ e j hj (βj : Nat → zB) (πj : Nat → Option zB × Option zBy) (qj : (Nat → Option zB) × List zB × List (zB × zBy) × Nat), a + j + e = b + 1 → fq m oPl fPl h2 hj → (∀ p, p < 640 → hh_i h2 (m + 18) p = (Int32.ofNat 1) → ts h2 hj m p ∧ βj p = tw_be h m (zs_E S) p) → tpn hj m (zs_G S) qj.2.1 βj j πj
      → zl_pls (zs_P S) (zs_G S) (zu_pr (zs_liv S) d 0) (zu_pr (zs_liv S) d 1) (decide (zu_pr (zs_liv S) d 2 = 1)) W (zx_ks a (b + 1)) (zn_pt N, zu_e (zs_E S), [], 0) = zl_pls (zs_P S) (zs_G S) (zu_pr (zs_liv S) d 0) (zu_pr (zs_liv S) d 1) (decide (zu_pr (zs_liv S) d 2 = 1)) W (zx_ks (a + j) (b + 1)) qj
      → (∀ k, qj.1 k = if a ≤ k ∧ k < a + j then (πj (k - a)).1 else zn_pt N k) → qj.2.2.1 = (List.range' 0 j).filterMap (zl_E πj) → hh_i hj m 43 = (Int32.ofNat (qj.2.2.2)) → gy_wf hj → gm_G 481 26 [some (.ref m), some (.int (Int32.ofNat i)), some (.int (Int32.ofNat ob)), some (.int (Int32.ofNat a)), some (.int (Int32.ofNat b)), none, some (.int (Int32.ofNat ((a + j))))] [] hj (fun r h' => gy_wf h' → Q r h') := by
    intro e
    induction e with
    | zero =>
      intro j hj βj πj qj ej gj sj tj eq ep en e43j wj
      have hTj := gj.tw R2.1
      rw [zx_ks_n (show ¬ a + j < b + 1 by omega)] at eq
      have eq : zl_pls (zs_P S) (zs_G S) (zu_pr (zs_liv S) d 0) (zu_pr (zs_liv S) d 1) (decide (zu_pr (zs_liv S) d 2 = 1)) W (zx_ks a (b + 1)) (zn_pt N, zu_e (zs_E S), [], 0) = some qj := eq
      obtain ⟨Rj, usj, ktj⟩ := rTp_pf R2 gj (fun p hp u => (sj p hp ((k18 p hp).mpr ((us2 p).mp u))).1)
      have TTj := ktj t _ sl2 TT2
      refine w_481_26 hTj ⟨fun _ => ?_, fun z => absurd (by rw [i_lt (by omega) (by omega)]; omega) z⟩
      refine lp_fill (m := m) (o := 104) (b := a) (n := j) (fun k => [some (.ref m), some (.int (Int32.ofNat i)), some (.int (Int32.ofNat ob)), some (.int (Int32.ofNat a)), some (.int (Int32.ofNat b)), none, some (.int (Int32.ofNat ((a + k))))]) (fun k => hh_i hj (m + 30) k) (by decide) (fun k h3 hk g3 _ kk => ?_) (fun h3 g3 e3 => ?_)
      · refine w_481_62 (hTj.fr g3) ⟨fun z => absurd z (by rw [i_lt (by omega) (by omega)]; omega), fun _ => ⟨k, by rw [i_sub (by omega), show a + k - a = k by omega]; exact ix_n (by omega) (by omega), a + k, ix_n (by omega) (by omega), fun h5 a5 => ?_⟩⟩
        rw [g3.arr (o := 30) rfl] at a5
        rw [a5, i_add]
        exact kk
      · have hT3 := hTj.fr g3
        have R3 : rTp h3 m S := by
          obtain ⟨s0, s1, s2, s3, s4, s5, s6, s7, s8, s9⟩ := Rj
          exact ⟨s0.fr g3, s1.fr g3 rfl rfl, s2.fr g3 rfl rfl, s3.fr g3 rfl rfl, s4.fr g3 rfl rfl, s5.fr g3 rfl rfl, s6.fr g3 rfl, s7.fr g3 rfl, s8.fr g3 rfl, s9.fr g3 rfl rfl⟩
        have n03 : fq m (oPl ++ [104]) fPl h h3 := ((fq.of (g02.up rfl rfl)).trans (gj.up rfl rfl)).trans (fq.of (g3.up rfl rfl))
        have g03 : fq m oSt fSt h h3 := n03.up rfl rfl
        have us3 : ∀ p, tw_uN h3 m p ↔ tw_uN h m p := fun p => by
          rw [← us2 p, ← usj p]
          unfold tw_uN tw_us tw_sl tw_st
          rw [g3.arr (o := 40) rfl, g3.arr (o := 55) rfl, g3.arr (o := 59) rfl, g3.arr (o := 63) rfl, g3.arr (o := 69) rfl, g3.arr (o := 74) rfl, g3.arr (o := 78) rfl, g3.fld (f := 77) rfl, g3.fld (f := 99) rfl]
        have TT3 : tt h3 m t (zd_tr d) := TTj.sm (F := f0) (g3.sm rfl rfl)
        have h63 : hh_i h3 (m + 63) i = (Int32.ofNat t) := by rw [n03.arr (o := 63) rfl]; exact e63
        have D3 : td h3 m i d := td_of (T' := zd_tr d) (fun o h1 h4 h5 => n03.1.arrs (P := fun o => Nat.ble 59 o && Nat.ble o 79 && !(Nat.beq o 63)) rfl (by
          (try dsimp only)
          rw [Bool.and_eq_true, Bool.and_eq_true, Nat.ble_eq, Nat.ble_eq]
          refine ⟨⟨h1, h4⟩, ?_⟩
          cases q : Nat.beq o 63 with
          | false => rfl
          | true => exact absurd (Nat.eq_of_beq_eq_true q) h5) (by omega)) D ⟨t, h63, TT3⟩
        have t3 : tpn h3 m (zs_G S) qj.2.1 βj j πj := ⟨tpt_fr tj.1 g3 rfl, by rw [g3.fld (f := 41) rfl]; exact tj.2.1, fun k hk => tpe_ts tj.1 (by rw [g3.arr (o := 30) rfl]) (by rw [g3.arr (o := 31) rfl]) (fun p hp up => ⟨ts_fr g3 rfl, rfl⟩) (tj.2.2 k hk)⟩
        have x18 : hh_i h3 (m + 18) = hh_i hj (m + 18) := g3.arr rfl
        refine w_481_62 hT3 ⟨fun _ => ?_, fun z => absurd (by rw [i_lt (by omega) (by omega)]; omega) z⟩
        refine t_putPointers (np := j) (dn := qj.2.2.2) (pt := qj.1) R3 (g3.wf wj hTj (fun o ho e => by rw [List.mem_singleton] at ho; subst ho; exact absurd e (by decide)) (fun o ho e => by rw [List.mem_singleton] at ho; subst ho; exact absurd e (by decide)) (fun f hf => absurd hf (List.not_mem_nil)) (fun o ho => by rw [List.mem_singleton] at ho; subst ho; decide)) K up hu hzt hi D3 h63 TT3 hob eN kN (by rw [n03.fld (f := 111) rfl]; exact e111) t3 (by omega) (fun p hp u => ?_) (fun k hk => ?_) (by rw [g3.fld (f := 43) rfl]; exact e43j) (fun e1 e2 => ?_) (fun e1 e2 h4 w4 RX g4 => ?_) (fun e1 e2 h4 t' w4 RW e110 _ g4 => ?_)
        · have u0 := (k18 p hp).mpr ((us3 p).mp u)
          rw [x18, (sj p hp u0).1.1 18 rfl]
          exact u0
        · rw [ep k, e3]
          by_cases c : a ≤ k ∧ k < a + j
          · rw [if_pos c, if_pos c]
            have hh := tj.2.2 (k - a) (by omega)
            unfold tpe at hh
            cases q1 : (πj (k - a)).1 with
            | none => rw [q1] at hh; exact Or.inl ⟨rfl, hh.1⟩
            | some x =>
              cases q2 : (πj (k - a)).2 with
              | none =>
                rw [q1, q2] at hh
                obtain ⟨p, x1, x2, x3, x4, x5⟩ := hh
                exact Or.inr ⟨x, p, rfl, x1, x2, by rw [x18]; exact x4, x5⟩
              | some y =>
                rw [q1, q2] at hh
                obtain ⟨p, x1, x2, x3, x4, x5, -⟩ := hh
                exact Or.inr ⟨x, p, rfl, x1, x2, by rw [x18]; exact x4, x5⟩
          · rw [if_neg c, if_neg c, gj.arr (o := 104) rfl, e104 k hk]
            have e55 : hh_i h1 (m + 55) (8 * (16 * t + ob) + k) = hh_i h2 (m + 55) (8 * (16 * t + ob) + k) := by rw [g2.arr (o := 55) rfl]
            rw [e55]
            rcases N2.2.2.2.2.2.2.2.2.2.2.2 k hk with ⟨y1, y2⟩ | ⟨x, p, y1, y2, y3, y4, -⟩
            · exact Or.inl ⟨y1, y2⟩
            · have u : tw_uN h m p := by
                rw [← us2 p, tw_uN.of R2.2.2.2.2.1, tw_us_l1]
                exact ⟨t, sl2, ht, ob, k, hob, hk, tn_k0 N2, y3⟩
              have u0 := (k18 p y2).mpr u
              refine Or.inr ⟨x, p, y1, y2, y3, by rw [x18, (sj p y2 u0).1.1 18 rfl]; exact u0, ?_⟩
              rw [(sj p y2 u0).2]
              have hx := hzt x (zu_n_t hob eN (List.mem_filterMap.mpr ⟨k, List.mem_range.mpr hk, y1⟩))
              obtain ⟨z1, z2⟩ := tw_be_ok RE y2 u
              exact tb_inj K (tb_f8 z2 g02 rfl) y4 (hU.1 _ z1) hx
        · exact fun w' => HS (Or.inr ⟨qj, eq, e1, e2⟩) h3 w' R3 g03
        · rw [← en] at e2 RX
          exact fun w' => HC qj eq e1 e2 h4 w' RX (g03.trans (fq.of (g4.up rfl rfl)))
        · rw [← en] at e2 RW
          refine fun w' => HK qj eq e1 e2 h4 t' w' RW ?_ (g03.trans (fq.of (g4.up rfl rfl)))
          rw [e110]
          cases rp with
          | false => rfl
          | true => exact n03.fld (f := 110) rfl
    | succ e ih =>
      intro j hj βj πj qj ej gj sj tj eq ep en e43j wj
      have hTj := gj.tw R2.1
      rw [zx_ks_c (show a + j < b + 1 by omega), zl_pls_c] at eq
      obtain ⟨Rj, usj, ktj⟩ := rTp_pf R2 gj (fun p hp u => (sj p hp ((k18 p hp).mpr ((us2 p).mp u))).1)
      have TTj := ktj t _ sl2 TT2
      have Dj : td hj m i d := td_of (T' := zd_tr d) (fun o h1 h4 h5 => gj.1.arrs (P := fun o => Nat.ble 59 o && Nat.ble o 79) rfl (by (try dsimp only); rw [Bool.and_eq_true, Nat.ble_eq, Nat.ble_eq]; exact ⟨h1, h4⟩) (by omega)) D2 ⟨t, by rw [gj.arr (o := 63) rfl]; exact f63, TTj⟩
      have upj : hh_i hj m 77 = (Int32.ofNat 1) := by rw [Rj.2.2.2.2.1.2.1, upE]; rfl
      refine w_481_26 hTj ⟨fun z => absurd z (by rw [i_lt (by omega) (by omega)]; omega), fun _ => ?_⟩
      rw [i_mul]
      have e103j : hh_i hj (m + 103) = W := by rw [gj.arr (o := 103) rfl, e103, eW]
      have ef : (fun x => hh_i hj (m + 103) (32 * (a + j) + x)) = fun x => W (32 * (a + j) + x) := by rw [e103j]
      have l103 : hh_ln hj (m + 103) = 544 := (hTj.2.2 103 (by decide)).2
      refine t_planBlock (s := zs_liv S) hTj wj Rj.2.2.2.1 Rj.2.2.1 K upj (Rj.2.2.2.2.1.2.2.1 upE).1 hi Dj hch hco hn1 hn2 hs2 tj (by omega) (hTj.2.2 103 (by decide)).1 (by rw [l103]; omega) (by rw [l103]; decide) (fun o ho e => ?_) (fun e1 h4 w4 g4 s4 => ?_) (fun q e1 h4 β4 w4 g4 s4 t4 e43 => ?_)
      · have : o = 103 := by omega
        subst this
        exact absurd ho (by decide)
      · rw [ef] at e1
        rw [e1] at eq
        refine ⟨fun z => absurd rfl z, fun _ w' => ?_⟩
        have g24 := gj.trans g4
        obtain ⟨R4, -, -⟩ := rTp_pf R2 g24 (fun p hp u => by
          have u0 := (k18 p hp).mpr ((us2 p).mp u)
          have y := (sj p hp u0).1
          exact y.trans (s4 p hp (by rw [y.1 18 rfl]; exact u0)))
        exact HS (Or.inl eq) h4 w' R4 ((fq.of (g02.up rfl rfl)).trans (g24.up rfl rfl))
      · rw [ef] at e1
        rw [e1] at eq
        (try dsimp only at eq)
        refine ⟨fun _ => ?_, fun z => absurd z (by decide)⟩
        rw [i_add]
        refine ih (j + 1) h4 β4 (fu πj j q) _ (by omega) (gj.trans g4) (fun p hp u0 => ?_) t4 eq (fun k => ?_) ?_ ?_ w4
        · have y := sj p hp u0
          have y2 := s4 p hp (by rw [y.1.1 18 rfl]; exact u0)
          exact ⟨y.1.trans y2.1, y2.2.trans y.2⟩
        · show fu qj.1 (a + j) q.1 k = _
          by_cases c : k = a + j
          · rw [fu, if_pos c, if_pos (by omega), fu, if_pos (by omega)]
          · rw [fu, if_neg c, ep k]
            by_cases c2 : a ≤ k ∧ k < a + j
            · rw [if_pos c2, if_pos (by omega), fu, if_neg (by omega)]
            · rw [if_neg c2, if_neg (by omega)]
        · show qj.2.2.1 ++ _ = _
          rw [List.range'_1_concat, List.filterMap_append, Nat.zero_add, en]
          congr 1
          · refine fm_cg _ (fun k hk => ?_)
            have hk := (List.mem_range'_1.mp hk).2
            unfold zl_E
            rw [fu, if_neg (by omega)]
          · have : zl_E (fu πj j q) j = (match q.1, q.2 with | some b, some l => some (b, l) | _, _ => none) := by
              have e : fu πj j q j = q := if_pos rfl
              unfold zl_E
              rw [e]
              obtain ⟨q1, q2⟩ := q
              cases q1 <;> cases q2 <;> rfl
            rw [List.filterMap_cons, List.filterMap_nil, this]
            obtain ⟨q1, q2⟩ := q
            cases q1 with
            | none => rfl
            | some x =>
              cases q2 with
              | none => rfl
              | some y => rfl
        · rw [e43, e43j]
          obtain ⟨q1, q2⟩ := q
          cases q1 with
          | none => exact i_add _ _
          | some x =>
            cases q2 with
            | none => exact i_add _ _
            | some y => exact i_add _ _
  refine lp (b + 1 - a) 0 h2 (tw_be h m (zs_E S)) (fun _ => (none, none)) (zn_pt N, zu_e (zs_E S), [], 0) (by omega) (fq.of (fr.refl _ _)) (fun p _ _ => ⟨ts.refl _ _ _, rfl⟩) tp2 rfl (fun k => by rw [if_neg (by omega)]) rfl (by rw [g2.fld (f := 43) rfl]; exact e43) w2
end SR
