/-! STAGE 3: a slot of its own for a living set -/
theorem fc_two {P : Nat → Bool} {i k : Nat} : ∀ {n : Nat}, i < n → k < n → ¬ i = k → P i = true → P k = true → 2 ≤ fc P n
  | 0, h1, _, _, _, _ => absurd h1 (Nat.not_lt_zero _)
  | n + 1, h1, h2, h3, h4, h5 => by
    rw [fc_S]
    by_cases a : i = n
    · subst a
      have : 0 < fc P i := fc_pos.mpr ⟨k, by omega, h5⟩
      rw [h4, if_pos rfl]
      omega
    · by_cases b : k = n
      · subst b
        have : 0 < fc P k := fc_pos.mpr ⟨i, by omega, h4⟩
        rw [h5, if_pos rfl]
        omega
      · have := fc_two (n := n) (by omega) (by omega) h3 h4 h5
        omega
section OW
variable {h h' : hh_T} {m : Nat} {Q : Option Value ⊕ Nat → hh_T → Prop} {E : zE}
theorem tu_sg {j k : Nat} {s : zU} (TU : tu h m j s) (hk : k < 8) (e : ¬ hh_i h (m + 59) (8 * j + k) = Int32.ofInt (-1)) : ¬ hh_i h (m + 59) (8 * j + k) < (Int32.ofNat 0) := by
  rcases TU.1 k hk with z | ⟨d, -, D⟩
  · exact absurd z e
  · rw [D.1, i_n0 (by have := D.2.1; omega)]; exact id
theorem tu_sk {j k : Nat} {s : zU} (TU : tu h m j s) (hk : k < 12) (e : ¬ hh_i h (m + 69) (12 * j + k) = Int32.ofInt (-1)) : ¬ hh_i h (m + 69) (12 * j + k) < (Int32.ofNat 0) := by
  rcases TU.2.2.1 k hk with z | ⟨d, -, D⟩
  · exact absurd z e
  · rw [D.1, i_n0 (by have := D.2.1; omega)]; exact id
theorem tr_c_os {j t : Nat} {s : zU} (TU : tu h m j s) (q : tw_os h m j t) : 0 < tr_c h m j t := by
  unfold tr_c
  rcases q with ⟨k, k1, k2, k3⟩ | ⟨k, k1, k2, k3⟩
  · have : 0 < fc (tr_a h m j t) 8 := fc_pos.mpr ⟨k, k1, by unfold tr_a; rw [decide_eq_true (tu_sg TU k1 k2), decide_eq_true k3]; rfl⟩
    omega
  · have : 0 < fc (tr_b h m j t) 12 := fc_pos.mpr ⟨k, k1, by unfold tr_b; rw [decide_eq_true (tu_sk TU k1 k2), decide_eq_true k3]; rfl⟩
    omega
theorem tr_h_ge {t c : Nat} : ∀ {n : Nat}, c < n → tr_c h m (hh_i h (m + 78) c).toNatClampNeg t ≤ tr_h h m t n
  | 0, hc => absurd hc (Nat.not_lt_zero _)
  | n + 1, hc => by
    show _ ≤ tr_h h m t n + tr_c h m (hh_i h (m + 78) n).toNatClampNeg t
    by_cases y : c = n
    · rw [y]; omega
    · have := tr_h_ge (t := t) (c := c) (n := n) (by omega)
      omega
theorem rT_E_hs (R : rT_E h m E) : ∀ c, c < (ze_heads E).length → ∃ j, hh_i h (m + 78) c = (Int32.ofNat j) ∧ 1 ≤ j ∧ j < 4 := fun c hc => by
  obtain ⟨j, z1, z2, z3, -⟩ := R.2.2.2.2.2.1 c _ (List.getElem?_eq_getElem hc)
  exact ⟨j, z1, z2, z3⟩
theorem rT_E_hd (R : rT_E h m E) {c j : Nat} (hc : c < (ze_heads E).length) (e : hh_i h (m + 78) c = (Int32.ofNat j)) (hj : j < 4) : ∃ s, tu h m j s := by
  obtain ⟨j', z1, z2, z3, z4, z5, z6⟩ := R.2.2.2.2.2.1 c _ (List.getElem?_eq_getElem hc)
  have : j = j' := (i_eq (by omega) (by omega)).mp (e.symm.trans z1)
  subst this
  exact ⟨_, z6⟩
theorem tr_n_eq (R : rT_E h m E) (up : ze_up E = true) (t : Nat) : tr_n h m t = tr_c h m 0 t + tr_h h m t (ze_heads E).length := by
  unfold tr_n
  rw [R.2.1, up, if_neg (by decide), R.2.2.2.1, i_tn (by have := R.2.2.2.2.1; omega)]
theorem tr_h_os (R : rT_E h m E) {c j t : Nat} (hc : c < (ze_heads E).length) (e : hh_i h (m + 78) c = (Int32.ofNat j)) (hj : j < 4) (q : tw_os h m j t) : 0 < tr_h h m t (ze_heads E).length := by
  obtain ⟨s, TU⟩ := rT_E_hd R hc e hj
  have h1 := tr_c_os TU q
  have h2 := tr_h_ge (h := h) (m := m) (t := t) hc
  rw [e, i_tn (by omega)] at h2
  omega
theorem tr_ot {i t : Nat} (R : rT_E h m E) (up : ze_up E = true) (q : tw_ot h m (ze_heads E).length i t) : 0 < tr_n h m t := by
  rw [tr_n_eq R up]
  obtain ⟨TU, -⟩ := R.2.2.1 up
  rcases q with ⟨k, k1, -, k3, k4⟩ | ⟨k, k1, k2, k3⟩ | ⟨c, j, hc, z1, z2, z3, q⟩
  · have := tr_c_os TU (t := t) (Or.inl ⟨k, k1, by rw [Nat.mul_zero, Nat.zero_add]; exact k3, by rw [Nat.mul_zero, Nat.zero_add]; exact k4⟩)
    omega
  · have := tr_c_os TU (t := t) (Or.inr ⟨k, k1, by rw [Nat.mul_zero, Nat.zero_add]; exact k2, by rw [Nat.mul_zero, Nat.zero_add]; exact k3⟩)
    omega
  · have := tr_h_os R hc z1 z3 q
    omega
theorem tr_two {i t : Nat} (R : rT_E h m E) (up : ze_up E = true) (hi : i < 8) (h59 : ¬ hh_i h (m + 59) i = Int32.ofInt (-1)) (e63 : hh_i h (m + 63) i = (Int32.ofNat t)) (q : tw_ot h m (ze_heads E).length i t) : 2 ≤ tr_n h m t := by
  rw [tr_n_eq R up]
  obtain ⟨TU, -⟩ := R.2.2.1 up
  have ai : tr_a h m 0 t i = true := by
    unfold tr_a
    rw [Nat.mul_zero, Nat.zero_add, decide_eq_true e63, decide_eq_true]
    · rfl
    · have := tu_sg TU (k := i) hi (by rw [Nat.mul_zero, Nat.zero_add]; exact h59)
      rw [Nat.mul_zero, Nat.zero_add] at this
      exact this
  have a1 : 0 < fc (tr_a h m 0 t) 8 := fc_pos.mpr ⟨i, hi, ai⟩
  rcases q with ⟨k, k1, k2, k3, k4⟩ | ⟨k, k1, k2, k3⟩ | ⟨c, j, hc, z1, z2, z3, q⟩
  · have ak : tr_a h m 0 t k = true := by
      unfold tr_a
      rw [Nat.mul_zero, Nat.zero_add, decide_eq_true k4, decide_eq_true]
      · rfl
      · have := tu_sg TU (k := k) k1 (by rw [Nat.mul_zero, Nat.zero_add]; exact k3)
        rw [Nat.mul_zero, Nat.zero_add] at this
        exact this
    have := fc_two k1 hi k2 ak ai
    unfold tr_c
    omega
  · have bk : 0 < fc (tr_b h m 0 t) 12 := fc_pos.mpr ⟨k, k1, by
      unfold tr_b
      rw [Nat.mul_zero, Nat.zero_add, decide_eq_true k3, decide_eq_true]
      · rfl
      · have := tu_sk TU (k := k) k1 (by rw [Nat.mul_zero, Nat.zero_add]; exact k2)
        rw [Nat.mul_zero, Nat.zero_add] at this
        exact this⟩
    unfold tr_c
    omega
  · have := tr_h_os R hc z1 z3 q
    unfold tr_c
    omega
/-- where a slot is held -/
def tr_s (h : hh_T) (m : Nat) : Nat → Nat
  | 0 => 0
  | c + 1 => (hh_i h (m + 78) c).toNatClampNeg
def tr_v (h : hh_T) (m y : Nat) : Int32 := if y % 20 < 8 then hh_i h (m + 63) (8 * tr_s h m (y / 20) + y % 20) else hh_i h (m + 74) (12 * tr_s h m (y / 20) + (y % 20 - 8))
theorem tr_c_inv {c t : Nat} (q : 0 < tr_c h m (tr_s h m c) t) : ∃ y, 20 * c ≤ y ∧ y < 20 * c + 20 ∧ tr_v h m y = (Int32.ofNat t) := by
  unfold tr_c at q
  by_cases z : 0 < fc (tr_a h m (tr_s h m c) t) 8
  · obtain ⟨k, k1, k2⟩ := fc_pos.mp z
    unfold tr_a at k2
    rw [Bool.and_eq_true, decide_eq_true_eq, decide_eq_true_eq] at k2
    refine ⟨20 * c + k, by omega, by omega, ?_⟩
    unfold tr_v
    rw [show (20 * c + k) % 20 = k by omega, show (20 * c + k) / 20 = c by omega, if_pos k1]
    exact k2.2
  · obtain ⟨k, k1, k2⟩ := fc_pos.mp (show 0 < fc (tr_b h m (tr_s h m c) t) 12 by omega)
    unfold tr_b at k2
    rw [Bool.and_eq_true, decide_eq_true_eq, decide_eq_true_eq] at k2
    refine ⟨20 * c + (8 + k), by omega, by omega, ?_⟩
    unfold tr_v
    rw [show (20 * c + (8 + k)) % 20 = 8 + k by omega, show (20 * c + (8 + k)) / 20 = c by omega, if_neg (by omega), show 8 + k - 8 = k by omega]
    exact k2.2
theorem tr_h_inv {t : Nat} : ∀ {n : Nat}, 0 < tr_h h m t n → ∃ c, c < n ∧ 0 < tr_c h m (tr_s h m (c + 1)) t
  | 0, q => absurd q (Nat.not_lt_zero _)
  | n + 1, q => by
    have q : 0 < tr_h h m t n + tr_c h m (hh_i h (m + 78) n).toNatClampNeg t := q
    by_cases z : 0 < tr_c h m (hh_i h (m + 78) n).toNatClampNeg t
    · exact ⟨n, by omega, z⟩
    · obtain ⟨c, c1, c2⟩ := tr_h_inv (t := t) (n := n) (by omega)
      exact ⟨c, by omega, c2⟩
theorem tr_n_inv {t : Nat} (hn : (hh_i h m 99).toNatClampNeg ≤ 3) (q : 0 < tr_n h m t) : ∃ y, y < 80 ∧ tr_v h m y = (Int32.ofNat t) := by
  unfold tr_n at q
  by_cases z : 0 < tr_h h m t (hh_i h m 99).toNatClampNeg
  · obtain ⟨c, c1, c2⟩ := tr_h_inv z
    obtain ⟨y, y1, y2, y3⟩ := tr_c_inv c2
    exact ⟨y, by omega, y3⟩
  · have : 0 < tr_c h m 0 t := by
      split at q <;> omega
    obtain ⟨y, y1, y2, y3⟩ := tr_c_inv (c := 0) this
    exact ⟨y, by omega, y3⟩
theorem tr_free (hn : (hh_i h m 99).toNatClampNeg ≤ 3) : ∃ t, t < 96 ∧ tr_n h m t = 0 := by
  by_cases c : ∃ t, t < 96 ∧ tr_n h m t = 0
  · exact c
  · have hp : ∀ t, t < 96 → ∃ y, y < 80 ∧ tr_v h m y = (Int32.ofNat t) := fun t ht => tr_n_inv hn (by
      by_cases z : tr_n h m t = 0
      · exact absurd ⟨t, ht, z⟩ c
      · omega)
    obtain ⟨i, j, q1, q2, q3⟩ := pigeon 80 (fun t => Classical.epsilon (fun y => y < 80 ∧ tr_v h m y = (Int32.ofNat t))) (fun i hi => (Classical.epsilon_spec (hp i (by omega))).1)
    (try dsimp only at q3)
    have h1 := (Classical.epsilon_spec (hp i (by omega))).2
    have h2 := (Classical.epsilon_spec (hp j (by omega))).2
    rw [q3, h2] at h1
    have := (i_eq (by omega) (by omega)).mp h1
    omega
theorem t_freeTree {nh : Nat} (hT : tw_ok h m) (e99 : hh_i h m 99 = (Int32.ofNat nh)) (hn : nh ≤ 3) (hs : ∀ k, k < nh → ∃ j, j < 4 ∧ hh_i h (m + 78) k = (Int32.ofNat j)) (H : ∀ t, t < 96 → tr_n h m t = 0 → Q (.inl (some (.int (Int32.ofNat t)))) h) : gm_G 403 0 [some (.ref m)] [] h Q := by
  obtain ⟨f, f1, f2⟩ := tr_free (h := h) (m := m) (by rw [e99, i_tn (by omega)]; exact hn)
  have lp : ∀ d t, t + d = f → gm_G 403 2 [some (.ref m), some (.int (Int32.ofNat t))] [] h Q := by
    intro d
    induction d with
    | zero =>
      intro t et
      have et : t = f := by omega
      subst et
      refine w_403_2 hT ?_
      refine t_isTree hT e99 hn hs (fun z => absurd z (by omega)) (fun _ => ?_)
      exact ⟨fun _ => H t f1 f2, fun z => absurd rfl z⟩
    | succ d ih =>
      intro t et
      refine w_403_2 hT ?_
      refine t_isTree hT e99 hn hs (fun z => ?_) (fun z => ?_)
      · refine ⟨fun y => absurd y (by decide), fun _ => ?_⟩
        rw [i_add]
        exact ih (t + 1) (by omega)
      · exact ⟨fun _ => H t (by omega) (by omega), fun y => absurd rfl y⟩
  exact w_403_0 hT (lp f 0 (by omega))
theorem zu_up_id {s : zU} {d : zD} (hu : ∀ x, x ∈ zu_sets s → zd_no x = zd_no d → x = d) : zu_up s (zd_no d) (fun x => zd_tr_ x (zd_tr d)) = s := by
  have : (zu_sets s).map (fun x => if zd_no x = zd_no d then zd_tr_ x (zd_tr d) else x) = zu_sets s := by
    conv => rhs; rw [← List.map_id (zu_sets s)]
    refine List.map_congr_left (fun x hx => ?_)
    show (if zd_no x = zd_no d then zd_tr_ x (zd_tr d) else x) = x
    split
    · rename_i z
      rw [hu x hx z]
      rfl
    · rfl
  unfold zu_up
  rw [this]
  rfl
def oOw : List Nat := oTr ++ [63]
theorem t_ownTree {i t : Nat} {d : zD} (hT : tw_ok h m) (w : gy_wf h) (R : rT_E h m E) (up : ze_up E = true) (hu : ∀ x, x ∈ zu_sets (ze_liv E) → zd_no x = zd_no d → x = d) (hi : i < 8) (D : td h m i d) (e63 : hh_i h (m + 63) i = (Int32.ofNat t)) (TT : tt h m t (zd_tr d))
    (H : ∀ h' t', gy_wf h' → fr (tO m oOw []) h h' → rT_E h' m E → td h' m i d → hh_i h' (m + 63) i = (Int32.ofNat t') → tt h' m t' (zd_tr d) → ¬ tw_ot h' m (ze_heads E).length i t' → (∀ p, tw_uN h' m p ↔ tw_uN h m p) → Q (.inl (some (.int (Int32.ofNat t')))) h') : gm_G 420 0 [some (.ref m), some (.int (Int32.ofNat i))] [] h Q := by
  obtain ⟨r1, r2, r3, r4, r5, r6, r7, r8, r9⟩ := id R
  have hs0 := rT_E_hs R
  have hs : ∀ k, k < (ze_heads E).length → ∃ j, j < 4 ∧ hh_i h (m + 78) k = (Int32.ofNat j) := fun k hk => by
    obtain ⟨j, z1, z2, z3⟩ := hs0 k hk
    exact ⟨j, z3, z1⟩
  have h59 := td_ne D
  have ht := TT.1
  refine gy_use w ?_
  refine w_420_0 hT ⟨i, ix_n (by omega) (by omega), ?_⟩
  rw [e63]
  refine t_refs hT r4 r5 hs (fun hle => ?_)
  refine ⟨fun z => ?_, fun z => ?_⟩
  · rw [i_lt (by decide) (by omega)] at z
    refine w_420_37 hT ⟨i, ix_n (by omega) (by omega), fun w' => ?_⟩
    rw [e63]
    refine H h t w' (fr.refl _ _) R D e63 TT (fun q => ?_) (fun p => Iff.rfl)
    have := tr_two R up hi h59 e63 q
    omega
  · rw [i_lt (by decide) (by omega)] at z
    refine t_freeTree hT r4 r5 hs (fun t' ht' hfree => ?_)
    refine ⟨i, ix_n (by omega) (by omega), ?_⟩
    rw [e63]
    have hne : ¬ t = t' := fun e => by rw [e] at z; omega
    refine t_copyTree hT w ht ht' hne (fun h7 w7 g7 s1 s2 e58 e58' => ?_)
    refine ⟨i, ix_n (by omega) (by omega), fun h9 a9 => ?_⟩
    have g9 : fr (tO m [63] []) h7 h9 := by rw [a9]; exact fr.a rfl
    have g0 : fr (tO m oOw []) h h9 := (g7.up rfl rfl).trans (g9.up rfl rfl)
    have f63 : hh_i h9 (m + 63) i = (Int32.ofNat t') := by rw [a9, hi_e ⟨rfl, rfl⟩]
    have g63 : ∀ k, ¬ k = i → hh_i h9 (m + 63) k = hh_i h (m + 63) k := fun k hk => by rw [a9, hi_n (by omega), g7.arr (o := 63) rfl]
    have a : aSt h h9 m := fun o h1 h2 h3 => g0.arrs (P := fun o => Nat.ble 59 o && Nat.ble o 79 && !(Nat.beq o 63)) rfl (by
      (try dsimp only)
      rw [Bool.and_eq_true, Bool.and_eq_true, Nat.ble_eq, Nat.ble_eq]
      refine ⟨⟨h1, h2⟩, ?_⟩
      cases q : Nat.beq o 63 with
      | false => rfl
      | true => exact absurd (Nat.eq_of_beq_eq_true q) h3) (by omega)
    have s1' : ∀ o, o < 16 → so h h9 m (16 * t + o) (16 * t' + o) := fun o ho => (s1 o ho).trans (so_fr g9 rfl)
    have s2' : ∀ q, ¬ q / 16 = t' → so h h9 m q q := fun q hq => (s2 q hq).trans (so_fr g9 rfl)
    have B9 : ∀ p b0, tb h m p b0 → tb h9 m p b0 := fun p b0 B => tb_f8 B g0 rfl
    have not' : ∀ t1, tw_ot h m (ze_heads E).length i t1 → ¬ t1 = t' := fun t1 q e => by
      have := tr_ot R up q
      rw [e] at this
      omega
    have N : tt h9 m t' (zd_tr d) := tt_so ht' (by rw [a9, hi_n (by omega)]; exact e58) s1' (fun p b0 _ _ B => B9 p b0 B) TT
    have keep : ∀ t1 T, tw_ot h m (ze_heads E).length i t1 → tt h m t1 T → tt h9 m t1 T := fun t1 T q X => tt_so X.1 (by rw [a9, hi_n (by omega)]; exact e58' t1 (not' t1 q)) (fun o ho => s2' _ (by have := not' t1 q; omega)) (fun p b0 _ _ B => B9 p b0 B) X
    have hs9 : ∀ c, c < (ze_heads E).length → ∃ j, hh_i h9 (m + 78) c = (Int32.ofNat j) ∧ 1 ≤ j ∧ j < 4 := by rw [a 78 (by decide) (by decide) (by decide)]; exact hs0
    have h599 : ¬ hh_i h9 (m + 59) i = Int32.ofInt (-1) := by rw [a 59 (by decide) (by decide) (by decide)]; exact h59
    have hus : ∀ p, tw_us h9 m (tw_sl h9 m (ze_up E) (ze_heads E).length) p ↔ tw_us h m (tw_sl h m (ze_up E) (ze_heads E).length) p := fun p => by
      rw [up, tw_us_l1, tw_us_l1]
      constructor
      · rintro ⟨t1, q1, q0, q2⟩
        rcases (tw_sl_ot hs9 hi h599).mp q1 with q1 | q1
        · rw [f63] at q1
          have e : t' = t1 := (i_eq (by omega) (by omega)).mp q1
          subst e
          exact ⟨t, (tw_sl_ot hs0 hi h59).mpr (Or.inl e63), ht, (tw_l1_so s1').mp q2⟩
        · have q1 := (tw_ot_a a g63 hi).mp q1
          have hn := not' t1 q1
          exact ⟨t1, (tw_sl_ot hs0 hi h59).mpr (Or.inr q1), q0, (tw_l1_so (fun o ho => s2' _ (by omega))).mp q2⟩
      · rintro ⟨t1, q1, q0, q2⟩
        rcases (tw_sl_ot hs0 hi h59).mp q1 with q1 | q1
        · rw [e63] at q1
          have e : t = t1 := (i_eq (by omega) (by omega)).mp q1
          subst e
          exact ⟨t', (tw_sl_ot hs9 hi h599).mpr (Or.inl f63), ht', (tw_l1_so s1').mpr q2⟩
        · have hn := not' t1 q1
          exact ⟨t1, (tw_sl_ot hs9 hi h599).mpr (Or.inr ((tw_ot_a a g63 hi).mpr q1)), q0, (tw_l1_so (fun o ho => s2' _ (by omega))).mpr q2⟩
    have R9 : rT_E h9 m E := by
      have := rT_E_tree (T' := zd_tr d) R up hi D a (fun o ho => g0.fld (by
        cases q : ([] : List Nat).contains o with
        | false => rfl
        | true => cases q)) g63 f63 keep N (fun p q hp hq u v => by
          rw [g0.arr (o := 23) rfl, g0.arr (o := 24) rfl]
          exact r8 p q hp hq ((hus p).mp u) ((hus q).mp v)) (fun p hp u => by rw [g0.arr (o := 17) rfl]; exact r9 p hp ((hus p).mp u))
      rw [zu_up_id hu] at this
      exact this
    refine w_420_37 (hT.fr g0) ⟨i, ix_n (by omega) (by omega), fun w' => ?_⟩
    rw [f63]
    refine H h9 t' w' g0 R9 (td_of (T' := zd_tr d) a D ⟨t', f63, N⟩) f63 N (fun q => not' t' ((tw_ot_a a g63 hi).mp q) rfl) (fun p => ?_)
    rw [tw_uN.of R9, tw_uN.of R]
    exact hus p
end OW
