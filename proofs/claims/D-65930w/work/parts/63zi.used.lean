/-! STAGE 3: what is in use, by trees and by blocks -/
section US
variable {h h' : hh_T} {m : Nat} {E : zE}
theorem tt_us {t p : Nat} {T : zT} (TT : tt h m t T) (q : tw_l1 h m t p) (hp : p < 640) : ∃ b, b ∈ zu_t T ∧ tb h m p b := by
  obtain ⟨o, k, o1, k1, q1, q2⟩ := q
  rcases TT.2.2.2 o o1 with ⟨-, z⟩ | ⟨N, z1, z2⟩
  · exact absurd z q1
  · rcases z2.2.2.2.2.2.2.2.2.2.2.2 k k1 with ⟨-, z⟩ | ⟨b, p', y1, y2, y3, y4, -⟩
    · rw [q2] at z; exact absurd z (i_nm1 (by omega))
    · have : p' = p := (i_eq (by omega) (by omega)).mp (y3.symm.trans q2)
      subst this
      refine ⟨b, List.mem_flatMap.mpr ⟨o, List.mem_range.mpr o1, ?_⟩, y4⟩
      rw [z1]
      exact List.mem_filterMap.mpr ⟨k, List.mem_range.mpr k1, y1⟩
theorem tt_of {t : Nat} {T : zT} {b : zB} (TT : tt h m t T) (hb : b ∈ zu_t T) : ∃ p, p < 640 ∧ tw_l1 h m t p ∧ tb h m p b := by
  obtain ⟨o, ho, hb⟩ := List.mem_flatMap.mp hb
  have ho := List.mem_range.mp ho
  rcases TT.2.2.2 o ho with ⟨z, -⟩ | ⟨N, z1, z2⟩
  · rw [z] at hb; exact absurd hb (List.not_mem_nil)
  · rw [z1] at hb
    obtain ⟨k, hk, e⟩ := List.mem_filterMap.mp hb
    have hk := List.mem_range.mp hk
    rcases z2.2.2.2.2.2.2.2.2.2.2.2 k hk with ⟨z, -⟩ | ⟨b', p, y1, y2, y3, y4, -⟩
    · rw [e] at z; cases z
    · rw [e] at y1
      cases y1
      exact ⟨p, y2, ⟨o, k, ho, hk, tn_k0 z2, y3⟩, y4⟩
theorem tw_os_tt {j t : Nat} {s : zU} (TU : tu h m j s) (ht : t < 96) (q : tw_os h m j t) : ∃ T, tt h m t T ∧ ∀ b, b ∈ zu_t T → b ∈ zu_s s := by
  rcases q with ⟨k, k1, k2, k3⟩ | ⟨k, k1, k2, k3⟩
  · rcases TU.1 k k1 with z | ⟨d, hd, D⟩
    · exact absurd z k2
    · obtain ⟨t', t1, t2⟩ := D.2.2.2.2.2.2.2.2.1
      have : t' = t := (i_eq (by have := t2.1; omega) (by omega)).mp (t1.symm.trans k3)
      subst this
      exact ⟨_, t2, fun b hb => List.mem_append_left _ (List.mem_flatMap.mpr ⟨d, hd, hb⟩)⟩
  · rcases TU.2.2.1 k k1 with z | ⟨d, hd, D⟩
    · exact absurd z k2
    · obtain ⟨t', t1, t2⟩ := D.2.2.2.2.2.2.2.2.2.1
      have : t' = t := (i_eq (by have := t2.1; omega) (by omega)).mp (t1.symm.trans k3)
      subst this
      exact ⟨_, t2, fun b hb => List.mem_append_right _ (List.mem_flatMap.mpr ⟨d, hd, hb⟩)⟩
theorem tu_of {j : Nat} {s : zU} {b : zB} (TU : tu h m j s) (hb : b ∈ zu_s s) : ∃ t p, t < 96 ∧ tw_os h m j t ∧ p < 640 ∧ tw_l1 h m t p ∧ tb h m p b := by
  rcases List.mem_append.mp hb with hb | hb
  · obtain ⟨d, hd, hb⟩ := List.mem_flatMap.mp hb
    obtain ⟨k, k1, D⟩ := TU.2.1 d hd
    obtain ⟨t, t1, t2⟩ := D.2.2.2.2.2.2.2.2.1
    obtain ⟨p, p1, p2, p3⟩ := tt_of t2 hb
    exact ⟨t, p, t2.1, Or.inl ⟨k, k1, td_ne D, t1⟩, p1, p2, p3⟩
  · obtain ⟨d, hd, hb⟩ := List.mem_flatMap.mp hb
    obtain ⟨k, k1, D⟩ := TU.2.2.2.1 d hd
    obtain ⟨t, t1, t2⟩ := D.2.2.2.2.2.2.2.2.2.1
    obtain ⟨p, p1, p2, p3⟩ := tt_of t2 hb
    exact ⟨t, p, t2.1, Or.inr ⟨k, k1, tk_ne D, t1⟩, p1, p2, p3⟩
/-- a state that counts -/
theorem rT_E_st (R : rT_E h m E) {j : Nat} (hj : j < 4) (q : tw_st h m (ze_up E) (ze_heads E).length j) : ∃ s, tu h m j s ∧ ∀ b, b ∈ zu_s s → b ∈ zu_e E := by
  rcases q with ⟨e, up⟩ | ⟨c, hc, e⟩
  · subst e
    refine ⟨ze_liv E, (R.2.2.1 up).1, fun b hb => List.mem_append_left _ ?_⟩
    rw [up]
    exact hb
  · obtain ⟨j', z1, z2, z3, z4, z5, z6⟩ := R.2.2.2.2.2.1 c _ (List.getElem?_eq_getElem hc)
    have : j = j' := (i_eq (by omega) (by omega)).mp (e.symm.trans z1)
    subst this
    exact ⟨_, z6, fun b hb => List.mem_append_right _ (List.mem_flatMap.mpr ⟨_, List.getElem_mem hc, hb⟩)⟩
theorem tw_sl_tt (R : rT_E h m E) {t : Nat} (ht : t < 96) (q : tw_sl h m (ze_up E) (ze_heads E).length t) : ∃ T, tt h m t T ∧ ∀ b, b ∈ zu_t T → b ∈ zu_e E := by
  obtain ⟨j, h1, h2, h3⟩ := q
  obtain ⟨s, TU, hs⟩ := rT_E_st R h2 h1
  obtain ⟨T, T1, T2⟩ := tw_os_tt TU ht h3
  exact ⟨T, T1, fun b hb => hs b (T2 b hb)⟩
theorem us_in (R : rT_E h m E) {p : Nat} (hp : p < 640) (u : tw_uN h m p) : ∃ b, b ∈ zu_e E ∧ tb h m p b := by
  rw [tw_uN.of R, tw_us_l1] at u
  obtain ⟨t, u1, u2, u3⟩ := u
  obtain ⟨T, T1, T2⟩ := tw_sl_tt R u2 u1
  obtain ⟨b, b1, b2⟩ := tt_us T1 u3 hp
  exact ⟨b, T2 b b1, b2⟩
theorem us_of (R : rT_E h m E) {b : zB} (hb : b ∈ zu_e E) : ∃ p, p < 640 ∧ tw_uN h m p ∧ tb h m p b := by
  have go : ∀ j s, j < 4 → tw_st h m (ze_up E) (ze_heads E).length j → tu h m j s → b ∈ zu_s s → ∃ p, p < 640 ∧ tw_uN h m p ∧ tb h m p b := by
    intro j s hj q TU hb
    obtain ⟨t, p, h1, h2, h3, h4, h5⟩ := tu_of TU hb
    refine ⟨p, h3, ?_, h5⟩
    rw [tw_uN.of R, tw_us_l1]
    exact ⟨t, ⟨j, q, hj, h2⟩, h1, h4⟩
  rcases List.mem_append.mp hb with hb | hb
  · cases up : ze_up E with
    | false => rw [up] at hb; exact absurd hb (List.not_mem_nil)
    | true =>
      rw [up] at hb
      exact go 0 (ze_liv E) (by decide) (Or.inl ⟨rfl, up⟩) (R.2.2.1 up).1 hb
  · obtain ⟨s, hs, hb⟩ := List.mem_flatMap.mp hb
    obtain ⟨c, hc, e⟩ := List.getElem_of_mem hs
    obtain ⟨j, z1, z2, z3, z4, z5, z6⟩ := R.2.2.2.2.2.1 c s (by rw [List.getElem?_eq_getElem hc, e])
    exact go j s z3 (Or.inr ⟨c, hc, z1⟩) z6 hb
theorem us_17 (R : rT_E h m E) {p : Nat} (hp : p < 640) (u : tw_uN h m p) : hh_i h (m + 17) p = (Int32.ofNat 1) := R.2.2.2.2.2.2.2.2 p hp ((tw_uN.of R).mp u)
/-- the block at a place of the table -/
noncomputable def tw_be (h : hh_T) (m : Nat) (E : zE) (p : Nat) : zB := Classical.epsilon (fun b => b ∈ zu_e E ∧ tb h m p b)
theorem tw_be_ok (R : rT_E h m E) {p : Nat} (hp : p < 640) (u : tw_uN h m p) : tw_be h m E p ∈ zu_e E ∧ tb h m p (tw_be h m E p) := by
  exact Classical.epsilon_spec (us_in R hp u)
theorem tr_c_inv2 {j t : Nat} (q : 0 < tr_c h m j t) : tw_os h m j t := by
  unfold tr_c at q
  by_cases z : 0 < fc (tr_a h m j t) 8
  · obtain ⟨k, k1, k2⟩ := fc_pos.mp z
    unfold tr_a at k2
    rw [Bool.and_eq_true, decide_eq_true_eq, decide_eq_true_eq] at k2
    exact Or.inl ⟨k, k1, fun e => k2.1 (by rw [e]; decide), k2.2⟩
  · obtain ⟨k, k1, k2⟩ := fc_pos.mp (show 0 < fc (tr_b h m j t) 12 by omega)
    unfold tr_b at k2
    rw [Bool.and_eq_true, decide_eq_true_eq, decide_eq_true_eq] at k2
    exact Or.inr ⟨k, k1, fun e => k2.1 (by rw [e]; decide), k2.2⟩
theorem tr_sl (R : rT_E h m E) (up : ze_up E = true) {t : Nat} : 0 < tr_n h m t ↔ tw_sl h m (ze_up E) (ze_heads E).length t := by
  rw [tr_n_eq R up]
  constructor
  · intro q
    by_cases z : 0 < tr_c h m 0 t
    · exact ⟨0, Or.inl ⟨rfl, up⟩, by decide, tr_c_inv2 z⟩
    · obtain ⟨c, c1, c2⟩ := tr_h_inv (show 0 < tr_h h m t (ze_heads E).length by omega)
      obtain ⟨j, z1, z2, z3⟩ := rT_E_hs R c c1
      have e : tr_s h m (c + 1) = j := by
        show (hh_i h (m + 78) c).toNatClampNeg = j
        rw [z1, i_tn (by omega)]
      rw [e] at c2
      exact ⟨j, Or.inr ⟨c, c1, z1⟩, z3, tr_c_inv2 c2⟩
  · rintro ⟨j, h1, h2, h3⟩
    rcases h1 with ⟨e, -⟩ | ⟨c, hc, e⟩
    · subst e
      have := tr_c_os (R.2.2.1 up).1 h3
      omega
    · have := tr_h_os R hc e h2 h3
      omega
theorem tm_us (R : rT_E h m E) (up : ze_up E = true) {p : Nat} : tm_u h m 0 p ↔ tw_uN h m p := by
  rw [tw_uN.of R, tw_us_l1]
  constructor
  · rintro (⟨y, y1, y2, y3, y4⟩ | ⟨k, hk, -⟩)
    · refine ⟨y / 128, (tr_sl R up).mp y2, by omega, y / 8 % 16, y % 8, by omega, by omega, ?_, ?_⟩
      · rw [show 16 * (y / 128) + y / 8 % 16 = y / 8 by omega]
        intro e
        rw [e] at y4
        exact absurd y4 (by decide)
      · rw [show 8 * (16 * (y / 128) + y / 8 % 16) + y % 8 = y by omega]
        exact y3
    · exact absurd hk (Nat.not_lt_zero _)
  · rintro ⟨t, u1, u2, o, k, o1, k1, q1, q2⟩
    obtain ⟨T, T1, -⟩ := tw_sl_tt R u2 u1
    refine Or.inl ⟨8 * (16 * t + o) + k, by omega, ?_, q2, ?_⟩
    · rw [show (8 * (16 * t + o) + k) / 128 = t by omega]
      exact (tr_sl R up).mpr u1
    · rw [show (8 * (16 * t + o) + k) / 8 = 16 * t + o by omega]
      rcases T1.2.2.2 o o1 with ⟨-, z⟩ | ⟨N, z1, z2⟩
      · exact absurd z q1
      · have h1 := (z2.1 0 (by decide)).1
        rw [show m + 40 = m + (40 + 0) from rfl, h1, i_lt (by decide) (z2.1 0 (by decide)).2]
        have := z2.2.1
        omega
/-- pointers of trees that are held lead to places of the table -/
theorem us_pt (R : rT_E h m E) (up : ze_up E = true) : ∀ y, y < 12288 → 0 < tr_n h m (y / 128) → (Int32.ofNat 0) < hh_i h (m + 40) (y / 8) → hh_i h (m + 55) y < (Int32.ofNat 0) ∨ ∃ p, p < 640 ∧ hh_i h (m + 55) y = (Int32.ofNat p) := by
  intro y hy h1 h2
  obtain ⟨T, T1, -⟩ := tw_sl_tt R (show y / 128 < 96 by omega) ((tr_sl R up).mp h1)
  have eq : 16 * (y / 128) + y / 8 % 16 = y / 8 := by omega
  have ey : 8 * (y / 8) + y % 8 = y := by omega
  rcases T1.2.2.2 (y / 8 % 16) (by omega) with ⟨-, z⟩ | ⟨N, z1, z2⟩
  · rw [eq] at z; rw [z] at h2; exact absurd h2 (by decide)
  · rw [eq] at z2
    rcases z2.2.2.2.2.2.2.2.2.2.2.2 (y % 8) (by omega) with ⟨-, z⟩ | ⟨b, p, -, z3, z4, -⟩
    · rw [ey] at z
      exact Or.inl (by rw [z]; decide)
    · rw [ey] at z4
      exact Or.inr ⟨p, z3, z4⟩
end US
section UC
variable {h h' : hh_T} {m : Nat} {E : zE}
/-- the own tree of a living set is changed: A holds all that is in use then -/
theorem rT_E_ch {A : Nat → Prop} {i t : Nat} {d : zD} {T' : zT} (R : rT_E h m E) (up : ze_up E = true) (hi : i < 8) (D : td h m i d) (e63 : hh_i h (m + 63) i = (Int32.ofNat t)) (ht : t < 96) (hot : ¬ tw_ot h m (ze_heads E).length i t) (a : aSt h h' m) (a63 : hh_i h' (m + 63) = hh_i h (m + 63)) (f : ∀ o, fE o = true → hh_i h' m o = hh_i h m o)
    (s2 : ∀ q, ¬ q / 16 = t → so h h' m q q) (e58 : ∀ t1, ¬ t1 = t → hh_i h' (m + 58) t1 = hh_i h (m + 58) t1) (tbk : ∀ p b0, p < 640 → tw_uN h m p → tb h m p b0 → tb h' m p b0) (N : tt h' m t T')
    (hA1 : ∀ p, p < 640 → tw_l1 h' m t p → A p) (hA2 : ∀ p, p < 640 → tw_uN h m p → A p) (u1 : ∀ p q, p < 640 → q < 640 → A p → A q → hh_i h' (m + 23) (2 * p) = hh_i h' (m + 23) (2 * q) → hh_i h' (m + 24) (2 * p) = hh_i h' (m + 24) (2 * q) → p = q) (u2 : ∀ p, p < 640 → A p → hh_i h' (m + 17) p = (Int32.ofNat 1)) :
    rT_E h' m (ze_liv_ E (zu_up (ze_liv E) (zd_no d) (fun d => zd_tr_ d T'))) ∧ ∀ p, p < 640 → tw_uN h' m p → A p := by
  have hs0 := rT_E_hs R
  have h59 := td_ne D
  have hs9 : ∀ c, c < (ze_heads E).length → ∃ j, hh_i h' (m + 78) c = (Int32.ofNat j) ∧ 1 ≤ j ∧ j < 4 := by rw [a 78 (by decide) (by decide) (by decide)]; exact hs0
  have h599 : ¬ hh_i h' (m + 59) i = Int32.ofInt (-1) := by rw [a 59 (by decide) (by decide) (by decide)]; exact h59
  have f63 : hh_i h' (m + 63) i = (Int32.ofNat t) := by rw [a63]; exact e63
  have net : ∀ t1, tw_ot h m (ze_heads E).length i t1 → ¬ t1 = t := fun t1 q e => hot (by rw [← e]; exact q)
  have slu : ∀ t1 p, t1 < 96 → tw_ot h m (ze_heads E).length i t1 → tw_l1 h m t1 p → tw_uN h m p := fun t1 p h1 q l => by
    rw [tw_uN.of R, tw_us_l1, up]
    exact ⟨t1, (tw_sl_ot hs0 hi h59).mpr (Or.inr q), h1, l⟩
  have keep : ∀ t1 T, tw_ot h m (ze_heads E).length i t1 → tt h m t1 T → tt h' m t1 T := fun t1 T q X => tt_so X.1 (e58 t1 (net t1 q)) (fun o ho => s2 _ (by have := net t1 q; omega)) (fun p b0 hp l B => tbk p b0 hp (slu t1 p X.1 q l) B) X
  have hA : ∀ p, p < 640 → tw_us h' m (tw_sl h' m (ze_up E) (ze_heads E).length) p → A p := fun p hp u => by
    rw [up, tw_us_l1] at u
    obtain ⟨t1, q1, q0, q2⟩ := u
    rcases (tw_sl_ot hs9 hi h599).mp q1 with q1 | q1
    · rw [f63] at q1
      have e : t = t1 := (i_eq (by omega) (by omega)).mp q1
      subst e
      exact hA1 p hp q2
    · have q1 := (tw_ot_a a (fun k _ => by rw [a63]) hi).mp q1
      exact hA2 p hp (slu t1 p q0 q1 ((tw_l1_so (fun o ho => s2 _ (by have := net t1 q1; omega))).mp q2))
  have R9 := rT_E_tree (T' := T') R up hi D a f (fun k _ => by rw [a63]) f63 keep N (fun p q hp hq u v => u1 p q hp hq (hA p hp u) (hA q hq v)) (fun p hp u => u2 p hp (hA p hp u))
  exact ⟨R9, fun p hp u => hA p hp ((tw_uN.of R9).mp u)⟩
/-- the cache in the midst of a change: what it holds was in use -/
def rT_D (h : hh_T) (m : Nat) (C : zC) : Prop := (∃ (I : Nat → List Nat) (f : Nat → zB), rL h m I ∧ (∀ l, l < 4 → zc_ls C l = (I l).map f) ∧ ∀ l p, l < 4 → p ∈ I l → p < 640 ∧ tb h m p (f p) ∧ (∀ q, q < 640 → tw_uN h m q → hh_i h (m + 23) (2 * q) = hh_i h (m + 23) (2 * p) → hh_i h (m + 24) (2 * q) = hh_i h (m + 24) (2 * p) → q = p) ∧ (l < 2 → ∀ i, i < 32 → hh_i h (m + 36) (32 * p + i) = zc_hd C (zb_key (f p)) i))
  ∧ hh_i h m 46 = (Int32.ofNat (zc_aim C)) ∧ zc_aim C ≤ 6 ∧ hh_i h m 47 = zc_hits C ∧ hh_i h m 48 = zc_miss C
theorem rT_C_d {C : zC} (R : rT_E h m E) (q : rT_C h m C) : rT_D h m C := by
  obtain ⟨⟨I, f, q1, q2, q3⟩, q4⟩ := q
  refine ⟨⟨I, f, q1, q2, fun l p hl hp => ?_⟩, q4⟩
  obtain ⟨z1, z2, z3, z4⟩ := q3 l p hl hp
  exact ⟨z1, z2, fun q hq u e1 e2 => R.2.2.2.2.2.2.2.1 q p hq z1 ((tw_uN.of R).mp u) ((tw_uN.of R).mp z3) e1 e2, z4⟩
end UC
