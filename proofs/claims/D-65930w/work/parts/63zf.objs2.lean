/-! STAGE 3: objects and trees that are copied -/
theorem nm_cg {f g : Nat → Int32} {p q n : Nat} (e : ∀ i, i < n → g (q + i) = f (p + i)) : nm_ok g q n = nm_ok f p n ∧ nm_v g q n = nm_v f p n := by
  have a : ∀ k, k ≤ n → nm_a nm_l g q k = nm_a nm_l f p k := by
    intro k
    induction k with
    | zero => intro _; rfl
    | succ k ih =>
      intro hk
      show (nm_a nm_l g q k && nm_l (g (q + k))) = (nm_a nm_l f p k && nm_l (f (p + k)))
      rw [ih (by omega), e k (by omega)]
  have d : nm_d g q n = nm_d f p n := by
    unfold nm_d
    by_cases h1 : n = 1
    · have e0 := e 0 (by omega)
      rw [Nat.add_zero, Nat.add_zero] at e0
      rw [e0, decide_eq_false (show ¬ n = 2 by omega)]; simp only [Bool.false_and]
    · by_cases h2 : n = 2
      · have e0 := e 0 (by omega)
        have e1 := e 1 (by omega)
        rw [Nat.add_zero, Nat.add_zero] at e0
        rw [e0, e1]
      · rw [decide_eq_false h1, decide_eq_false h2]
        simp only [Bool.false_and]
  have o : nm_ok g q n = nm_ok f p n := by
    unfold nm_ok
    rw [d, a n (Nat.le_refl _)]
  refine ⟨o, ?_⟩
  unfold nm_v
  rw [o]
  have c : pq_c g q n = pq_c f p n := by
    funext k
    unfold pq_c
    by_cases hk : k < n
    · rw [if_pos hk, if_pos hk, e k hk]
    · rw [if_neg hk, if_neg hk]
  rw [c]
/-- an object in h' is as another one is in h -/
def so (h h' : hh_T) (m a b : Nat) : Prop := (∀ o, 40 ≤ o → o < 50 → hh_i h' (m + o) b = hh_i h (m + o) a) ∧ (∀ o k, 50 ≤ o → o < 53 → k < 4 → hh_i h' (m + o) (4 * b + k) = hh_i h (m + o) (4 * a + k)) ∧ (∀ o k, 53 ≤ o → o < 56 → k < 8 → hh_i h' (m + o) (8 * b + k) = hh_i h (m + o) (8 * a + k))
  ∧ (∀ k, k < 64 → hh_i h' (m + 56) (64 * b + k) = hh_i h (m + 56) (64 * a + k)) ∧ (∀ k, k < 24 → hh_i h' (m + 57) (24 * b + k) = hh_i h (m + 57) (24 * a + k))
theorem so.refl (h : hh_T) (m a : Nat) : so h h m a a := ⟨fun _ _ _ => rfl, fun _ _ _ _ _ => rfl, fun _ _ _ _ _ => rfl, fun _ _ => rfl, fun _ _ => rfl⟩
theorem so.trans {h h1 h2 : hh_T} {m a b c : Nat} (x : so h h1 m a b) (y : so h1 h2 m b c) : so h h2 m a c :=
  ⟨fun o p q => (y.1 o p q).trans (x.1 o p q), fun o k p q r => (y.2.1 o k p q r).trans (x.2.1 o k p q r), fun o k p q r => (y.2.2.1 o k p q r).trans (x.2.2.1 o k p q r), fun k p => (y.2.2.2.1 k p).trans (x.2.2.2.1 k p), fun k p => (y.2.2.2.2 k p).trans (x.2.2.2.2 k p)⟩
/-- arrays of objects -/
def oOb (o : Nat) : Bool := Nat.ble 40 o && Nat.ble o 57
theorem so_fr {O F : List Nat} {h h' : hh_T} {m a : Nat} (g : fr (tO m O F) h h') (hO : (O.all fun o => !(oOb o)) = true) : so h h' m a a := by
  have q : ∀ o, 40 ≤ o → o < 58 → hh_i h' (m + o) = hh_i h (m + o) := fun o h1 h2 => g.arrs hO (by unfold oOb; rw [Bool.and_eq_true, Nat.ble_eq, Nat.ble_eq]; omega) (by omega)
  exact ⟨fun o h1 h2 => by rw [q o h1 (by omega)], fun o k h1 h2 _ => by rw [q o (by omega) (by omega)], fun o k h1 h2 _ => by rw [q o (by omega) (by omega)], fun k _ => by rw [q 56 (by decide) (by decide)], fun k _ => by rw [q 57 (by decide) (by decide)]⟩
section SO
variable {h h' : hh_T} {m : Nat}
theorem tw_en_so {a b j : Nat} {e : Int64 × Nat} (s : so h h' m a b) (hj : j < 8) (R : tw_en h m (8 * a + j) e) : tw_en h' m (8 * b + j) e := by
  obtain ⟨r1, r2, n, r3, r4, r5⟩ := R
  have hn := (nm_ok_inv r4).2.1
  obtain ⟨c1, c2⟩ := nm_cg (f := hh_i h (m + 56)) (g := hh_i h' (m + 56)) (p := 8 * (8 * a + j)) (q := 8 * (8 * b + j)) (n := n) (fun i hi => by
    have := s.2.2.2.1 (8 * j + i) (by omega)
    rw [show 8 * (8 * b + j) + i = 64 * b + (8 * j + i) by omega, show 8 * (8 * a + j) + i = 64 * a + (8 * j + i) by omega]
    exact this)
  exact ⟨by rw [s.2.2.1 53 j (by decide) (by decide) hj]; exact r1, r2, n, by rw [s.2.2.1 54 j (by decide) (by decide) hj]; exact r3, c1.trans r4, c2.trans r5⟩
theorem tn_so {a b : Nat} {N : zN} (s : so h h' m a b) (hb : ∀ k p b0, k < 8 → hh_i h (m + 55) (8 * a + k) = (Int32.ofNat p) → p < 640 → tb h m p b0 → tb h' m p b0) (R : tn h m a N) : tn h' m b N := by
  obtain ⟨r1, r2, r3, r4, r5, r6, r7, r8, r9, r10, r11, r12⟩ := R
  refine ⟨fun f hf => ?_, r2, r3, r4, r5, r6, by rw [s.1 49 (by decide) (by decide)]; exact r7, r8, fun k hk => ?_, fun z => ?_, fun z => ?_, fun k hk => ?_⟩
  · rw [s.1 (40 + f) (by omega) (by omega)]; exact r1 f hf
  · rw [s.2.1 50 k (by decide) (by decide) (by omega), s.2.1 51 k (by decide) (by decide) (by omega), s.2.1 52 k (by decide) (by decide) (by omega)]; exact r9 k hk
  · obtain ⟨s1, s2, s3, s4, s5, s6⟩ := r10 z
    refine ⟨by rw [s.1 48 (by decide) (by decide)]; exact s1, s2, s3, s4, fun j hj => ?_, fun e he => ?_⟩
    · obtain ⟨e, z1, z2⟩ := s5 j hj
      exact ⟨e, z1, tw_en_so s (by omega) z2⟩
    · obtain ⟨j, z1, z2⟩ := s6 e he
      exact ⟨j, z1, tw_en_so s (by omega) z2⟩
  · obtain ⟨s1, s2, s3⟩ := r11 z
    exact ⟨s1, s2, fun i hi => by rw [s.2.2.2.2 i (by omega)]; exact s3 i hi⟩
  · rw [s.2.2.1 55 k (by decide) (by decide) hk]
    rcases r12 k hk with z | ⟨b1, p, z1, z2, z3, z4, z5⟩
    · exact Or.inl z
    · exact Or.inr ⟨b1, p, z1, z2, z3, hb k p b1 hk z3 z2 z4, z5⟩
theorem tn_k0 {q : Nat} {N : zN} (R : tn h m q N) : ¬ hh_i h (m + 40) q = (Int32.ofNat 0) := fun e => by
  have h1 := (R.1 0 (by decide)).1
  have h2 := (R.1 0 (by decide)).2
  have h3 := R.2.1
  rw [show m + (40 + 0) = m + 40 from rfl, e] at h1
  have := (i_eq (by decide) h2).mp h1
  omega
/-- a block that a slot leads to -/
def tw_l1 (h : hh_T) (m t p : Nat) : Prop := ∃ o k, o < 16 ∧ k < 8 ∧ ¬ hh_i h (m + 40) (16 * t + o) = (Int32.ofNat 0) ∧ hh_i h (m + 55) (8 * (16 * t + o) + k) = (Int32.ofNat p)
theorem tt_so {t t' : Nat} {T : zT} (ht : t' < 96) (e58 : hh_i h' (m + 58) t' = hh_i h (m + 58) t) (s : ∀ o, o < 16 → so h h' m (16 * t + o) (16 * t' + o)) (hb : ∀ p b0, p < 640 → tw_l1 h m t p → tb h m p b0 → tb h' m p b0) (R : tt h m t T) : tt h' m t' T := by
  obtain ⟨r1, r2, r3, r4⟩ := R
  refine ⟨ht, by rw [e58]; exact r2, r3, fun o ho => ?_⟩
  rcases r4 o ho with ⟨z1, z2⟩ | ⟨N, z1, z2⟩
  · exact Or.inl ⟨z1, by rw [(s o ho).1 40 (by decide) (by decide)]; exact z2⟩
  · exact Or.inr ⟨N, z1, tn_so (s o ho) (fun k p b0 hk e hp B => hb p b0 hp ⟨o, k, ho, hk, tn_k0 z2, e⟩ B) z2⟩
theorem tw_l1_so {t t' p : Nat} (s : ∀ o, o < 16 → so h h' m (16 * t + o) (16 * t' + o)) : tw_l1 h' m t' p ↔ tw_l1 h m t p := by
  constructor
  · rintro ⟨o, k, h1, h2, h3, h4⟩
    exact ⟨o, k, h1, h2, by rw [(s o h1).1 40 (by decide) (by decide)] at h3; exact h3, by rw [(s o h1).2.2.1 55 k (by decide) (by decide) h2] at h4; exact h4⟩
  · rintro ⟨o, k, h1, h2, h3, h4⟩
    exact ⟨o, k, h1, h2, by rw [(s o h1).1 40 (by decide) (by decide)]; exact h3, by rw [(s o h1).2.2.1 55 k (by decide) (by decide) h2]; exact h4⟩
theorem tw_us_l1 {L : Nat → Prop} {p : Nat} : tw_us h m L p ↔ ∃ t, L t ∧ t < 96 ∧ tw_l1 h m t p := by
  constructor
  · rintro ⟨t, o, k, h1, h6, h2, h3, h4, h5⟩
    exact ⟨t, h1, h6, o, k, h2, h3, h4, h5⟩
  · rintro ⟨t, h1, h6, o, k, h2, h3, h4, h5⟩
    exact ⟨t, o, k, h1, h6, h2, h3, h4, h5⟩
end SO
section CT
variable {h : hh_T} {m : Nat} {Q : Option Value ⊕ Nat → hh_T → Prop}
theorem so_cq {h' : hh_T} {a b : Nat} (c1 : ∀ o, 40 ≤ o → o < 50 → cq h h' m o 1 a b 1) (c2 : ∀ o, 50 ≤ o → o < 53 → cq h h' m o 4 a b 4) (c3 : ∀ o, 53 ≤ o → o < 56 → cq h h' m o 8 a b 8) (c4 : cq h h' m 56 64 a b 64) (c5 : cq h h' m 57 24 a b 24) : so h h' m a b ∧ ∀ q, ¬ q = b → so h h' m q q := by
  constructor
  · refine ⟨fun o h1 h2 => ?_, fun o k h1 h2 hk => ?_, fun o k h1 h2 hk => ?_, fun k hk => ?_, fun k hk => ?_⟩
    · rw [c1 o h1 h2, if_pos (by omega), show 1 * a + (b - 1 * b) = a by omega]
    · rw [c2 o h1 h2, if_pos (by omega), show 4 * a + (4 * b + k - 4 * b) = 4 * a + k by omega]
    · rw [c3 o h1 h2, if_pos (by omega), show 8 * a + (8 * b + k - 8 * b) = 8 * a + k by omega]
    · rw [c4, if_pos (by omega), show 64 * a + (64 * b + k - 64 * b) = 64 * a + k by omega]
    · rw [c5, if_pos (by omega), show 24 * a + (24 * b + k - 24 * b) = 24 * a + k by omega]
  · intro q hq
    refine ⟨fun o h1 h2 => ?_, fun o k h1 h2 hk => ?_, fun o k h1 h2 hk => ?_, fun k hk => ?_, fun k hk => ?_⟩
    · rw [c1 o h1 h2, if_neg (by omega)]
    · rw [c2 o h1 h2, if_neg (by omega)]
    · rw [c3 o h1 h2, if_neg (by omega)]
    · rw [c4, if_neg (by omega)]
    · rw [c5, if_neg (by omega)]
def oTr : List Nat := [40, 41, 42, 43, 44, 45, 46, 47, 48, 49, 50, 51, 52, 53, 54, 55, 56, 57, 58]
theorem t_copyTree {a b : Nat} (hT : tw_ok h m) (w : gy_wf h) (ha : a < 96) (hb : b < 96) (hne : ¬ a = b)
    (H : ∀ h', gy_wf h' → fr (tO m oTr []) h h' → (∀ o, o < 16 → so h h' m (16 * a + o) (16 * b + o)) → (∀ q, ¬ q / 16 = b → so h h' m q q) → hh_i h' (m + 58) b = hh_i h (m + 58) a → (∀ t, ¬ t = b → hh_i h' (m + 58) t = hh_i h (m + 58) t) → Q (.inl none) h') : gm_G 276 0 [some (.ref m), some (.int (Int32.ofNat a)), some (.int (Int32.ofNat b))] [] h Q := by
  refine gy_use w ?_
  refine w_276_0 hT ?_
  have lp : ∀ d k h1, k + d = 16 → gy_wf h1 → fr (tO m oCo []) h h1 → (∀ o, o < k → so h h1 m (16 * a + o) (16 * b + o)) → (∀ q, ¬ (16 * b ≤ q ∧ q < 16 * b + k) → so h h1 m q q) → gm_G 276 2 [some (.ref m), some (.int (Int32.ofNat a)), some (.int (Int32.ofNat b)), some (.int (Int32.ofNat k))] [] h1 (fun r h' => gy_wf h' → Q r h') := by
    intro d
    induction d with
    | zero =>
      intro k h1 ek w1 g1 s1 s2
      have ek : k = 16 := by omega
      subst ek
      refine w_276_2 (hT.fr g1) ⟨fun _ => ⟨a, ix_n ha (by omega), b, ix_n hb (by omega), fun h3 a3 w3 => ?_⟩, fun z => absurd z (by decide)⟩
      have g3 : fr (tO m [58] []) h1 h3 := by rw [a3]; exact fr.a rfl
      have s3 : ∀ q, so h1 h3 m q q := fun q => so_fr g3 rfl
      refine H h3 w3 ((g1.up rfl rfl).trans (g3.up rfl rfl)) (fun o ho => (s1 o ho).trans (s3 _)) (fun q hq => (s2 q (by omega)).trans (s3 _)) ?_ (fun t ht => ?_)
      · rw [a3, hi_e ⟨rfl, rfl⟩, g1.arr (o := 58) rfl]
      · rw [a3, hi_n (by omega), g1.arr (o := 58) rfl]
    | succ d ih =>
      intro k h1 ek w1 g1 s1 s2
      refine w_276_2 (hT.fr g1) ⟨fun z => absurd (by rw [i_lt (by omega) (by decide)]; omega) z, fun _ => ?_⟩
      rw [i_mul, i_mul, i_add, i_add]
      refine gy_use w1 ?_
      refine t_copyObject (hT.fr g1) w1 (by omega) (by omega) (by omega) (fun h4 g4 c1 c2 c3 c4 c5 w4 => ?_)
      obtain ⟨q1, q2⟩ := so_cq c1 c2 c3 c4 c5
      show gm_G 276 2 _ [] h4 _
      rw [i_add]
      refine ih (k + 1) h4 (by omega) w4 (g1.trans g4) (fun o ho => ?_) (fun q hq => (s2 q (by omega)).trans (q2 q (by omega)))
      by_cases z : o = k
      · subst z
        exact (s2 (16 * a + o) (by omega)).trans q1
      · exact (s1 o (by omega)).trans (q2 (16 * b + o) (by omega))
  exact lp 16 0 h rfl w (fr.refl _ _) (fun o ho => absurd ho (Nat.not_lt_zero _)) (fun q _ => so.refl _ _ _)
end CT
