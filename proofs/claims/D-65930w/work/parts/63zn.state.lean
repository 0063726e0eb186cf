/-! STAGE 3: states are copied -/
/-- how many places of an array a state has -/
def csw (o : Nat) : Nat := if o < 65 then 8 else if o = 65 then 40 else if o = 66 then 72 else if o = 67 then 64 else if o = 68 then 96 else if o < 76 then 12 else 1
def csI (h h1 : hh_T) (m a b : Nat) (n : Nat → Nat) : Prop := ∀ o, 59 ≤ o → o ≤ 77 → cq h h1 m o (csw o) a b (n o)
theorem csI_cg {h h1 : hh_T} {m a b : Nat} {n n' : Nat → Nat} (I : csI h h1 m a b n) (e : ∀ o, 59 ≤ o → o ≤ 77 → n o = n' o) : csI h h1 m a b n' := fun o h1 h2 => by
  rw [← e o h1 h2]
  exact I o h1 h2
theorem csI_step {h h1 h2 : hh_T} {m a b o0 : Nat} {n : Nat → Nat} (hab : ¬ a = b) (q0 : 59 ≤ o0) (q1 : o0 ≤ 77) (hn : n o0 < csw o0) (I : csI h h1 m a b n) (e : h2 = hh_wi h1 (m + o0) (csw o0 * b + n o0) (hh_i h1 (m + o0) (csw o0 * a + n o0))) : csI h h2 m a b (fu n o0 (n o0 + 1)) := by
  intro o p0 p1
  by_cases y : o = o0
  · subst y
    rw [fu, if_pos rfl]
    refine (I o p0 p1).s hn ?_ (fun x hx => by rw [e, hi_n (by omega)]) (by rw [e, hi_e ⟨rfl, rfl⟩])
    by_cases z : a < b
    · left
      have := Nat.mul_le_mul_left (csw o) (show a + 1 ≤ b by omega)
      rw [Nat.mul_add, Nat.mul_one] at this
      exact this
    · right
      have := Nat.mul_le_mul_left (csw o) (show b + 1 ≤ a by omega)
      rw [Nat.mul_add, Nat.mul_one] at this
      exact this
  · rw [fu, if_neg y]
    intro x
    rw [e, hi_n (by omega)]
    exact I o p0 p1 x
def csn (k x65 x66 x67 x68 k2 e : Nat) (o : Nat) : Nat := if o < 65 then k else if o = 65 then x65 else if o = 66 then x66 else if o = 67 then x67 else if o = 68 then x68 else if o < 76 then k2 else e
def oCS : List Nat := [59, 60, 61, 62, 63, 64, 65, 66, 67, 68, 69, 70, 71, 72, 73, 74, 75, 76, 77]
section CS
variable {h : hh_T} {m : Nat} {Q : Option Value ⊕ Nat → hh_T → Prop}
theorem t_copyState {a b : Nat} (hT : tw_ok h m) (w : gy_wf h) (ha : a < 4) (hb : b < 4) (hab : ¬ a = b) (H : ∀ h', fr (tO m oCS []) h h' → csI h h' m a b csw → Q (.inl none) h') : gm_G 99 0 [some (.ref m), some (.int (Int32.ofNat a)), some (.int (Int32.ofNat b))] [] h Q := by
  have gb : ∀ h1 n o, csI h h1 m a b n → 59 ≤ o → o ≤ 77 → hh_tg h (m + o) = 101 → ∀ y, (hh_i h1 (m + o) y).toInt8.toInt32 = hh_i h1 (m + o) y := by
    intro h1 n o c q0 q1 ht y
    rw [c o q0 q1 y]
    split <;> exact w.2.1 _ _ ht
  have b67 := (hT.2.2 67 (by decide)).1
  have b68 := (hT.2.2 68 (by decide)).1
  -- snapshots
  have l239 : ∀ e k h1, k + e = 12 → fr (tO m oCS []) h h1 → csI h h1 m a b (csn 8 40 72 64 (8 * k) k 0) → gm_G 99 239 [some (.ref m), some (.int (Int32.ofNat a)), some (.int (Int32.ofNat b)), some (.int (Int32.ofNat k))] [] h1 Q := by
    intro e
    induction e with
    | zero =>
      intro k h1 ek g1 c1
      have ek : k = 12 := by omega
      subst ek
      refine w_99_239 (hT.fr g1) ⟨fun _ => ⟨a, ix_n ha (by omega), b, ix_n hb (by omega), fun h3 a3 => ⟨a, ix_n ha (by omega), b, ix_n hb (by omega), fun h6 a6 => ?_⟩⟩, fun z => absurd z (by decide)⟩
      have x3 : h3 = hh_wi h1 (m + 76) (1 * b + 0) (hh_i h1 (m + 76) (1 * a + 0)) := by
        rw [Nat.one_mul, Nat.one_mul]
        exact a3
      have x6 : h6 = hh_wi h3 (m + 77) (1 * b + 0) (hh_i h3 (m + 77) (1 * a + 0)) := by
        rw [Nat.one_mul, Nat.one_mul]
        exact a6
      have c3 := csI_step (o0 := 76) hab (by decide) (by decide) (by decide) c1 x3
      have c6 := csI_step (o0 := 77) hab (by decide) (by decide) (by decide) c3 x6
      have y3 : fr (tO m oCS []) h1 h3 := by rw [a3]; exact fr.a rfl
      have y6 : fr (tO m oCS []) h3 h6 := by rw [a6]; exact fr.a rfl
      refine H h6 ((g1.trans y3).trans y6) (csI_cg c6 (fun o p0 p1 => ?_))
      unfold fu csn csw
      by_cases y1 : o = 77
      · subst y1; rfl
      · by_cases y2 : o = 76
        · subst y2; rfl
        · rw [if_neg y1, if_neg y2]
          have : o < 76 := by omega
          simp only [this, if_true]
    | succ e ih =>
      intro k h1 ek g1 c1
      have l8 : ∀ e x h1, x + e = 8 → fr (tO m oCS []) h h1 → csI h h1 m a b (csn 8 40 72 64 (8 * k + x) (k + 1) 0) → gm_G 99 362 [some (.ref m), some (.int (Int32.ofNat a)), some (.int (Int32.ofNat b)), some (.int (Int32.ofNat k)), some (.int (Int32.ofNat ((12 * a + k)))), some (.int (Int32.ofNat ((12 * b + k)))), some (.int (Int32.ofNat x))] [] h1 Q := by
        intro e
        induction e with
        | zero =>
          intro x h1 ex g1 c1
          have ex : x = 8 := by omega
          subst ex
          refine w_99_362 (hT.fr g1) ⟨fun _ => ?_, fun z => absurd z (by decide)⟩
          rw [i_add]
          exact ih (k + 1) h1 (by omega) g1 (csI_cg c1 (fun o _ _ => by rw [show 8 * (k + 1) = 8 * k + 8 by omega]))
        | succ e ih2 =>
          intro x h1 ex g1 c1
          have v := gb h1 _ 68 c1 (by decide) (by decide) b68 (96 * a + (8 * k + x))
          refine w_99_362 (hT.fr g1) ⟨fun z => absurd (by rw [i_lt (by omega) (by decide)]; omega) z, fun _ => ⟨96 * a + (8 * k + x), by rw [i_mul, i_add, show 8 * (12 * a + k) + x = 96 * a + (8 * k + x) by omega]; exact ix_n (by omega) (by omega), 96 * b + (8 * k + x), by rw [i_mul, i_add, show 8 * (12 * b + k) + x = 96 * b + (8 * k + x) by omega]; exact ix_n (by omega) (by omega), fun h3 a3 => ?_⟩⟩
          rw [v] at a3
          rw [i_add]
          have c3 := csI_step (o0 := 68) hab (by decide) (by decide) (by show 8 * k + x < 96; omega) c1 a3
          refine ih2 (x + 1) h3 (by omega) (g1.trans (by rw [a3]; exact fr.a rfl)) (csI_cg c3 (fun o p0 p1 => ?_))
          unfold fu csn
          by_cases y : o = 68
          · subst y; rfl
          · rw [if_neg y, if_neg y, if_neg y]
      refine w_99_239 (hT.fr g1) ⟨fun z => absurd (by rw [i_lt (by omega) (by decide)]; omega) z, fun _ => ?_⟩
      rw [i_mul, i_add, i_mul, i_add]
      have xa : gm_ix (Int32.ofNat (12 * a + k)) (12 * a + k) 48 := ix_n (by omega) (by omega)
      have xb : gm_ix (Int32.ofNat (12 * b + k)) (12 * b + k) 48 := ix_n (by omega) (by omega)
      refine ⟨_, xa, _, xb, fun h3 a3 => ⟨_, xa, _, xb, fun h6 a6 => ⟨_, xa, _, xb, fun h9 a9 => ⟨_, xa, _, xb, fun h12 a12 => ⟨_, xa, _, xb, fun h15 a15 => ⟨_, xa, _, xb, fun h18 a18 => ⟨_, xa, _, xb, fun h21 a21 => ?_⟩⟩⟩⟩⟩⟩⟩
      have c3 := csI_step (o0 := 69) hab (by decide) (by decide) (by show k < 12; omega) c1 a3
      have c6 := csI_step (o0 := 70) hab (by decide) (by decide) (by show k < 12; omega) c3 a6
      have c9 := csI_step (o0 := 71) hab (by decide) (by decide) (by show k < 12; omega) c6 a9
      have c12 := csI_step (o0 := 72) hab (by decide) (by decide) (by show k < 12; omega) c9 a12
      have c15 := csI_step (o0 := 73) hab (by decide) (by decide) (by show k < 12; omega) c12 a15
      have c18 := csI_step (o0 := 74) hab (by decide) (by decide) (by show k < 12; omega) c15 a18
      have c21 := csI_step (o0 := 75) hab (by decide) (by decide) (by show k < 12; omega) c18 a21
      refine l8 8 0 h21 rfl (g1.trans (by rw [a21, a18, a15, a12, a9, a6, a3]; exact ((((((fr.a rfl).trans (fr.a rfl)).trans (fr.a rfl)).trans (fr.a rfl)).trans (fr.a rfl)).trans (fr.a rfl)).trans (fr.a rfl))) (csI_cg c21 (fun o p0 p1 => ?_))
      by_cases z : 69 ≤ o ∧ o < 76
      · rcases (show o = 69 ∨ o = 70 ∨ o = 71 ∨ o = 72 ∨ o = 73 ∨ o = 74 ∨ o = 75 by omega) with u | u | u | u | u | u | u <;> subst u <;> rfl
      · unfold fu
        rw [if_neg (by omega), if_neg (by omega), if_neg (by omega), if_neg (by omega), if_neg (by omega), if_neg (by omega), if_neg (by omega)]
        unfold csn
        by_cases q1 : o < 65
        · rw [if_pos q1, if_pos q1]
        · by_cases q2 : o = 65
          · subst q2; rfl
          · by_cases q3 : o = 66
            · subst q3; rfl
            · by_cases q4 : o = 67
              · subst q4; rfl
              · by_cases q5 : o = 68
                · subst q5; rfl
                · rw [if_neg q1, if_neg q2, if_neg q3, if_neg q4, if_neg q5, if_neg (by omega), if_neg q1, if_neg q2, if_neg q3, if_neg q4, if_neg q5, if_neg (by omega)]
  -- sets
  have l2 : ∀ e k h1, k + e = 8 → fr (tO m oCS []) h h1 → csI h h1 m a b (csn k (5 * k) (9 * k) (8 * k) 0 0 0) → gm_G 99 2 [some (.ref m), some (.int (Int32.ofNat a)), some (.int (Int32.ofNat b)), some (.int (Int32.ofNat k))] [] h1 Q := by
    intro e
    induction e with
    | zero =>
      intro k h1 ek g1 c1
      have ek : k = 8 := by omega
      subst ek
      exact w_99_2 (hT.fr g1) ⟨fun _ => l239 12 0 h1 rfl g1 c1, fun z => absurd z (by decide)⟩
    | succ e ih =>
      intro k h1 ek g1 c1
      have l9 : ∀ e x h1, x + e = 9 → fr (tO m oCS []) h h1 → csI h h1 m a b (csn (k + 1) (5 * k + 5) (9 * k + x) (8 * k + 8) 0 0 0) → gm_G 99 192 [some (.ref m), some (.int (Int32.ofNat a)), some (.int (Int32.ofNat b)), some (.int (Int32.ofNat k)), some (.int (Int32.ofNat ((8 * a + k)))), some (.int (Int32.ofNat ((8 * b + k)))), some (.int (Int32.ofNat x))] [] h1 Q := by
        intro e
        induction e with
        | zero =>
          intro x h1 ex g1 c1
          have ex : x = 9 := by omega
          subst ex
          refine w_99_192 (hT.fr g1) ⟨fun _ => ?_, fun z => absurd z (by decide)⟩
          rw [i_add]
          exact ih (k + 1) h1 (by omega) g1 (csI_cg c1 (fun o _ _ => by rw [show 8 * (k + 1) = 8 * k + 8 by omega, show 5 * (k + 1) = 5 * k + 5 by omega, show 9 * (k + 1) = 9 * k + 9 by omega]))
        | succ e ih2 =>
          intro x h1 ex g1 c1
          refine w_99_192 (hT.fr g1) ⟨fun z => absurd (by rw [i_lt (by omega) (by decide)]; omega) z, fun _ => ⟨72 * a + (9 * k + x), by rw [i_mul, i_add, show 9 * (8 * a + k) + x = 72 * a + (9 * k + x) by omega]; exact ix_n (by omega) (by omega), 72 * b + (9 * k + x), by rw [i_mul, i_add, show 9 * (8 * b + k) + x = 72 * b + (9 * k + x) by omega]; exact ix_n (by omega) (by omega), fun h3 a3 => ?_⟩⟩
          rw [i_add]
          have c3 := csI_step (o0 := 66) hab (by decide) (by decide) (by show 9 * k + x < 72; omega) c1 a3
          refine ih2 (x + 1) h3 (by omega) (g1.trans (by rw [a3]; exact fr.a rfl)) (csI_cg c3 (fun o p0 p1 => ?_))
          unfold fu csn
          by_cases y : o = 66
          · subst y; rfl
          · rw [if_neg y, if_neg y, if_neg y]
      have l5 : ∀ e x h1, x + e = 5 → fr (tO m oCS []) h h1 → csI h h1 m a b (csn (k + 1) (5 * k + x) (9 * k) (8 * k + 8) 0 0 0) → gm_G 99 153 [some (.ref m), some (.int (Int32.ofNat a)), some (.int (Int32.ofNat b)), some (.int (Int32.ofNat k)), some (.int (Int32.ofNat ((8 * a + k)))), some (.int (Int32.ofNat ((8 * b + k)))), some (.int (Int32.ofNat x))] [] h1 Q := by
        intro e
        induction e with
        | zero =>
          intro x h1 ex g1 c1
          have ex : x = 5 := by omega
          subst ex
          exact w_99_153 (hT.fr g1) ⟨fun _ => l9 9 0 h1 rfl g1 c1, fun z => absurd z (by decide)⟩
        | succ e ih2 =>
          intro x h1 ex g1 c1
          refine w_99_153 (hT.fr g1) ⟨fun z => absurd (by rw [i_lt (by omega) (by decide)]; omega) z, fun _ => ⟨40 * a + (5 * k + x), by rw [i_mul, i_add, show 5 * (8 * a + k) + x = 40 * a + (5 * k + x) by omega]; exact ix_n (by omega) (by omega), 40 * b + (5 * k + x), by rw [i_mul, i_add, show 5 * (8 * b + k) + x = 40 * b + (5 * k + x) by omega]; exact ix_n (by omega) (by omega), fun h3 a3 => ?_⟩⟩
          rw [i_add]
          have c3 := csI_step (o0 := 65) hab (by decide) (by decide) (by show 5 * k + x < 40; omega) c1 a3
          refine ih2 (x + 1) h3 (by omega) (g1.trans (by rw [a3]; exact fr.a rfl)) (csI_cg c3 (fun o p0 p1 => ?_))
          unfold fu csn
          by_cases y : o = 65
          · subst y; rfl
          · rw [if_neg y, if_neg y, if_neg y]
      have l8 : ∀ e x h1, x + e = 8 → fr (tO m oCS []) h h1 → csI h h1 m a b (csn (k + 1) (5 * k) (9 * k) (8 * k + x) 0 0 0) → gm_G 99 111 [some (.ref m), some (.int (Int32.ofNat a)), some (.int (Int32.ofNat b)), some (.int (Int32.ofNat k)), some (.int (Int32.ofNat ((8 * a + k)))), some (.int (Int32.ofNat ((8 * b + k)))), some (.int (Int32.ofNat x))] [] h1 Q := by
        intro e
        induction e with
        | zero =>
          intro x h1 ex g1 c1
          have ex : x = 8 := by omega
          subst ex
          exact w_99_111 (hT.fr g1) ⟨fun _ => l5 5 0 h1 rfl g1 c1, fun z => absurd z (by decide)⟩
        | succ e ih2 =>
          intro x h1 ex g1 c1
          have v := gb h1 _ 67 c1 (by decide) (by decide) b67 (64 * a + (8 * k + x))
          refine w_99_111 (hT.fr g1) ⟨fun z => absurd (by rw [i_lt (by omega) (by decide)]; omega) z, fun _ => ⟨64 * a + (8 * k + x), by rw [i_mul, i_add, show 8 * (8 * a + k) + x = 64 * a + (8 * k + x) by omega]; exact ix_n (by omega) (by omega), 64 * b + (8 * k + x), by rw [i_mul, i_add, show 8 * (8 * b + k) + x = 64 * b + (8 * k + x) by omega]; exact ix_n (by omega) (by omega), fun h3 a3 => ?_⟩⟩
          rw [v] at a3
          rw [i_add]
          have c3 := csI_step (o0 := 67) hab (by decide) (by decide) (by show 8 * k + x < 64; omega) c1 a3
          refine ih2 (x + 1) h3 (by omega) (g1.trans (by rw [a3]; exact fr.a rfl)) (csI_cg c3 (fun o p0 p1 => ?_))
          unfold fu csn
          by_cases y : o = 67
          · subst y; rfl
          · rw [if_neg y, if_neg y, if_neg y]
      refine w_99_2 (hT.fr g1) ⟨fun z => absurd (by rw [i_lt (by omega) (by decide)]; omega) z, fun _ => ?_⟩
      rw [i_mul, i_add, i_mul, i_add]
      have xa : gm_ix (Int32.ofNat (8 * a + k)) (8 * a + k) 32 := ix_n (by omega) (by omega)
      have xb : gm_ix (Int32.ofNat (8 * b + k)) (8 * b + k) 32 := ix_n (by omega) (by omega)
      refine ⟨_, xa, _, xb, fun h3 a3 => ⟨_, xa, _, xb, fun h6 a6 => ⟨_, xa, _, xb, fun h9 a9 => ⟨_, xa, _, xb, fun h12 a12 => ⟨_, xa, _, xb, fun h15 a15 => ⟨_, xa, _, xb, fun h18 a18 => ?_⟩⟩⟩⟩⟩⟩
      have c3 := csI_step (o0 := 59) hab (by decide) (by decide) (by show k < 8; omega) c1 a3
      have c6 := csI_step (o0 := 60) hab (by decide) (by decide) (by show k < 8; omega) c3 a6
      have c9 := csI_step (o0 := 61) hab (by decide) (by decide) (by show k < 8; omega) c6 a9
      have c12 := csI_step (o0 := 62) hab (by decide) (by decide) (by show k < 8; omega) c9 a12
      have c15 := csI_step (o0 := 63) hab (by decide) (by decide) (by show k < 8; omega) c12 a15
      have c18 := csI_step (o0 := 64) hab (by decide) (by decide) (by show k < 8; omega) c15 a18
      refine l8 8 0 h18 rfl (g1.trans (by rw [a18, a15, a12, a9, a6, a3]; exact (((((fr.a rfl).trans (fr.a rfl)).trans (fr.a rfl)).trans (fr.a rfl)).trans (fr.a rfl)).trans (fr.a rfl))) (csI_cg c18 (fun o p0 p1 => ?_))
      by_cases z : o < 65
      · rcases (show o = 59 ∨ o = 60 ∨ o = 61 ∨ o = 62 ∨ o = 63 ∨ o = 64 by omega) with u | u | u | u | u | u <;> subst u <;> rfl
      · unfold fu
        rw [if_neg (by omega), if_neg (by omega), if_neg (by omega), if_neg (by omega), if_neg (by omega), if_neg (by omega)]
        unfold csn
        rw [if_neg z, if_neg z]
        rfl
  refine w_99_0 hT (l2 8 0 h rfl (fr.refl _ _) (fun o _ _ => ?_))
  have : csn 0 (5 * 0) (9 * 0) (8 * 0) 0 0 0 o = 0 := by
    unfold csn
    split
    · rfl
    · split
      · rfl
      · split
        · rfl
        · split
          · rfl
          · split
            · rfl
            · split <;> rfl
  rw [this]
  exact cq.z rfl
end CS
