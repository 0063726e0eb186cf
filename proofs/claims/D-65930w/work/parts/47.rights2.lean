/-! STAGE 2, 17: rights in the twin -/
section TR
variable {h : hh_T} {Q : Option Value ⊕ Nat → hh_T → Prop}
/-- rights of the twin's object o: class, rows -/
def tn_ok (h : hh_T) (m o c n : Nat) (wh : Nat → Nat) : Prop := o < 1536 ∧ hh_i h (m + 43) o = Int32.ofNat c ∧ c < 8 ∧ hh_i h (m + 49) o = Int32.ofNat n ∧ n ≤ 4 ∧ ∀ k, k < n → rt_w (wh k) ∧ hh_i h (m + 51) (4 * o + k) = Int32.ofNat (wh k)
theorem t_hasRight {m o c n u : Nat} {wh : Nat → Nat} {rg : Int32} (hT : tw_ok h m) (wn : tn_ok h m o c n wh) (hu : u < 8) (H : Q (.inl (some (.int (bi (decide (u = 0) || rt_1 (hh_i h (m + 3)) u (hh_i h (m + 42) o) c (hh_i h (m + 41) o) n (fun k => hh_i h (m + 50) (4 * o + k)) (fun k => hh_i h (m + 52) (4 * o + k)) wh rg))))) h) : gm_G 115 0 [some (.ref m), some (.int (Int32.ofNat o)), some (.int (Int32.ofNat u)), some (.int rg)] [] h Q := by
  obtain ⟨n1, n2, n3, n4, n5, n6⟩ := wn
  have eu : (Int32.ofNat u = Int32.ofNat 0) ↔ u = 0 := i_eq (by omega) (by decide)
  refine w_115_0 hT ⟨fun q => ?_, fun q => ?_⟩
  · rw [eu] at q
    rw [decide_eq_false q, Bool.false_or] at H
    unfold rt_1 at H
    have lp : ∀ d k, k + d = n → Q (.inl (some (.int (bi (rt_r (fun k => decide (¬ hh_i h (m + 52) (4 * o + k) &&& rg = Int32.ofNat 0) && rt_f (hh_i h (m + 3)) u (hh_i h (m + 42) o) c (wh k)) (fun k => decide (hh_i h (m + 50) (4 * o + k) = Int32.ofNat 1)) (decide (¬ (hh_i h (m + 41) o >>> (rt_s (hh_i h (m + 3)) u (hh_i h (m + 42) o) c &&& 31)) &&& rg = Int32.ofNat 0)) d k))))) h → gm_G 115 28 [some (.ref m), some (.int (Int32.ofNat o)), some (.int (Int32.ofNat u)), some (.int rg), some (.int (bi (decide (hh_i h (m + 42) o = Int32.ofNat u)))), some (.int (Int32.ofNat (4 * o + k)))] [] h Q := by
      intro d
      induction d with
      | zero =>
        intro k e H1
        have ek : k = n := by omega
        have fin : ∀ s, s = rt_s (hh_i h (m + 3)) u (hh_i h (m + 42) o) c → gm_G 115 214 [some (.ref m), some (.int (Int32.ofNat o)), none, some (.int rg)] [.int s] h Q := by
          intro s es
          subst es
          refine w_115_214 hT ⟨o, ix_n n1 (by omega), fun z => ?_, fun z => ?_⟩
          · simp only [rt_r, z, not_true, decide_false] at H1; exact H1
          · simp only [rt_r, z, not_false_eq_true, decide_true] at H1; exact H1
        refine w_115_28 hT ⟨o, ix_n n1 (by omega), fun _ => ⟨fun z => ⟨o, ix_n n1 (by omega), 8 * u + c, ?_, fun y => fin _ ?_, fun y => fin _ ?_⟩, fun z => fin _ ?_⟩, fun z => absurd z (by rw [n4, i_mul, i_add, i_lt (by omega) (by omega)]; omega)⟩
        · rw [n2, i_mul, i_add]
          exact ix_n (by omega) (by omega)
        · rw [bi_0, decide_eq_false_iff_not] at z
          unfold rt_s; rw [if_neg z, if_pos y]
        · rw [bi_0, decide_eq_false_iff_not] at z
          unfold rt_s; rw [if_neg z, if_neg y]
        · rw [bi_n, decide_eq_true_eq] at z
          unfold rt_s; rw [if_pos z]
      | succ d ih =>
        intro k e H1
        obtain ⟨k1, k2⟩ := n6 k (by omega)
        have k24 : wh k < 24 := by rcases k1 with z | z <;> omega
        have nx : (decide (¬ hh_i h (m + 52) (4 * o + k) &&& rg = Int32.ofNat 0) && rt_f (hh_i h (m + 3)) u (hh_i h (m + 42) o) c (wh k)) = false → gm_G 115 174 [some (.ref m), some (.int (Int32.ofNat o)), some (.int (Int32.ofNat u)), some (.int rg), some (.int (bi (decide (hh_i h (m + 42) o = Int32.ofNat u)))), some (.int (Int32.ofNat (4 * o + k)))] [] h Q := fun z => by
          refine w_115_174 hT ?_
          rw [i_add, show 4 * o + k + 1 = 4 * o + (k + 1) by omega]
          refine ih (k + 1) (by omega) ?_
          simp only [rt_r] at H1
          rw [if_neg (by rw [z]; decide)] at H1
          exact H1
        have fit : ¬ hh_i h (m + 52) (4 * o + k) &&& rg = Int32.ofNat 0 → ∀ v, (¬ v = Int32.ofNat 0 ↔ rt_f (hh_i h (m + 3)) u (hh_i h (m + 42) o) c (wh k) = true) → gm_G 115 150 [some (.ref m), some (.int (Int32.ofNat o)), some (.int (Int32.ofNat u)), some (.int rg), some (.int (bi (decide (hh_i h (m + 42) o = Int32.ofNat u)))), some (.int (Int32.ofNat (4 * o + k)))] [.int v] h Q := by
          intro q v v2
          refine w_115_150 hT ⟨fun y => nx ?_, fun y => ⟨4 * o + k, ix_n (by omega) (by omega), fun g => ?_, fun g => ?_⟩⟩
          · have : rt_f (hh_i h (m + 3)) u (hh_i h (m + 42) o) c (wh k) = false := by
              cases g : rt_f (hh_i h (m + 3)) u (hh_i h (m + 42) o) c (wh k) with
              | false => rfl
              | true => exact absurd y (v2.mpr g)
            rw [this, Bool.and_false]
          · simp only [rt_r] at H1
            rw [if_pos (by rw [v2.mp y, decide_eq_true q]; rfl), decide_eq_false g] at H1
            exact H1
          · simp only [rt_r] at H1
            rw [if_pos (by rw [v2.mp y, decide_eq_true q]; rfl), decide_eq_true g] at H1
            exact H1
        have e0 : (Int32.ofNat (wh k) = Int32.ofNat 0) ↔ wh k = 0 := i_eq (by omega) (by decide)
        have e1 : (Int32.ofNat (wh k) = Int32.ofNat 1) ↔ wh k = 1 := i_eq (by omega) (by decide)
        have e2 : (Int32.ofNat (wh k) = Int32.ofNat 2) ↔ wh k = 2 := i_eq (by omega) (by decide)
        have e16 : (Int32.ofNat (wh k) < Int32.ofNat 16) ↔ wh k < 16 := i_lt (by omega) (by decide)
        have z1 : ¬ Int32.ofNat 1 = Int32.ofNat 0 := by decide
        have ixk : gm_ix (Int32.ofNat (4 * o + k)) (4 * o + k) 6144 := ix_n (by omega) (by omega)
        refine w_115_28 hT ⟨o, ix_n n1 (by omega), fun z => absurd (by rw [n4, i_mul, i_add, i_lt (by omega) (by omega)]; omega) z, fun _ => ⟨4 * o + k, ixk, fun q => ⟨4 * o + k, ixk, fun q0 => ⟨fun q1 => ⟨fun q2 => w_115_145 hT (fit q _ ?_), fun q2 => ⟨fun q3 => ⟨8 * u + (wh k - 16), ?_, fun y => w_115_149 hT (fit q _ ?_), fun y => w_115_145 hT (fit q _ ?_)⟩, fun q3 => ⟨fun y => w_115_149 hT (fit q _ ?_), fun y => w_115_145 hT (fit q _ ?_)⟩⟩⟩, fun q1 => ⟨o, ix_n n1 (by omega), 8 * u + c, ?_, fit q _ ?_⟩⟩, fun q0 => fit q _ ?_⟩, fun q => nx (by rw [decide_eq_false (fun y => y q), Bool.false_and])⟩⟩
        · rw [k2, e2] at q2
          simp [rt_f, q2]
        · rw [k2, e16] at q3
          rw [k2, i_mul, i_add, i_sub (by omega), show 8 * u + wh k - 16 = 8 * u + (wh k - 16) by omega]
          exact ix_n (by omega) (by omega)
        · rw [k2] at q0 q1 q2 q3
          rw [e0] at q0; rw [e1] at q1; rw [e2] at q2; rw [e16] at q3
          simp [rt_f, q0, q1, q2, q3]
          exact y
        · rw [k2] at q0 q1 q2 q3
          rw [e0] at q0; rw [e1] at q1; rw [e2] at q2; rw [e16] at q3
          simp [rt_f, q0, q1, q2, q3]
          exact y
        · rw [k2] at q0 q1 q2 q3 y
          rw [e0] at q0; rw [e1] at q1; rw [e2] at q2; rw [e16] at q3
          unfold rt_w at k1
          rw [i_sub (by omega), i_eq (by omega) (by omega)] at y
          have : ¬ wh k = u + 8 := by omega
          simp [rt_f, q0, q1, q2, q3, this]
        · rw [k2] at q0 q1 q2 q3 y
          rw [e0] at q0; rw [e1] at q1; rw [e2] at q2; rw [e16] at q3
          unfold rt_w at k1
          rw [i_sub (by omega), i_eq (by omega) (by omega)] at y
          have : wh k = u + 8 := by omega
          unfold rt_f
          rw [if_neg q0, if_neg q1, if_neg q2, if_pos q3, decide_eq_true this]
          exact ⟨fun _ => rfl, fun _ => z1⟩
        · rw [n2, i_mul, i_add]
          exact ix_n (by omega) (by omega)
        · rw [k2, e1] at q1
          simp [rt_f, q1]
        · rw [k2, e0] at q0
          rw [bi_n]
          simp [rt_f, q0]
    refine ⟨o, ix_n n1 (by omega), fun z => w_115_21 hT ?_, fun z => w_115_21 hT ?_⟩
    · have := lp n 0 (by omega) H
      rw [decide_eq_false z] at this
      rw [i_mul]
      exact this
    · have := lp n 0 (by omega) H
      rw [decide_eq_true z] at this
      rw [i_mul]
      exact this
  · rw [eu] at q
    rw [decide_eq_true q, Bool.true_or] at H
    exact H
theorem t_hasAll {m o c n u : Nat} {wh : Nat → Nat} {mask : Int32} (hT : tw_ok h m) (wn : tn_ok h m o c n wh) (hu : u < 8) (H : Q (.inl (some (.int (bi (decide (u = 0) || rt_m (fun rg => rt_1 (hh_i h (m + 3)) u (hh_i h (m + 42) o) c (hh_i h (m + 41) o) n (fun k => hh_i h (m + 50) (4 * o + k)) (fun k => hh_i h (m + 52) (4 * o + k)) wh rg) mask))))) h) : gm_G 282 0 [some (.ref m), some (.int (Int32.ofNat o)), some (.int (Int32.ofNat u)), some (.int mask)] [] h Q := by
  generalize hP : (fun rg => rt_1 (hh_i h (m + 3)) u (hh_i h (m + 42) o) c (hh_i h (m + 41) o) n (fun k => hh_i h (m + 50) (4 * o + k)) (fun k => hh_i h (m + 52) (4 * o + k)) wh rg) = P at H
  have one : ∀ {rg : Int32} {R : Option Value ⊕ Nat → hh_T → Prop}, R (.inl (some (.int (bi (decide (u = 0) || P rg))))) h → gm_G 115 0 [some (.ref m), some (.int (Int32.ofNat o)), some (.int (Int32.ofNat u)), some (.int rg)] [] h R := fun {rg R} K => by
    subst hP
    exact t_hasRight hT wn hu K
  have st : ∀ (rg : Int32), rg < Int32.ofNat 8 → (((decide (mask &&& rg = Int32.ofNat 0) || (decide (u = 0) || P rg)) = true) → gm_G 282 30 [some (.ref m), some (.int (Int32.ofNat o)), some (.int (Int32.ofNat u)), some (.int mask), some (.int rg)] [] h Q) → ((decide (mask &&& rg = Int32.ofNat 0) || (decide (u = 0) || P rg)) = false → Q (.inl (some (.int (Int32.ofNat 0)))) h) → gm_G 282 3 [some (.ref m), some (.int (Int32.ofNat o)), some (.int (Int32.ofNat u)), some (.int mask), some (.int rg)] [] h Q := by
    intro rg h4 A B
    refine w_282_3 hT ⟨fun z => absurd h4 z, fun _ => ⟨fun z => A (by rw [decide_eq_true z]; rfl), fun z => one ⟨fun y => A ?_, fun y => B ?_⟩⟩⟩
    · rw [bi_n] at y; rw [y, Bool.or_true]
    · rw [bi_0] at y; rw [y, decide_eq_false z]; rfl
  refine w_282_0 hT (st (Int32.ofNat 1) (by decide) (fun g1 => w_282_30 hT ?_) (fun g1 => ?_))
  · show gm_G 282 3 [some (.ref m), some (.int (Int32.ofNat o)), some (.int (Int32.ofNat u)), some (.int mask), some (.int (Int32.ofNat 2))] [] h Q
    refine st (Int32.ofNat 2) (by decide) (fun g2 => w_282_30 hT ?_) (fun g2 => ?_)
    · show gm_G 282 3 [some (.ref m), some (.int (Int32.ofNat o)), some (.int (Int32.ofNat u)), some (.int mask), some (.int (Int32.ofNat 4))] [] h Q
      refine st (Int32.ofNat 4) (by decide) (fun g4 => w_282_30 hT ?_) (fun g4 => ?_)
      · show gm_G 282 3 [some (.ref m), some (.int (Int32.ofNat o)), some (.int (Int32.ofNat u)), some (.int mask), some (.int (Int32.ofNat 8))] [] h Q
        refine w_282_3 hT ⟨fun _ => ?_, fun z => absurd z (by decide)⟩
        have : (decide (u = 0) || rt_m P mask) = true := by
          cases hu0 : decide (u = 0) with
          | true => rfl
          | false => rw [hu0, Bool.false_or] at g1 g2 g4; simp only [rt_m, g1, g2, g4]; rfl
        rw [this] at H
        exact H
      · have : (decide (u = 0) || rt_m P mask) = false := by
          simp only [Bool.or_eq_false_iff] at g4
          simp only [rt_m, g4.1, g4.2.1, g4.2.2, Bool.or_self, Bool.and_false]
        rw [this] at H
        exact H
    · have : (decide (u = 0) || rt_m P mask) = false := by
        simp only [Bool.or_eq_false_iff] at g2
        simp only [rt_m, g2.1, g2.2.1, g2.2.2, Bool.or_self, Bool.and_false, Bool.false_and]
      rw [this] at H
      exact H
  · have : (decide (u = 0) || rt_m P mask) = false := by
      simp only [Bool.or_eq_false_iff] at g1
      simp only [rt_m, g1.1, g1.2.1, g1.2.2, Bool.or_self, Bool.false_and]
    rw [this] at H
    exact H
end TR
