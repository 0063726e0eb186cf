/-! STAGE 2, 16: rights -/
/-- whether a row for w means user u; c: the object's class, own: its owner, ic: who is in which class -/
def rt_f (ic : Nat → Int32) (u : Nat) (own : Int32) (c w : Nat) : Bool := if w = 0 then decide (own = Int32.ofNat u) else if w = 1 then decide (¬ ic (8 * u + c) = Int32.ofNat 0) else if w = 2 then true else if w < 16 then decide (w = u + 8) else decide (¬ ic (8 * u + (w - 16)) = Int32.ofNat 0)
def rt_r (P K : Nat → Bool) (D : Bool) : Nat → Nat → Bool
  | 0, _ => D
  | d + 1, k => if P k then K k else rt_r P K D d (k + 1)
def rt_s (ic : Nat → Int32) (u : Nat) (own : Int32) (c : Nat) : Int32 := if own = Int32.ofNat u then Int32.ofNat 6 else if ic (8 * u + c) = Int32.ofNat 0 then Int32.ofNat 0 else Int32.ofNat 3
/-- one right: rows (kind, who, mask), mode -/
def rt_1 (ic : Nat → Int32) (u : Nat) (own : Int32) (c : Nat) (mode : Int32) (n : Nat) (kd mk : Nat → Int32) (wh : Nat → Nat) (r : Int32) : Bool :=
  rt_r (fun k => decide (¬ mk k &&& r = Int32.ofNat 0) && rt_f ic u own c (wh k)) (fun k => decide (kd k = Int32.ofNat 1)) (decide (¬ (mode >>> (rt_s ic u own c &&& 31)) &&& r = Int32.ofNat 0)) n 0
def rt_w (w : Nat) : Prop := w ≤ 2 ∨ (8 ≤ w ∧ w < 24)
section RT
variable {h : hh_T} {Q : Option Value ⊕ Nat → hh_T → Prop}
/-- who is in which class, in the component -/
def ic_ok (h : hh_T) (x i : Nat) : Prop := hh_tg h x = 1 ∧ hh_r h x 43 = some i ∧ hh_tg h i = 102 ∧ hh_ln h i = 64 ∧ ∀ n, gy_o (hh_i h i n)
theorem ic_ok.s {x i : Nat} (w : ic_ok h x i) : gm_sub (hh_tg h x) 0 = true := by rw [w.1]; rfl
theorem c_isIn {x i u c : Nat} (w : ic_ok h x i) (hu : u < 8) (hc : c < 8) (H : Q (.inl (some (.int (hh_i h i (8 * u + c))))) h) : gm_G 8 0 [some (.ref x), some (.int (Int32.ofNat u)), some (.int (Int32.ofNat c))] [] h Q :=
  w_8_0 ⟨w.s, fun r2 e2 => ⟨i, e2.trans w.2.1, Or.inr w.2.2.1, 8 * u + c, by rw [i_mul, i_add, w.2.2.2.1]; exact ix_n (by omega) (by omega), w.2.2.2.2 _, H⟩⟩
theorem c_isFor {x i a u c w : Nat} (wi : ic_ok h x i) (ha : gm_sub (hh_tg h a) 25 = true) (hc : hh_i h a 4 = Int32.ofNat c) (hc8 : c < 8) (hu : u < 8) (hw : rt_w w) (H : ∀ v, (v = 0 ∨ v = 1) → (¬ v = Int32.ofNat 0 ↔ rt_f (hh_i h i) u (hh_i h a 3) c w = true) → Q (.inl (some (.int v))) h) : gm_G 229 0 [some (.ref x), some (.ref a), some (.int (Int32.ofNat u)), some (.int (Int32.ofNat w))] [] h Q := by
  have w24 : w < 24 := by rcases hw with q | q <;> omega
  have e0 : (Int32.ofNat w = Int32.ofNat 0) ↔ w = 0 := i_eq (by omega) (by decide)
  have e1 : (Int32.ofNat w = Int32.ofNat 1) ↔ w = 1 := i_eq (by omega) (by decide)
  have e2 : (Int32.ofNat w = Int32.ofNat 2) ↔ w = 2 := i_eq (by omega) (by decide)
  have e16 : (Int32.ofNat w < Int32.ofNat 16) ↔ w < 16 := i_lt (by omega) (by decide)
  have z1 : ¬ (1 : Int32) = Int32.ofNat 0 := by decide
  have o0 : (Int32.ofNat 0 = 0 ∨ Int32.ofNat 0 = 1) := by decide
  have o1 : (Int32.ofNat 1 = 0 ∨ Int32.ofNat 1 = 1) := by decide
  refine w_229_0 (r_1 := some a) ⟨fun q0 => ⟨fun q1 => ⟨fun q2 => ⟨fun q3 => ⟨wi.1, ?_⟩, fun q3 => ⟨fun q4 => H _ o0 ?_, fun q4 => H _ o1 ?_⟩⟩, fun q2 => H _ o1 ?_⟩, fun q1 => ⟨a, rfl, ha, wi.1, ?_⟩⟩, fun q0 => ⟨a, rfl, ha, fun q1 => H _ o0 ?_, fun q1 => H _ o1 ?_⟩⟩
  · rw [e16] at q3
    rw [i_sub (by omega)]
    refine c_isIn wi hu (by omega) ⟨wi.2.2.2.2 _, H _ (wi.2.2.2.2 _) ?_⟩
    rw [e0] at q0; rw [e1] at q1; rw [e2] at q2
    simp [rt_f, q0, q1, q2, q3]
  · rw [e0] at q0; rw [e1] at q1; rw [e2] at q2; rw [e16] at q3
    rw [i_sub (by unfold rt_w at hw; omega), i_eq (by omega) (by omega)] at q4
    unfold rt_w at hw
    have : ¬ w = u + 8 := by omega
    simp [rt_f, q0, q1, q2, q3, this]
  · rw [e0] at q0; rw [e1] at q1; rw [e2] at q2; rw [e16] at q3
    rw [i_sub (by unfold rt_w at hw; omega), i_eq (by omega) (by omega)] at q4
    unfold rt_w at hw
    have e5 : w = u + 8 := by omega
    subst e5
    have : u + 8 < 16 := q3
    simp [rt_f, q2, this]
  · rw [e2] at q2
    subst q2
    simp [rt_f]
  · rw [e1] at q1
    rw [hc]
    refine c_isIn wi hu hc8 ⟨wi.2.2.2.2 _, H _ (wi.2.2.2.2 _) ?_⟩
    subst q1
    simp [rt_f]
  · rw [e0] at q0
    subst q0
    have : ¬ hh_i h a 3 = Int32.ofNat u := fun z => q1 z.symm
    simp [rt_f, this]
  · rw [e0] at q0
    subst q0
    simp [rt_f, q1]
/-- a node's rights: class, rows -/
def rn_ok (h : hh_T) (a ra c n : Nat) (wh : Nat → Nat) : Prop := gm_sub (hh_tg h a) 25 = true ∧ hh_i h a 4 = Int32.ofNat c ∧ c < 8 ∧ hh_i h a 9 = Int32.ofNat n ∧ n ≤ 4 ∧ hh_r h a 10 = some ra ∧ hh_tg h ra = 100 ∧ hh_ln h ra = 4 ∧ ∀ k, k < n → rt_w (wh k) ∧ (hh_i h ra k >>> (Int32.ofNat 1 &&& 31)) &&& Int32.ofNat 127 = Int32.ofNat (wh k)
theorem c_allowsOne {x i a ra u c n : Nat} {wh : Nat → Nat} {rg : Int32} (wi : ic_ok h x i) (wn : rn_ok h a ra c n wh) (hu : u < 8) (H : Q (.inl (some (.int (bi (rt_1 (hh_i h i) u (hh_i h a 3) c (hh_i h a 2) n (fun k => hh_i h ra k &&& Int32.ofNat 1) (fun k => hh_i h ra k >>> (Int32.ofNat 8 &&& 31)) wh rg))))) h) : gm_G 335 0 [some (.ref x), some (.ref a), some (.int (Int32.ofNat u)), some (.int rg)] [] h Q := by
  obtain ⟨n1, n2, n3, n4, n5, n6, n7, n8, n9⟩ := wn
  unfold rt_1 at H
  refine w_335_0 (r_1 := some a) ?_
  have lp : ∀ d k, k + d = n → Q (.inl (some (.int (bi (rt_r (fun k => decide (¬ (hh_i h ra k >>> (Int32.ofNat 8 &&& 31)) &&& rg = Int32.ofNat 0) && rt_f (hh_i h i) u (hh_i h a 3) c (wh k)) (fun k => decide (hh_i h ra k &&& Int32.ofNat 1 = Int32.ofNat 1)) (decide (¬ (hh_i h a 2 >>> (rt_s (hh_i h i) u (hh_i h a 3) c &&& 31)) &&& rg = Int32.ofNat 0)) d k))))) h → gm_G 335 3 [some (.ref x), some (.ref a), some (.int (Int32.ofNat u)), some (.int rg), some (.int (Int32.ofNat k))] [] h Q := by
    intro d
    induction d with
    | zero =>
      intro k e H1
      have : k = n := by omega
      subst this
      have fin : ∀ s, s = rt_s (hh_i h i) u (hh_i h a 3) c → gm_G 335 97 [none, some (.ref a), none, some (.int rg)] [.int s] h Q := by
        intro s es
        subst es
        refine w_335_97 (a0 := x) (r_1 := some a) ⟨a, rfl, n1, fun q => ?_, fun q => ?_⟩
        · simp only [rt_r, q, not_true, decide_false] at H1; exact H1
        · simp only [rt_r, q, not_false_eq_true, decide_true] at H1; exact H1
      refine w_335_3 (r_1 := some a) ⟨a, rfl, n1, fun _ => ⟨fun q => ⟨wi.1, ?_⟩, fun q => fin _ (by simp [rt_s, ← q])⟩, fun z => absurd z (by rw [n4, i_lt (by omega) (by omega)]; omega)⟩
      rw [n2]
      have q' : ¬ hh_i h a 3 = Int32.ofNat u := fun z => q z.symm
      refine c_isIn wi hu n3 ⟨fun z => fin _ ?_, fun z => fin _ ?_⟩
      · unfold rt_s; rw [if_neg q', if_pos z]
      · unfold rt_s; rw [if_neg q', if_neg z]
    | succ d ih =>
      intro k e H1
      obtain ⟨k1, k2⟩ := n9 k (by omega)
      have nx : (decide (¬ (hh_i h ra k >>> (Int32.ofNat 8 &&& 31)) &&& rg = Int32.ofNat 0) && rt_f (hh_i h i) u (hh_i h a 3) c (wh k)) = false → gm_G 335 61 [some (.ref x), some (.ref a), some (.int (Int32.ofNat u)), some (.int rg), some (.int (Int32.ofNat k))] [] h Q := fun z => by
        refine w_335_61 (r_1 := some a) ?_
        rw [i_add]
        refine ih (k + 1) (by omega) ?_
        simp only [rt_r] at H1
        rw [if_neg (by rw [z]; decide)] at H1
        exact H1
      refine w_335_3 (r_1 := some a) ⟨a, rfl, n1, fun z => absurd (by rw [n4, i_lt (by omega) (by omega)]; omega) z, fun _ r8 e8 => ⟨ra, e8.trans n6, Or.inl n7, k, by rw [n8]; exact ix_n (by omega) (by omega), fun q => nx (by rw [decide_eq_false (fun y => y q), Bool.false_and]), fun q => ⟨wi.1, ?_⟩⟩⟩
      rw [k2]
      refine c_isFor wi n1 n2 n3 hu k1 (fun v v1 v2 => ⟨fun y => nx ?_, fun y => ?_⟩)
      · have : rt_f (hh_i h i) u (hh_i h a 3) c (wh k) = false := by
          cases g : rt_f (hh_i h i) u (hh_i h a 3) c (wh k) with
          | false => rfl
          | true => exact absurd y (v2.mpr g)
        rw [this, Bool.and_false]
      · simp only [rt_r] at H1
        rw [if_pos (by rw [v2.mp y, decide_eq_true q]; rfl)] at H1
        refine ⟨fun g => ?_, fun g => ?_⟩
        · rw [decide_eq_false g] at H1; exact H1
        · rw [decide_eq_true g] at H1; exact H1
  exact lp n 0 (by omega) H
/-- rights of a mask -/
def rt_m (P : Int32 → Bool) (mask : Int32) : Bool := (decide (mask &&& Int32.ofNat 1 = Int32.ofNat 0) || P (Int32.ofNat 1)) && (decide (mask &&& Int32.ofNat 2 = Int32.ofNat 0) || P (Int32.ofNat 2)) && (decide (mask &&& Int32.ofNat 4 = Int32.ofNat 0) || P (Int32.ofNat 4))
theorem c_allows {x i a ra u c n : Nat} {wh : Nat → Nat} {mask : Int32} (wi : ic_ok h x i) (wn : rn_ok h a ra c n wh) (hu : u < 8) (H : Q (.inl (some (.int (bi (decide (u = 0) || rt_m (fun rg => rt_1 (hh_i h i) u (hh_i h a 3) c (hh_i h a 2) n (fun k => hh_i h ra k &&& Int32.ofNat 1) (fun k => hh_i h ra k >>> (Int32.ofNat 8 &&& 31)) wh rg) mask))))) h) : gm_G 393 0 [some (.ref x), some (.ref a), some (.int (Int32.ofNat u)), some (.int mask)] [] h Q := by
  generalize hP : (fun rg => rt_1 (hh_i h i) u (hh_i h a 3) c (hh_i h a 2) n (fun k => hh_i h ra k &&& Int32.ofNat 1) (fun k => hh_i h ra k >>> (Int32.ofNat 8 &&& 31)) wh rg) = P at H
  have one : ∀ {rg : Int32} {R : Option Value ⊕ Nat → hh_T → Prop}, R (.inl (some (.int (bi (P rg))))) h → gm_G 335 0 [some (.ref x), some (.ref a), some (.int (Int32.ofNat u)), some (.int rg)] [] h R := fun {rg R} K => by
    subst hP
    exact c_allowsOne wi wn hu K
  have eu : (Int32.ofNat u = Int32.ofNat 0) ↔ u = 0 := i_eq (by omega) (by decide)
  refine w_393_0 (r_1 := some a) ⟨fun q => ?_, fun q => ?_⟩
  · rw [eu] at q
    rw [decide_eq_false q, Bool.false_or] at H
    have st : ∀ (rg : Int32), ¬ Int32.ofNat 4 < rg → (((decide (mask &&& rg = Int32.ofNat 0) || P rg) = true) → gm_G 393 35 [some (.ref x), some (.ref a), some (.int (Int32.ofNat u)), some (.int mask), some (.int rg)] [] h Q) → ((decide (mask &&& rg = Int32.ofNat 0) || P rg) = false → Q (.inl (some (.int (Int32.ofNat 0)))) h) → gm_G 393 9 [some (.ref x), some (.ref a), some (.int (Int32.ofNat u)), some (.int mask), some (.int rg)] [] h Q := by
      intro rg h4 A B
      refine w_393_9 (r_1 := some a) ⟨fun z => absurd z h4, fun _ => ⟨fun z => A (by rw [decide_eq_true z]; rfl), fun z => ⟨wi.1, one ⟨fun y => A ?_, fun y => B ?_⟩⟩⟩⟩
      · rw [bi_n] at y; rw [y, Bool.or_true]
      · rw [bi_0] at y; rw [y, decide_eq_false z]; rfl
    refine st (Int32.ofNat 1) (by decide) (fun g1 => w_393_35 (r_1 := some a) ?_) (fun g1 => ?_)
    · show gm_G 393 9 [some (.ref x), some (.ref a), some (.int (Int32.ofNat u)), some (.int mask), some (.int (Int32.ofNat 2))] [] h Q
      refine st (Int32.ofNat 2) (by decide) (fun g2 => w_393_35 (r_1 := some a) ?_) (fun g2 => ?_)
      · show gm_G 393 9 [some (.ref x), some (.ref a), some (.int (Int32.ofNat u)), some (.int mask), some (.int (Int32.ofNat 4))] [] h Q
        refine st (Int32.ofNat 4) (by decide) (fun g4 => w_393_35 (r_1 := some a) ?_) (fun g4 => ?_)
        · show gm_G 393 9 [some (.ref x), some (.ref a), some (.int (Int32.ofNat u)), some (.int mask), some (.int (Int32.ofNat 8))] [] h Q
          refine w_393_9 (r_1 := some a) ⟨fun _ => ?_, fun z => absurd (by decide) z⟩
          simp only [rt_m, g1, g2, g4, Bool.and_self] at H
          exact H
        · simp only [rt_m, g4, Bool.and_false] at H
          exact H
      · simp only [rt_m, g2, Bool.and_false, Bool.false_and] at H
        exact H
    · simp only [rt_m, g1, Bool.false_and] at H
      exact H
  · rw [eu] at q
    rw [decide_eq_true q, Bool.true_or] at H
    exact H
end RT
