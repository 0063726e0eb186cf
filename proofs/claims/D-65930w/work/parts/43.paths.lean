/-! STAGE 2, 13: the name that bytes are; steps and paths -/
def nm_v (f : Nat → Int32) (p n : Nat) : Int64 := if nm_ok f p n then Int64.ofNat (pq (pq_c f p n) 8) else Int64.ofNat 0
/-- bytes up to the next stroke -/
def pt_e (f : Nat → Int32) : Nat → Nat → Nat
  | _, 0 => 0
  | p, n + 1 => if f p = Int32.ofNat 47 then 0 else pt_e f (p + 1) n + 1
/-- where behind p the last step begins -/
def pt_l (f : Nat → Int32) (p : Nat) : Nat → Nat
  | 0 => 0
  | n + 1 => if f (p + n) = Int32.ofNat 47 then n + 1 else pt_l f p n
def pt_s (ok : Nat → Nat → Bool) (e : Nat → Nat → Nat) : Nat → Nat → Nat → Bool
  | 0, _, _ => false
  | F + 1, p, n => ok p (e p n) && (decide (e p n = n) || pt_s ok e F (p + e p n + 1) (n - e p n - 1))
def pt_o (f : Nat → Int32) (p n : Nat) : Bool := nm_d f p n || nm_ok f p n
/-- n bytes from p on are a path -/
def pt (f : Nat → Int32) (p n : Nat) : Bool := decide (n = 0) || pt_s (pt_o f) (pt_e f) (n + 1) p n
theorem pt_e_le (f : Nat → Int32) : ∀ p n, pt_e f p n ≤ n
  | _, 0 => Nat.le_refl _
  | p, n + 1 => by
    have := pt_e_le f (p + 1) n
    simp only [pt_e]
    split <;> omega
theorem pt_l_le (f : Nat → Int32) (p : Nat) : ∀ n, pt_l f p n ≤ n
  | 0 => Nat.le_refl _
  | n + 1 => by
    have := pt_l_le f p n
    simp only [pt_l]
    split <;> omega
theorem pt_e_eq (f : Nat → Int32) : ∀ (n p j : Nat), j ≤ n → (∀ i, i < j → ¬ f (p + i) = Int32.ofNat 47) → (j = n ∨ f (p + j) = Int32.ofNat 47) → pt_e f p n = j
  | 0, p, j, hj, _, _ => by simp only [pt_e]; omega
  | n + 1, p, 0, hj, h1, h2 => by
    rcases h2 with h2 | h2
    · omega
    · rw [Nat.add_zero] at h2; simp only [pt_e]; rw [if_pos h2]
  | n + 1, p, j + 1, hj, h1, h2 => by
    have h0 := h1 0 (by omega)
    rw [Nat.add_zero] at h0
    simp only [pt_e]
    rw [if_neg h0]
    have := pt_e_eq f n (p + 1) j (by omega) (fun i hi => by have := h1 (i + 1) (by omega); rwa [show p + (i + 1) = p + 1 + i by omega] at this) (by rcases h2 with h2 | h2; (left; omega); right; rwa [show p + (j + 1) = p + 1 + j by omega] at h2)
    omega
section PT
variable {h : hh_T} {Q : Option Value ⊕ Nat → hh_T → Prop}
theorem c_at {r a i : Nat} (w : rw_ok h r a) (hi : i < hh_ln h a) (hb : i < 2147483648) (H : Q (.inl (some (.int (hh_i h a i &&& Int32.ofNat 255)))) h) : gm_G 63 0 [some (.ref r), some (.int (Int32.ofNat i))] [] h Q :=
  w_63_0 ⟨w.s, fun r2 e2 => ⟨a, e2.trans w.2.1, Or.inl w.2.2, i, ix_n hi hb, H⟩⟩
theorem c_stepEnd {r a : Nat} (w : rw_ok h r a) : ∀ (n p : Nat), p + n ≤ hh_ln h a → p + n < 2147483648 → Q (.inl (some (.int (Int32.ofNat (p + pt_e (hh_i h a) p n))))) h → gm_G 18 0 [some (.ref r), some (.int (Int32.ofNat p)), some (.int (Int32.ofNat (p + n)))] [] h Q := by
  have lp : ∀ (n p : Nat), p + n ≤ hh_ln h a → p + n < 2147483648 → Q (.inl (some (.int (Int32.ofNat (p + pt_e (hh_i h a) p n))))) h → gm_G 18 2 [some (.ref r), none, some (.int (Int32.ofNat (p + n))), some (.int (Int32.ofNat p))] [] h Q := by
    intro n
    induction n with
    | zero =>
      intro p h1 h2 H
      refine w_18_2 (r_0 := some r) ⟨fun _ => w_18_24 H, fun c => absurd c (by rw [i_lt (by omega) (by omega)]; omega)⟩
    | succ n ih =>
      intro p h1 h2 H
      refine w_18_2 (r_0 := some r) ⟨fun c => absurd (by rw [i_lt (by omega) (by omega)]; omega) c, fun _ => ⟨r, rfl, w.s, fun r3 e3 => ⟨a, e3.trans w.2.1, Or.inl w.2.2, p, ix_n (by omega) (by omega), fun q => ?_, fun q => ?_⟩⟩⟩
      · refine w_18_24 ?_
        simp only [pt_e] at H
        rw [if_pos q] at H
        exact H
      · rw [i_add, show p + (n + 1) = p + 1 + n by omega]
        refine ih (p + 1) (by omega) (by omega) ?_
        simp only [pt_e] at H
        rw [if_neg q] at H
        rw [show p + 1 + pt_e (hh_i h a) (p + 1) n = p + (pt_e (hh_i h a) (p + 1) n + 1) by omega]
        exact H
  intro n p h1 h2 H
  exact w_18_0 (r_0 := some r) (lp n p h1 h2 H)
theorem c_lastStep {r a n p : Nat} (w : rw_ok h r a) (h1 : p + n ≤ hh_ln h a) (h2 : p + n < 2147483648) (H : Q (.inl (some (.int (Int32.ofNat (p + pt_l (hh_i h a) p n))))) h) : gm_G 13 0 [some (.ref r), some (.int (Int32.ofNat p)), some (.int (Int32.ofNat (p + n)))] [] h Q := by
  have lp : ∀ i, i ≤ n → pt_l (hh_i h a) p i = pt_l (hh_i h a) p n → gm_G 13 2 [some (.ref r), some (.int (Int32.ofNat p)), none, some (.int (Int32.ofNat (p + i)))] [] h Q := by
    intro i
    induction i with
    | zero =>
      intro _ e
      refine w_13_2 (r_0 := some r) ⟨fun _ => w_13_26 ?_, fun c => absurd c (by rw [i_lt (by omega) (by omega)]; omega)⟩
      rw [← e] at H
      exact H
    | succ i ih =>
      intro hi e
      have e9 : Int32.ofNat (p + (i + 1)) - Int32.ofNat 1 = Int32.ofNat (p + i) := by rw [i_sub (by omega)]; rfl
      refine w_13_2 (r_0 := some r) ⟨fun c => absurd (by rw [i_lt (by omega) (by omega)]; omega) c, fun _ => ⟨r, rfl, w.s, fun r3 e3 => ⟨a, e3.trans w.2.1, Or.inl w.2.2, p + i, by rw [e9]; exact ix_n (by omega) (by omega), fun q => w_13_26 ?_, fun q => ?_⟩⟩⟩
      · simp only [pt_l] at e
        rw [if_pos q] at e
        rw [← e] at H
        exact H
      · have e8 : Int32.ofNat (p + (i + 1)) + Int32.ofInt (-1) = Int32.ofNat (p + i) := by rw [← e9, Int32.sub_eq_add_neg]; rfl
        rw [e8]
        refine ih (by omega) ?_
        simp only [pt_l] at e
        rw [if_neg q] at e
        exact e
  exact w_13_0 (r_0 := some r) (lp n (Nat.le_refl _) rfl)
theorem t_lastName {m a n p : Nat} (hT : tw_ok h m) (ht : hh_tg h a = 101) (h1 : p + n ≤ hh_ln h a) (h2 : p + n + 1 < 2147483648) (H : Q (.inl (some (.int (if nm_ok (hh_i h a) (p + pt_l (hh_i h a) p n) (n - pt_l (hh_i h a) p n) then Int32.ofNat (p + pt_l (hh_i h a) p n) else Int32.ofInt (-1))))) h) : gm_G 372 0 [some (.ref m), some (.ref a), some (.int (Int32.ofNat p)), some (.int (Int32.ofNat n))] [] h Q := by
  have lp : ∀ d i, i + d = n → gm_G 372 6 [some (.ref m), some (.ref a), some (.int (Int32.ofNat p)), some (.int (Int32.ofNat n)), some (.int (Int32.ofNat (p + pt_l (hh_i h a) p i))), some (.int (Int32.ofNat (p + i)))] [] h Q := by
    intro d
    induction d with
    | zero =>
      intro i e
      have : i = n := by omega
      subst this
      have hl := pt_l_le (hh_i h a) p i
      refine w_372_6 hT ⟨fun _ => ?_, fun c => absurd c (by rw [i_add, i_lt (by omega) (by omega)]; omega)⟩
      rw [i_add, i_sub (by omega), show p + i - (p + pt_l (hh_i h a) p i) = i - pt_l (hh_i h a) p i by omega]
      refine t_isName hT ht (by omega) (by omega) ⟨fun q => ?_, fun q => ?_⟩
      · rw [bi_0] at q; rw [q] at H; exact H
      · rw [bi_n] at q; rw [q] at H; exact H
    | succ d ih =>
      intro i e
      refine w_372_6 hT ⟨fun c => absurd (by rw [i_add, i_lt (by omega) (by omega)]; omega) c, fun _ => ⟨Or.inl ht, p + i, ix_n (by omega) (by omega), fun q => w_372_29 hT ?_, fun q => w_372_29 hT ?_⟩⟩
      · have := ih (i + 1) (by omega)
        simp only [pt_l] at this
        rw [if_neg q] at this
        rw [i_add]
        exact this
      · have := ih (i + 1) (by omega)
        simp only [pt_l] at this
        rw [if_pos q] at this
        rw [i_add]
        exact this
  exact w_372_0 hT (lp n 0 (by omega))
theorem t_isPath {m a n p : Nat} (hT : tw_ok h m) (ht : hh_tg h a = 101) (h1 : p + n ≤ hh_ln h a) (h2 : p + n + 2 < 2147483648) (H : Q (.inl (some (.int (bi (pt (hh_i h a) p n))))) h) : gm_G 370 0 [some (.ref m), some (.ref a), some (.int (Int32.ofNat p)), some (.int (Int32.ofNat n))] [] h Q := by
  have e0 : (Int32.ofNat n = Int32.ofNat 0) ↔ n = 0 := i_eq (by omega) (by decide)
  refine w_370_0 hT ⟨fun q => ?_, fun q => ?_⟩
  · rw [e0] at q
    have hs : ∀ d F q j, q + j + d = p + n → p ≤ q → p + n - q < F → (∀ i, i < j → ¬ hh_i h a (q + i) = Int32.ofNat 47) → pt_s (pt_o (hh_i h a)) (pt_e (hh_i h a)) F q (p + n - q) = pt (hh_i h a) p n → gm_G 370 12 [some (.ref m), some (.ref a), some (.int (Int32.ofNat p)), some (.int (Int32.ofNat n)), some (.int (Int32.ofNat q)), some (.int (Int32.ofNat (q + j)))] [] h Q := by
      intro d
      induction d with
      | zero =>
        intro F q j e1 e2 e3 e4 e5
        obtain ⟨F, rfl⟩ : ∃ G, F = G + 1 := ⟨F - 1, by omega⟩
        have ee : pt_e (hh_i h a) q (p + n - q) = j := pt_e_eq _ _ _ _ (by omega) e4 (Or.inl (by omega))
        simp only [pt_s, ee] at e5
        have ej : p + n - q = j := by omega
        rw [ej] at e5
        simp only [decide_true, Bool.true_or, Bool.and_true] at e5
        have fin : pt_o (hh_i h a) q j = true → gm_G 370 71 [some (.ref m), some (.ref a), some (.int (Int32.ofNat p)), some (.int (Int32.ofNat n)), none, some (.int (Int32.ofNat (q + j)))] [] h Q := fun z => by
          refine w_370_71 hT (w_370_77 hT (w_370_12 hT ⟨fun _ => ?_, fun c => absurd (by rw [i_add, i_add, i_lt (by omega) (by omega)]; omega) c⟩))
          rw [← e5, z] at H
          exact H
        refine w_370_12 hT ⟨fun c => absurd c (by rw [i_add, i_lt (by omega) (by omega)]; omega), fun _ => ⟨fun _ => w_370_40 hT ?_, fun c => absurd c (by rw [i_add, i_lt (by omega) (by omega)]; omega)⟩⟩
        rw [i_sub (by omega), show q + j - q = j by omega]
        refine t_isName hT ht (by omega) (by omega) ⟨fun z => fin ?_, fun z => t_isDots hT ht (by omega) (by omega) ⟨fun y => fin ?_, fun y => ?_⟩⟩
        · rw [bi_n] at z; simp [pt_o, z]
        · rw [bi_n] at y; simp [pt_o, y]
        · rw [bi_0] at z y
          rw [← e5] at H
          simp only [pt_o, z, y, Bool.or_self] at H
          exact H
      | succ d ih =>
        intro F q j e1 e2 e3 e4 e5
        refine w_370_12 hT ⟨fun c => absurd c (by rw [i_add, i_lt (by omega) (by omega)]; omega), fun _ => ⟨fun c => absurd (by rw [i_add, i_lt (by omega) (by omega)]; omega) c, fun _ => ⟨Or.inl ht, q + j, ix_n (by omega) (by omega), fun z => w_370_40 hT ?_, fun z => w_370_77 hT ?_⟩⟩⟩
        · obtain ⟨F, rfl⟩ : ∃ G, F = G + 1 := ⟨F - 1, by omega⟩
          have ee : pt_e (hh_i h a) q (p + n - q) = j := pt_e_eq _ _ _ _ (by omega) e4 (Or.inr z)
          simp only [pt_s, ee] at e5
          rw [decide_eq_false (show ¬ j = p + n - q by omega), Bool.false_or] at e5
          have fin : pt_o (hh_i h a) q j = true → gm_G 370 71 [some (.ref m), some (.ref a), some (.int (Int32.ofNat p)), some (.int (Int32.ofNat n)), none, some (.int (Int32.ofNat (q + j)))] [] h Q := fun y => by
            refine w_370_71 hT (w_370_77 hT ?_)
            rw [i_add]
            have := ih F (q + j + 1) 0 (by omega) (by omega) (by omega) (fun i hi => by omega) (by rw [y, Bool.true_and] at e5; rw [← e5]; congr 1; omega)
            exact this
          rw [i_sub (by omega), show q + j - q = j by omega]
          refine t_isName hT ht (by omega) (by omega) ⟨fun z => fin ?_, fun z => t_isDots hT ht (by omega) (by omega) ⟨fun y => fin ?_, fun y => ?_⟩⟩
          · rw [bi_n] at z; simp [pt_o, z]
          · rw [bi_n] at y; simp [pt_o, y]
          · rw [bi_0] at z y
            have : pt (hh_i h a) p n = false := by rw [← e5]; simp [pt_o, z, y]
            rw [this] at H
            exact H
        · rw [i_add, show q + j + 1 = q + (j + 1) by omega]
          refine ih F q (j + 1) (by omega) e2 e3 (fun i hi => ?_) e5
          by_cases zz : i = j
          · subst zz; exact z
          · exact e4 i (by omega)
    exact hs n (n + 1) p 0 (by omega) (by omega) (by omega) (fun i hi => by omega) (by unfold pt; rw [decide_eq_false q, Bool.false_or]; congr 1; omega)
  · rw [e0] at q
    subst q
    exact H
end PT
