/-! STAGE 2, 11: names: letters, dots, names (component: a row's bytes; twin: an array's bytes) -/
def bi (b : Bool) : Int32 := if b then Int32.ofNat 1 else Int32.ofNat 0
theorem bi_t : bi true = Int32.ofNat 1 := rfl
theorem bi_f : bi false = Int32.ofNat 0 := rfl
theorem bi_0 {b : Bool} : bi b = Int32.ofNat 0 ↔ b = false := by cases b <;> simp [bi]
theorem bi_n {b : Bool} : ¬ bi b = Int32.ofNat 0 ↔ b = true := by cases b <;> simp [bi]
/-- a letter of names -/
def nm_l (x : Int32) : Bool := (!decide (x < Int32.ofNat 97) && !decide (Int32.ofNat 122 < x)) || (!decide (x < Int32.ofNat 48) && !decide (Int32.ofNat 57 < x)) || decide (x = Int32.ofNat 45) || decide (x = Int32.ofNat 95) || decide (x = Int32.ofNat 46)
def nm_d (f : Nat → Int32) (p n : Nat) : Bool := (decide (n = 1) && decide (f p = Int32.ofNat 46)) || (decide (n = 2) && decide (f p = Int32.ofNat 46) && decide (f (p + 1) = Int32.ofNat 46))
def nm_a (l : Int32 → Bool) (f : Nat → Int32) (p : Nat) : Nat → Bool
  | 0 => true
  | n + 1 => nm_a l f p n && l (f (p + n))
/-- n bytes from p on are a name -/
def nm_ok (f : Nat → Int32) (p n : Nat) : Bool := decide (1 ≤ n) && decide (n ≤ 8) && !(nm_d f p n) && nm_a nm_l f p n
section NM
variable {h : hh_T} {Q : Option Value ⊕ Nat → hh_T → Prop}
theorem t_isLetter {m : Nat} {x : Int32} (hT : tw_ok h m) (H : Q (.inl (some (.int (bi (nm_l x))))) h) : gm_G 121 0 [some (.ref m), some (.int x)] [] h Q := by
  have T : nm_l x = true → gm_G 121 42 [] [] h Q := fun e => by
    rw [e] at H
    exact w_121_42 hT H
  have s24 : (¬ (¬ x < Int32.ofNat 97 ∧ ¬ Int32.ofNat 122 < x)) → (¬ (¬ x < Int32.ofNat 48 ∧ ¬ Int32.ofNat 57 < x)) → gm_G 121 24 [none, some (.int x)] [] h Q := fun n1 n2 => by
    refine w_121_24 hT ⟨fun a => T (by grind [nm_l]), fun a => ⟨fun b => T (by grind [nm_l]), fun b => ⟨fun c => ?_, fun c => T (by grind [nm_l])⟩⟩⟩
    have : nm_l x = false := by
      grind [nm_l]
    rw [this] at H
    exact H
  have s12 : (¬ (¬ x < Int32.ofNat 97 ∧ ¬ Int32.ofNat 122 < x)) → gm_G 121 12 [none, some (.int x)] [] h Q := fun n1 => by
    exact w_121_12 hT ⟨fun a => s24 n1 (fun z => z.1 a), fun a => ⟨fun b => T (by grind [nm_l]), fun b => s24 n1 (fun z => z.2 b)⟩⟩
  exact w_121_0 hT ⟨fun a => s12 (fun z => z.1 a), fun a => ⟨fun b => T (by grind [nm_l]), fun b => s12 (fun z => z.2 b)⟩⟩
theorem c_isNameByte {x : Int32} (H : Q (.inl (some (.int (bi (nm_l x))))) h) : gm_G 10 0 [some (.int x)] [] h Q := by
  have T : nm_l x = true → gm_G 10 42 [] [] h Q := fun e => by
    rw [e] at H
    exact w_10_42 H
  have s24 : (¬ (¬ x < Int32.ofNat 97 ∧ ¬ Int32.ofNat 122 < x)) → (¬ (¬ x < Int32.ofNat 48 ∧ ¬ Int32.ofNat 57 < x)) → gm_G 10 24 [some (.int x)] [] h Q := fun n1 n2 => by
    refine w_10_24 ⟨fun a => T (by grind [nm_l]), fun a => ⟨fun b => T (by grind [nm_l]), fun b => ⟨fun c => ?_, fun c => T (by grind [nm_l])⟩⟩⟩
    have : nm_l x = false := by
      grind [nm_l]
    rw [this] at H
    exact H
  have s12 : (¬ (¬ x < Int32.ofNat 97 ∧ ¬ Int32.ofNat 122 < x)) → gm_G 10 12 [some (.int x)] [] h Q := fun n1 => by
    exact w_10_12 ⟨fun a => s24 n1 (fun z => z.1 a), fun a => ⟨fun b => T (by grind [nm_l]), fun b => s24 n1 (fun z => z.2 b)⟩⟩
  exact w_10_0 ⟨fun a => s12 (fun z => z.1 a), fun a => ⟨fun b => T (by grind [nm_l]), fun b => s12 (fun z => z.2 b)⟩⟩
theorem t_isDots {m a p n : Nat} (hT : tw_ok h m) (ht : hh_tg h a = 101) (hn : p + n ≤ hh_ln h a) (hb : p + n < 2147483648) (H : Q (.inl (some (.int (bi (nm_d (hh_i h a) p n))))) h) : gm_G 119 0 [some (.ref a), some (.int (Int32.ofNat p)), some (.int (Int32.ofNat n))] [] h Q := by
  have T : nm_d (hh_i h a) p n = true → gm_G 119 36 [] [] h Q := fun e => by
    rw [e] at H
    exact w_119_36 hT H
  have F : nm_d (hh_i h a) p n = false → Q (.inl (some (.int (Int32.ofNat 0)))) h := fun e => by
    rw [e] at H
    exact H
  have e1 : (Int32.ofNat n = Int32.ofNat 1) ↔ n = 1 := i_eq (by omega) (by decide)
  have e2 : (Int32.ofNat n = Int32.ofNat 2) ↔ n = 2 := i_eq (by omega) (by decide)
  have s13 : ¬ (n = 1 ∧ hh_i h a p = Int32.ofNat 46) → gm_G 119 13 [some (.ref a), some (.int (Int32.ofNat p)), some (.int (Int32.ofNat n))] [] h Q := fun n1 => by
    refine w_119_13 hT ⟨fun q => F ?_, fun q => ⟨Or.inl ht, p, ix_n ?_ (by omega), fun q2 => F ?_, fun q2 => ⟨p + 1, ?_, fun q3 => F ?_, fun q3 => T ?_⟩⟩⟩
    · rw [e2] at q
      by_cases z : n = 1
      · grind [nm_d]
      · grind [nm_d]
    · rw [e2] at q; omega
    · grind [nm_d]
    · rw [e2] at q
      rw [i_add]
      exact ix_n (by omega) (by omega)
    · rw [e2] at q
      subst q
      grind [nm_d]
    · rw [e2] at q
      subst q
      grind [nm_d]
  refine w_119_0 hT ⟨fun q => s13 (fun z => q (e1.mpr z.1)), fun q => ⟨Or.inl ht, p, ix_n ?_ (by omega), fun q2 => T ?_, fun q2 => s13 (fun z => q2 z.2)⟩⟩
  · rw [e1] at q; omega
  · rw [e1] at q
    grind [nm_d]
theorem t_isName {m a p n : Nat} (hT : tw_ok h m) (ht : hh_tg h a = 101) (hn : p + n ≤ hh_ln h a) (hb : p + n < 2147483648) (H : Q (.inl (some (.int (bi (nm_ok (hh_i h a) p n))))) h) : gm_G 285 0 [some (.ref m), some (.ref a), some (.int (Int32.ofNat p)), some (.int (Int32.ofNat n))] [] h Q := by
  have F : nm_ok (hh_i h a) p n = false → Q (.inl (some (.int (Int32.ofNat 0)))) h := fun e => by
    rw [e] at H
    exact H
  refine w_285_0 hT ⟨fun q => F ?_, fun q => ⟨fun q2 => F ?_, fun q2 => t_isDots hT ht hn hb ⟨fun v => ?_, fun v => F ?_⟩⟩⟩
  · rw [i_lt (by omega) (by decide)] at q
    simp [nm_ok, show ¬ 1 ≤ n by omega]
  · rw [i_lt (by decide) (by omega)] at q2
    simp [nm_ok, show ¬ n ≤ 8 by omega]
  · rw [i_lt (by omega) (by decide)] at q
    rw [i_lt (by decide) (by omega)] at q2
    rw [bi_0] at v
    have lp : ∀ d i, i + d = n → nm_a nm_l (hh_i h a) p i = true → gm_G 285 25 [some (.ref m), some (.ref a), some (.int (Int32.ofNat p)), some (.int (Int32.ofNat n)), some (.int (Int32.ofNat (p + i)))] [] h Q := by
      intro d
      induction d with
      | zero =>
        intro i e ha
        have : i = n := by omega
        subst this
        refine w_285_25 hT ⟨fun _ => ?_, fun c => absurd c (by rw [i_add, i_lt (by omega) (by omega)]; omega)⟩
        have e : nm_ok (hh_i h a) p i = true := by simp [nm_ok, v, ha, show 1 ≤ i by omega, show i ≤ 8 by omega]
        rw [e] at H
        exact H
      | succ d ih =>
        intro i e ha
        refine w_285_25 hT ⟨fun c => absurd (by rw [i_add, i_lt (by omega) (by omega)]; omega) c, fun _ => ⟨Or.inl ht, p + i, ix_n (by omega) (by omega), t_isLetter hT ⟨fun w => ?_, fun w => F ?_⟩⟩⟩
        · rw [bi_n] at w
          rw [i_add]
          exact ih (i + 1) (by omega) (by simp [nm_a, ha, w])
        · rw [bi_0] at w
          have : ∀ j, i < j → nm_a nm_l (hh_i h a) p j = false := by
            intro j hj
            induction j with
            | zero => omega
            | succ j ihj =>
              by_cases z : i < j
              · simp [nm_a, ihj z]
              · have : j = i := by omega
                subst this
                simp [nm_a, w]
          simp [nm_ok, this n (by omega)]
    exact lp n 0 (by omega) rfl
  · rw [bi_n] at v
    simp [nm_ok, v]
/-- a row: its bytes' array -/
def rw_ok (h : hh_T) (r a : Nat) : Prop := hh_tg h r = 13 ∧ hh_r h r 0 = some a ∧ hh_tg h a = 101
theorem rw_ok.s {r a : Nat} (w : rw_ok h r a) : gm_sub (hh_tg h r) 12 = true := by rw [w.1]; rfl
theorem c_isDots {r a p n : Nat} (w : rw_ok h r a) (hn : p + n ≤ hh_ln h a) (hb : p + n < 2147483648) (H : Q (.inl (some (.int (bi (nm_d (hh_i h a) p n))))) h) : gm_G 7 0 [some (.ref r), some (.int (Int32.ofNat p)), some (.int (Int32.ofNat (p + n)))] [] h Q := by
  obtain ⟨w1, w2, w3⟩ := id w
  have T : nm_d (hh_i h a) p n = true → gm_G 7 49 [] [] h Q := fun e => by
    rw [e] at H
    exact w_7_49 H
  have F : nm_d (hh_i h a) p n = false → Q (.inl (some (.int (Int32.ofNat 0)))) h := fun e => by
    rw [e] at H
    exact H
  have e0 : Int32.ofNat (p + n) - Int32.ofNat p = Int32.ofNat n := by rw [i_sub (by omega), Nat.add_sub_cancel_left]
  have e1 : (Int32.ofNat n = Int32.ofNat 1) ↔ n = 1 := i_eq (by omega) (by decide)
  have e2 : (Int32.ofNat n = Int32.ofNat 2) ↔ n = 2 := i_eq (by omega) (by decide)
  have s18 : ¬ (n = 1 ∧ hh_i h a p = Int32.ofNat 46) → gm_G 7 18 [some (.ref r), some (.int (Int32.ofNat p)), some (.int (Int32.ofNat (p + n)))] [] h Q := fun n1 => by
    refine w_7_18 (r_0 := some r) ⟨fun q => F ?_, fun q => ⟨r, rfl, w.s, fun r3 e3 => ⟨a, e3.trans w2, Or.inl w3, p, ix_n ?_ (by omega), fun q2 => F ?_, fun q2 r7 e7 => ⟨a, e7.trans w2, Or.inl w3, p + 1, ?_, fun q3 => F ?_, fun q3 => T ?_⟩⟩⟩⟩
    · rw [e0, e2] at q
      by_cases z : n = 1
      · grind [nm_d]
      · grind [nm_d]
    · rw [e0, e2] at q; omega
    · grind [nm_d]
    · rw [e0, e2] at q
      rw [i_add]
      exact ix_n (by omega) (by omega)
    · rw [e0, e2] at q
      subst q
      grind [nm_d]
    · rw [e0, e2] at q
      subst q
      grind [nm_d]
  refine w_7_0 (r_0 := some r) ⟨fun q => s18 (fun z => q (by rw [e0]; exact e1.mpr z.1)), fun q => ⟨r, rfl, w.s, fun r3 e3 => ⟨a, e3.trans w2, Or.inl w3, p, ix_n ?_ (by omega), fun q2 => T ?_, fun q2 => s18 (fun z => q2 z.2)⟩⟩⟩
  · rw [e0, e1] at q; omega
  · rw [e0, e1] at q
    grind [nm_d]
end NM
