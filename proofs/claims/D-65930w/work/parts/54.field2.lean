/-! STAGE 2, 24: the component's field -/
theorem i_div {a b : Nat} (ha : a < 2147483648) (hb : b < 2147483648) : Int32.ofNat a / Int32.ofNat b = Int32.ofNat (a / b) := by
  have hd : a / b < 2147483648 := Nat.lt_of_le_of_lt (Nat.div_le_self a b) ha
  have hne : Int32.ofNat b ≠ -1 := fun e => by
    have h1 := Int32.toInt_ofNat_of_lt (n := b) (by omega)
    rw [e] at h1
    have h2 : (-1 : Int32).toInt = -1 := by decide
    omega
  apply Int32.toInt_inj.mp
  rw [Int32.toInt_div_of_ne_right _ _ hne, Int32.toInt_ofNat_of_lt (by omega), Int32.toInt_ofNat_of_lt (by omega), Int32.toInt_ofNat_of_lt (by omega)]
  exact (Int.ofNat_tdiv a b).symm
theorem i_rem {a b : Nat} (ha : a < 2147483648) (hb : b < 2147483648) : Int32.ofNat a - Int32.ofNat a / Int32.ofNat b * Int32.ofNat b = Int32.ofNat (a % b) := by
  rw [i_div ha hb, i_mul, i_sub (Nat.div_mul_le_self a b)]
  congr 1
  have := Nat.div_add_mod a b
  rw [Nat.mul_comm] at this
  omega
theorem pw_add (n k : Nat) : pw (n + 255 * k) = pw n := by
  induction k with
  | zero => rfl
  | succ k ih => rw [show n + 255 * (k + 1) = (n + 255 * k) + 255 by omega, pw_per, ih]
theorem pw_mod (n : Nat) : pw (n % 255) = pw n := by
  have := pw_add (n % 255) (n / 255)
  rw [← this]
  congr 1
  omega
theorem lg_ex {a : Nat} (h0 : a ≠ 0) (ha : a < 256) : ∃ j, j < 255 ∧ pw j = a := by
  have key : ((List.range 255).all fun a => (List.range 255).any fun j => Nat.beq (pw j) (a + 1)) = true := by decide +kernel
  have h1 := List.all_eq_true.mp key (a - 1) (List.mem_range.mpr (by omega))
  obtain ⟨j, hj, e⟩ := List.any_eq_true.mp h1
  refine ⟨j, List.mem_range.mp hj, ?_⟩
  have := Nat.eq_of_beq_eq_true e
  omega
theorem gt_0 {b : Nat} (hb : b < 256) : gt 0 b = 0 ∧ gt b 0 = 0 := by
  have := all256 (fun b => decide (gt 0 b = 0 ∧ gt b 0 = 0)) (by decide +kernel) hb
  simpa using this
section FE
variable {h : hh_T} {Q : Option Value ⊕ Nat → hh_T → Prop}
/-- the field's tables: powers at P, places at L -/
def fd_ok (h : hh_T) (o P L : Nat) : Prop := hh_tg h o = 3 ∧ hh_r h o 0 = some P ∧ hh_r h o 1 = some L ∧ hh_tg h P = 100 ∧ hh_ln h P = 512 ∧ hh_tg h L = 100 ∧ hh_ln h L = 256 ∧ (∀ k, k < 510 → hh_i h P k = Int32.ofNat (pw k)) ∧ ∀ k, k < 255 → hh_i h L (pw k) = Int32.ofNat k
theorem fd_ok.s {o P L : Nat} (w : fd_ok h o P L) : gm_sub (hh_tg h o) 2 = true := by rw [w.1]; rfl
theorem c_ftimes {o P L a b : Nat} (w : fd_ok h o P L) (ha : a < 256) (hb : b < 256) (H : Q (.inl (some (.int (Int32.ofNat (gt a b))))) h) : gm_G 27 0 [some (.ref o), some (.int (Int32.ofNat a)), some (.int (Int32.ofNat b))] [] h Q := by
  obtain ⟨w1, w2, w3, w4, w5, w6, w7, w8, w9⟩ := id w
  refine w_27_0 ⟨fun q => w_27_8 (a0 := o) ?_, fun q => ⟨fun q2 => ?_, fun q2 => w_27_8 (a0 := o) ?_⟩⟩
  · rw [i_eq (by omega) (by decide)] at q
    subst q
    rw [(gt_0 hb).1] at H
    exact H
  · rw [i_eq (by omega) (by decide)] at q q2
    obtain ⟨i, hi, ei⟩ := lg_ex q ha
    obtain ⟨j, hj, ej⟩ := lg_ex q2 hb
    subst ei; subst ej
    refine ⟨w.s, fun r2 e2 r3 e3 => ⟨L, e3.trans w3, Or.inl w6, pw i, by rw [w7]; exact ix_n ha (by omega), fun r7 e7 => ⟨L, e7.trans w3, Or.inl w6, pw j, by rw [w7]; exact ix_n hb (by omega), P, e2.trans w2, Or.inl w4, i + j, ?_, ?_⟩⟩⟩
    · rw [w9 i hi, w9 j hj, i_add, w5]
      exact ix_n (by omega) (by omega)
    · rw [w8 (i + j) (by omega), ← pw_mul]
      exact H
  · rw [i_eq (by omega) (by decide)] at q2
    subst q2
    rw [(gt_0 ha).2] at H
    exact H
theorem c_fover {o P L a b : Nat} (w : fd_ok h o P L) (ha : a < 256) (hb : b < 256) (hb0 : b ≠ 0) (H : Q (.inl (some (.int (Int32.ofNat (gt a (gp b 254)))))) h) : gm_G 26 0 [some (.ref o), some (.int (Int32.ofNat a)), some (.int (Int32.ofNat b))] [] h Q := by
  obtain ⟨w1, w2, w3, w4, w5, w6, w7, w8, w9⟩ := id w
  refine w_26_0 ⟨fun q => ?_, fun q => ?_⟩
  · rw [i_eq (by omega) (by decide)] at q
    obtain ⟨i, hi, ei⟩ := lg_ex q ha
    obtain ⟨j, hj, ej⟩ := lg_ex hb0 hb
    subst ei; subst ej
    refine ⟨w.s, fun r2 e2 r3 e3 => ⟨L, e3.trans w3, Or.inl w6, pw i, by rw [w7]; exact ix_n ha (by omega), fun r7 e7 => ⟨L, e7.trans w3, Or.inl w6, pw j, by rw [w7]; exact ix_n hb (by omega), P, e2.trans w2, Or.inl w4, i + 255 - j, ?_, ?_⟩⟩⟩
    · rw [w9 i hi, w9 j hj, i_add, i_sub (by omega), w5]
      exact ix_n (by omega) (by omega)
    · rw [w8 (i + 255 - j) (by omega)]
      rw [gp_pw, pw_mul] at H
      rw [← pw_mod (i + 255 - j), show (i + 255 - j) % 255 = (i + 254 * j) % 255 by omega, pw_mod]
      exact H
  · rw [i_eq (by omega) (by decide)] at q
    subst q
    rw [(gt_0 (gp_lt 254)).1] at H
    exact H
theorem c_ffactor {o P L j e : Nat} (w : fd_ok h o P L) (hj : j < 100) (he : e < 100) (H : Q (.inl (some (.int (Int32.ofNat (pw (j * e)))))) h) : gm_G 25 0 [some (.ref o), some (.int (Int32.ofNat j)), some (.int (Int32.ofNat e))] [] h Q := by
  obtain ⟨w1, w2, w3, w4, w5, w6, w7, w8, w9⟩ := id w
  have hm : j * e < 10000 := by
    have : j * e ≤ 99 * 99 := Nat.mul_le_mul (by omega) (by omega)
    omega
  have hm2 : j * e % 255 < 255 := Nat.mod_lt _ (by decide)
  refine w_25_0 ⟨w.s, fun r2 e2 => ⟨P, e2.trans w2, Or.inl w4, j * e % 255, ?_, ?_⟩⟩
  · rw [i_mul, i_rem (by omega) (by decide), w5]
    exact ix_n (by omega) (by omega)
  · rw [w8 _ (by omega), pw_mod]
    exact H
theorem pw_inj {i j : Nat} (hi : i < 255) (hj : j < 255) (e : pw i = pw j) : i = j := by
  have key : ((List.range 255).all fun i => (List.range 255).all fun j => !(Nat.beq (pw i) (pw j)) || Nat.beq i j) = true := by decide +kernel
  have h1 := List.all_eq_true.mp (List.all_eq_true.mp key i (List.mem_range.mpr hi)) j (List.mem_range.mpr hj)
  rw [e] at h1
  have h2 : Nat.beq (pw j) (pw j) = true := Nat.beq_refl _
  rw [h2] at h1
  exact Nat.eq_of_beq_eq_true h1
end FE
