/-! STAGE 2, 31: small scans of the twin -/
section SM
variable {h : hh_T} {Q : Option Value ⊕ Nat → hh_T → Prop}
theorem t_noObject {m t : Nat} {o : Int32} (hT : tw_ok h m) (ht : t < 96) (H1 : (o < Int32.ofNat 0 ∨ Int32.ofNat 15 < o) → Q (.inl (some (.int (Int32.ofNat 1)))) h) (H2 : ∀ k, k < 16 → o = Int32.ofNat k → Q (.inl (some (.int (bi (decide (hh_i h (m + 40) (16 * t + k) = Int32.ofNat 0)))))) h) : gm_G 137 0 [some (.ref m), some (.int (Int32.ofNat t)), some (.int o)] [] h Q := by
  refine w_137_0 hT ⟨fun q => w_137_24 hT (H1 (Or.inl q)), fun q => ⟨fun q2 => w_137_24 hT (H1 (Or.inr q2)), fun q2 => ?_⟩⟩
  obtain ⟨k, hk, rfl⟩ := i_nat q
  rw [i_lt (by decide) hk] at q2
  have H := H2 k (by omega) rfl
  refine ⟨16 * t + k, by rw [i_mul, i_add]; exact ix_n (by omega) (by omega), fun z => ?_, fun z => w_137_24 hT ?_⟩
  · rw [decide_eq_false z] at H; exact H
  · rw [decide_eq_true z] at H; exact H
theorem t_isOpenIn {m : Nat} {tr : Int32} (hT : tw_ok h m) (H : Q (.inl (some (.int (bi (ffi (fun f => decide (¬ hh_i h (m + 88) f = Int32.ofNat 0) && decide (hh_i h (m + 90) f = tr)) 8 0).isSome)))) h) : gm_G 125 0 [some (.ref m), some (.int tr)] [] h Q := by
  refine w_125_0 hT ?_
  have lp : ∀ d k, k + d = 8 → Q (.inl (some (.int (bi (ffi (fun f => decide (¬ hh_i h (m + 88) f = Int32.ofNat 0) && decide (hh_i h (m + 90) f = tr)) d k).isSome)))) h → gm_G 125 2 [some (.ref m), some (.int tr), some (.int (Int32.ofNat k))] [] h Q := by
    intro d
    induction d with
    | zero =>
      intro k e H1
      exact w_125_2 hT ⟨fun _ => H1, fun u => absurd u (by rw [i_lt (by omega) (by decide)]; omega)⟩
    | succ d ih =>
      intro k e H1
      rw [ffi_S] at H1
      have nx : (decide (¬ hh_i h (m + 88) k = Int32.ofNat 0) && decide (hh_i h (m + 90) k = tr)) = false → gm_G 125 29 [some (.ref m), some (.int tr), some (.int (Int32.ofNat k))] [] h Q := fun z => by
        refine w_125_29 hT ?_
        rw [i_add]
        rw [if_neg (by rw [z]; decide)] at H1
        exact ih (k + 1) (by omega) H1
      refine w_125_2 hT ⟨fun u => absurd (by rw [i_lt (by omega) (by decide)]; omega) u, fun _ => ⟨k, ix_n (by omega) (by omega), fun v => nx (by rw [decide_eq_false (fun y => y v), Bool.false_and]), fun v => ⟨k, ix_n (by omega) (by omega), fun y => nx (by rw [decide_eq_false y, Bool.and_false]), fun y => ?_⟩⟩⟩
      rw [if_pos (by rw [decide_eq_true v, decide_eq_true y]; rfl)] at H1
      exact H1
  exact lp 8 0 (by omega) H
end SM
