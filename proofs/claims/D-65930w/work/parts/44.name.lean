/-! STAGE 2, 14: StorageHouse.name, isPath, endsWithName -/
theorem nm_a_mono {l : Int32 → Bool} {f : Nat → Int32} {p : Nat} : ∀ {j i : Nat}, i ≤ j → nm_a l f p j = true → nm_a l f p i = true := by
  intro j
  induction j with
  | zero => intro i hi h; have : i = 0 := by omega
            subst this; exact h
  | succ j ih =>
    intro i hi h
    by_cases e : i = j + 1
    · subst e; exact h
    · simp only [nm_a, Bool.and_eq_true] at h
      exact ih (by omega) h.1
theorem nm_a_no {l : Int32 → Bool} {f : Nat → Int32} {p i n : Nat} (hi : i < n) (h : l (f (p + i)) = false) : nm_a l f p n = false := by
  cases e : nm_a l f p n with
  | false => rfl
  | true =>
    have := nm_a_mono (show i + 1 ≤ n by omega) e
    simp only [nm_a, h, Bool.and_false] at this
    cases this
section NN
variable {h : hh_T} {Q : Option Value ⊕ Nat → hh_T → Prop}
theorem c_name {r a p n : Nat} (w : rw_ok h r a) (hB : ∀ i, gy_b (hh_i h a i)) (hn : p + n ≤ hh_ln h a) (hb : p + n + 8 < 2147483648) (H : Q (.inl (some (.long (nm_v (hh_i h a) p n)))) h) : gm_G 233 0 [some (.ref r), some (.int (Int32.ofNat p)), some (.int (Int32.ofNat (p + n)))] [] h Q := by
  have e0 : Int32.ofNat (p + n) - Int32.ofNat p = Int32.ofNat n := by rw [i_sub (by omega), Nat.add_sub_cancel_left]
  have e1 : (Int32.ofNat n = Int32.ofNat 1) ↔ n = 1 := i_eq (by omega) (by decide)
  have e2 : (Int32.ofNat n = Int32.ofNat 2) ↔ n = 2 := i_eq (by omega) (by decide)
  have F : nm_ok (hh_i h a) p n = false → Q (.inl (some (.long (Int64.ofNat 0)))) h := fun e => by
    unfold nm_v at H
    rw [e] at H
    exact H
  have loop : 1 ≤ n → n ≤ 8 → nm_d (hh_i h a) p n = false → ∀ d k, k + d = 8 → nm_a nm_l (hh_i h a) p (if k < n then k else n) = true → gm_G 233 62 [some (.ref r), some (.int (Int32.ofNat p)), some (.int (Int32.ofNat (p + n))), some (.long (Int64.ofNat (pq (pq_c (hh_i h a) p n) k))), none, some (.int (Int32.ofNat k))] [] h Q := by
    intro n1 n8 nd d
    induction d with
    | zero =>
      intro k e ha
      have : k = 8 := by omega
      subst this
      refine w_233_62 (r_0 := some r) ⟨fun _ => ?_, fun c => absurd c (by decide)⟩
      have ok : nm_ok (hh_i h a) p n = true := by
        rw [if_neg (by omega)] at ha
        simp [nm_ok, nd, ha, n1, n8]
      unfold nm_v at H
      rw [ok] at H
      exact H
    | succ d ih =>
      intro k e ha
      have lt := pq_lt2 (pq_c_lt (hh_i h a) p n) k
      have lt2 : pq (pq_c (hh_i h a) p n) k < 2 ^ 56 := Nat.lt_of_lt_of_le lt (by
        have : 256 ^ k ≤ 256 ^ 7 := Nat.pow_le_pow_right (by decide) (by omega)
        exact Nat.le_trans this (by decide))
      have nx : ∀ y : Nat, y < 256 → y = pq_c (hh_i h a) p n k → nm_a nm_l (hh_i h a) p (if k + 1 < n then k + 1 else n) = true → gm_G 233 109 [some (.ref r), some (.int (Int32.ofNat p)), some (.int (Int32.ofNat (p + n))), some (.long (Int64.ofNat (pq (pq_c (hh_i h a) p n) k))), none, some (.int (Int32.ofNat k)), some (.int (Int32.ofNat y))] [] h Q := by
        intro y hy ey ha2
        refine w_233_109 (r_0 := some r) ?_
        rw [l_put lt2 hy, i_add, ey]
        exact ih (k + 1) (by omega) ha2
      refine w_233_62 (r_0 := some r) ⟨fun c => absurd (by rw [i_lt (by omega) (by decide)]; omega) c, fun _ => ⟨fun q => ?_, fun q => ⟨r, rfl, w.1, ?_⟩⟩⟩
      · rw [i_add, i_lt (by omega) (by omega)] at q
        refine w_233_89 (r_0 := some r) ⟨fun _ => nx 0 (by decide) ?_ ?_, fun c => absurd c (by rw [i_add, i_lt (by omega) (by omega)]; omega)⟩
        · unfold pq_c
          rw [if_neg (by omega)]
        · rw [if_neg (by omega)] at ha ⊢
          exact ha
      · rw [i_add, i_lt (by omega) (by omega)] at q
        rw [i_add]
        refine c_at w (by omega) (by omega) ?_
        have ec := pq_c_of (f := hh_i h a) (p := p) (show k < n by omega)
        show gm_G 233 89 _ _ _ _
        refine w_233_89 (r_0 := some r) ⟨fun c => absurd (by rw [i_add, i_lt (by omega) (by omega)]; omega) c, fun _ => c_isNameByte ⟨fun z => ?_, fun z => F ?_⟩⟩
        · rw [bi_n, b_letter (hB _)] at z
          rw [ec]
          refine nx _ (pq_c_lt _ _ _ _) rfl ?_
          have : nm_a nm_l (hh_i h a) p (k + 1) = true := by
            rw [if_pos (by omega)] at ha
            simp only [nm_a, ha, z, Bool.and_self]
          split
          · exact this
          · rename_i c
            rw [show n = k + 1 by omega]
            exact this
        · rw [bi_0, b_letter (hB _)] at z
          simp [nm_ok, nm_a_no (show k < n by omega) z]
  refine w_233_0 (r_0 := some r) ⟨fun q => w_233_15 (F ?_), fun q => ⟨fun q2 => ⟨r, rfl, w.s, fun r3 e3 => ⟨a, e3.trans w.2.1, Or.inl w.2.2, p, ix_n ?_ (by omega), fun z => ?_, fun z => ⟨fun y => w_233_55 (F ?_), fun y => ⟨fun y2 => ?_, fun y2 r7 e7 => ⟨a, e7.trans w.2.1, Or.inl w.2.2, p + 1, ?_, fun y3 => ?_, fun y3 => w_233_55 (F ?_)⟩⟩⟩⟩⟩, fun q2 => w_233_15 (F ?_)⟩⟩
  · rw [e0, i_lt (by omega) (by decide)] at q
    simp [nm_ok, show ¬ 1 ≤ n by omega]
  · rw [e0, i_lt (by omega) (by decide)] at q; omega
  · rw [e0, i_lt (by omega) (by decide)] at q
    rw [e0, i_lt (by decide) (by omega)] at q2
    refine w_233_57 (r_0 := some r) (loop (by omega) (by omega) ?_ 8 0 (by omega) (by rw [if_pos (by omega)]; rfl))
    grind [nm_d]
  · rw [e0, e1] at y
    have : nm_d (hh_i h a) p n = true := by grind [nm_d]
    simp [nm_ok, this]
  · rw [e0, e1] at y
    rw [e0, e2] at y2
    rw [e0, i_lt (by omega) (by decide)] at q
    rw [e0, i_lt (by decide) (by omega)] at q2
    refine w_233_57 (r_0 := some r) (loop (by omega) (by omega) ?_ 8 0 (by omega) (by rw [if_pos (by omega)]; rfl))
    grind [nm_d]
  · rw [e0, e2] at y2
    rw [i_add]
    exact ix_n (by omega) (by omega)
  · rw [e0, e1] at y
    rw [e0, e2] at y2
    refine w_233_57 (r_0 := some r) (loop (by omega) (by omega) ?_ 8 0 (by omega) (by rw [if_pos (by omega)]; rfl))
    grind [nm_d]
  · rw [e0, e2] at y2
    have : nm_d (hh_i h a) p n = true := by grind [nm_d]
    simp [nm_ok, this]
  · rw [e0, i_lt (by decide) (by omega)] at q2
    simp [nm_ok, show ¬ n ≤ 8 by omega]
end NN
