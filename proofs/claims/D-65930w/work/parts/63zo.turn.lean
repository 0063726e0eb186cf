/-! STAGE 3: a turn -/
/-- state j in h' is as state i in h -/
def st (h h' : hh_T) (m i j : Nat) : Prop := ∀ o, 59 ≤ o → o ≤ 77 → ∀ x, x < csw o → hh_i h' (m + o) (csw o * j + x) = hh_i h (m + o) (csw o * i + x)
theorem st_cs {h h' : hh_T} {m a b : Nat} (I : csI h h' m a b csw) : st h h' m a b ∧ ∀ j, ¬ j = b → st h h' m j j := by
  constructor
  · intro o q0 q1 x hx
    rw [I o q0 q1, if_pos (by omega), show csw o * b + x - csw o * b = x by omega]
  · intro j hj o q0 q1 x hx
    rw [I o q0 q1, if_neg]
    rintro ⟨z1, z2⟩
    by_cases z : j < b
    · have := Nat.mul_le_mul_left (csw o) (show j + 1 ≤ b by omega)
      rw [Nat.mul_add, Nat.mul_one] at this
      omega
    · have := Nat.mul_le_mul_left (csw o) (show b + 1 ≤ j by omega)
      rw [Nat.mul_add, Nat.mul_one] at this
      omega
theorem st_trans {h h1 h2 : hh_T} {m i j k : Nat} (a : st h h1 m i j) (b : st h1 h2 m j k) : st h h2 m i k := fun o q0 q1 x hx => (b o q0 q1 x hx).trans (a o q0 q1 x hx)
theorem st_fr {h h' : hh_T} {m j : Nat} {O F : List Nat} (g : fr (tO m O F) h h') (hO : (O.all fun o => !(Nat.ble 59 o && Nat.ble o 77)) = true) : st h h' m j j := fun o q0 q1 x _ => by
  rw [g.arrs hO (by rw [Bool.and_eq_true, Nat.ble_eq, Nat.ble_eq]; exact ⟨q0, q1⟩) (by omega)]
section ST
variable {h h' : hh_T} {m i j : Nat}
theorem tnm_cg {a p p' n : Nat} {v : Int64} (hn : n ≤ 8) (e : ∀ x, x < 8 → hh_i h' (m + a) (p' + x) = hh_i h (m + a) (p + x)) (R : tnm h m a p n v) : tnm h' m a p' n v := by
  rcases R with z | ⟨z1, z2⟩
  · exact Or.inl z
  · obtain ⟨c1, c2⟩ := nm_cg (f := hh_i h (m + a)) (g := hh_i h' (m + a)) (p := p) (q := p') (n := n) (fun x hx => e x (by omega))
    exact Or.inr ⟨c1.trans z1, c2.trans z2⟩
theorem td_st {k : Nat} {d : zD} (s : st h h' m i j) (hk : k < 8) (kt : ∀ t T, tt h m t T → tt h' m t T) (D : td h m (8 * i + k) d) : td h' m (8 * j + k) d := by
  have a59 : hh_i h' (m + 59) (8 * j + k) = hh_i h (m + 59) (8 * i + k) := s 59 (by decide) (by decide) k hk
  have a60 : hh_i h' (m + 60) (8 * j + k) = hh_i h (m + 60) (8 * i + k) := s 60 (by decide) (by decide) k hk
  have a61 : hh_i h' (m + 61) (8 * j + k) = hh_i h (m + 61) (8 * i + k) := s 61 (by decide) (by decide) k hk
  have a62 : hh_i h' (m + 62) (8 * j + k) = hh_i h (m + 62) (8 * i + k) := s 62 (by decide) (by decide) k hk
  have a63 : hh_i h' (m + 63) (8 * j + k) = hh_i h (m + 63) (8 * i + k) := s 63 (by decide) (by decide) k hk
  have a64 : hh_i h' (m + 64) (8 * j + k) = hh_i h (m + 64) (8 * i + k) := s 64 (by decide) (by decide) k hk
  obtain ⟨d1, d2, d3, d4, d5, d6, d7, d8, ⟨t, d9, d9'⟩, ⟨n, d10, d11, d12⟩, d13, d14⟩ := D
  refine ⟨a59.trans d1, d2, a60.trans d3, d4, a61.trans d5, d6, a62.trans d7, d8, ⟨t, a63.trans d9, kt t _ d9'⟩, ⟨n, a64.trans d10, d11, tnm_cg d11 (fun x hx => ?_) d12⟩, fun w hw => ⟨?_, (d13 w hw).2⟩, fun u hu => ?_⟩
  · have := s 67 (by decide) (by decide) (8 * k + x) (by show 8 * k + x < 64; omega)
    rw [show 8 * (8 * j + k) + x = 64 * j + (8 * k + x) by omega, show 8 * (8 * i + k) + x = 64 * i + (8 * k + x) by omega]
    exact this
  · have := s 65 (by decide) (by decide) (5 * k + w) (by show 5 * k + w < 40; omega)
    rw [show 5 * (8 * j + k) + w = 40 * j + (5 * k + w) by omega]
    refine this.trans ?_
    show hh_i h (m + 65) (40 * i + (5 * k + w)) = _
    rw [show 40 * i + (5 * k + w) = 5 * (8 * i + k) + w by omega]
    exact (d13 w hw).1
  · have := s 66 (by decide) (by decide) (9 * k + u) (by show 9 * k + u < 72; omega)
    rw [show 9 * (8 * j + k) + u = 72 * j + (9 * k + u) by omega]
    refine this.trans ?_
    show hh_i h (m + 66) (72 * i + (9 * k + u)) = _
    rw [show 72 * i + (9 * k + u) = 9 * (8 * i + k) + u by omega]
    exact d14 u hu
theorem tk_st {k pl : Nat} {d : zK} (s : st h h' m i j) (hk : k < 12) (kt : ∀ t T, tt h m t T → tt h' m t T) (D : tk h m (12 * i + k) d pl) : tk h' m (12 * j + k) d pl := by
  have a : ∀ o, 69 ≤ o → o < 76 → hh_i h' (m + o) (12 * j + k) = hh_i h (m + o) (12 * i + k) := fun o h1 h2 => by
    have e : csw o = 12 := by
      unfold csw
      rw [if_neg (by omega), if_neg (by omega), if_neg (by omega), if_neg (by omega), if_neg (by omega), if_pos h2]
    have := s o (by omega) (by omega) k (by rw [e]; exact hk)
    rw [e] at this
    exact this
  obtain ⟨r1, r2, r3, r4, r5, r6, r7, r8, r9, ⟨t, r10, r11⟩, n, r12, r13, r14⟩ := D
  refine ⟨(a 69 (by decide) (by decide)).trans r1, r2, (a 70 (by decide) (by decide)).trans r3, r4, (a 71 (by decide) (by decide)).trans r5, (a 72 (by decide) (by decide)).trans r6, r7, (a 73 (by decide) (by decide)).trans r8, r9, ⟨t, (a 74 (by decide) (by decide)).trans r10, kt t _ r11⟩, n, (a 75 (by decide) (by decide)).trans r12, r13, tnm_cg r13 (fun x hx => ?_) r14⟩
  have := s 68 (by decide) (by decide) (8 * k + x) (by show 8 * k + x < 96; omega)
  rw [show 8 * (12 * j + k) + x = 96 * j + (8 * k + x) by omega, show 8 * (12 * i + k) + x = 96 * i + (8 * k + x) by omega]
  exact this
theorem tu_st {u : zU} (s : st h h' m i j) (kt : ∀ t T, tt h m t T → tt h' m t T) (R : tu h m i u) : tu h' m j u := by
  have a59 : ∀ k, k < 8 → hh_i h' (m + 59) (8 * j + k) = hh_i h (m + 59) (8 * i + k) := fun k hk => s 59 (by decide) (by decide) k hk
  have a69 : ∀ k, k < 12 → hh_i h' (m + 69) (12 * j + k) = hh_i h (m + 69) (12 * i + k) := fun k hk => s 69 (by decide) (by decide) k hk
  have a76 : hh_i h' (m + 76) (1 * j + 0) = hh_i h (m + 76) (1 * i + 0) := s 76 (by decide) (by decide) 0 (by decide)
  have a77 : hh_i h' (m + 77) (1 * j + 0) = hh_i h (m + 77) (1 * i + 0) := s 77 (by decide) (by decide) 0 (by decide)
  rw [Nat.one_mul, Nat.one_mul, Nat.add_zero, Nat.add_zero] at a76 a77
  obtain ⟨r1, r2, r3, r4, r5, r6, r7, r8, r9, r10⟩ := R
  refine ⟨fun k hk => ?_, fun d hd => ?_, fun k hk => ?_, fun x hx => ?_, fun k k' hk hk' => ?_, fun k k' hk hk' => ?_, a76.trans r7, r8, a77.trans r9, r10⟩
  · rw [a59 k hk]
    rcases r1 k hk with z | ⟨d, z1, z2⟩
    · exact Or.inl z
    · exact Or.inr ⟨d, z1, td_st s hk kt z2⟩
  · obtain ⟨k, z1, z2⟩ := r2 d hd
    exact ⟨k, z1, td_st s z1 kt z2⟩
  · rw [a69 k hk]
    rcases r3 k hk with z | ⟨d, z1, z2⟩
    · exact Or.inl z
    · exact Or.inr ⟨d, z1, tk_st s hk kt z2⟩
  · obtain ⟨k, z1, z2⟩ := r4 x hx
    exact ⟨k, z1, tk_st s z1 kt z2⟩
  · rw [a59 k hk, a59 k' hk']; exact r5 k k' hk hk'
  · rw [a69 k hk, a69 k' hk']; exact r6 k k' hk hk'
theorem tw_os_st {t : Nat} (s : st h h' m i j) : tw_os h' m j t ↔ tw_os h m i t := by
  have a59 : ∀ k, k < 8 → hh_i h' (m + 59) (8 * j + k) = hh_i h (m + 59) (8 * i + k) := fun k hk => s 59 (by decide) (by decide) k hk
  have a63 : ∀ k, k < 8 → hh_i h' (m + 63) (8 * j + k) = hh_i h (m + 63) (8 * i + k) := fun k hk => s 63 (by decide) (by decide) k hk
  have a69 : ∀ k, k < 12 → hh_i h' (m + 69) (12 * j + k) = hh_i h (m + 69) (12 * i + k) := fun k hk => s 69 (by decide) (by decide) k hk
  have a74 : ∀ k, k < 12 → hh_i h' (m + 74) (12 * j + k) = hh_i h (m + 74) (12 * i + k) := fun k hk => s 74 (by decide) (by decide) k hk
  constructor
  · rintro (⟨k, k1, k2, k3⟩ | ⟨k, k1, k2, k3⟩)
    · rw [a59 k k1] at k2
      rw [a63 k k1] at k3
      exact Or.inl ⟨k, k1, k2, k3⟩
    · rw [a69 k k1] at k2
      rw [a74 k k1] at k3
      exact Or.inr ⟨k, k1, k2, k3⟩
  · rintro (⟨k, k1, k2, k3⟩ | ⟨k, k1, k2, k3⟩)
    · exact Or.inl ⟨k, k1, by rw [a59 k k1]; exact k2, by rw [a63 k k1]; exact k3⟩
    · exact Or.inr ⟨k, k1, by rw [a69 k k1]; exact k2, by rw [a74 k k1]; exact k3⟩
/-- files, watches and holders ask only for numbers of living sets -/
theorem rT_F_59 {X : zF} {O F : List Nat} (R : rT_F h m X) (g : fr (tO m O F) h h') (hO : (O.all fun o => !(oF o) || Nat.beq o 59) = true) (e59 : ∀ i, i < 8 → hh_i h' (m + 59) i = hh_i h (m + 59) i) : rT_F h' m X := by
  have a : ∀ o, oF o = true → ¬ o = 59 → ¬ o = 0 → hh_i h' (m + o) = hh_i h (m + o) := fun o h1 h2 h3 => by
    refine g.arr ?_
    rw [Bool.or_eq_false_iff]
    constructor
    · cases q : O.contains o with
      | false => rfl
      | true =>
        have := List.all_eq_true.mp hO o (by simpa using q)
        rw [h1] at this
        cases q2 : Nat.beq o 59 with
        | true => exact absurd (Nat.eq_of_beq_eq_true q2) h2
        | false => rw [q2] at this; cases this
    · cases q : Nat.beq o 0 with
      | false => rfl
      | true => exact absurd (Nat.eq_of_beq_eq_true q) h3
  obtain ⟨r1, r2, r3, r4⟩ := R
  refine ⟨fun f hf => ?_, fun w hw => ?_, fun c hc => ?_, fun c i hc hi => ?_⟩
  · have := r1 f hf
    unfold tw_of at this ⊢
    simp only [a 88 rfl (by decide) (by decide), a 89 rfl (by decide) (by decide), a 90 rfl (by decide) (by decide), a 91 rfl (by decide) (by decide), a 92 rfl (by decide) (by decide), a 93 rfl (by decide) (by decide), a 94 rfl (by decide) (by decide), a 95 rfl (by decide) (by decide), a 96 rfl (by decide) (by decide)]
    exact this
  · have := r2 w hw
    unfold tw_wa at this ⊢
    simp only [a 97 rfl (by decide) (by decide), a 98 rfl (by decide) (by decide), a 99 rfl (by decide) (by decide), a 100 rfl (by decide) (by decide), a 101 rfl (by decide) (by decide), a 102 rfl (by decide) (by decide)]
    exact this
  · have := r3 c hc
    unfold tw_kp at this ⊢
    simp only [a 117 rfl (by decide) (by decide), a 118 rfl (by decide) (by decide), a 119 rfl (by decide) (by decide), a 120 rfl (by decide) (by decide)]
    exact this
  · rw [a 116 rfl (by decide) (by decide), e59 i hi]
    exact r4 c i hc hi
end ST
theorem zU_ok.mono {G : zG} {U V : List zB} (hU : zU_ok G U) (s : ∀ b, b ∈ V → b ∈ U) : zU_ok G V := ⟨fun b hb => hU.1 b (s b hb), fun b b' hb hb' => hU.2 b b' (s b hb) (s b' hb')⟩
