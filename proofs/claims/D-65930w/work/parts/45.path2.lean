/-! STAGE 2, 15: names that are not 0; isPath and endsWithName of the component -/
theorem lg_cmp_0 {x y : Int64} : lg_cmp x y = Int32.ofNat 0 ↔ x = y := by
  unfold lg_cmp
  by_cases h1 : x > y
  · rw [if_pos h1]
    exact ⟨fun h => absurd h (by decide), fun h => by subst h; exact absurd h1 (Int64.lt_irrefl)⟩
  · rw [if_neg h1]
    by_cases h2 : x = y
    · subst h2; simp
    · rw [if_neg h2]
      exact ⟨fun h => absurd h (by decide), fun h => absurd h h2⟩
theorem pq_pos {c : Nat → Nat} (h0 : 0 < c 0) : ∀ k, 0 < pq c (k + 1)
  | 0 => by show 0 < 0 * 256 + c 0; omega
  | k + 1 => by
    have := pq_pos h0 k
    show 0 < pq c (k + 1) * 256 + c (k + 1)
    omega
theorem pq_inj {c d : Nat → Nat} (hc : ∀ k, c k < 256) (hd : ∀ k, d k < 256) : ∀ n, pq c n = pq d n → ∀ k, k < n → c k = d k
  | 0, _, k, hk => by omega
  | n + 1, e, k, hk => by
    simp only [pq] at e
    have h1 := hc n
    have h2 := hd n
    have e1 : pq c n = pq d n := by omega
    have e2 : c n = d n := by omega
    by_cases q : k = n
    · subst q; exact e2
    · exact pq_inj hc hd n e1 k (by omega)
theorem nm_ok_inv {f : Nat → Int32} {p n : Nat} (h : nm_ok f p n = true) : 1 ≤ n ∧ n ≤ 8 ∧ nm_d f p n = false ∧ ∀ i, i < n → nm_l (f (p + i)) = true := by
  simp only [nm_ok, Bool.and_eq_true, decide_eq_true_eq, Bool.not_eq_true'] at h
  refine ⟨h.1.1.1, h.1.1.2, h.1.2, fun i hi => ?_⟩
  have := nm_a_mono (show i + 1 ≤ n by omega) h.2
  simp only [nm_a, Bool.and_eq_true] at this
  exact this.2
theorem pq_c_128 {f : Nat → Int32} (hB : ∀ i, gy_b (f i)) {p n : Nat} (h : nm_ok f p n = true) (k : Nat) : pq_c f p n k < 128 ∧ (k < n → 0 < pq_c f p n k ∧ f (p + k) = Int32.ofNat (pq_c f p n k)) := by
  obtain ⟨h1, h2, h3, h4⟩ := nm_ok_inv h
  unfold pq_c
  by_cases q : k < n
  · rw [if_pos q]
    obtain ⟨a1, a2, a3⟩ := b_lt (hB (p + k)) (h4 k q)
    exact ⟨a1, fun _ => ⟨a2, a3⟩⟩
  · rw [if_neg q]
    exact ⟨by decide, fun z => absurd z q⟩
theorem pq_63 {f : Nat → Int32} (hB : ∀ i, gy_b (f i)) {p n : Nat} (h : nm_ok f p n = true) : pq (pq_c f p n) 8 < 9223372036854775808 := by
  have := pq_lt (fun k => (pq_c_128 hB h k).1) 8 (Nat.le_refl _)
  have e : (256 ^ 8 : Nat) = 18446744073709551616 := by decide
  omega
theorem l_inj {a b : Nat} (ha : a < 9223372036854775808) (hb : b < 9223372036854775808) (e : Int64.ofNat a = Int64.ofNat b) : a = b := by
  have h1 := Int64.toInt_ofNat_of_lt (n := a) (by omega)
  have h2 := Int64.toInt_ofNat_of_lt (n := b) (by omega)
  rw [e, h2] at h1
  omega
theorem nm_v_n {f : Nat → Int32} (hB : ∀ i, gy_b (f i)) {p n : Nat} : nm_v f p n = Int64.ofNat 0 ↔ nm_ok f p n = false := by
  unfold nm_v
  cases h : nm_ok f p n with
  | false => simp
  | true =>
    simp only [if_true, Bool.true_eq_false, iff_false]
    intro e
    have e2 := l_inj (pq_63 hB h) (by decide) e
    have : 0 < pq (pq_c f p n) 8 := pq_pos ((pq_c_128 hB h 0).2 (by have := nm_ok_inv h; omega)).1 7
    omega
/-- a name tells its bytes -/
theorem nm_v_inj {f g : Nat → Int32} (hB : ∀ i, gy_b (f i)) (hC : ∀ i, gy_b (g i)) {p n q l : Nat} (h1 : nm_ok f p n = true) (h2 : nm_ok g q l = true) : nm_v f p n = nm_v g q l ↔ n = l ∧ ∀ i, i < n → f (p + i) = g (q + i) := by
  obtain ⟨a1, a2, a3, a4⟩ := nm_ok_inv h1
  obtain ⟨b1, b2, b3, b4⟩ := nm_ok_inv h2
  unfold nm_v
  rw [if_pos h1, if_pos h2]
  constructor
  · intro e
    have e2 := l_inj (pq_63 hB h1) (pq_63 hC h2) e
    have e3 := pq_inj (pq_c_lt f p n) (pq_c_lt g q l) 8 e2
    have e4 : n = l := by
      rcases Nat.lt_trichotomy n l with z | z | z
      · have := e3 n (by omega)
        have y := ((pq_c_128 hC h2 n).2 z).1
        unfold pq_c at this
        rw [if_neg (by omega)] at this
        unfold pq_c at y
        omega
      · exact z
      · have := e3 l (by omega)
        have y := ((pq_c_128 hB h1 l).2 z).1
        have z2 : pq_c g q l l = 0 := by unfold pq_c; rw [if_neg (by omega)]
        omega
    refine ⟨e4, fun i hi => ?_⟩
    rw [((pq_c_128 hB h1 i).2 hi).2, ((pq_c_128 hC h2 i).2 (by omega)).2, e3 i (by omega)]
  · rintro ⟨rfl, e⟩
    have : pq_c f p n = pq_c g q n := by
      funext k
      unfold pq_c
      by_cases z : k < n
      · rw [if_pos z, if_pos z, e k z]
      · rw [if_neg z, if_neg z]
    rw [this]
section NP
variable {h : hh_T} {Q : Option Value ⊕ Nat → hh_T → Prop}
theorem c_isPath {r a n p : Nat} (w : rw_ok h r a) (hB : ∀ i, gy_b (hh_i h a i)) (h1 : p + n ≤ hh_ln h a) (h2 : p + n + 8 < 2147483648) (H : Q (.inl (some (.int (bi (pt (hh_i h a) p n))))) h) : gm_G 344 0 [some (.ref r), some (.int (Int32.ofNat p)), some (.int (Int32.ofNat (p + n)))] [] h Q := by
  refine w_344_0 (r_0 := some r) ⟨fun q => ?_, fun q => ?_⟩
  · rw [i_eq (by omega) (by omega)] at q
    have hs : ∀ F q, p ≤ q → q ≤ p + n → p + n - q < F → pt_s (pt_o (hh_i h a)) (pt_e (hh_i h a)) F q (p + n - q) = pt (hh_i h a) p n → gm_G 344 9 [some (.ref r), none, some (.int (Int32.ofNat (p + n))), some (.int (Int32.ofNat q))] [] h Q := by
      intro F
      induction F with
      | zero => intro q e1 e2 e3 e5; omega
      | succ F ih =>
        intro q e1 e2 e3 e5
        have le := pt_e_le (hh_i h a) q (p + n - q)
        refine w_344_9 (r_0 := some r) ?_
        rw [show p + n = q + (p + n - q) by omega]
        refine c_stepEnd w (p + n - q) q (by omega) (by omega) ?_
        simp only [pt_s] at e5
        generalize pt_e (hh_i h a) q (p + n - q) = j at e5 le
        have fin : pt_o (hh_i h a) q j = true → gm_G 344 41 [some (.ref r), none, some (.int (Int32.ofNat (q + (p + n - q)))), none, some (.int (Int32.ofNat (q + j)))] [] h Q := fun z => by
          rw [z, Bool.true_and] at e5
          refine w_344_41 (r_0 := some r) ⟨fun y => ?_, fun y => ?_⟩
          · rw [i_eq (by omega) (by omega)] at y
            rw [decide_eq_false (by omega), Bool.false_or] at e5
            rw [i_add, show q + (p + n - q) = p + n by omega]
            exact ih (q + j + 1) (by omega) (by omega) (by omega) (by rw [← e5]; congr 1; omega)
          · rw [i_eq (by omega) (by omega)] at y
            rw [decide_eq_true (by omega), Bool.true_or] at e5
            rw [← e5] at H
            exact H
        refine c_isDots w (by omega) (by omega) ⟨fun z => fin ?_, fun z => c_name w hB (by omega) (by omega) ⟨fun y => fin ?_, fun y => ?_⟩⟩
        · rw [bi_n] at z; simp [pt_o, z]
        · rw [lg_cmp_0, nm_v_n hB] at y
          simp only [Bool.not_eq_false] at y
          simp [pt_o, y]
        · rw [bi_0] at z
          rw [lg_cmp_0, nm_v_n hB] at y
          have : pt (hh_i h a) p n = false := by rw [← e5]; simp [pt_o, z, y]
          rw [this] at H
          exact H
    exact hs (n + 1) p (by omega) (by omega) (by omega) (by unfold pt; rw [decide_eq_false (by omega), Bool.false_or]; congr 1; omega)
  · rw [i_eq (by omega) (by omega)] at q
    have : n = 0 := by omega
    subst this
    exact H
theorem c_endsWithName {r a n p : Nat} (w : rw_ok h r a) (hB : ∀ i, gy_b (hh_i h a i)) (h1 : p + n ≤ hh_ln h a) (h2 : p + n + 8 < 2147483648) (H : Q (.inl (some (.int (bi (nm_ok (hh_i h a) (p + pt_l (hh_i h a) p n) (n - pt_l (hh_i h a) p n)))))) h) : gm_G 339 0 [some (.ref r), some (.int (Int32.ofNat p)), some (.int (Int32.ofNat (p + n)))] [] h Q := by
  have le := pt_l_le (hh_i h a) p n
  refine w_339_0 (r_0 := some r) ⟨fun q => ?_, fun q => c_lastStep w h1 (by omega) ?_⟩
  · rw [i_lt (by omega) (by omega)] at q
    have : n = 0 := by omega
    subst this
    have e : nm_ok (hh_i h a) (p + pt_l (hh_i h a) p 0) (0 - pt_l (hh_i h a) p 0) = false := by simp [nm_ok, pt_l]
    rw [e] at H
    exact H
  · show gm_G 233 0 [some (.ref r), some (.int (Int32.ofNat (p + pt_l (hh_i h a) p n))), some (.int (Int32.ofNat (p + n)))] [] h _
    rw [show p + n = p + pt_l (hh_i h a) p n + (n - pt_l (hh_i h a) p n) by omega]
    refine c_name w hB (by omega) (by omega) ⟨fun y => ?_, fun y => ?_⟩
    · rw [lg_cmp_0, nm_v_n hB] at y
      rw [y] at H
      exact H
    · rw [lg_cmp_0, nm_v_n hB] at y
      simp only [Bool.not_eq_false] at y
      rw [y] at H
      exact H
end NP
