/-! STAGE 2, 9: contracts: in, must, the sum -/
theorem c_in {x l u : Int32} {h : hh_T} {Q : Option Value ⊕ Nat → hh_T → Prop} (H : Q (.inl (some (.int (if x < l ∨ u < x then Int32.ofNat 0 else Int32.ofNat 1)))) h) : gm_G 5 0 [some (.int x), some (.int l), some (.int u)] [] h Q := by
  refine w_5_0 ⟨fun hc => ?_, fun hc => ⟨fun hd => ?_, fun hd => ?_⟩⟩
  · rw [if_pos (Or.inl hc)] at H; exact H
  · rw [if_pos (Or.inr hd)] at H; exact H
  · rw [if_neg (by rintro (q | q); exact hc q; exact hd q)] at H; exact H
/-- the heap behind a refusal that was thrown -/
def hh_rf (h : hh_T) (c : Int32) : hh_T := hh_wi (hh_al h 21 0 7) (hh_sz h) 0 c
theorem c_must {x c : Int32} {h : hh_T} {Q : Option Value ⊕ Nat → hh_T → Prop} (H1 : ¬ x = Int32.ofNat 0 → Q (.inl none) h) (H2 : x = Int32.ofNat 0 → Q (.inr (hh_sz h)) (hh_rf h c)) : gm_G 431 0 [some (.int x), some (.int c)] [] h Q := by
  refine w_431_0 ⟨H1, fun hx a1 h2 ea eh => ?_⟩
  subst ea; subst eh
  have t : hh_tg (hh_al h 21 0 7) (hh_sz h) = 21 := by rw [ht_al, if_pos rfl]
  refine w_425_0 ⟨t, by rw [hr_al, if_pos rfl], by rw [t]; rfl, fun h3 e3 => ?_⟩
  subst e3
  exact ⟨t, H2 hx⟩
def sm_t (j : Int64) (x : Int32) : Int64 := (((j ^^^ (x.toInt64 &&& Int64.ofNat 255)) <<< ((Int32.ofNat 11).toInt64 &&& 63)) ||| (((j ^^^ (x.toInt64 &&& Int64.ofNat 255)).toUInt64 >>> ((Int32.ofNat 53).toInt64.toUInt64 &&& Int64.toUInt64 63)).toInt64)) * Int64.ofNat 2654435761
theorem c_turned {j : Int64} {x : Int32} {h : hh_T} {Q : Option Value ⊕ Nat → hh_T → Prop} (H : Q (.inl (some (.long (sm_t j x)))) h) : gm_G 21 0 [some (.long j), none, some (.int x)] [] h Q := by
  unfold sm_t at H
  exact w_21_0 H
def sm_f (t : Int64 → Int32 → Int64) (f : Nat → Int32) : Nat → Int64
  | 0 => Int64.ofNat 7
  | n + 1 => t (sm_f t f n) (f n)
def sm_b (t : Int64 → Int32 → Int64) (f : Nat → Int32) : Nat → Int64 → Int64
  | 0, s => s
  | n + 1, s => sm_b t f n (t s (f n))
theorem sm_fS (t : Int64 → Int32 → Int64) (f : Nat → Int32) (n : Nat) : t (sm_f t f n) (f n) = sm_f t f (n + 1) := rfl
theorem sm_bS (t : Int64 → Int32 → Int64) (f : Nat → Int32) (n : Nat) (s : Int64) : sm_b t f (n + 1) s = sm_b t f n (t s (f n)) := rfl
theorem sm_b0 (t : Int64 → Int32 → Int64) (f : Nat → Int32) (s : Int64) : sm_b t f 0 s = s := rfl
/-- the sum of n bytes -/
def sm (f : Nat → Int32) (n : Nat) : Int64 := sm_b sm_t f n (sm_f sm_t f n)
theorem c_sum {a n : Nat} {h : hh_T} {Q : Option Value ⊕ Nat → hh_T → Prop} (ht : hh_tg h a = 101) (hn : n ≤ hh_ln h a) (hb : n < 2147483648) (H : Q (.inl (some (.long (sm (hh_i h a) n)))) h) : gm_G 242 0 [some (.ref a), some (.int (Int32.ofNat n))] [] h Q := by
  have back : ∀ i s, i ≤ n → sm_b sm_t (hh_i h a) i s = sm (hh_i h a) n → gm_G 242 33 [some (.ref a), none, some (.long s), none, some (.int (Int32.ofNat i - Int32.ofNat 1))] [] h Q := by
    intro i
    induction i with
    | zero =>
      intro s _ e
      refine w_242_33 (r_0 := some a) ⟨fun _ => ?_, fun hc => absurd (by decide) hc⟩
      rw [sm_b0] at e
      rw [e]
      exact H
    | succ i ih =>
      intro s hi e
      rw [i_sub (by omega), Nat.add_sub_cancel]
      refine w_242_33 (r_0 := some a) ⟨fun hc => absurd hc (by rw [i_lt (by omega) (by decide)]; omega), fun _ => ⟨a, rfl, Or.inl ht, i, ix_n (by omega) (by omega), ?_⟩⟩
      refine c_turned ?_
      show gm_G 242 33 _ _ _ _
      rw [sm_bS] at e
      have := ih (sm_t s (hh_i h a i)) (by omega) e
      have e9 : Int32.ofNat i + Int32.ofInt (-1) = Int32.ofNat i - Int32.ofNat 1 := by rw [Int32.sub_eq_add_neg]; rfl
      rw [e9]
      exact this
  refine w_242_0 (r_0 := some a) ?_
  have forth : ∀ d i, i + d = n → gm_G 242 7 [some (.ref a), some (.int (Int32.ofNat n)), some (.long (sm_f sm_t (hh_i h a) i)), none, some (.int (Int32.ofNat i))] [] h Q := by
    intro d
    induction d with
    | zero =>
      intro i e
      have : i = n := by omega
      subst this
      exact w_242_7 (r_0 := some a) ⟨fun _ => back i (sm_f sm_t (hh_i h a) i) (Nat.le_refl _) (by unfold sm; rfl), fun hc => absurd hc (by rw [i_lt (by omega) (by omega)]; omega)⟩
    | succ d ih =>
      intro i e
      refine w_242_7 (r_0 := some a) ⟨fun hc => absurd (by rw [i_lt (by omega) (by omega)]; omega) hc, fun _ => ⟨a, rfl, Or.inl ht, i, ix_n (by omega) (by omega), ?_⟩⟩
      refine c_turned ?_
      show gm_G 242 7 _ _ _ _
      rw [i_add, sm_fS sm_t]
      exact ih (i + 1) (by omega)
  exact forth n 0 (by omega)
theorem sm_and (x : Int32) : (x &&& Int32.ofNat 255).toInt64 = x.toInt64 &&& Int64.ofNat 255 := by
  rw [Int32.toInt64_and]
  rfl
theorem t_sumOf {m a p n : Nat} {h : hh_T} {Q : Option Value ⊕ Nat → hh_T → Prop} (hT : tw_ok h m) (ht : hh_tg h a = 101) (hn : p + n ≤ hh_ln h a) (hb : p + 2 * n < 2147483648) (H : Q (.inl (some (.long (sm (fun i => hh_i h a (p + i)) n)))) h) : gm_G 159 0 [some (.ref a), some (.int (Int32.ofNat p)), some (.int (Int32.ofNat n))] [] h Q := by
  refine w_159_0 hT ?_
  have step : ∀ i q s, q < n → gm_G 159 7 [some (.ref a), some (.int (Int32.ofNat p)), some (.int (Int32.ofNat n)), some (.long (sm_t s (hh_i h a (p + q)))), none, some (.int (Int32.ofNat (i + 1)))] [] h Q → gm_G 159 34 [some (.ref a), some (.int (Int32.ofNat p)), some (.int (Int32.ofNat n)), some (.long s), none, some (.int (Int32.ofNat i))] [.int (Int32.ofNat q)] h Q := by
    intro i q s hq K
    refine w_159_34 hT ⟨Or.inl ht, p + q, by rw [i_add]; exact ix_n (by omega) (by omega), ?_⟩
    rw [sm_and, i_add]
    unfold sm_t at K
    exact K
  have back : ∀ d s, d ≤ n → sm_b sm_t (fun i => hh_i h a (p + i)) d s = sm (fun i => hh_i h a (p + i)) n → gm_G 159 7 [some (.ref a), some (.int (Int32.ofNat p)), some (.int (Int32.ofNat n)), some (.long s), none, some (.int (Int32.ofNat (2 * n - d)))] [] h Q := by
    intro d
    induction d with
    | zero =>
      intro s _ e
      refine w_159_7 hT ⟨fun _ => ?_, fun hc => absurd hc (by rw [i_mul, i_lt (by omega) (by omega)]; omega)⟩
      rw [sm_b0] at e
      rw [e]
      exact H
    | succ d ih =>
      intro s hd e
      refine w_159_7 hT ⟨fun hc => absurd (by rw [i_mul, i_lt (by omega) (by omega)]; omega) hc, fun _ => ⟨fun _ => ?_, fun hc => absurd hc (by rw [i_lt (by omega) (by omega)]; omega)⟩⟩
      rw [i_mul, i_sub (by omega), i_sub (by omega), show 2 * n - 1 - (2 * n - (d + 1)) = d by omega]
      refine step _ d s (by omega) ?_
      rw [show 2 * n - (d + 1) + 1 = 2 * n - d by omega]
      rw [sm_bS] at e
      exact ih _ (by omega) e
  have forth : ∀ d i, i + d = n → gm_G 159 7 [some (.ref a), some (.int (Int32.ofNat p)), some (.int (Int32.ofNat n)), some (.long (sm_f sm_t (fun i => hh_i h a (p + i)) i)), none, some (.int (Int32.ofNat i))] [] h Q := by
    intro d
    induction d with
    | zero =>
      intro i e
      have e2 : i = 2 * n - n := by omega
      have e3 : i = n := by omega
      have := back n (sm_f sm_t (fun i => hh_i h a (p + i)) n) (Nat.le_refl _) (by unfold sm; rfl)
      rw [← e2] at this
      rw [e3] at this ⊢
      exact this
    | succ d ih =>
      intro i e
      refine w_159_7 hT ⟨fun hc => absurd (by rw [i_mul, i_lt (by omega) (by omega)]; omega) hc, fun _ => ⟨fun hc => absurd (by rw [i_lt (by omega) (by omega)]; omega) hc, fun _ => ?_⟩⟩
      refine step i i _ (by omega) ?_
      rw [sm_fS sm_t (fun i => hh_i h a (p + i)) i]
      exact ih (i + 1) (by omega)
  exact forth n 0 (by omega)
