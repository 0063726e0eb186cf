/-! STAGE 2, 28: plain code and decode of the component -/
section PL
variable {h : hh_T} {Q : Option Value ⊕ Nat → hh_T → Prop}
theorem c_plcode {x b r a : Nat} {l : List Int32} (w : rw_ok h r a) (c : rw_c h r a l) (ht : hh_tg h b = 101) (hbl : 32 ≤ hh_ln h b) (hB : ∀ i, gy_b (hh_i h b i)) (hba : b ≠ a) (room : l.length + 32 ≤ hh_ln h a) (hb : hh_ln h a < 2147483648)
    (H : ∀ h', fr (rwA r a) h h' → rw_c h' r a (l ++ lm (hh_i h b) 0 32) → Q (.inl none) h') : gm_G 503 0 [some (.ref x), some (.ref b), some (.ref r)] [] h Q := by
  have hbr : ¬ b = r := fun e => by
    have := w.1
    rw [← e, ht] at this
    cases this
  have rd : ∀ {h1 : hh_T} {i : Nat}, fr (rwA r a) h h1 → hh_i h1 b i = hh_i h b i := fun {h1 i} f => f.2.2.2.2.2.2 b i (fun z => by rcases z with z | z; exact hba z; exact hbr z.1)
  have lp : ∀ d k h1, k + d = 32 → fr (rwA r a) h h1 → rw_c h1 r a (l ++ lm (hh_i h b) 0 k) → gm_G 503 2 [none, some (.ref b), some (.ref r), some (.int (Int32.ofNat k))] [] h1 Q := by
    intro d
    induction d with
    | zero =>
      intro k h1 e f c1
      have : k = 32 := by omega
      subst this
      exact w_503_2 (a0 := x) (r_1 := some b) (r_2 := some r) ⟨fun _ => H h1 f c1, fun z => absurd z (by decide)⟩
    | succ d ih =>
      intro k h1 e f c1
      have e5 : hh_ln h1 = hh_ln h := f.2.2.2.1
      refine w_503_2 (a0 := x) (r_1 := some b) (r_2 := some r) ⟨fun z => absurd (by rw [i_lt (by omega) (by decide)]; omega) z, fun _ => ⟨b, rfl, Or.inl (by rw [f.2.2.1]; exact ht), k, by rw [e5]; exact ix_n (by omega) (by omega), r, rfl, (w.fr f).1, ?_⟩⟩
      refine c_put (w.fr f) c1 (by rw [e5]; exact hb) (by rw [e5]; simp [lm_len]; omega) (fun _ h2 f2 c2 => ?_) (fun z => absurd (by rw [e5]; simp [lm_len]; omega) z)
      rw [rd f, byt_of (hB k)] at c2
      show gm_G 503 2 _ _ _ _
      rw [i_add]
      refine ih (k + 1) h2 (by omega) (f.trans f2) ?_
      rw [lm_S, Nat.zero_add, ← List.append_assoc]
      exact c2
  exact w_503_0 (r_1 := some b) (r_2 := some r) (lp 32 0 h (by omega) (fr.refl _ _) (by simpa [lm] using c))
theorem c_pldec {x b d n : Nat} (hb : hh_tg h b = 101) (hd : hh_tg h d = 101) (hdl : hh_ln h d = 32) (hne : b ≠ d) (hB : ∀ i, gy_b (hh_i h b i)) (hn : n ≤ hh_ln h b) (hn2 : n < 2147483648)
    (H1 : n < 32 → Q (.inl (some (.int (Int32.ofInt (-1))))) h)
    (H2 : 32 ≤ n → ∀ h', fr (twA d) h h' → ta_c h' d (lm (hh_i h b) 0 32) → Q (.inl (some (.int (Int32.ofNat 32)))) h') : gm_G 48 0 [some (.ref x), some (.ref b), some (.int (Int32.ofNat n)), some (.ref d)] [] h Q := by
  refine w_48_0 (r_1 := some b) (r_3 := some d) ⟨fun q => ?_, fun q => ?_⟩
  · rw [i_lt (by omega) (by decide)] at q
    have lp : ∀ e k h1, k + e = 32 → fr (twA d) h h1 → ta_c h1 d (lm (hh_i h b) 0 k) → gm_G 48 11 [none, some (.ref b), none, some (.ref d), some (.int (Int32.ofNat k))] [] h1 Q := by
      intro e
      induction e with
      | zero =>
        intro k h1 e g c1
        have : k = 32 := by omega
        subst this
        exact w_48_11 (a0 := x) (r_1 := some b) (r_3 := some d) ⟨fun _ => H2 (by omega) h1 g c1, fun z => absurd z (by decide)⟩
      | succ e ih =>
        intro k h1 e9 g c1
        refine w_48_11 (a0 := x) (r_1 := some b) (r_3 := some d) ⟨fun z => absurd (by rw [i_lt (by omega) (by decide)]; omega) z, fun _ => ⟨b, rfl, Or.inl (by rw [g.2.2.1]; exact hb), k, by rw [g.2.2.2.1]; exact ix_n (by omega) (by omega), d, rfl, by rw [g.2.2.1]; exact hd, k, by rw [g.2.2.2.1, hdl]; exact ix_n (by omega) (by omega), fun h6 a6 => ?_⟩⟩
        rw [g.2.2.2.2.2.2 b k hne, show (hh_i h b k).toInt8.toInt32 = hh_i h b k from hB k] at a6
        rw [i_add]
        subst a6
        refine ih (k + 1) _ (by omega) (g.trans (fr.wi rfl)) ?_
        rw [lm_S, Nat.zero_add]
        exact c1.put (by rw [lm_len])
    exact lp 32 0 h (by omega) (fr.refl _ _) (fun i hi => by simp [lm] at hi)
  · rw [i_lt (by omega) (by decide)] at q
    exact H1 q
end PL
