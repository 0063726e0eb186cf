/-! STAGE 2, 27: decoding of pairs, the component's side -/
/-- bytes of before come again -/
def cp (far : Nat) : Nat → List Int32 → List Int32
  | 0, o => o
  | j + 1, o => cp far j (o ++ [o.getD (o.length - far) 0])
theorem cp_S (far j : Nat) (o : List Int32) : cp far (j + 1) o = cp far j (o ++ [o.getD (o.length - far) 0]) := rfl
theorem cp_len (far : Nat) : ∀ (j : Nat) (o : List Int32), (cp far j o).length = o.length + j
  | 0, o => rfl
  | j + 1, o => by rw [cp_S, cp_len far j]; simp; omega
def dp (g : Nat → Int32) (n : Nat) : Nat → Nat → List Int32 → Option (List Int32 × Nat)
  | 0, _, _ => none
  | F + 1, p, o => if 32 ≤ o.length then some (o, p) else if n ≤ p then none else if vz (g p) < 128 then (if 32 - o.length < vz (g p) + 1 ∨ n - (p + 1) < vz (g p) + 1 then none else dp g n F (p + 1 + (vz (g p) + 1)) (o ++ lm g (p + 1) (vz (g p) + 1))) else if n ≤ p + 1 ∨ 32 - o.length < vz (g p) - 125 ∨ vz (g (p + 1)) < 1 ∨ o.length < vz (g (p + 1)) then none else dp g n F (p + 2) (cp (vz (g (p + 1))) (vz (g p) - 125) o)
theorem dp_S (g : Nat → Int32) (n F p : Nat) (o : List Int32) : dp g n (F + 1) p o = if 32 ≤ o.length then some (o, p) else if n ≤ p then none else if vz (g p) < 128 then (if 32 - o.length < vz (g p) + 1 ∨ n - (p + 1) < vz (g p) + 1 then none else dp g n F (p + 1 + (vz (g p) + 1)) (o ++ lm g (p + 1) (vz (g p) + 1))) else if n ≤ p + 1 ∨ 32 - o.length < vz (g p) - 125 ∨ vz (g (p + 1)) < 1 ∨ o.length < vz (g (p + 1)) then none else dp g n F (p + 2) (cp (vz (g (p + 1))) (vz (g p) - 125) o) := rfl
section DP
variable {h : hh_T} {Q : Option Value ⊕ Nat → hh_T → Prop}
theorem c_pdec {x b d n : Nat} (hb : hh_tg h b = 101) (hd : hh_tg h d = 101) (hdl : hh_ln h d = 32) (hne : b ≠ d) (hB : ∀ i, gy_b (hh_i h b i)) (hn : n ≤ hh_ln h b) (hn2 : n + 300 < 2147483648)
    (H1 : ∀ h', fr (twA d) h h' → dp (hh_i h b) n 33 0 [] = none → Q (.inl (some (.int (Int32.ofInt (-1))))) h')
    (H2 : ∀ h' o t, fr (twA d) h h' → dp (hh_i h b) n 33 0 [] = some (o, t) → ta_c h' d o → o.length = 32 → t ≤ n → Q (.inl (some (.int (Int32.ofNat t)))) h') : gm_G 52 0 [some (.ref x), some (.ref b), some (.int (Int32.ofNat n)), some (.ref d)] [] h Q := by
  have rd : ∀ {h1 : hh_T} {i : Nat}, fr (twA d) h h1 → hh_i h1 b i = hh_i h b i := fun {h1 i} g => g.2.2.2.2.2.2 b i hne
  have lits : ∀ (many k p : Nat) (o : List Int32), o.length = k → k + many ≤ 32 → p + many ≤ n → (∀ h2, fr (twA d) h h2 → ta_c h2 d (o ++ lm (hh_i h b) p many) → gm_G 52 209 [none, some (.ref b), some (.int (Int32.ofNat n)), some (.ref d), some (.int (Int32.ofNat (p + many))), some (.int (Int32.ofNat (k + many)))] [] h2 Q) → ∀ e i h2, i + e = many → fr (twA d) h h2 → ta_c h2 d (o ++ lm (hh_i h b) p i) → gm_G 52 72 [none, some (.ref b), some (.int (Int32.ofNat n)), some (.ref d), some (.int (Int32.ofNat p)), some (.int (Int32.ofNat k)), none, some (.int (Int32.ofNat many)), some (.int (Int32.ofNat i))] [] h2 Q := by
    intro many k p o e1 e2 e3 K e
    induction e with
    | zero =>
      intro i h2 e4 g2 c2
      have : i = many := by omega
      subst this
      refine w_52_72 (a0 := x) (r_1 := some b) (r_3 := some d) ⟨fun _ => ?_, fun z => absurd z (by rw [i_lt (by omega) (by omega)]; omega)⟩
      rw [i_add, i_add]
      exact K h2 g2 c2
    | succ e ih =>
      intro i h2 e4 g2 c2
      refine w_52_72 (a0 := x) (r_1 := some b) (r_3 := some d) ⟨fun z => absurd (by rw [i_lt (by omega) (by omega)]; omega) z, fun _ => ⟨b, rfl, Or.inl (by rw [g2.2.2.1]; exact hb), p + i, by rw [i_add, g2.2.2.2.1]; exact ix_n (by omega) (by omega), d, rfl, by rw [g2.2.2.1]; exact hd, k + i, by rw [i_add, g2.2.2.2.1, hdl]; exact ix_n (by omega) (by omega), fun h3 a3 => ?_⟩⟩
      rw [rd g2, show (hh_i h b (p + i)).toInt8.toInt32 = hh_i h b (p + i) from hB _] at a3
      rw [i_add]
      subst a3
      refine ih (i + 1) _ (by omega) (g2.trans (fr.wi rfl)) ?_
      rw [lm_S, ← List.append_assoc]
      exact c2.put (by simp [lm_len]; omega)
  have copy : ∀ (far many k p : Nat), 1 ≤ far → far ≤ k → k + many ≤ 32 → ∀ e i (o : List Int32) h2, i + e = many → o.length = k + i → (∀ h3, fr (twA d) h h3 → ta_c h3 d (cp far e o) → (∀ q, q < 32 → gy_b ((cp far e o).getD q 0)) → gm_G 52 209 [none, some (.ref b), some (.int (Int32.ofNat n)), some (.ref d), some (.int (Int32.ofNat p)), some (.int (Int32.ofNat (k + many)))] [] h3 Q) → p < 2147483648 → fr (twA d) h h2 → ta_c h2 d o → (∀ q, q < 32 → gy_b (o.getD q 0)) → gm_G 52 172 [none, some (.ref b), some (.int (Int32.ofNat n)), some (.ref d), some (.int (Int32.ofNat p)), some (.int (Int32.ofNat k)), none, some (.int (Int32.ofNat many)), some (.int (Int32.ofNat far)), some (.int (Int32.ofNat i))] [] h2 Q := by
    intro far many k p f1 f2 f3 e
    induction e with
    | zero =>
      intro i o h2 e4 eo K hp g2 c2 b2
      have : i = many := by omega
      subst this
      refine w_52_172 (a0 := x) (r_1 := some b) (r_3 := some d) ⟨fun _ => ?_, fun z => absurd z (by rw [i_lt (by omega) (by omega)]; omega)⟩
      rw [i_add]
      exact K h2 g2 c2 b2
    | succ e ih =>
      intro i o h2 e4 eo K hp g2 c2 b2
      refine w_52_172 (a0 := x) (r_1 := some b) (r_3 := some d) ⟨fun z => absurd (by rw [i_lt (by omega) (by omega)]; omega) z, fun _ => ⟨d, rfl, Or.inl (by rw [g2.2.2.1]; exact hd), k + i - far, by rw [i_add, i_sub (by omega), g2.2.2.2.1, hdl]; exact ix_n (by omega) (by omega), by rw [g2.2.2.1]; exact hd, k + i, by rw [i_add, g2.2.2.2.1, hdl]; exact ix_n (by omega) (by omega), fun h3 a3 => ?_⟩⟩
      have ev : hh_i h2 d (k + i - far) = o.getD (o.length - far) 0 := by rw [c2 _ (by omega), eo]
      rw [ev, show (o.getD (o.length - far) 0).toInt8.toInt32 = o.getD (o.length - far) 0 from b2 _ (by omega)] at a3
      rw [i_add]
      subst a3
      refine ih (i + 1) (o ++ [o.getD (o.length - far) 0]) _ (by omega) (by simp; omega) (by rw [cp_S] at K; exact K) hp (g2.trans (fr.wi rfl)) (c2.put (by omega)) (fun q hq => ?_)
      rw [List.getD_eq_getElem?_getD, List.getElem?_append]
      split
      · rw [← List.getD_eq_getElem?_getD]; exact b2 q hq
      · by_cases z : q - o.length = 0
        · rw [z]; exact b2 _ (by omega)
        · rw [List.getElem?_eq_none (by simp; omega)]; exact rfl
  have lp : ∀ F p o h1, 32 - o.length < F → o.length ≤ 32 → p ≤ n → fr (twA d) h h1 → ta_c h1 d o → (∀ q, q < 32 → gy_b (o.getD q 0)) → dp (hh_i h b) n F p o = dp (hh_i h b) n 33 0 [] → gm_G 52 6 [none, some (.ref b), some (.int (Int32.ofNat n)), some (.ref d), some (.int (Int32.ofNat p)), some (.int (Int32.ofNat o.length))] [] h1 Q := by
    intro F
    induction F with
    | zero => intro p o h1 e1; omega
    | succ F ih =>
      intro p o h1 e1 e2 e3 g c1 b1 e4
      rw [dp_S _ _ F p o] at e4
      by_cases ho : 32 ≤ o.length
      · rw [if_pos ho] at e4
        exact w_52_6 (a0 := x) (r_1 := some b) (r_3 := some d) ⟨fun _ => H2 h1 o p g e4.symm c1 (by omega) e3, fun z => absurd z (by rw [i_lt (by omega) (by decide)]; omega)⟩
      · rw [if_neg ho] at e4
        have e5 : hh_ln h1 = hh_ln h := g.2.2.2.1
        have e6 : hh_tg h1 = hh_tg h := g.2.2.1
        have v0 := vz_of (hh_i h b p)
        refine w_52_6 (a0 := x) (r_1 := some b) (r_3 := some d) ⟨fun z => absurd (by rw [i_lt (by omega) (by decide)]; omega) z, fun _ => ⟨fun q => ?_, fun q => ?_⟩⟩
        · rw [i_eq (by omega) (by omega)] at q
          rw [if_neg (by omega)] at e4
          refine ⟨b, rfl, Or.inl (by rw [e6]; exact hb), p, by rw [e5]; exact ix_n (by omega) (by omega), fun z => ?_, fun z => ?_⟩
          · rw [rd g, v0.1, i_lt (by omega) (by decide)] at z
            rw [if_neg z] at e4
            refine ⟨fun y => ?_, fun y => ⟨fun u => ?_, fun u => ?_⟩⟩
            · rw [i_add, i_eq (by omega) (by omega)] at y
              rw [if_pos (Or.inl (by omega))] at e4
              exact H1 h1 g e4.symm
            · rw [i_add, i_eq (by omega) (by omega)] at y
              rw [rd g, v0.1, i_sub (by omega), i_sub (by omega), i_lt (by omega) (by omega)] at u
              have v1 := vz_of (hh_i h b (p + 1))
              refine ⟨p + 1, by rw [i_add, e5]; exact ix_n (by omega) (by omega), fun t => ?_, fun t => ⟨fun s => ?_, fun s => ?_⟩⟩
              · rw [rd g, v1.1, i_lt (by omega) (by decide)] at t
                rw [if_pos (Or.inr (Or.inr (Or.inl t)))] at e4
                exact H1 h1 g e4.symm
              · rw [rd g, v1.1, i_lt (by omega) (by decide)] at t
                rw [rd g, v1.1, i_lt (by omega) (by omega)] at s
                rw [if_neg (by omega)] at e4
                rw [rd g, rd g, v0.1, v1.1, i_add, i_add, i_sub (by omega)]
                refine copy (vz (hh_i h b (p + 1))) (vz (hh_i h b p) - 125) o.length (p + 2) (by omega) (by omega) (by omega) (vz (hh_i h b p) - 125) 0 o h1 (by omega) (by omega) (fun h3 g3 c3 b3 => ?_) (by omega) g c1 b1
                refine w_52_209 (a0 := x) (r_1 := some b) (r_3 := some d) ?_
                have := ih (p + 2) (cp (vz (hh_i h b (p + 1))) (vz (hh_i h b p) - 125) o) h3 (by rw [cp_len]; omega) (by rw [cp_len]; omega) (by omega) g3 c3 b3 e4
                rw [cp_len] at this
                exact this
              · rw [rd g, v1.1, i_lt (by omega) (by omega)] at s
                rw [if_pos (Or.inr (Or.inr (Or.inr s)))] at e4
                exact H1 h1 g e4.symm
            · rw [rd g, v0.1, i_sub (by omega), i_sub (by omega), i_lt (by omega) (by omega)] at u
              rw [if_pos (Or.inr (Or.inl u))] at e4
              exact H1 h1 g e4.symm
          · rw [rd g, v0.1, i_lt (by omega) (by decide)] at z
            rw [if_pos z] at e4
            refine ⟨fun y => ?_, fun y => ⟨fun u => ?_, fun u => ?_⟩⟩
            · rw [rd g, v0.1, i_sub (by omega), i_add, i_lt (by omega) (by omega)] at y
              rw [if_pos (Or.inl y)] at e4
              exact H1 h1 g e4.symm
            · rw [rd g, v0.1, i_sub (by omega), i_add, i_lt (by omega) (by omega)] at y
              rw [rd g, v0.1, i_add, i_sub (by omega), i_add, i_lt (by omega) (by omega)] at u
              rw [if_neg (by omega)] at e4
              rw [rd g, v0.1, i_add, i_add]
              refine lits _ o.length (p + 1) o rfl (by omega) (by omega) (fun h2 g2 c2 => ?_) _ 0 h1 (Nat.zero_add _) g (by simpa [lm] using c1)
              refine w_52_209 (a0 := x) (r_1 := some b) (r_3 := some d) ?_
              have := ih _ (o ++ lm (hh_i h b) (p + 1) (vz (hh_i h b p) + 1)) h2 (by simp [lm_len]; omega) (by simp [lm_len]; omega) (by omega) g2 c2 (fun q hq => ?_) e4
              · rw [List.length_append, lm_len] at this
                exact this
              · by_cases ql : q < (o ++ lm (hh_i h b) (p + 1) (vz (hh_i h b p) + 1)).length
                · rw [List.getD_eq_getElem?_getD, List.getElem?_append]
                  split
                  · rw [← List.getD_eq_getElem?_getD]; exact b1 q hq
                  · have lmg : ∀ (m s i : Nat), i < m → (lm (hh_i h b) s m)[i]? = some (hh_i h b (s + i)) := by
                      intro m
                      induction m with
                      | zero => intro s i hi; omega
                      | succ m ihm =>
                        intro s i hi
                        cases i with
                        | zero => rfl
                        | succ i => simp only [lm, List.getElem?_cons_succ]; rw [ihm (s + 1) i (by omega), show s + 1 + i = s + (i + 1) by omega]
                    rw [lmg _ _ _ (by simp [lm_len] at ql; omega)]
                    exact hB _
                · rw [List.getD_eq_getElem?_getD, List.getElem?_eq_none (by omega)]; exact rfl
            · rw [rd g, v0.1, i_add, i_sub (by omega), i_add, i_lt (by omega) (by omega)] at u
              rw [if_pos (Or.inr u)] at e4
              exact H1 h1 g e4.symm
        · rw [i_eq (by omega) (by omega)] at q
          rw [if_pos (by omega)] at e4
          exact H1 h1 g e4.symm
  exact w_52_0 (r_1 := some b) (r_3 := some d) (lp 33 0 [] h (by simp) (by simp) (by omega) (fr.refl _ _) (fun i hi => by simp at hi) (fun q _ => by simp; exact rfl) rfl)
end DP
