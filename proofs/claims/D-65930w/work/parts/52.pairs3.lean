/-! STAGE 2, 22: the coder of pairs in the twin -/
section PE
variable {h : hh_T} {Q : Option Value ⊕ Nat → hh_T → Prop}
def twA (o : Nat) (c _j : Nat) : Prop := c = o
theorem tw_ok.fr {A : Nat → Nat → Prop} {h' : hh_T} {m : Nat} (hT : tw_ok h m) (g : fr A h h') : tw_ok h' m := by
  obtain ⟨-, -, g3, g4, -, g6, -⟩ := g
  unfold tw_ok
  rw [g3, g4, g6]
  exact hT
theorem ta_c.put {a n : Nat} {l : List Int32} {v : Int32} (c : ta_c h a l) (hn : n = l.length) : ta_c (hh_wi h a n v) a (l ++ [v]) := by
  subst hn
  exact c.wi
theorem t_literal {m b p0 s k : Nat} {l : List Int32} (hT : tw_ok h m) (ht : hh_tg h b = 101) (hne : b ≠ m + 28) (hB : ∀ i, gy_b (hh_i h b i)) (hbl : p0 + s + k ≤ hh_ln h b) (hp : p0 + s + k < 2147483648) (room : l.length + k + 1 ≤ 80) (c : ta_c h (m + 28) l)
    (H : ∀ h', fr (twA (m + 28)) h h' → ta_c h' (m + 28) (l ++ lt (fun i => hh_i h b (p0 + i)) s (s + k)) → Q (.inl (some (.int (Int32.ofNat (l ++ lt (fun i => hh_i h b (p0 + i)) s (s + k)).length)))) h') : gm_G 130 0 [some (.ref m), some (.ref b), some (.int (Int32.ofNat (p0 + s))), some (.int (Int32.ofNat k)), some (.int (Int32.ofNat l.length))] [] h Q := by
  have e0 : (Int32.ofNat k = Int32.ofNat 0) ↔ k = 0 := i_eq (by omega) (by decide)
  refine w_130_0 hT ⟨fun q => ⟨l.length, ix_n (by omega) (by omega), fun h2 a2 => ?_⟩, fun q => ?_⟩
  · rw [e0] at q
    rw [i_sub (by omega)] at a2
    have g2 : fr (twA (m + 28)) h h2 := by subst a2; exact fr.wi rfl
    have c2 : ta_c h2 (m + 28) (l ++ [byt (Int32.ofNat (k - 1))]) := by
      subst a2
      show ta_c (hh_wi h (m + 28) l.length (byt (byt (Int32.ofNat (k - 1))))) _ _
      rw [byt_byt]
      exact c.wi
    have lp : ∀ d i h3, i + d = k → fr (twA (m + 28)) h h3 → ta_c h3 (m + 28) (l ++ [byt (Int32.ofNat (k - 1))] ++ lm (fun i => hh_i h b (p0 + i)) s i) → gm_G 130 21 [some (.ref m), some (.ref b), some (.int (Int32.ofNat (p0 + s))), some (.int (Int32.ofNat k)), some (.int (Int32.ofNat l.length)), some (.int (Int32.ofNat i))] [] h3 Q := by
      intro d
      induction d with
      | zero =>
        intro i h3 e g3 c3
        have ei : i = k := by omega
        subst ei
        refine w_130_21 (hT.fr g3) ⟨fun _ => ?_, fun z => absurd z (by rw [i_lt (by omega) (by omega)]; omega)⟩
        have el : l ++ lt (fun i => hh_i h b (p0 + i)) s (s + i) = l ++ [byt (Int32.ofNat (i - 1))] ++ lm (fun i => hh_i h b (p0 + i)) s i := by
          unfold lt
          rw [if_neg (by omega), Nat.add_sub_cancel_left]
          simp
        have := H h3 g3 (by rw [el]; exact c3)
        rw [el] at this
        simp only [List.length_append, List.length_singleton, lm_len] at this
        rw [i_add, i_add]
        exact this
      | succ d ih =>
        intro i h3 e g3 c3
        have e5 : hh_ln h3 = hh_ln h := g3.2.2.2.1
        have e6 : hh_tg h3 = hh_tg h := g3.2.2.1
        refine w_130_21 (hT.fr g3) ⟨fun z => absurd (by rw [i_lt (by omega) (by omega)]; omega) z, fun _ => ⟨Or.inl (by rw [e6]; exact ht), p0 + s + i, by rw [i_add, e5]; exact ix_n (by omega) (by omega), l.length + 1 + i, by rw [i_add, i_add]; exact ix_n (by omega) (by omega), fun h4 a4 => ?_⟩⟩
        rw [i_add]
        have ev : hh_i h3 b (p0 + s + i) = hh_i h b (p0 + (s + i)) := by rw [g3.2.2.2.2.2.2 b _ hne, show p0 + s + i = p0 + (s + i) by omega]
        rw [ev, show (hh_i h b (p0 + (s + i))).toInt8.toInt32 = hh_i h b (p0 + (s + i)) from hB _] at a4
        subst a4
        refine ih (i + 1) _ (by omega) (g3.trans (fr.wi rfl)) ?_
        rw [lm_S, ← List.append_assoc]
        exact c3.put (by simp [lm_len]; omega)
    exact lp k 0 h2 (by omega) g2 (by simpa [lm] using c2)
  · rw [e0] at q
    subst q
    have : l ++ lt (fun i => hh_i h b (p0 + i)) s (s + 0) = l := by simp [lt]
    have K := H h (fr.refl _ _)
    rw [this] at K
    exact K c
theorem t_pcode {m b p0 : Nat} {cd : Int32} (hcd : ¬ cd = Int32.ofNat 1) (hT : tw_ok h m) (ht : hh_tg h b = 101) (hbl : p0 + 32 ≤ hh_ln h b) (hp0 : p0 + 64 < 2147483648) (hB : ∀ i, gy_b (hh_i h b i)) (hne : b ≠ m + 28)
    (H : ∀ h', fr (twA (m + 28)) h h' → ta_c h' (m + 28) (pc (mt (fun i => hh_i h b (p0 + i))) (lt (fun i => hh_i h b (p0 + i))) 33 0 0) → (pc (mt (fun i => hh_i h b (p0 + i))) (lt (fun i => hh_i h b (p0 + i))) 33 0 0).length ≤ 65 → Q (.inl (some (.int (Int32.ofNat (pc (mt (fun i => hh_i h b (p0 + i))) (lt (fun i => hh_i h b (p0 + i))) 33 0 0).length)))) h') : gm_G 275 0 [some (.ref m), some (.ref b), some (.int (Int32.ofNat p0)), some (.int cd)] [] h Q := by
  generalize hf : (fun i => hh_i h b (p0 + i)) = f at H
  have rd : ∀ {h1 : hh_T} {i : Nat}, fr (twA (m + 28)) h h1 → hh_i h1 b (p0 + i) = f i := fun {h1 i} g => by
    rw [g.2.2.2.2.2.2 b (p0 + i) hne, ← hf]
  have rdf : ∀ {h1 : hh_T}, fr (twA (m + 28)) h h1 → (fun i => hh_i h1 b (p0 + i)) = f := fun {h1} g => by funext i; exact rd g
  have rB : ∀ {h1 : hh_T}, fr (twA (m + 28)) h h1 → ∀ i, gy_b (hh_i h1 b i) := fun {h1} g i => by rw [g.2.2.2.2.2.2 b i hne]; exact hB i
  have lp : ∀ F s p h1 q, 32 - p < F → s ≤ p → p ≤ 32 → fr (twA (m + 28)) h h1 → ta_c h1 (m + 28) q → q.length + (p - s) + 2 * (32 - p) + 1 ≤ 65 → q ++ pc (mt f) (lt f) F s p = pc (mt f) (lt f) 33 0 0 → gm_G 275 113 [some (.ref m), some (.ref b), some (.int (Int32.ofNat p0)), none, some (.int (Int32.ofNat q.length)), some (.int (Int32.ofNat (p - s))), some (.int (Int32.ofNat p))] [] h1 Q := by
    intro F
    induction F with
    | zero => intro s p h1 q e1; omega
    | succ F ih =>
      intro s p h1 q e1 e2 e2b g c1 e3 e4
      have e5 : hh_ln h1 = hh_ln h := g.2.2.2.1
      have e6 : hh_tg h1 = hh_tg h := g.2.2.1
      rw [pc_S _ _ F s p] at e4
      by_cases hp : 32 ≤ p
      · rw [if_pos hp] at e4
        have ep : p = 32 := by omega
        refine w_275_113 (hT.fr g) ⟨fun _ => ?_, fun z => absurd z (by rw [i_lt (by omega) (by decide)]; omega)⟩
        rw [i_add, i_sub (by omega), show p0 + 32 - (p - s) = p0 + s by omega]
        refine t_literal (hT.fr g) (by rw [e6]; exact ht) hne (rB g) (by rw [e5]; omega) (by omega) (by omega) c1 (fun h2 g2 c2 => ?_)
        rw [rdf g, show s + (p - s) = 32 by omega, e4] at c2 ⊢
        have ll := lt_len f s 32
        refine H h2 (g.trans g2) c2 ?_
        rw [← e4, List.length_append]
        omega
      · rw [if_neg hp] at e4
        have ml := mt_le f p
        refine w_275_113 (hT.fr g) ⟨fun z => absurd (by rw [i_lt (by omega) (by decide)]; omega) z, fun _ => ?_⟩
        have lq : ∀ k st, k ≤ p → st.1 ≤ 32 - p → st.2 ≤ p → pm (fun q => lc f q p (32 - p)) p k st = mt f p → gm_G 275 132 [some (.ref m), some (.ref b), some (.int (Int32.ofNat p0)), none, some (.int (Int32.ofNat q.length)), some (.int (Int32.ofNat (p - s))), some (.int (Int32.ofNat p)), some (.int (Int32.ofNat st.1)), some (.int (Int32.ofNat st.2)), some (.int (Int32.ofNat k - Int32.ofNat 1))] [] h1 Q := by
          intro k
          induction k with
          | zero =>
            intro st k1 k2 k3 k4
            rw [pm_0] at k4
            subst k4
            refine w_275_132 (hT.fr g) ⟨fun _ => ⟨fun z => ?_, fun z => ?_⟩, fun z => absurd (by decide) z⟩
            · rw [i_lt (by omega) (by decide)] at z
              rw [if_pos z] at e4
              rw [i_add, i_add, show p - s + 1 = p + 1 - s by omega]
              exact w_275_273 (hT.fr g) (ih s (p + 1) h1 q (by omega) (by omega) (by omega) g c1 (by omega) e4)
            · rw [i_lt (by omega) (by decide)] at z
              rw [if_neg z] at e4
              have ll := lt_len f s p
              rw [i_add, i_sub (by omega), show p0 + p - (p - s) = p0 + s by omega]
              refine t_literal (hT.fr g) (by rw [e6]; exact ht) hne (rB g) (by rw [e5]; omega) (by omega) (by omega) c1 (fun h2 g2 c2 => ?_)
              rw [rdf g, show s + (p - s) = p by omega] at c2
              rw [rdf g, show s + (p - s) = p by omega]
              refine ⟨(q ++ lt f s p).length, ix_n (by simp; omega) (by simp; omega), fun h4 a4 => ⟨(q ++ lt f s p).length + 1, by rw [i_add]; exact ix_n (by simp; omega) (by simp; omega), fun h6 a6 => ?_⟩⟩
              have c4 : ta_c h4 (m + 28) (q ++ lt f s p ++ [byt (Int32.ofNat (125 + (mt f p).1))]) := by
                subst a4
                rw [i_add]
                show ta_c (hh_wi h2 (m + 28) _ (byt (byt (Int32.ofNat (125 + (mt f p).1))))) _ _
                rw [byt_byt]
                exact c2.wi
              have c6 : ta_c h6 (m + 28) (q ++ lt f s p ++ [byt (Int32.ofNat (125 + (mt f p).1))] ++ [byt (Int32.ofNat (mt f p).2)]) := by
                subst a6
                show ta_c (hh_wi h4 (m + 28) _ (byt (byt (Int32.ofNat (mt f p).2)))) _ _
                rw [byt_byt]
                exact c4.put (by simp; omega)
              have g6 : fr (twA (m + 28)) h h6 := by
                subst a6; subst a4
                exact ((g.trans g2).trans (fr.wi rfl)).trans (fr.wi rfl)
              rw [i_add, i_add, i_add]
              have K := ih (p + (mt f p).1) (p + (mt f p).1) h6 _ (by omega) (Nat.le_refl _) (by omega) g6 c6 (by simp; omega) (by rw [← e4]; simp)
              rw [Nat.sub_self] at K
              have el : (q ++ lt f s p ++ [byt (Int32.ofNat (125 + (mt f p).1))] ++ [byt (Int32.ofNat (mt f p).2)]).length = (q ++ lt f s p).length + 1 + 1 := by simp; omega
              rw [el] at K
              exact w_275_273 (hT.fr g6) K
          | succ k ihk =>
            intro st k1 k2 k3 k4
            rw [pm_S] at k4
            rw [i_sub (by omega), Nat.add_sub_cancel]
            refine w_275_132 (hT.fr g) ⟨fun z => absurd z (by rw [i_lt (by omega) (by decide)]; omega), fun _ => ?_⟩
            have fin : ∀ j, j ≤ 32 - p → lc f k p (32 - p) = j → gm_G 275 177 [some (.ref m), some (.ref b), some (.int (Int32.ofNat p0)), none, some (.int (Int32.ofNat q.length)), some (.int (Int32.ofNat (p - s))), some (.int (Int32.ofNat p)), some (.int (Int32.ofNat st.1)), some (.int (Int32.ofNat st.2)), some (.int (Int32.ofNat k)), some (.int (Int32.ofNat j))] [] h1 Q := by
              intro j j1 j2
              simp only [j2] at k4
              refine w_275_177 (hT.fr g) ⟨fun z => w_275_195 (hT.fr g) ?_, fun z => w_275_195 (hT.fr g) ?_⟩
              · rw [i_lt (by omega) (by omega)] at z
                rw [if_neg z] at k4
                rw [i_m1]
                exact ihk st (by omega) k2 k3 k4
              · rw [i_lt (by omega) (by omega)] at z
                rw [if_pos z] at k4
                rw [i_m1, i_sub (by omega)]
                exact ihk (j, p - k) (by omega) j1 (Nat.sub_le _ _) k4
            have run : ∀ d j, j + d = 32 - p → (∀ i, i < j → f (k + i) = f (p + i)) → gm_G 275 140 [some (.ref m), some (.ref b), some (.int (Int32.ofNat p0)), none, some (.int (Int32.ofNat q.length)), some (.int (Int32.ofNat (p - s))), some (.int (Int32.ofNat p)), some (.int (Int32.ofNat st.1)), some (.int (Int32.ofNat st.2)), some (.int (Int32.ofNat k)), some (.int (Int32.ofNat j))] [] h1 Q := by
              intro d
              induction d with
              | zero =>
                intro j e9 z
                exact w_275_140 (hT.fr g) ⟨fun _ => fin j (by omega) (lc_eq _ _ _ _ _ (by omega) z (Or.inl (by omega))), fun y => absurd y (by rw [i_add, i_lt (by omega) (by decide)]; omega)⟩
              | succ d ihd =>
                intro j e9 z
                refine w_275_140 (hT.fr g) ⟨fun y => absurd (by rw [i_add, i_lt (by omega) (by decide)]; omega) y, fun _ => ⟨Or.inl (by rw [e6]; exact ht), p0 + (k + j), by rw [i_add, i_add, e5, show p0 + k + j = p0 + (k + j) by omega]; exact ix_n (by omega) (by omega), p0 + (p + j), by rw [i_add, i_add, e5, show p0 + p + j = p0 + (p + j) by omega]; exact ix_n (by omega) (by omega), fun y => ?_, fun y => ?_⟩⟩
                · rw [rd g, rd g] at y
                  exact fin j (by omega) (lc_eq _ _ _ _ _ (by omega) z (Or.inr y))
                · rw [rd g, rd g] at y
                  rw [i_add]
                  refine ihd (j + 1) (by omega) (fun i hi => ?_)
                  by_cases ij : i = j
                  · subst ij; exact y
                  · exact z i (by omega)
            exact run (32 - p) 0 (by omega) (fun i hi => by omega)
        exact lq p (0, 0) (Nat.le_refl _) (Nat.zero_le _) (Nat.zero_le _) rfl
  refine w_275_0 hT ⟨fun _ => ?_, fun z => absurd z hcd⟩
  exact lp 33 0 0 h [] (by omega) (by omega) (by omega) (fr.refl _ _) (fun i hi => by simp at hi) (by simp) rfl
end PE
