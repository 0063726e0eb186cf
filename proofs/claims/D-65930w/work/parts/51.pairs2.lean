/-! STAGE 2, 21: the coder of pairs: code, both sides -/
section PD
variable {h : hh_T} {Q : Option Value ⊕ Nat → hh_T → Prop}
theorem c_pcode {o b r a : Nat} {l : List Int32} (ho : hh_tg h o = 10) (w : rw_ok h r a) (c : rw_c h r a l) (ht : hh_tg h b = 101) (hbl : 32 ≤ hh_ln h b) (hB : ∀ i, gy_b (hh_i h b i)) (hba : b ≠ a) (room : l.length + 65 ≤ hh_ln h a) (hb : hh_ln h a < 2147483648)
    (H : ∀ h', fr (fun c j => rwA r a c j ∨ c = o) h h' → rw_c h' r a (l ++ pc (mt (hh_i h b)) (lt (hh_i h b)) 33 0 0) → Q (.inl none) h') : gm_G 534 0 [some (.ref o), some (.ref b), some (.ref r)] [] h Q := by
  have hbr : ¬ b = r := fun e => by
    have := w.1
    rw [← e, ht] at this
    cases this
  have hbo : ¬ b = o := fun e => by rw [e, ho] at ht; cases ht
  have hoa : ¬ o = a := fun e => by
    have := w.2.2
    rw [← e, ho] at this
    cases this
  have hor : ¬ o = r := fun e => by
    have := w.1
    rw [← e, ho] at this
    cases this
  have rdb : ∀ {h1 : hh_T}, fr (fun c j => rwA r a c j ∨ c = o) h h1 → hh_i h1 b = hh_i h b := fun {h1} f => by
    funext i
    exact f.2.2.2.2.2.2 b i (fun z => by rcases z with (z | z) | z; exact hba z; exact hbr z.1; exact hbo z)
  have lp : ∀ F s p h1 q, 32 - p < F → s ≤ p → p ≤ 32 → fr (fun c j => rwA r a c j ∨ c = o) h h1 → rw_c h1 r a q → q.length + (p - s) + 2 * (32 - p) + 1 ≤ hh_ln h a → q ++ pc (mt (hh_i h b)) (lt (hh_i h b)) F s p = l ++ pc (mt (hh_i h b)) (lt (hh_i h b)) 33 0 0 → gm_G 534 5 [some (.ref o), some (.ref b), some (.ref r), some (.int (Int32.ofNat s)), some (.int (Int32.ofNat p))] [] h1 Q := by
    intro F
    induction F with
    | zero => intro s p h1 q e1; omega
    | succ F ih =>
      intro s p h1 q e1 e2 e2b f c1 e3 e4
      have e5 : hh_ln h1 = hh_ln h := f.2.2.2.1
      have e6 : hh_tg h1 = hh_tg h := f.2.2.1
      have eb := rdb f
      have w1 := w.fr f
      have ho1 : hh_tg h1 o = 10 := by rw [e6]; exact ho
      have ht1 : hh_tg h1 b = 101 := by rw [e6]; exact ht
      have hB1 : ∀ i, gy_b (hh_i h1 b i) := fun i => by rw [eb]; exact hB i
      rw [pc_S _ _ F s p] at e4
      by_cases hp : 32 ≤ p
      · rw [if_pos hp] at e4
        refine w_534_5 (r_1 := some b) (r_2 := some r) ⟨fun _ => ⟨ho1, ?_⟩, fun z => absurd z (by rw [i_lt (by omega) (by decide)]; omega)⟩
        refine c_lits w1 c1 ht1 (by rw [e5]; exact hbl) hB1 hba (by omega) (by omega) (by rw [e5]; omega) (by rw [e5]; exact hb) (fun h2 f2 c2 => ?_)
        rw [eb, e4] at c2
        exact w_534_85 (a0 := o) (H h2 (f.trans (f2.mono (fun _ _ z => Or.inl z))) c2)
      · rw [if_neg hp] at e4
        have ml := mt_le (hh_i h b) p
        refine w_534_5 (r_1 := some b) (r_2 := some r) ⟨fun z => absurd (by rw [i_lt (by omega) (by decide)]; omega) z, fun _ => ⟨ho1, ?_⟩⟩
        refine c_match ho1 ht1 (by rw [e5]; exact hbl) (by omega) (fun h6 f6 m1 m2 => ?_)
        rw [eb] at m1 m2
        have f6' := f.trans (f6.mono (B := fun c j => rwA r a c j ∨ c = o) (fun _ _ z => Or.inr z))
        have c6 : rw_c h6 r a q := ⟨by rw [f6.2.2.2.2.2.2 r 1 (fun z => hor z.symm)]; exact c1.1, fun i hi => by rw [f6.2.2.2.2.2.2 a i (fun z => hoa z.symm)]; exact c1.2 i hi⟩
        have so : ∀ {h7 : hh_T}, fr (fun c j => rwA r a c j ∨ c = o) h h7 → gm_sub (hh_tg h7 o) 9 = true := fun {h7} g => by rw [g.2.2.1, ho]; rfl
        refine ⟨so f6', fun z => ?_, fun z => ?_⟩
        · rw [m1, i_lt (by omega) (by decide)] at z
          rw [if_neg z] at e4
          have e7 : hh_ln h6 = hh_ln h := f6'.2.2.2.1
          have ll := lt_len (hh_i h b) s p
          refine ⟨by rw [f6'.2.2.1]; exact ho, ?_⟩
          refine c_lits (w.fr f6') c6 (by rw [f6'.2.2.1]; exact ht) (by rw [e7]; exact hbl) (fun i => by rw [rdb f6']; exact hB i) hba e2 (by omega) (by rw [e7]; omega) (by rw [e7]; exact hb) (fun h9 f9 c9 => ?_)
          rw [rdb f6'] at c9
          have f9' := f6'.trans (f9.mono (B := fun c j => rwA r a c j ∨ c = o) (fun _ _ z => Or.inl z))
          have e9 : hh_ln h9 = hh_ln h := f9'.2.2.2.1
          have oo : ∀ {h7 h8 : hh_T} {j : Nat}, fr (rwA r a) h7 h8 → hh_i h8 o j = hh_i h7 o j := fun {h7 h8 j} g => g.2.2.2.2.2.2 o j (fun z => by rcases z with z | z; exact hoa z; exact hor z.1)
          refine ⟨so f9', r, rfl, (w.fr f9').1, ?_⟩
          rw [oo f9, m1, i_add]
          refine c_put (w.fr f9') c9 (by rw [e9]; exact hb) (by rw [e9]; simp; omega) (fun _ h13 f13 c13 => ?_) (fun y => absurd (by rw [e9]; simp; omega) y)
          have f13' := f9'.trans (f13.mono (B := fun c j => rwA r a c j ∨ c = o) (fun _ _ z => Or.inl z))
          have e13 : hh_ln h13 = hh_ln h := f13'.2.2.2.1
          refine ⟨so f13', (w.fr f13').1, ?_⟩
          rw [oo f13, oo f9, m2 (by omega)]
          refine c_put (w.fr f13') c13 (by rw [e13]; exact hb) (by rw [e13]; simp; omega) (fun _ h16 f16 c16 => ?_) (fun y => absurd (by rw [e13]; simp; omega) y)
          have f16' := f13'.trans (f16.mono (B := fun c j => rwA r a c j ∨ c = o) (fun _ _ z => Or.inl z))
          refine ⟨so f16', ?_⟩
          rw [oo f16, oo f13, oo f9, m1, i_add]
          refine ih _ _ h16 _ (by omega) (Nat.le_refl _) (by omega) f16' c16 (by simp; omega) ?_
          rw [← e4]
          simp
        · rw [m1, i_lt (by omega) (by decide)] at z
          rw [if_pos z] at e4
          rw [i_add]
          exact ih s (p + 1) h6 q (by omega) (by omega) (by omega) f6' c6 (by omega) e4
  exact w_534_0 (r_1 := some b) (r_2 := some r) (lp 33 0 0 h l (by omega) (by omega) (by omega) (fr.refl _ _) c (by omega) rfl)
end PD
