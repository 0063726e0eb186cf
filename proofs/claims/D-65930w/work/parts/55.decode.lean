/-! STAGE 2, 26: decoding, the component's side: plain bytes and zeros -/
theorem byt_and {x : Int32} (hb : gy_b x) : byt (x &&& Int32.ofNat 255) = x := by
  have key : ∀ v : BitVec 8, byt ((Int8.ofBitVec v).toInt32 &&& Int32.ofNat 255) = (Int8.ofBitVec v).toInt32 := by decide +kernel
  have := key x.toInt8.toBitVec
  rw [show Int8.ofBitVec x.toInt8.toBitVec = x.toInt8 from rfl, hb] at this
  exact this
def vz (x : Int32) : Nat := (x &&& Int32.ofNat 255).toNatClampNeg
theorem vz_of (x : Int32) : x &&& Int32.ofNat 255 = Int32.ofNat (vz x) ∧ vz x < 256 := by
  obtain ⟨n, h1, h2⟩ := @b_and x
  unfold vz
  rw [h2, i_tn (by omega)]
  exact ⟨rfl, h1⟩
/-- n bytes by the coder of zeros: the block and how many bytes it took -/
def dz (g : Nat → Int32) (n : Nat) : Nat → Nat → List Int32 → Option (List Int32 × Nat)
  | 0, _, _ => none
  | F + 1, p, o => if 32 ≤ o.length then some (o, p) else if n ≤ p then none else if vz (g p) = 0 then (if n ≤ p + 1 then none else if vz (g (p + 1)) < 1 ∨ 32 - o.length < vz (g (p + 1)) then none else dz g n F (p + 2) (o ++ List.replicate (vz (g (p + 1))) (Int32.ofNat 0))) else dz g n F (p + 1) (o ++ [g p])
theorem dz_S (g : Nat → Int32) (n F p : Nat) (o : List Int32) : dz g n (F + 1) p o = if 32 ≤ o.length then some (o, p) else if n ≤ p then none else if vz (g p) = 0 then (if n ≤ p + 1 then none else if vz (g (p + 1)) < 1 ∨ 32 - o.length < vz (g (p + 1)) then none else dz g n F (p + 2) (o ++ List.replicate (vz (g (p + 1))) (Int32.ofNat 0))) else dz g n F (p + 1) (o ++ [g p]) := rfl
section DC
variable {h : hh_T} {Q : Option Value ⊕ Nat → hh_T → Prop}
theorem c_zdec {x b d n : Nat} (hb : hh_tg h b = 101) (hd : hh_tg h d = 101) (hdl : hh_ln h d = 32) (hne : b ≠ d) (hB : ∀ i, gy_b (hh_i h b i)) (hn : n ≤ hh_ln h b) (hn2 : n + 2 < 2147483648)
    (H1 : ∀ h', fr (twA d) h h' → dz (hh_i h b) n 33 0 [] = none → Q (.inl (some (.int (Int32.ofInt (-1))))) h')
    (H2 : ∀ h' o t, fr (twA d) h h' → dz (hh_i h b) n 33 0 [] = some (o, t) → ta_c h' d o → o.length = 32 → t ≤ n → Q (.inl (some (.int (Int32.ofNat t)))) h') : gm_G 50 0 [some (.ref x), some (.ref b), some (.int (Int32.ofNat n)), some (.ref d)] [] h Q := by
  have rd : ∀ {h1 : hh_T} {i : Nat}, fr (twA d) h h1 → hh_i h1 b i = hh_i h b i := fun {h1 i} g => g.2.2.2.2.2.2 b i hne
  have fill : ∀ (many k p : Nat) (o : List Int32) (c : Nat), o.length = k → k + many ≤ 32 → c < 256 → (∀ h2, fr (twA d) h h2 → ta_c h2 d (o ++ List.replicate many (byt (Int32.ofNat c))) → gm_G 50 6 [none, some (.ref b), some (.int (Int32.ofNat n)), some (.ref d), some (.int (Int32.ofNat p)), some (.int (Int32.ofNat (k + many)))] [] h2 Q) → ∀ h1, fr (twA d) h h1 → ta_c h1 d o → gm_G 50 81 [none, some (.ref b), some (.int (Int32.ofNat n)), some (.ref d), some (.int (Int32.ofNat p)), some (.int (Int32.ofNat k)), some (.int (Int32.ofNat c)), some (.int (Int32.ofNat many))] [] h1 Q := by
    intro many k p o c e1 e2 e3 K h1 g1 c1
    refine w_50_81 (a0 := x) (r_1 := some b) (r_3 := some d) ?_
    have lp : ∀ e i h2, i + e = many → fr (twA d) h h2 → ta_c h2 d (o ++ List.replicate i (byt (Int32.ofNat c))) → gm_G 50 84 [none, some (.ref b), some (.int (Int32.ofNat n)), some (.ref d), some (.int (Int32.ofNat p)), some (.int (Int32.ofNat k)), some (.int (Int32.ofNat c)), some (.int (Int32.ofNat many)), some (.int (Int32.ofNat i))] [] h2 Q := by
      intro e
      induction e with
      | zero =>
        intro i h2 e4 g2 c2
        have : i = many := by omega
        subst this
        refine w_50_84 (a0 := x) (r_1 := some b) (r_3 := some d) ⟨fun _ => ?_, fun z => absurd z (by rw [i_lt (by omega) (by omega)]; omega)⟩
        rw [i_add]
        exact K h2 g2 c2
      | succ e ih =>
        intro i h2 e4 g2 c2
        refine w_50_84 (a0 := x) (r_1 := some b) (r_3 := some d) ⟨fun z => absurd (by rw [i_lt (by omega) (by omega)]; omega) z, fun _ => ⟨d, rfl, by rw [g2.2.2.1]; exact hd, k + i, by rw [i_add, g2.2.2.2.1, hdl]; exact ix_n (by omega) (by omega), fun h3 a3 => ?_⟩⟩
        rw [i_add]
        subst a3
        refine ih (i + 1) _ (by omega) (g2.trans (fr.wi rfl)) ?_
        show ta_c (hh_wi h2 d (k + i) (byt (byt (Int32.ofNat c)))) _ _
        rw [byt_byt, List.replicate_succ', ← List.append_assoc]
        exact c2.put (by simp; omega)
    exact lp many 0 h1 (by omega) g1 (by simpa using c1)
  have lp : ∀ F p o h1, 32 - o.length < F → o.length ≤ 32 → p ≤ n → fr (twA d) h h1 → ta_c h1 d o → dz (hh_i h b) n F p o = dz (hh_i h b) n 33 0 [] → gm_G 50 6 [none, some (.ref b), some (.int (Int32.ofNat n)), some (.ref d), some (.int (Int32.ofNat p)), some (.int (Int32.ofNat o.length))] [] h1 Q := by
    intro F
    induction F with
    | zero => intro p o h1 e1; omega
    | succ F ih =>
      intro p o h1 e1 e2 e3 g c1 e4
      rw [dz_S _ _ F p o] at e4
      by_cases ho : 32 ≤ o.length
      · rw [if_pos ho] at e4
        exact w_50_6 (a0 := x) (r_1 := some b) (r_3 := some d) ⟨fun _ => H2 h1 o p g e4.symm c1 (by omega) e3, fun z => absurd z (by rw [i_lt (by omega) (by decide)]; omega)⟩
      · rw [if_neg ho] at e4
        have e5 : hh_ln h1 = hh_ln h := g.2.2.2.1
        have e6 : hh_tg h1 = hh_tg h := g.2.2.1
        refine w_50_6 (a0 := x) (r_1 := some b) (r_3 := some d) ⟨fun z => absurd (by rw [i_lt (by omega) (by decide)]; omega) z, fun _ => ⟨fun q => ?_, fun q => ?_⟩⟩
        · rw [i_eq (by omega) (by omega)] at q
          rw [if_neg (by omega)] at e4
          refine ⟨b, rfl, Or.inl (by rw [e6]; exact hb), p, by rw [e5]; exact ix_n (by omega) (by omega), fun z => ?_, fun z => ?_⟩
          · rw [rd g, (vz_of _).1, i_eq (by have := (vz_of (hh_i h b p)).2; omega) (by decide)] at z
            rw [if_neg z] at e4
            rw [rd g, (vz_of _).1, i_add]
            refine fill 1 o.length (p + 1) o (vz (hh_i h b p)) rfl (by omega) (vz_of _).2 (fun h2 g2 c2 => ?_) h1 g c1
            rw [← (vz_of _).1, byt_and (hB p)] at c2
            have := ih (p + 1) (o ++ [hh_i h b p]) h2 (by simp; omega) (by simp; omega) (by omega) g2 (by simpa using c2) e4
            simpa using this
          · rw [rd g, (vz_of _).1, i_eq (by have := (vz_of (hh_i h b p)).2; omega) (by decide)] at z
            rw [if_pos z] at e4
            refine ⟨fun y => ?_, fun y => ?_⟩
            · rw [i_add, i_eq (by omega) (by omega)] at y
              rw [if_neg (by omega)] at e4
              have vlt := (vz_of (hh_i h b (p + 1))).2
              refine ⟨p + 1, by rw [i_add, e5]; exact ix_n (by omega) (by omega), fun u => ?_, fun u => ⟨fun v => ?_, fun v => ?_⟩⟩
              · rw [rd g, (vz_of _).1, i_lt (by omega) (by decide)] at u
                rw [if_pos (Or.inl u)] at e4
                exact H1 h1 g e4.symm
              · rw [rd g, (vz_of _).1, i_lt (by omega) (by decide)] at u
                rw [rd g, (vz_of _).1, i_sub (by omega), i_lt (by omega) (by omega)] at v
                rw [if_neg (by rintro (t | t); exact u t; exact v t)] at e4
                rw [rd g, rd g, (vz_of _).1, (vz_of (hh_i h b (p + 1))).1, z, i_add, i_add]
                refine fill _ o.length (p + 2) o 0 rfl (by omega) (by decide) (fun h2 g2 c2 => ?_) h1 g c1
                have := ih (p + 2) (o ++ List.replicate (vz (hh_i h b (p + 1))) (Int32.ofNat 0)) h2 (by simp; omega) (by simp; omega) (by omega) g2 c2 e4
                simpa using this
              · rw [rd g, (vz_of _).1, i_sub (by omega), i_lt (by omega) (by omega)] at v
                rw [if_pos (Or.inr v)] at e4
                exact H1 h1 g e4.symm
            · rw [i_add, i_eq (by omega) (by omega)] at y
              rw [if_pos (by omega)] at e4
              exact H1 h1 g e4.symm
        · rw [i_eq (by omega) (by omega)] at q
          rw [if_pos (by omega)] at e4
          exact H1 h1 g e4.symm
  exact w_50_0 (r_1 := some b) (r_3 := some d) (lp 33 0 [] h (by simp) (by simp) (by omega) (fr.refl _ _) (fun i hi => by simp at hi) rfl)
end DC
