/-! STAGE 2, 19: the coder of zeros; plain code -/
def ze (f : Nat → Int32) : Nat → Nat → Nat
  | _, 0 => 0
  | k, n + 1 => if f k = Int32.ofNat 0 then ze f (k + 1) n + 1 else 0
theorem ze_eq (f : Nat → Int32) : ∀ (n p j : Nat), j ≤ n → (∀ i, i < j → f (p + i) = Int32.ofNat 0) → (j = n ∨ ¬ f (p + j) = Int32.ofNat 0) → ze f p n = j
  | 0, p, j, hj, _, _ => by simp only [ze]; omega
  | n + 1, p, 0, hj, h1, h2 => by
    rcases h2 with h2 | h2
    · omega
    · rw [Nat.add_zero] at h2; simp only [ze]; rw [if_neg h2]
  | n + 1, p, j + 1, hj, h1, h2 => by
    have h0 := h1 0 (by omega)
    rw [Nat.add_zero] at h0
    simp only [ze]
    rw [if_pos h0]
    have := ze_eq f n (p + 1) j (by omega) (fun i hi => by have := h1 (i + 1) (by omega); rwa [show p + (i + 1) = p + 1 + i by omega] at this) (by rcases h2 with h2 | h2; (left; omega); right; rwa [show p + (j + 1) = p + 1 + j by omega] at h2)
    omega
/-- a block by the coder of zeros -/
def zc (z : Nat → Nat → Nat) (f : Nat → Int32) : Nat → Nat → List Int32
  | 0, _ => []
  | F + 1, k => if 32 ≤ k then [] else if f k = Int32.ofNat 0 then Int32.ofNat 0 :: byt (Int32.ofNat (z k (32 - k))) :: zc z f F (k + z k (32 - k)) else f k :: zc z f F (k + 1)
theorem zc_S (z : Nat → Nat → Nat) (f : Nat → Int32) (F k : Nat) : zc z f (F + 1) k = if 32 ≤ k then [] else if f k = Int32.ofNat 0 then Int32.ofNat 0 :: byt (Int32.ofNat (z k (32 - k))) :: zc z f F (k + z k (32 - k)) else f k :: zc z f F (k + 1) := rfl
theorem zc_end {z : Nat → Nat → Nat} {f : Nat → Int32} {F k : Nat} (h : 32 ≤ k) : zc z f F k = [] := by
  cases F with
  | zero => rfl
  | succ F => simp only [zc]; rw [if_pos h]
section ZC
variable {h : hh_T} {Q : Option Value ⊕ Nat → hh_T → Prop}
theorem c_zcode {x b r a : Nat} {l : List Int32} (w : rw_ok h r a) (c : rw_c h r a l) (ht : hh_tg h b = 101) (hbl : 32 ≤ hh_ln h b) (hB : ∀ i, gy_b (hh_i h b i)) (hba : b ≠ a) (room : l.length + 64 ≤ hh_ln h a) (hb : hh_ln h a < 2147483648)
    (H : ∀ h', fr (rwA r a) h h' → rw_c h' r a (l ++ zc (ze (hh_i h b)) (hh_i h b) 33 0) → Q (.inl none) h') : gm_G 504 0 [some (.ref x), some (.ref b), some (.ref r)] [] h Q := by
  have hbr : ¬ b = r := fun e => by
    have := w.1
    rw [← e, ht] at this
    cases this
  have rd : ∀ {h1 : hh_T} {i : Nat}, fr (rwA r a) h h1 → hh_i h1 b i = hh_i h b i := fun {h1 i} f => f.2.2.2.2.2.2 b i (fun z => by rcases z with z | z; exact hba z; exact hbr z.1)
  have lp : ∀ F k h1 p, 32 - k < F → k ≤ 32 → fr (rwA r a) h h1 → rw_c h1 r a p → p.length + 2 * (32 - k) ≤ hh_ln h a → p ++ zc (ze (hh_i h b)) (hh_i h b) F k = l ++ zc (ze (hh_i h b)) (hh_i h b) 33 0 → gm_G 504 2 [none, some (.ref b), some (.ref r), some (.int (Int32.ofNat k))] [] h1 Q := by
    intro F
    induction F with
    | zero => intro k h1 p e1; omega
    | succ F ih =>
      intro k h1 p e1 e2 f c1 e3 e4
      have e5 : hh_ln h1 = hh_ln h := f.2.2.2.1
      have e6 : hh_tg h1 = hh_tg h := f.2.2.1
      by_cases hk : 32 ≤ k
      · refine w_504_2 (a0 := x) (r_1 := some b) (r_2 := some r) ⟨fun _ => H h1 f ?_, fun z => absurd z (by rw [i_lt (by omega) (by decide)]; omega)⟩
        rw [zc_end hk, List.append_nil] at e4
        rw [← e4]
        exact c1
      · rw [zc_S _ _ F k, if_neg hk] at e4
        refine w_504_2 (a0 := x) (r_1 := some b) (r_2 := some r) ⟨fun z => absurd (by rw [i_lt (by omega) (by decide)]; omega) z, fun _ => ⟨b, rfl, Or.inl (by rw [e6]; exact ht), k, by rw [e5]; exact ix_n (by omega) (by omega), r, rfl, (w.fr f).1, ?_⟩⟩
        refine c_put (w.fr f) c1 (by rw [e5]; exact hb) (by rw [e5]; omega) (fun _ h2 f2 c2 => ?_) (fun z => absurd (by rw [e5]; omega) z)
        have f3 := f.trans f2
        have e7 : hh_ln h2 = hh_ln h := f3.2.2.2.1
        have e8 : hh_tg h2 = hh_tg h := f3.2.2.1
        rw [rd f, byt_of (hB k)] at c2
        refine ⟨Or.inl (by rw [e8]; exact ht), k, by rw [e7]; exact ix_n (by omega) (by omega), fun q => ?_, fun q => ?_⟩
        · rw [rd f3] at q
          rw [if_pos q] at e4
          rw [q] at c2
          have run : ∀ d j, k + j + d = 32 → (∀ i, i < j → hh_i h b (k + i) = Int32.ofNat 0) → gm_G 504 30 [none, some (.ref b), some (.ref r), some (.int (Int32.ofNat (k + j))), some (.int (Int32.ofNat k))] [] h2 Q := by
            have fin : ∀ j, k + j ≤ 32 → 1 ≤ j → ze (hh_i h b) k (32 - k) = j → gm_G 504 48 [none, some (.ref b), some (.ref r), some (.int (Int32.ofNat (k + j))), some (.int (Int32.ofNat k))] [] h2 Q := by
              intro j j1 j2 j3
              rw [j3] at e4
              refine w_504_48 (a0 := x) (r_1 := some b) (r_2 := some r) ⟨r, rfl, (w.fr f3).1, ?_⟩
              rw [i_sub (by omega), Nat.add_sub_cancel_left]
              refine c_put (w.fr f3) c2 (by rw [e7]; exact hb) (by rw [e7]; simp; omega) (fun _ h5 f5 c5 => ?_) (fun z => absurd (by rw [e7]; simp; omega) z)
              refine ih (k + j) h5 _ (by omega) j1 (f3.trans f5) c5 (by simp; omega) ?_
              rw [← e4]
              simp
            intro d
            induction d with
            | zero =>
              intro j e9 z
              refine w_504_30 (a0 := x) (r_1 := some b) (r_2 := some r) ⟨fun _ => fin j (by omega) (by omega) (ze_eq _ _ _ _ (by omega) z (Or.inl (by omega))), fun y => absurd y (by rw [i_lt (by omega) (by decide)]; omega)⟩
            | succ d ihd =>
              intro j e9 z
              refine w_504_30 (a0 := x) (r_1 := some b) (r_2 := some r) ⟨fun y => absurd (by rw [i_lt (by omega) (by decide)]; omega) y, fun _ => ⟨b, rfl, Or.inl (by rw [e8]; exact ht), k + j, by rw [e7]; exact ix_n (by omega) (by omega), fun y => ?_, fun y => ?_⟩⟩
              · rw [rd f3] at y
                refine fin j (by omega) ?_ (ze_eq _ _ _ _ (by omega) z (Or.inr y))
                rcases Nat.eq_zero_or_pos j with j0 | j0
                · subst j0; exact absurd q y
                · exact j0
              · rw [rd f3] at y
                rw [i_add, show k + j + 1 = k + (j + 1) by omega]
                refine ihd (j + 1) (by omega) (fun i hi => ?_)
                by_cases ij : i = j
                · subst ij; exact y
                · exact z i (by omega)
          exact run (32 - k) 0 (by omega) (fun i hi => by omega)
        · rw [rd f3] at q
          rw [if_neg q] at e4
          rw [i_add]
          refine ih (k + 1) h2 _ (by omega) (by omega) f3 c2 (by simp; omega) ?_
          rw [← e4]
          simp
  exact w_504_0 (r_1 := some b) (r_2 := some r) (lp 33 0 h l (by omega) (by omega) (fr.refl _ _) c (by omega) rfl)
/-- what the twin's array o holds from 0 on -/
def ta_c (h : hh_T) (a : Nat) (l : List Int32) : Prop := ∀ i, i < l.length → hh_i h a i = l.getD i 0
theorem ta_c.wi {a : Nat} {l : List Int32} {v : Int32} (c : ta_c h a l) : ta_c (hh_wi h a l.length v) a (l ++ [v]) := by
  intro i hi
  rw [List.length_append, List.length_singleton] at hi
  rw [hi_wi]
  by_cases e : i = l.length
  · subst e
    rw [if_pos ⟨rfl, rfl⟩]
    simp
  · rw [if_neg (fun z => e z.2), c i (by omega), List.getD_eq_getElem?_getD, List.getD_eq_getElem?_getD, List.getElem?_append_left (by omega)]
theorem t_zcode {m b p : Nat} (hT : tw_ok h m) (ht : hh_tg h b = 101) (hbl : p + 32 ≤ hh_ln h b) (hp : p + 32 < 2147483648) (hB : ∀ i, gy_b (hh_i h b i)) (hne : b ≠ m + 28)
    (H : ∀ h', fr (fun c j => c = m + 28) h h' → ta_c h' (m + 28) (zc (ze (fun i => hh_i h b (p + i))) (fun i => hh_i h b (p + i)) 33 0) → (zc (ze (fun i => hh_i h b (p + i))) (fun i => hh_i h b (p + i)) 33 0).length ≤ 64 → Q (.inl (some (.int (Int32.ofNat (zc (ze (fun i => hh_i h b (p + i))) (fun i => hh_i h b (p + i)) 33 0).length)))) h') : gm_G 275 0 [some (.ref m), some (.ref b), some (.int (Int32.ofNat p)), some (.int (Int32.ofNat 1))] [] h Q := by
  generalize hf : (fun i => hh_i h b (p + i)) = f at H
  have rd : ∀ {h1 : hh_T} {i : Nat}, fr (fun c j => c = m + 28) h h1 → hh_i h1 b (p + i) = f i := fun {h1 i} g => by
    rw [g.2.2.2.2.2.2 b (p + i) hne, ← hf]
  have fB : ∀ i, gy_b (f i) := fun i => by rw [← hf]; exact hB (p + i)
  have tk : ∀ {h1 : hh_T}, fr (fun c j => c = m + 28) h h1 → tw_ok h1 m := fun {h1} g => by
    obtain ⟨-, -, g3, g4, -, g6, -⟩ := g
    unfold tw_ok
    rw [g3, g4, g6]
    exact hT
  have lp : ∀ F k h1 l, 32 - k < F → k ≤ 32 → fr (fun c j => c = m + 28) h h1 → ta_c h1 (m + 28) l → l.length + 2 * (32 - k) ≤ 64 → l ++ zc (ze f) f F k = zc (ze f) f 33 0 → gm_G 275 11 [some (.ref m), some (.ref b), some (.int (Int32.ofNat p)), none, some (.int (Int32.ofNat l.length)), some (.int (Int32.ofNat k))] [] h1 Q := by
    intro F
    induction F with
    | zero => intro k h1 l e1; omega
    | succ F ih =>
      intro k h1 l e1 e2 g c1 e3 e4
      have e5 : hh_ln h1 = hh_ln h := g.2.2.2.1
      have e6 : hh_tg h1 = hh_tg h := g.2.2.1
      by_cases hk : 32 ≤ k
      · refine w_275_11 (tk g) ⟨fun _ => ?_, fun z => absurd z (by rw [i_lt (by omega) (by decide)]; omega)⟩
        rw [zc_end hk, List.append_nil] at e4
        have := H h1 g
        rw [← e4] at this
        exact this c1 (by omega)
      · rw [zc_S _ _ F k, if_neg hk] at e4
        have ixp : gm_ix (Int32.ofNat p + Int32.ofNat k) (p + k) (hh_ln h1 b) := by rw [i_add, e5]; exact ix_n (by omega) (by omega)
        refine w_275_11 (tk g) ⟨fun z => absurd (by rw [i_lt (by omega) (by decide)]; omega) z, fun _ => ⟨Or.inl (by rw [e6]; exact ht), p + k, ixp, fun q => ?_, fun q => ⟨p + k, ixp, l.length, ix_n (by omega) (by omega), fun h5 e9 => ?_⟩⟩⟩
        · rw [rd g] at q
          rw [if_pos q] at e4
          have fin : ∀ j, k + j ≤ 32 → 1 ≤ j → ze f k (32 - k) = j → gm_G 275 77 [some (.ref m), some (.ref b), some (.int (Int32.ofNat p)), none, some (.int (Int32.ofNat l.length)), some (.int (Int32.ofNat (k + j))), some (.int (Int32.ofNat j))] [] h1 Q := by
            intro j j1 j2 j3
            rw [j3] at e4
            refine w_275_77 (tk g) ⟨l.length, ix_n (by omega) (by omega), fun h2 a2 => ⟨l.length + 1, by rw [i_add]; exact ix_n (by omega) (by omega), fun h4 a4 => ?_⟩⟩
            have c2 : ta_c h2 (m + 28) (l ++ [Int32.ofNat 0]) := by
              subst a2
              exact c1.wi
            have c4 : ta_c h4 (m + 28) (l ++ [Int32.ofNat 0] ++ [byt (Int32.ofNat j)]) := by
              subst a4
              have := c2.wi (v := byt (Int32.ofNat j))
              rw [List.length_append, List.length_singleton] at this
              show ta_c (hh_wi h2 (m + 28) (l.length + 1) (byt (byt (Int32.ofNat j)))) _ _
              rw [byt_byt]
              exact this
            have g4 : fr (fun c j => c = m + 28) h h4 := by
              subst a4; subst a2
              exact (g.trans (fr.wi rfl)).trans (fr.wi rfl)
            rw [i_add, i_add]
            have := ih (k + j) h4 _ (by omega) j1 g4 c4 (by simp; omega) (by rw [← e4]; simp)
            simp only [List.length_append, List.length_singleton] at this
            exact this
          have run : ∀ d j, k + j + d = 32 → (∀ i, i < j → f (k + i) = Int32.ofNat 0) → gm_G 275 52 [some (.ref m), some (.ref b), some (.int (Int32.ofNat p)), none, some (.int (Int32.ofNat l.length)), some (.int (Int32.ofNat (k + j))), some (.int (Int32.ofNat j))] [] h1 Q := by
            intro d
            induction d with
            | zero =>
              intro j e9 z
              exact w_275_52 (tk g) ⟨fun _ => fin j (by omega) (by omega) (ze_eq _ _ _ _ (by omega) z (Or.inl (by omega))), fun y => absurd y (by rw [i_lt (by omega) (by decide)]; omega)⟩
            | succ d ihd =>
              intro j e9 z
              refine w_275_52 (tk g) ⟨fun y => absurd (by rw [i_lt (by omega) (by decide)]; omega) y, fun _ => ⟨Or.inl (by rw [e6]; exact ht), p + (k + j), by rw [i_add, e5]; exact ix_n (by omega) (by omega), fun y => ?_, fun y => ?_⟩⟩
              · rw [rd g] at y
                refine fin j (by omega) ?_ (ze_eq _ _ _ _ (by omega) z (Or.inr y))
                rcases Nat.eq_zero_or_pos j with j0 | j0
                · subst j0; exact absurd q y
                · exact j0
              · rw [rd g] at y
                rw [i_add, i_add, show k + j + 1 = k + (j + 1) by omega]
                refine ihd (j + 1) (by omega) (fun i hi => ?_)
                by_cases ij : i = j
                · subst ij; exact y
                · exact z i (by omega)
          exact run (32 - k) 0 (by omega) (fun i hi => by omega)
        · rw [rd g] at q e9
          rw [if_neg q] at e4
          have c5 : ta_c h5 (m + 28) (l ++ [f k]) := by
            subst e9
            have : (f k).toInt8.toInt32 = f k := fB k
            rw [this]
            exact c1.wi
          have g5 : fr (fun c j => c = m + 28) h h5 := by
            subst e9
            exact g.trans (fr.wi rfl)
          rw [i_add, i_add]
          have := ih (k + 1) h5 _ (by omega) (by omega) g5 c5 (by simp; omega) (by rw [← e4]; simp)
          simp only [List.length_append, List.length_singleton] at this
          exact this
  refine w_275_0 hT ⟨fun z => absurd rfl z, fun _ => ?_⟩
  exact lp 33 0 h [] (by omega) (by omega) (fr.refl _ _) (fun i hi => by simp at hi) (by simp) rfl
end ZC
