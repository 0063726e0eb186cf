/-! STAGE 2, 20: the coder of pairs, the component's side -/
def lc (f : Nat → Int32) : Nat → Nat → Nat → Nat
  | _, _, 0 => 0
  | q, p, n + 1 => if f q = f p then lc f (q + 1) (p + 1) n + 1 else 0
theorem lc_le (f : Nat → Int32) : ∀ (n q p : Nat), lc f q p n ≤ n
  | 0, _, _ => Nat.le_refl _
  | n + 1, q, p => by
    have := lc_le f n (q + 1) (p + 1)
    simp only [lc]
    split <;> omega
theorem lc_eq (f : Nat → Int32) : ∀ (n q p j : Nat), j ≤ n → (∀ i, i < j → f (q + i) = f (p + i)) → (j = n ∨ ¬ f (q + j) = f (p + j)) → lc f q p n = j
  | 0, q, p, j, hj, _, _ => by simp only [lc]; omega
  | n + 1, q, p, 0, hj, h1, h2 => by
    rcases h2 with h2 | h2
    · omega
    · rw [Nat.add_zero, Nat.add_zero] at h2; simp only [lc]; rw [if_neg h2]
  | n + 1, q, p, j + 1, hj, h1, h2 => by
    have h0 := h1 0 (by omega)
    rw [Nat.add_zero, Nat.add_zero] at h0
    simp only [lc]
    rw [if_pos h0]
    have := lc_eq f n (q + 1) (p + 1) j (by omega) (fun i hi => by have := h1 (i + 1) (by omega); rwa [show q + (i + 1) = q + 1 + i by omega, show p + (i + 1) = p + 1 + i by omega] at this) (by rcases h2 with h2 | h2; (left; omega); right; rwa [show q + (j + 1) = q + 1 + j by omega, show p + (j + 1) = p + 1 + j by omega] at h2)
    omega
def pm (g : Nat → Nat) (p : Nat) : Nat → Nat × Nat → Nat × Nat
  | 0, s => s
  | q + 1, s => pm g p q (if s.1 < g q then (g q, p - q) else s)
theorem pm_S (g : Nat → Nat) (p q : Nat) (s : Nat × Nat) : pm g p (q + 1) s = pm g p q (if s.1 < g q then (g q, p - q) else s) := rfl
theorem pm_0 (g : Nat → Nat) (p : Nat) (s : Nat × Nat) : pm g p 0 s = s := rfl
/-- the longest place of before that is alike: how long, how far -/
def mt (f : Nat → Int32) (p : Nat) : Nat × Nat := pm (fun q => lc f q p (32 - p)) p p (0, 0)
theorem pm_le {g : Nat → Nat} {p n : Nat} (hg : ∀ q, g q ≤ n) : ∀ (q : Nat) (s : Nat × Nat), s.1 ≤ n → s.2 ≤ p → (pm g p q s).1 ≤ n ∧ (pm g p q s).2 ≤ p
  | 0, s, h1, h2 => ⟨h1, h2⟩
  | q + 1, s, h1, h2 => by
    rw [pm_S]
    split
    · exact pm_le hg q _ (hg q) (Nat.sub_le _ _)
    · exact pm_le hg q s h1 h2
theorem mt_le (f : Nat → Int32) (p : Nat) : (mt f p).1 ≤ 32 - p ∧ (mt f p).2 ≤ p := pm_le (fun q => lc_le f (32 - p) q p) p (0, 0) (Nat.zero_le _) (Nat.zero_le _)
def lm (f : Nat → Int32) : Nat → Nat → List Int32
  | _, 0 => []
  | s, n + 1 => f s :: lm f (s + 1) n
theorem lm_len (f : Nat → Int32) : ∀ n s, (lm f s n).length = n
  | 0, _ => rfl
  | n + 1, s => by simp only [lm, List.length_cons, lm_len f n (s + 1)]
theorem lm_S (f : Nat → Int32) : ∀ n s, lm f s (n + 1) = lm f s n ++ [f (s + n)]
  | 0, s => by simp [lm]
  | n + 1, s => by
    rw [lm, lm_S f n (s + 1), lm, List.cons_append, show s + 1 + n = s + (n + 1) by omega]
/-- bytes that stand for themselves -/
def lt (f : Nat → Int32) (s e : Nat) : List Int32 := if s = e then [] else byt (Int32.ofNat (e - s - 1)) :: lm f s (e - s)
theorem lt_len (f : Nat → Int32) (s e : Nat) : (lt f s e).length ≤ e - s + 1 := by
  unfold lt
  split
  · simp
  · simp [lm_len]
def pc (mt : Nat → Nat × Nat) (lt : Nat → Nat → List Int32) : Nat → Nat → Nat → List Int32
  | 0, _, _ => []
  | F + 1, s, p => if 32 ≤ p then lt s 32 else if (mt p).1 < 3 then pc mt lt F s (p + 1) else lt s p ++ byt (Int32.ofNat (125 + (mt p).1)) :: byt (Int32.ofNat (mt p).2) :: pc mt lt F (p + (mt p).1) (p + (mt p).1)
theorem pc_S (mt : Nat → Nat × Nat) (lt : Nat → Nat → List Int32) (F s p : Nat) : pc mt lt (F + 1) s p = if 32 ≤ p then lt s 32 else if (mt p).1 < 3 then pc mt lt F s (p + 1) else lt s p ++ byt (Int32.ofNat (125 + (mt p).1)) :: byt (Int32.ofNat (mt p).2) :: pc mt lt F (p + (mt p).1) (p + (mt p).1) := rfl
theorem i_m1 (n : Nat) : Int32.ofNat n + Int32.ofInt (-1) = Int32.ofNat n - Int32.ofNat 1 := by rw [Int32.sub_eq_add_neg]; rfl
section PC
variable {h : hh_T} {Q : Option Value ⊕ Nat → hh_T → Prop}
theorem c_match {o b p : Nat} (ho : hh_tg h o = 10) (ht : hh_tg h b = 101) (hbl : 32 ≤ hh_ln h b) (hp : p < 32) (H : ∀ h', fr (fun c _ => c = o) h h' → hh_i h' o 1 = Int32.ofNat (mt (hh_i h b) p).1 → (0 < (mt (hh_i h b) p).1 → hh_i h' o 0 = Int32.ofNat (mt (hh_i h b) p).2) → Q (.inl none) h') : gm_G 53 0 [some (.ref o), some (.ref b), some (.int (Int32.ofNat p))] [] h Q := by
  have hbo : ¬ b = o := fun e => by rw [e, ho] at ht; cases ht
  generalize hf : hh_i h b = f at H
  have rd : ∀ {h1 : hh_T} {i : Nat}, fr (fun c _ => c = o) h h1 → hh_i h1 b i = f i := fun {h1 i} g => by rw [g.2.2.2.2.2.2 b i hbo, hf]
  have sb : ∀ {h1 : hh_T}, fr (fun c _ => c = o) h h1 → gm_sub (hh_tg h1 o) 9 = true := fun {h1} g => by rw [g.2.2.1, ho]; rfl
  have lp : ∀ q h1 s, q ≤ p → fr (fun c _ => c = o) h h1 → hh_i h1 o 1 = Int32.ofNat s.1 → s.1 ≤ 32 → (0 < s.1 → hh_i h1 o 0 = Int32.ofNat s.2) → pm (fun q => lc f q p (32 - p)) p q s = mt f p → gm_G 53 9 [some (.ref o), some (.ref b), some (.int (Int32.ofNat p)), some (.int (Int32.ofNat q - Int32.ofNat 1))] [] h1 Q := by
    intro q
    induction q with
    | zero =>
      intro h1 s e1 g e2 e3 e4 e5
      rw [pm_0] at e5
      refine w_53_9 (r_1 := some b) ⟨fun _ => H h1 g (by rw [← e5]; exact e2) (by rw [← e5]; exact e4), fun z => absurd (by decide) z⟩
    | succ q ih =>
      intro h1 s e1 g e2 e3 e4 e5
      have e6 : hh_ln h1 = hh_ln h := g.2.2.2.1
      have e7 : hh_tg h1 = hh_tg h := g.2.2.1
      rw [pm_S] at e5
      rw [i_sub (by omega), Nat.add_sub_cancel]
      refine w_53_9 (r_1 := some b) ⟨fun z => absurd z (by rw [i_lt (by omega) (by decide)]; omega), fun _ => ?_⟩
      have fin : ∀ j, j ≤ 32 - p → lc f q p (32 - p) = j → gm_G 53 46 [some (.ref o), some (.ref b), some (.int (Int32.ofNat p)), some (.int (Int32.ofNat q)), some (.int (Int32.ofNat j))] [] h1 Q := by
        intro j j1 j2
        simp only [j2] at e5
        refine w_53_46 (r_1 := some b) ⟨sb g, fun z => ?_, fun z h2 a2 h3 a3 => ?_⟩
        · rw [e2, i_lt (by omega) (by omega)] at z
          rw [if_neg z] at e5
          refine w_53_68 (r_1 := some b) ?_
          rw [i_m1]
          exact ih h1 s (by omega) g e2 e3 e4 e5
        · rw [e2, i_lt (by omega) (by omega)] at z
          rw [if_pos z] at e5
          refine w_53_68 (r_1 := some b) ?_
          rw [i_m1]
          subst a2; subst a3
          refine ih _ (j, p - q) (by omega) ((g.trans (fr.wi rfl)).trans (fr.wi rfl)) ?_ (by show j ≤ 32; omega) (fun _ => ?_) e5
          · rw [hi_wi, if_neg (fun z => absurd z.2 (by decide)), hi_wi, if_pos ⟨rfl, rfl⟩]
          · rw [hi_wi, if_pos ⟨rfl, rfl⟩, i_sub (by omega)]
      have run : ∀ d j, j + d = 32 - p → (∀ i, i < j → f (q + i) = f (p + i)) → gm_G 53 16 [some (.ref o), some (.ref b), some (.int (Int32.ofNat p)), some (.int (Int32.ofNat q)), some (.int (Int32.ofNat j))] [] h1 Q := by
        intro d
        induction d with
        | zero =>
          intro j e9 z
          exact w_53_16 (r_1 := some b) ⟨fun _ => fin j (by omega) (lc_eq _ _ _ _ _ (by omega) z (Or.inl (by omega))), fun y => absurd y (by rw [i_add, i_lt (by omega) (by decide)]; omega)⟩
        | succ d ihd =>
          intro j e9 z
          refine w_53_16 (r_1 := some b) ⟨fun y => absurd (by rw [i_add, i_lt (by omega) (by decide)]; omega) y, fun _ => ⟨b, rfl, Or.inl (by rw [e7]; exact ht), q + j, by rw [i_add, e6]; exact ix_n (by omega) (by omega), p + j, by rw [i_add, e6]; exact ix_n (by omega) (by omega), fun y => ?_, fun y => ?_⟩⟩
          · rw [rd g, rd g] at y
            exact fin j (by omega) (lc_eq _ _ _ _ _ (by omega) z (Or.inr y))
          · rw [rd g, rd g] at y
            rw [i_add]
            refine ihd (j + 1) (by omega) (fun i hi => ?_)
            by_cases ij : i = j
            · subst ij; exact y
            · exact z i (by omega)
      exact run (32 - p) 0 (by omega) (fun i hi => by omega)
  refine w_53_0 (r_1 := some b) ⟨by rw [ho]; rfl, fun h2 a2 => ?_⟩
  subst a2
  exact lp p _ (0, 0) (Nat.le_refl _) (fr.wi rfl) (by rw [hi_wi, if_pos ⟨rfl, rfl⟩]) (by decide) (fun z => absurd z (by decide)) rfl
theorem c_lits {o b r a s e : Nat} {l : List Int32} (w : rw_ok h r a) (c : rw_c h r a l) (ht : hh_tg h b = 101) (hbl : 32 ≤ hh_ln h b) (hB : ∀ i, gy_b (hh_i h b i)) (hba : b ≠ a) (hse : s ≤ e) (he : e ≤ 32) (room : l.length + (e - s + 1) ≤ hh_ln h a) (hb : hh_ln h a < 2147483648)
    (H : ∀ h', fr (rwA r a) h h' → rw_c h' r a (l ++ lt (hh_i h b) s e) → Q (.inl none) h') : gm_G 505 0 [some (.ref o), some (.ref b), some (.int (Int32.ofNat s)), some (.int (Int32.ofNat e)), some (.ref r)] [] h Q := by
  have hbr : ¬ b = r := fun e => by
    have := w.1
    rw [← e, ht] at this
    cases this
  have rd : ∀ {h1 : hh_T} {i : Nat}, fr (rwA r a) h h1 → hh_i h1 b i = hh_i h b i := fun {h1 i} f => f.2.2.2.2.2.2 b i (fun z => by rcases z with z | z; exact hba z; exact hbr z.1)
  refine w_505_0 (r_1 := some b) (r_4 := some r) ⟨fun q => ⟨r, rfl, w.1, ?_⟩, fun q => ?_⟩
  · rw [i_eq (by omega) (by omega)] at q
    rw [i_sub (by omega), i_sub (by omega)]
    refine c_put w c hb (by omega) (fun _ h1 f1 c1 => ?_) (fun z => absurd (by omega) z)
    have lp : ∀ d k h2, s + k + d = e → fr (rwA r a) h h2 → rw_c h2 r a (l ++ [byt (Int32.ofNat (e - s - 1))] ++ lm (hh_i h b) s k) → gm_G 505 19 [none, some (.ref b), none, some (.int (Int32.ofNat e)), some (.ref r), some (.int (Int32.ofNat (s + k)))] [] h2 Q := by
      intro d
      induction d with
      | zero =>
        intro k h2 e1 f2 c2
        refine w_505_19 (a0 := o) (r_1 := some b) (r_4 := some r) ⟨fun _ => H h2 f2 ?_, fun z => absurd z (by rw [i_lt (by omega) (by omega)]; omega)⟩
        unfold lt
        rw [if_neg q, show e - s = k by omega]
        rw [show e - s - 1 = k - 1 by omega] at c2
        simpa using c2
      | succ d ih =>
        intro k h2 e1 f2 c2
        have e5 : hh_ln h2 = hh_ln h := f2.2.2.2.1
        have e6 : hh_tg h2 = hh_tg h := f2.2.2.1
        refine w_505_19 (a0 := o) (r_1 := some b) (r_4 := some r) ⟨fun z => absurd (by rw [i_lt (by omega) (by omega)]; omega) z, fun _ => ⟨b, rfl, Or.inl (by rw [e6]; exact ht), s + k, by rw [e5]; exact ix_n (by omega) (by omega), r, rfl, (w.fr f2).1, ?_⟩⟩
        refine c_put (w.fr f2) c2 (by rw [e5]; exact hb) (by rw [e5]; simp [lm_len]; omega) (fun _ h3 f3 c3 => ?_) (fun z => absurd (by rw [e5]; simp [lm_len]; omega) z)
        rw [rd f2, byt_of (hB _)] at c3
        show gm_G 505 19 _ _ _ _
        rw [i_add, show s + k + 1 = s + (k + 1) by omega]
        refine ih (k + 1) h3 (by omega) (f2.trans f3) ?_
        rw [lm_S]
        simpa [List.append_assoc] using c3
    have := lp (e - s) 0 h1 (by omega) f1 (by simpa [lm] using c1)
    exact this
  · rw [i_eq (by omega) (by omega)] at q
    refine H h (fr.refl _ _) ?_
    unfold lt
    rw [if_pos q, List.append_nil]
    exact c
end PC
