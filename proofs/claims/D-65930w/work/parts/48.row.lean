/-! STAGE 2, 18: what changed; rows -/
/-- only ints at places of A changed -/
def fr (A : Nat → Nat → Prop) (h h' : hh_T) : Prop := hh_sz h' = hh_sz h ∧ hh_sl h' = hh_sl h ∧ hh_tg h' = hh_tg h ∧ hh_ln h' = hh_ln h ∧ hh_j h' = hh_j h ∧ hh_r h' = hh_r h ∧ ∀ b j, ¬ A b j → hh_i h' b j = hh_i h b j
theorem fr.refl (A : Nat → Nat → Prop) (h : hh_T) : fr A h h := ⟨rfl, rfl, rfl, rfl, rfl, rfl, fun _ _ _ => rfl⟩
theorem fr.trans {A : Nat → Nat → Prop} {h h1 h2 : hh_T} (a : fr A h h1) (b : fr A h1 h2) : fr A h h2 := by
  obtain ⟨a1, a2, a3, a4, a5, a6, a7⟩ := a
  obtain ⟨b1, b2, b3, b4, b5, b6, b7⟩ := b
  exact ⟨b1.trans a1, b2.trans a2, b3.trans a3, b4.trans a4, b5.trans a5, b6.trans a6, fun b j q => (b7 b j q).trans (a7 b j q)⟩
theorem fr.mono {A B : Nat → Nat → Prop} {h h1 : hh_T} (a : fr A h h1) (s : ∀ b j, A b j → B b j) : fr B h h1 := by
  obtain ⟨a1, a2, a3, a4, a5, a6, a7⟩ := a
  exact ⟨a1, a2, a3, a4, a5, a6, fun b j q => a7 b j (fun z => q (s b j z))⟩
theorem fr.wi {A : Nat → Nat → Prop} {h : hh_T} {a k : Nat} {x : Int32} (q : A a k) : fr A h (hh_wi h a k x) := by
  refine ⟨rfl, rfl, rfl, rfl, rfl, rfl, fun b j z => ?_⟩
  rw [hi_wi, if_neg (fun y => z (by rw [y.1, y.2]; exact q))]
def byt (x : Int32) : Int32 := x.toInt8.toInt32
theorem byt_byt (x : Int32) : byt (byt x) = byt x := gy_b_of x
theorem byt_of {x : Int32} (h : gy_b x) : byt x = x := h
def rwA (r a : Nat) (b j : Nat) : Prop := b = a ∨ (b = r ∧ j = 1)
/-- a row's bytes -/
def rw_c (h : hh_T) (r a : Nat) (l : List Int32) : Prop := hh_i h r 1 = Int32.ofNat l.length ∧ ∀ i, i < l.length → hh_i h a i = l.getD i 0
section RW
variable {h : hh_T} {Q : Option Value ⊕ Nat → hh_T → Prop}
theorem rw_ok.ne {r a : Nat} (w : rw_ok h r a) : r ≠ a := fun e => by
  have h1 := w.1
  rw [e, w.2.2] at h1
  cases h1
theorem rw_ok.fr {A : Nat → Nat → Prop} {h' : hh_T} {r a : Nat} (w : rw_ok h r a) (f : fr A h h') : rw_ok h' r a := by
  obtain ⟨-, -, f3, -, -, f6, -⟩ := f
  unfold rw_ok
  rw [f3, f6]
  exact w
theorem c_put {r a : Nat} {l : List Int32} {v : Int32} (w : rw_ok h r a) (c : rw_c h r a l) (hb : hh_ln h a < 2147483648) (hl : l.length ≤ hh_ln h a) (H1 : l.length < hh_ln h a → ∀ h', fr (rwA r a) h h' → rw_c h' r a (l ++ [byt v]) → Q (.inl none) h') (H2 : ¬ l.length < hh_ln h a → hh_tg (hh_rf h (Int32.ofInt (-3))) (hh_sz h) = 21 → Q (.inr (hh_sz h)) (hh_rf h (Int32.ofInt (-3)))) : gm_G 459 0 [some (.ref r), some (.int v)] [] h Q := by
  have ht : hh_tg (hh_rf h (Int32.ofInt (-3))) (hh_sz h) = 21 := by
    show (if hh_sz h = hh_sz h then 21 else _) = 21
    rw [if_pos rfl]
  refine w_459_0 ⟨w.s, fun r2 e2 => ⟨a, e2.trans w.2.1, by rw [w.2.2]; decide, fun q => ?_, fun q => ?_⟩⟩
  · rw [c.1, i_lt (by omega) (by omega)] at q
    exact w_459_17 (c_must (fun z => absurd rfl z) (fun _ => ⟨ht, H2 q ht⟩))
  · rw [c.1, i_lt (by omega) (by omega)] at q
    refine w_459_17 (c_must (fun _ => ⟨w.s, fun r3 e3 => ⟨a, e3.trans w.2.1, w.2.2, l.length, by rw [c.1]; exact ix_n q (by omega), fun h6 e6 h7 e7 => ?_⟩⟩) (fun z => absurd z (by decide)))
    subst e6; subst e7
    refine H1 q _ ((fr.wi (Or.inl rfl)).trans (fr.wi (Or.inr ⟨rfl, rfl⟩))) ⟨?_, fun i hi => ?_⟩
    · rw [hi_wi, if_pos ⟨rfl, rfl⟩, hi_wi, if_neg (fun z => w.ne z.1), c.1, i_add]
      simp
    · rw [List.length_append, List.length_singleton] at hi
      rw [hi_wi, if_neg (fun z => w.ne z.1.symm), hi_wi]
      by_cases e : i = l.length
      · subst e
        rw [if_pos ⟨rfl, rfl⟩]
        show byt (byt v) = _
        rw [byt_byt]
        simp
      · rw [if_neg (fun z => e z.2), c.2 i (by omega)]
        rw [List.getD_eq_getElem?_getD, List.getD_eq_getElem?_getD, List.getElem?_append_left (by omega)]
theorem c_two {r a : Nat} {l : List Int32} {v : Int32} (w : rw_ok h r a) (c : rw_c h r a l) (hb : hh_ln h a < 2147483648) (hl : l.length + 2 ≤ hh_ln h a) (H : ∀ h', fr (rwA r a) h h' → rw_c h' r a (l ++ [byt (v >>> (Int32.ofNat 8 &&& 31)), byt v]) → Q (.inl none) h') : gm_G 507 0 [some (.ref r), some (.int v)] [] h Q := by
  refine w_507_0 ⟨w.1, c_put w c hb (by omega) (fun _ h1 f1 c1 => ?_) (fun z => absurd (by omega) z)⟩
  have e4 : hh_ln h1 = hh_ln h := f1.2.2.2.1
  refine ⟨(w.fr f1).1, c_put (w.fr f1) c1 (by rw [e4]; exact hb) (by rw [e4]; simp; omega) (fun _ h2 f2 c2 => H h2 (f1.trans f2) ?_) (fun z => absurd (by rw [e4]; simp; omega) z)⟩
  simpa [List.append_assoc] using c2
theorem c_four {r a : Nat} {l : List Int32} {v : Int32} (w : rw_ok h r a) (c : rw_c h r a l) (hb : hh_ln h a < 2147483648) (hl : l.length + 4 ≤ hh_ln h a) (H : ∀ h', fr (rwA r a) h h' → rw_c h' r a (l ++ [byt ((v >>> (Int32.ofNat 16 &&& 31)) >>> (Int32.ofNat 8 &&& 31)), byt (v >>> (Int32.ofNat 16 &&& 31)), byt (v >>> (Int32.ofNat 8 &&& 31)), byt v]) → Q (.inl none) h') : gm_G 535 0 [some (.ref r), some (.int v)] [] h Q := by
  refine w_535_0 ⟨w.1, c_two w c hb (by omega) (fun h1 f1 c1 => ?_)⟩
  have e4 : hh_ln h1 = hh_ln h := f1.2.2.2.1
  refine ⟨(w.fr f1).1, c_two (w.fr f1) c1 (by rw [e4]; exact hb) (by rw [e4]; simp; omega) (fun h2 f2 c2 => H h2 (f1.trans f2) ?_)⟩
  simpa [List.append_assoc] using c2
theorem c_take {r a r2 a2 : Nat} {l : List Int32} (w : rw_ok h r a) (w2 : rw_ok h r2 a2) (hr : r ≠ r2) (ha : a ≠ a2) (hB : ∀ i, gy_b (hh_i h a2 i)) (c : rw_c h r2 a2 l) (hb : l.length < 2147483648) (hl : l.length ≤ hh_ln h a) (hl2 : l.length ≤ hh_ln h a2) (H : ∀ h', fr (rwA r a) h h' → rw_c h' r a l → Q (.inl none) h') : gm_G 65 0 [some (.ref r), some (.ref r2)] [] h Q := by
  refine w_65_0 (r_1 := some r2) ⟨r2, rfl, w2.s, w.s, fun h4 e4 => ?_⟩
  have f0 : fr (rwA r a) h h4 := by subst e4; exact fr.wi (Or.inr ⟨rfl, rfl⟩)
  have n0 : hh_i h4 r 1 = Int32.ofNat l.length := by
    subst e4
    rw [hi_wi, if_pos ⟨rfl, rfl⟩]
    exact c.1
  have ne2 : a2 ≠ a := ha.symm
  have nr2 : ¬ r = a2 := fun e => by
    have := w.1
    rw [e, w2.2.2] at this
    cases this
  have lp : ∀ d i h1, i + d = l.length → fr (rwA r a) h h1 → hh_i h1 r 1 = Int32.ofNat l.length → (∀ k, k < i → hh_i h1 a k = l.getD k 0) → gm_G 65 10 [some (.ref r), some (.ref r2), some (.int (Int32.ofNat i))] [] h1 Q := by
    intro d
    induction d with
    | zero =>
      intro i h1 e f n1 k1
      have ei : i = l.length := by omega
      refine w_65_10 (r_1 := some r2) ⟨(w.fr f).s, fun _ => H h1 f ⟨n1, fun k hk => k1 k (by omega)⟩, fun z => absurd z (by rw [n1, i_lt (by omega) (by omega)]; omega)⟩
    | succ d ih =>
      intro i h1 e f n1 k1
      have e4 : hh_ln h1 = hh_ln h := f.2.2.2.1
      refine w_65_10 (r_1 := some r2) ⟨(w.fr f).s, fun z => absurd (by rw [n1, i_lt (by omega) (by omega)]; omega) z, fun _ r3 e3 => ⟨r2, rfl, (w2.fr f).s, fun r5 e5 => ⟨a2, e5.trans (w2.fr f).2.1, Or.inl (w2.fr f).2.2, i, by rw [e4]; exact ix_n (by omega) (by omega), a, e3.trans (w.fr f).2.1, (w.fr f).2.2, i, by rw [e4]; exact ix_n (by omega) (by omega), fun h11 e11 => ?_⟩⟩⟩
      have ev : hh_i h1 a2 i = l.getD i 0 := by
        rw [f.2.2.2.2.2.2 a2 i (fun z => by rcases z with z | z; exact ne2 z; exact nr2 z.1.symm), c.2 i (by omega)]
      have eb : (hh_i h1 a2 i).toInt8.toInt32 = l.getD i 0 := by
        rw [ev, ← c.2 i (by omega)]
        exact hB i
      rw [i_add]
      subst e11
      refine ih (i + 1) _ (by omega) (f.trans (fr.wi (Or.inl rfl))) ?_ (fun k hk => ?_)
      · rw [hi_wi, if_neg (fun z => w.ne z.1)]
        exact n1
      · rw [hi_wi]
        by_cases q : k = i
        · subst q
          rw [if_pos ⟨rfl, rfl⟩]
          exact eb
        · rw [if_neg (fun z => q z.2)]
          exact k1 k (by omega)
  exact lp l.length 0 h4 (by omega) f0 n0 (fun k hk => by omega)
theorem c_isLike {r a r2 a2 : Nat} {l l2 : List Int32} (w : rw_ok h r a) (w2 : rw_ok h r2 a2) (c : rw_c h r a l) (c2 : rw_c h r2 a2 l2) (hb : l.length < 2147483648) (hb2 : l2.length < 2147483648) (hl : l.length ≤ hh_ln h a) (hl2 : l2.length ≤ hh_ln h a2) (H : Q (.inl (some (.int (bi (decide (l = l2)))))) h) : gm_G 64 0 [some (.ref r), some (.ref r2)] [] h Q := by
  refine w_64_0 (r_1 := some r2) ⟨w.s, r2, rfl, w2.s, fun q => ?_, fun q => ?_⟩
  · rw [c.1, c2.1, i_eq hb hb2] at q
    have lp : ∀ d i, i + d = l.length → (∀ k, k < i → l.getD k 0 = l2.getD k 0) → gm_G 64 15 [some (.ref r), some (.ref r2), some (.int (Int32.ofNat i))] [] h Q := by
      intro d
      induction d with
      | zero =>
        intro i e k1
        refine w_64_15 (r_1 := some r2) ⟨w.s, fun _ => ?_, fun z => absurd z (by rw [c.1, i_lt (by omega) (by omega)]; omega)⟩
        have : l = l2 := by
          apply List.ext_getElem q
          intro k h1 h2
          have := k1 k (by omega)
          rw [List.getD_eq_getElem?_getD, List.getD_eq_getElem?_getD, List.getElem?_eq_getElem h1, List.getElem?_eq_getElem h2] at this
          exact this
        rw [decide_eq_true this] at H
        exact H
      | succ d ih =>
        intro i e k1
        refine w_64_15 (r_1 := some r2) ⟨w.s, fun z => absurd (by rw [c.1, i_lt (by omega) (by omega)]; omega) z, fun _ r3 e3 => ⟨a, e3.trans w.2.1, Or.inl w.2.2, i, ix_n (by omega) (by omega), r2, rfl, w2.s, fun r8 e8 => ⟨a2, e8.trans w2.2.1, Or.inl w2.2.2, i, ix_n (by omega) (by omega), fun z => ?_, fun z => ?_⟩⟩⟩
        · rw [i_add]
          refine ih (i + 1) (by omega) (fun k hk => ?_)
          by_cases y : k = i
          · subst y
            rw [← c.2 k (by omega), ← c2.2 k (by omega)]
            exact z
          · exact k1 k (by omega)
        · have : ¬ l = l2 := fun y => z (by rw [c.2 i (by omega), c2.2 i (by omega), y])
          rw [decide_eq_false this] at H
          exact H
    exact lp l.length 0 (by omega) (fun k hk => by omega)
  · rw [c.1, c2.1, i_eq hb hb2] at q
    have : ¬ l = l2 := fun y => q (by rw [y])
    rw [decide_eq_false this] at H
    exact H
end RW
