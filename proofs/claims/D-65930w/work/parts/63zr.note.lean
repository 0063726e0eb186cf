/-! STAGE 3: names and bytes of a change -/
section NT
variable {h : hh_T} {m : Nat} {Q : Option Value ⊕ Nat → hh_T → Prop}
theorem t_note {A ls k wh a b1 : Nat} (hT : tw_ok h m) (ht : hh_tg h b1 = 101) (hl : a + k ≤ hh_ln h b1) (hl2 : hh_ln h b1 < 1000000) (hw : wh ≤ 1) (hA : A + 10 ≤ ls) (hls : ls + k ≤ 37120)
    (h1 : (hh_i h m 108 = Int32.ofInt (-1) ∧ Q (.inl none) h) ∨ (hh_i h m 108 = (Int32.ofNat A) ∧ hh_i h m 109 = (Int32.ofNat ls) ∧ ∀ h', fr (tO m [82] [109]) h h' → (∀ q, hh_i h' (m + 82) q = if q = A + 8 + wh then (Int32.ofNat k) else if ls ≤ q ∧ q < ls + k then hh_i h b1 (a + (q - ls)) else hh_i h (m + 82) q) → hh_i h' m 109 = (Int32.ofNat (ls + k)) → Q (.inl none) h')) : gm_G 139 0 [some (.ref m), some (.ref b1), some (.int (Int32.ofNat a)), some (.int (Int32.ofNat k)), some (.int (Int32.ofNat wh))] [] h Q := by
  have hb : ¬ b1 = m + 82 := fun e => by
    rw [e, (hT.2.2 82 (by decide)).1] at ht
    exact absurd ht (by decide)
  have hbm : ¬ b1 = m := fun e => by rw [e, hT.1] at ht; exact absurd ht (by decide)
  rcases h1 with ⟨e, q⟩ | ⟨e108, e109, H⟩
  · exact w_139_0 hT ⟨fun z => absurd (by rw [e]; decide) z, fun _ => q⟩
  · refine w_139_0 hT ⟨fun _ => ⟨A + 8 + wh, by rw [e108, i_add, i_add]; exact ix_n (by omega) (by omega), fun h2 a2 => ?_⟩, fun z => absurd z (by rw [e108, i_n0 (by omega)]; exact id)⟩
    have g2 : fr (tO m [82] []) h h2 := by rw [a2]; exact fr.a rfl
    have hT2 := hT.fr g2
    refine lp_fill (m := m) (o := 82) (b := ls) (n := k) (fun j => [some (.ref m), some (.ref b1), some (.int (Int32.ofNat a)), some (.int (Int32.ofNat k)), none, some (.int (Int32.ofNat j))]) (fun j => hh_i h b1 (a + j)) (by decide) (fun j h3 hj g3 _ kk => ?_) (fun h3 g3 e3 => ?_)
    · have g03 : fr (tO m [82] []) h h3 := g2.trans g3
      have eb : hh_i h3 b1 = hh_i h b1 := g03.out (Or.inr ⟨fun o ho => by rw [List.mem_singleton] at ho; rw [ho]; exact hb, hbm⟩)
      refine w_139_27 (hT.fr g03) ⟨fun z => absurd (by rw [i_lt (by omega) (by omega)]; exact hj) z, fun _ => ⟨Or.inl (by rw [g03.tg]; exact ht), a + j, by rw [i_add, g03.ln]; exact ix_n (by omega) (by omega), ls + j, by rw [g03.fld (f := 109) rfl, e109, i_add]; exact ix_n (by omega) (by omega), fun h5 a5 => ?_⟩⟩
      rw [eb] at a5
      rw [a5, i_add]
      exact kk
    · have g03 : fr (tO m [82] []) h h3 := g2.trans g3
      refine w_139_27 (hT.fr g03) ⟨fun _ h4 a4 => ?_, fun z => absurd z (by rw [i_lt (by omega) (by omega)]; omega)⟩
      rw [g03.fld (f := 109) rfl, e109, i_add] at a4
      refine H h4 ((g03.up rfl rfl).trans (by rw [a4]; exact fr.f rfl)) (fun q => ?_) (by rw [a4, hi_e ⟨rfl, rfl⟩])
      rw [a4, hi_n (by omega), e3]
      by_cases z1 : q = A + 8 + wh
      · rw [if_pos z1, if_neg (by omega), a2, hi_e ⟨rfl, z1⟩]
      · rw [if_neg z1]
        by_cases z2 : ls ≤ q ∧ q < ls + k
        · rw [if_pos z2, if_pos z2]
        · rw [if_neg z2, if_neg z2, a2, hi_n (by omega)]
end NT
section RW
variable {h h' : hh_T} {m : Nat} {S : zS}
/-- a row with one change more -/
def zs_row (S : zS) (n : Nat) (c : zH) (p : Nat) : zS := zs_R_ S (fu (zs_R S) n ((zs_R S n).1 ++ [c], p))
theorem tw_lg_cg {A : Nat} {c : zH} (e : ∀ q, A ≤ q → q < A + 290 → hh_i h' (m + 82) q = hh_i h (m + 82) q) (R : tw_lg h m A c) : tw_lg h' m A c := by
  obtain ⟨r1, r2, r3, n, k, r4, r5, r6, r7, r8, r9, r10, r11, r12, r13, r14⟩ := R
  have cg : ∀ p l, A + 10 ≤ p → p + l ≤ A + 290 → ∀ x, x < l → hh_i h' (m + 82) (p + x) = hh_i h (m + 82) (p + x) := fun p l h1 h2 x hx => e _ (by omega) (by omega)
  refine ⟨fun f hf => ⟨?_, (r1 f hf).2⟩, r2, r3, n, k, by rw [e _ (by omega) (by omega)]; exact r4, by rw [e _ (by omega) (by omega)]; exact r5, r6, r7, r8, fun z => ?_, fun z => ?_, fun z => ?_, fun z => ?_, r13, fun i hi => by rw [cg (A + 10) (n + k) (by omega) (by omega) i hi]; exact r14 i hi⟩
  · rw [e _ (by omega) (by omega)]; exact (r1 f hf).1
  · obtain ⟨c1, c2⟩ := nm_cg (f := hh_i h (m + 82)) (g := hh_i h' (m + 82)) (p := A + 10) (q := A + 10) (n := n) (cg _ n (by omega) (by omega))
    obtain ⟨z1, z2⟩ := r9 z
    exact ⟨c1.trans z1, c2.trans z2⟩
  · obtain ⟨c1, c2⟩ := nm_cg (f := hh_i h (m + 82)) (g := hh_i h' (m + 82)) (p := A + 10 + n) (q := A + 10 + n) (n := k) (cg _ k (by omega) (by omega))
    obtain ⟨z1, z2⟩ := r10 z
    exact ⟨c1.trans z1, c2.trans z2⟩
  · rw [r11 z]
    exact (lm_cg k (A + 10 + n) (cg _ k (by omega) (by omega))).symm
  · rw [r12 z]
    exact (lm_cg n (A + 10) (cg _ n (by omega) (by omega))).symm
/-- the row of a set has grown: the rows are as they must be -/
theorem rT_R_row {i p : Nat} {d : zD} {c : zH} {O F : List Nat} (RR : rT_R h m (zs_E S) (zs_R S)) (RE : rT_E h m (zs_E S)) (up : zs_up S = true) (hh : ¬ ze_heads (zs_E S) = []) (hi : i < 8) (D : td h m i d) (g : fr (tO m O F) h h') (hO : (O.all fun o => !([59, 78].contains o)) = true)
    (e80 : ∀ k, hh_i h' (m + 80) k = if k = i then (Int32.ofNat ((zs_R S (zd_no d)).1.length + 1)) else hh_i h (m + 80) k) (e81 : ∀ k, hh_i h' (m + 81) k = if k = i then (Int32.ofNat p) else hh_i h (m + 81) k) (hp : p ≤ (zs_R S (zd_no d)).1.length + 1) (hlen : (zs_R S (zd_no d)).1.length < 99999)
    (e82 : ∀ q, ¬ (290 * (16 * i + (zs_R S (zd_no d)).1.length) ≤ q ∧ q < 290 * (16 * i + (zs_R S (zd_no d)).1.length) + 290) ∨ 16 ≤ (zs_R S (zd_no d)).1.length → hh_i h' (m + 82) q = hh_i h (m + 82) q) (L : (zs_R S (zd_no d)).1.length < 16 → tw_lg h' m (290 * (16 * i + (zs_R S (zd_no d)).1.length)) c) : rT_R h' m (zs_E S) (zs_R (zs_row S (zd_no d) c p)) := by
  obtain ⟨a, b, cc, e⟩ := RR
  have a59 : hh_i h' (m + 59) = hh_i h (m + 59) := g.arrs (o := 59) hO rfl (by decide)
  have a78 : hh_i h' (m + 78) = hh_i h (m + 78) := g.arrs (o := 78) hO rfl (by decide)
  have h0 : 0 < (ze_heads (zs_E S)).length := List.length_pos_iff.mpr hh
  obtain ⟨j0, z1, z2, z3⟩ := rT_E_hs RE 0 h0
  have eu := e up j0 z1 z3
  show rT_R h' m (zs_E S) (fu (zs_R S) (zd_no d) ((zs_R S (zd_no d)).1 ++ [c], p))
  refine ⟨fun q => absurd q hh, fun j hj hj4 _ k hk => ?_, fun n hn => ?_, ?_⟩
  · rw [a78] at hj
    have ej : j = j0 := (i_eq (by omega) (by omega)).mp (hj.symm.trans z1)
    subst ej
    rw [a59]
    obtain ⟨b1, b2⟩ := b j hj hj4 hh k hk
    refine ⟨fun q => ?_, fun n hn q => ?_⟩
    · have ki : ¬ k = i := fun y => by
        rw [y, ← eu i hi] at q
        exact td_ne D q
      rw [e80, e81, if_neg ki, if_neg ki]
      exact b1 q
    · obtain ⟨x1, x2, x3, x4, x5⟩ := b2 n hn q
      by_cases ki : k = i
      · subst ki
        have en : n = zd_no d := by
          rw [← eu k hi, D.1] at q
          exact ((i_eq (by have := D.2.1; omega) (by omega)).mp q).symm
        subst en
        rw [e80, e81, if_pos rfl, if_pos rfl, fu, if_pos rfl]
        refine ⟨by rw [List.length_append]; rfl, rfl, by rw [List.length_append]; exact hp, by rw [List.length_append]; show (zs_R S (zd_no d)).1.length + 1 < 100000; omega, fun x y hx hy => ?_⟩
        have hy : ((zs_R S (zd_no d)).1 ++ [c])[x]? = some y := hy
        by_cases q1 : x < (zs_R S (zd_no d)).1.length
        · rw [List.getElem?_append_left q1] at hy
          refine tw_lg_cg (fun q2 h1 h2 => e82 q2 (Or.inl (by omega))) (x5 x y hx hy)
        · rw [List.getElem?_append_right (by omega)] at hy
          have ex : x = (zs_R S (zd_no d)).1.length := by
            by_cases q2 : x - (zs_R S (zd_no d)).1.length = 0
            · omega
            · rw [List.getElem?_eq_none (by rw [List.length_singleton]; omega)] at hy
              cases hy
          subst ex
          rw [Nat.sub_self] at hy
          cases hy
          exact L hx
      · have en : ¬ n = zd_no d := fun y => by
          have q' := q
          rw [← eu k hk, y, ← D.1] at q'
          obtain ⟨TU, -⟩ := RE.2.2.1 up
          have t5 := TU.2.2.2.2.1 k i hk hi
          simp only [Nat.mul_zero, Nat.zero_add] at t5
          exact ki (t5 (by rw [q']; exact td_ne D) q')
        rw [e80, e81, if_neg ki, if_neg ki, fu, if_neg en]
        refine ⟨x1, x2, x3, x4, fun x y hx hy => tw_lg_cg (fun q2 h1 h2 => e82 q2 ?_) (x5 x y hx hy)⟩
        by_cases q3 : (zs_R S (zd_no d)).1.length < 16
        · exact Or.inl (by omega)
        · exact Or.inr (by omega)
  · have := cc n hn
    have en : ¬ n = zd_no d := fun y => by
      obtain ⟨s, hs⟩ : ∃ s, (ze_heads (zs_E S))[0]? = some s := ⟨_, List.getElem?_eq_getElem h0⟩
      have h1 := hn s hs
      obtain ⟨j, y1, y2, y3, y4, y5, y6⟩ := RE.2.2.2.2.2.1 0 s hs
      have ej : j = j0 := (i_eq (by omega) (by omega)).mp (y1.symm.trans z1)
      subst ej
      rcases y6.1 i hi with z | ⟨d', d1, d2⟩
      · rw [← eu i hi] at z; exact td_ne D z
      · have : zd_no d' = zd_no d := by
          have q := d2.1
          rw [← eu i hi, D.1] at q
          exact ((i_eq (by have := D.2.1; omega) (by have := d2.2.1; omega)).mp q).symm
        unfold zu_set at h1
        rw [List.find?_eq_none] at h1
        exact h1 d' d1 (decide_eq_true (this.trans y.symm))
    show fu (zs_R S) (zd_no d) _ n = _
    rw [fu, if_neg en]
    exact this
  · intro up' j hj hj4 k hk
    rw [a78] at hj
    rw [a59]
    exact e up' j hj hj4 k hk
end RW
