/-! STAGE 2, 7: the component, label by label (printed) -/
set_option maxRecDepth 20000 in
theorem w_1_0 {a0 : Nat} {r_1 : Option Nat} {h : hh_T} {Q : Option Value ⊕ Nat → hh_T → Prop} (H : gm_sub (hh_tg h a0) 0 = true ∧ (∀ h2, h2 = hh_wi h a0 17 (Int32.ofNat 0) → (∃ a3, r_1 = some a3 ∧ (gm_sub (hh_tg h2 a3) 20 = true ∧ (Q (.inl (some (.int (hh_i h2 a3 0)))) h2))))) : gm_G 1 0 [some (.ref a0), some (va_rf r_1)] [] h Q := by
  refine g_aload (r := some _) rfl rfl rfl (pc' := 1) ?_
  refine g_iconst rfl rfl rfl (pc' := 2) ?_
  obtain ⟨ht1, H⟩ := H
  refine g_putI rfl rfl rfl rfl ht1  (pc' := 5) rfl ?_
  replace H := H _ rfl
  refine g_aload (r := _) rfl rfl rfl (pc' := 6) ?_
  obtain ⟨a3, rfl, H⟩ := H
  obtain ⟨ht4, H⟩ := H
  refine g_getI rfl rfl rfl rfl ht4 (pc' := 9) rfl ?_
  exact g_ireturn rfl (Or.inl rfl) H
set_option maxRecDepth 20000 in
theorem w_2_0 {a0 : Nat}  {h : hh_T} {Q : Option Value ⊕ Nat → hh_T → Prop} (H : gm_sub (hh_tg h a0) 0 = true ∧ (∀ h2, h2 = hh_wi h a0 25 (Int32.ofNat 0) → (∀ h3, h3 = hh_wi h2 a0 28 (Int32.ofNat 0) → (∀ h4, h4 = hh_wi h3 a0 29 (hh_i h3 a0 17) → (Q (.inl none) h4))))) : gm_G 2 0 [some (.ref a0)] [] h Q := by
  refine g_aload (r := some _) rfl rfl rfl (pc' := 1) ?_
  refine g_iconst rfl rfl rfl (pc' := 2) ?_
  obtain ⟨ht1, H⟩ := H
  refine g_putI rfl rfl rfl rfl ht1  (pc' := 5) rfl ?_
  replace H := H _ rfl
  refine g_aload (r := some _) rfl rfl rfl (pc' := 6) ?_
  refine g_iconst rfl rfl rfl (pc' := 7) ?_
  refine g_putI rfl rfl rfl rfl ht1  (pc' := 10) rfl ?_
  replace H := H _ rfl
  refine g_aload (r := some _) rfl rfl rfl (pc' := 11) ?_
  refine g_aload (r := some _) rfl rfl rfl (pc' := 12) ?_
  refine g_getI rfl rfl rfl rfl ht1 (pc' := 15) rfl ?_
  refine g_putI rfl rfl rfl rfl ht1  (pc' := 18) rfl ?_
  replace H := H _ rfl
  exact g_return rfl H
set_option maxRecDepth 20000 in
theorem w_3_0 {a0 : Nat} {x1 : Int32} {h : hh_T} {Q : Option Value ⊕ Nat → hh_T → Prop} (H : (¬ x1 = Int32.ofNat 0 → ((¬ x1 = (Int32.ofNat 1) → (gm_sub (hh_tg h a0) 0 = true ∧ (∀ r2, r2 = hh_r h a0 13 → (Q (.inl (some (va_rf r2))) h)))) ∧ (x1 = (Int32.ofNat 1) → (gm_sub (hh_tg h a0) 0 = true ∧ (∀ r4, r4 = hh_r h a0 12 → (Q (.inl (some (va_rf r4))) h)))))) ∧ (x1 = Int32.ofNat 0 → (gm_sub (hh_tg h a0) 0 = true ∧ (∀ r6, r6 = hh_r h a0 11 → (Q (.inl (some (va_rf r6))) h))))) : gm_G 3 0 [some (.ref a0), some (.int x1)] [] h Q := by
  refine g_iload rfl rfl rfl (pc' := 1) ?_
  refine g_if_ne rfl (pc' := 4) (pt := 11) rfl rfl ⟨fun hc => ?_, fun hc => ?_⟩
  · replace H := H.1 hc
    refine g_iload rfl rfl rfl (pc' := 12) ?_
    refine g_iconst rfl rfl rfl (pc' := 13) ?_
    refine g_ic_ne rfl (pc' := 16) (pt := 23) rfl rfl ⟨fun hc => ?_, fun hc => ?_⟩
    · replace H := H.1 hc
      refine g_aload (r := some _) rfl rfl rfl (pc' := 24) ?_
      obtain ⟨ht1, H⟩ := H
      refine g_getRv rfl rfl rfl rfl ht1 (pc' := 27) rfl (fun r2 hr2 => ?_)
      replace H := H r2 hr2
      exact g_areturn (r := _) rfl H
    · replace H := H.2 hc
      refine g_aload (r := some _) rfl rfl rfl (pc' := 17) ?_
      obtain ⟨ht3, H⟩ := H
      refine g_getRv rfl rfl rfl rfl ht3 (pc' := 20) rfl (fun r4 hr4 => ?_)
      replace H := H r4 hr4
      refine g_goto rfl (pc' := 27) rfl ?_
      exact g_areturn (r := _) rfl H
  · replace H := H.2 hc
    refine g_aload (r := some _) rfl rfl rfl (pc' := 5) ?_
    obtain ⟨ht5, H⟩ := H
    refine g_getRv rfl rfl rfl rfl ht5 (pc' := 8) rfl (fun r6 hr6 => ?_)
    replace H := H r6 hr6
    refine g_goto rfl (pc' := 27) rfl ?_
    exact g_areturn (r := _) rfl H
set_option maxRecDepth 20000 in
theorem w_4_0 {a0 : Nat} {x1 : Int32} {h : hh_T} {Q : Option Value ⊕ Nat → hh_T → Prop} (H : gm_sub (hh_tg h a0) 0 = true ∧ (∀ h2, h2 = hh_wi h a0 16 ((hh_i h a0 16) + (hh_i h a0 17)) → (∀ h3, h3 = hh_wi h2 a0 17 (Int32.ofNat 0) → (Q (.inl (some (.int x1))) h3)))) : gm_G 4 0 [some (.ref a0), some (.int x1)] [] h Q := by
  refine g_aload (r := some _) rfl rfl rfl (pc' := 1) ?_
  refine g_dup_a (r := some _) rfl rfl (pc' := 2) ?_
  obtain ⟨ht1, H⟩ := H
  refine g_getI rfl rfl rfl rfl ht1 (pc' := 5) rfl ?_
  refine g_aload (r := some _) rfl rfl rfl (pc' := 6) ?_
  refine g_getI rfl rfl rfl rfl ht1 (pc' := 9) rfl ?_
  refine g_iadd rfl rfl (pc' := 10) ?_
  refine g_putI rfl rfl rfl rfl ht1  (pc' := 13) rfl ?_
  replace H := H _ rfl
  refine g_aload (r := some _) rfl rfl rfl (pc' := 14) ?_
  refine g_iconst rfl rfl rfl (pc' := 15) ?_
  refine g_putI rfl rfl rfl rfl ht1  (pc' := 18) rfl ?_
  replace H := H _ rfl
  refine g_iload rfl rfl rfl (pc' := 19) ?_
  exact g_ireturn rfl (Or.inl rfl) H
set_option maxRecDepth 20000 in
theorem w_5_0  {x0 : Int32} {x1 : Int32} {x2 : Int32} {h : hh_T} {Q : Option Value ⊕ Nat → hh_T → Prop} (H : (x0 < x1 → (Q (.inl (some (.int (Int32.ofNat 0)))) h)) ∧ (¬ x0 < x1 → ((x2 < x0 → (Q (.inl (some (.int (Int32.ofNat 0)))) h)) ∧ (¬ x2 < x0 → (Q (.inl (some (.int (Int32.ofNat 1)))) h))))) : gm_G 5 0 [some (.int x0), some (.int x1), some (.int x2)] [] h Q := by
  refine g_iload rfl rfl rfl (pc' := 1) ?_
  refine g_iload rfl rfl rfl (pc' := 2) ?_
  refine g_ic_lt rfl (pc' := 5) (pt := 14) rfl rfl ⟨fun hc => ?_, fun hc => ?_⟩
  · replace H := H.1 hc
    refine g_iconst rfl rfl rfl (pc' := 15) ?_
    exact g_ireturn rfl (Or.inr (by decide)) H
  · replace H := H.2 hc
    refine g_iload rfl rfl rfl (pc' := 6) ?_
    refine g_iload rfl rfl rfl (pc' := 7) ?_
    refine g_ic_gt rfl (pc' := 10) (pt := 14) rfl rfl ⟨fun hc => ?_, fun hc => ?_⟩
    · replace H := H.1 hc
      refine g_iconst rfl rfl rfl (pc' := 15) ?_
      exact g_ireturn rfl (Or.inr (by decide)) H
    · replace H := H.2 hc
      refine g_iconst rfl rfl rfl (pc' := 11) ?_
      refine g_goto rfl (pc' := 15) rfl ?_
      exact g_ireturn rfl (Or.inr (by decide)) H
set_option maxRecDepth 20000 in
theorem w_6_0  {r_0 : Option Nat} {r_1 : Option Nat} {x2 : Int32} {h : hh_T} {Q : Option Value ⊕ Nat → hh_T → Prop} (H : gm_G 6 2 [some (va_rf r_0), some (va_rf r_1), some (.int x2), some (.int (Int32.ofNat 0))] [] h Q) : gm_G 6 0 [some (va_rf r_0), some (va_rf r_1), some (.int x2)] [] h Q := by
  refine g_iconst rfl rfl rfl (pc' := 1) ?_
  refine g_istore rfl rfl rfl (pc' := 2) ?_
  exact g_weak (show gm_Lle [some _, some _, some _, some _] _ from ⟨rfl, ⟨rfl, ⟨rfl, ⟨rfl, trivial⟩⟩⟩⟩) H
set_option maxRecDepth 20000 in
theorem w_6_2  {r_0 : Option Nat} {r_1 : Option Nat} {x2 : Int32} {x3 : Int32} {h : hh_T} {Q : Option Value ⊕ Nat → hh_T → Prop} (H : (¬ x3 < x2 → (Q (.inl (some (.int (Int32.ofNat 0)))) h)) ∧ (x3 < x2 → (∃ a1, r_1 = some a1 ∧ ((hh_tg h a1 = 104 ∨ 200 ≤ hh_tg h a1) ∧ (∃ n2, gm_ix x3 n2 (hh_ln h a1) ∧ (∀ r4, r4 = hh_r h a1 n2 → ((¬ r4 = r_0 → (gm_G 6 2 [some (va_rf r_0), some (.ref a1), some (.int x2), some (.int (x3 + (Int32.ofNat 1)))] [] h Q)) ∧ (r4 = r_0 → (Q (.inl (some (.int (Int32.ofNat 1)))) h))))))))) : gm_G 6 2 [some (va_rf r_0), some (va_rf r_1), some (.int x2), some (.int x3)] [] h Q := by
  refine g_iload rfl rfl rfl (pc' := 3) ?_
  refine g_iload rfl rfl rfl (pc' := 4) ?_
  refine g_ic_ge rfl (pc' := 7) (pt := 22) rfl rfl ⟨fun hc => ?_, fun hc => ?_⟩
  · replace H := H.1 hc
    refine g_iconst rfl rfl rfl (pc' := 23) ?_
    exact g_ireturn rfl (Or.inr (by decide)) H
  · replace H := H.2 hc
    refine g_aload (r := _) rfl rfl rfl (pc' := 8) ?_
    refine g_iload rfl rfl rfl (pc' := 9) ?_
    obtain ⟨a1, rfl, H⟩ := H
    obtain ⟨ht3, H⟩ := H
    obtain ⟨n2, hn2, H⟩ := H
    refine g_aaloadv rfl ht3 hn2 (pc' := 10) rfl (fun r4 hr4 => ?_)
    replace H := H r4 hr4
    refine g_aload (r := _) rfl rfl rfl (pc' := 11) ?_
    refine g_ac_ne (r1 := _) (r2 := _) rfl (pc' := 14) (pt := 16) rfl rfl ⟨fun hc => ?_, fun hc => ?_⟩
    · replace H := H.1 hc
      refine g_iinc (c := (Int32.ofNat 1)) rfl rfl rfl rfl rfl (pc' := 19) ?_
      refine g_goto rfl (pc' := 2) rfl ?_
      exact g_weak (show gm_Lle [some _, some _, some _, some _] _ from ⟨rfl, ⟨rfl, ⟨rfl, ⟨rfl, trivial⟩⟩⟩⟩) H
    · replace H := H.2 hc
      refine g_iconst rfl rfl rfl (pc' := 15) ?_
      exact g_ireturn rfl (Or.inr (by decide)) H
set_option maxRecDepth 20000 in
theorem w_7_0  {r_0 : Option Nat} {x1 : Int32} {x2 : Int32} {h : hh_T} {Q : Option Value ⊕ Nat → hh_T → Prop} (H : (¬ (x2 - x1) = (Int32.ofNat 1) → (gm_G 7 18 [some (va_rf r_0), some (.int x1), some (.int x2)] [] h Q)) ∧ ((x2 - x1) = (Int32.ofNat 1) → (∃ a1, r_0 = some a1 ∧ (gm_sub (hh_tg h a1) 12 = true ∧ (∀ r3, r3 = hh_r h a1 0 → (∃ a4, r3 = some a4 ∧ ((hh_tg h a4 = 101 ∨ hh_tg h a4 = 102) ∧ (∃ n5, gm_ix x1 n5 (hh_ln h a4) ∧ (((hh_i h a4 n5) = (Int32.ofNat 46) → (gm_G 7 49 [] [] h Q)) ∧ (¬ (hh_i h a4 n5) = (Int32.ofNat 46) → (gm_G 7 18 [some (.ref a1), some (.int x1), some (.int x2)] [] h Q))))))))))) : gm_G 7 0 [some (va_rf r_0), some (.int x1), some (.int x2)] [] h Q := by
  refine g_iload rfl rfl rfl (pc' := 1) ?_
  refine g_iload rfl rfl rfl (pc' := 2) ?_
  refine g_isub rfl rfl (pc' := 3) ?_
  refine g_iconst rfl rfl rfl (pc' := 4) ?_
  refine g_ic_ne rfl (pc' := 7) (pt := 18) rfl rfl ⟨fun hc => ?_, fun hc => ?_⟩
  · replace H := H.1 hc
    exact g_weak (show gm_Lle [some _, some _, some _] _ from ⟨rfl, ⟨rfl, ⟨rfl, trivial⟩⟩⟩) H
  · replace H := H.2 hc
    refine g_aload (r := _) rfl rfl rfl (pc' := 8) ?_
    obtain ⟨a1, rfl, H⟩ := H
    obtain ⟨ht2, H⟩ := H
    refine g_getRv rfl rfl rfl rfl ht2 (pc' := 11) rfl (fun r3 hr3 => ?_)
    replace H := H r3 hr3
    refine g_iload rfl rfl rfl (pc' := 12) ?_
    obtain ⟨a4, rfl, H⟩ := H
    obtain ⟨ht6, H⟩ := H
    obtain ⟨n5, hn5, H⟩ := H
    refine g_baload rfl ht6 hn5 (pc' := 13) rfl ?_
    refine g_iconst rfl rfl rfl (pc' := 15) ?_
    refine g_ic_eq rfl (pc' := 18) (pt := 49) rfl rfl ⟨fun hc => ?_, fun hc => ?_⟩
    · replace H := H.1 hc
      exact g_weak (show gm_Lle [] _ from trivial) H
    · replace H := H.2 hc
      exact g_weak (show gm_Lle [some _, some _, some _] _ from ⟨rfl, ⟨rfl, ⟨rfl, trivial⟩⟩⟩) H
set_option maxRecDepth 20000 in
theorem w_7_18  {r_0 : Option Nat} {x1 : Int32} {x2 : Int32} {h : hh_T} {Q : Option Value ⊕ Nat → hh_T → Prop} (H : (¬ (x2 - x1) = (Int32.ofNat 2) → (Q (.inl (some (.int (Int32.ofNat 0)))) h)) ∧ ((x2 - x1) = (Int32.ofNat 2) → (∃ a1, r_0 = some a1 ∧ (gm_sub (hh_tg h a1) 12 = true ∧ (∀ r3, r3 = hh_r h a1 0 → (∃ a4, r3 = some a4 ∧ ((hh_tg h a4 = 101 ∨ hh_tg h a4 = 102) ∧ (∃ n5, gm_ix x1 n5 (hh_ln h a4) ∧ ((¬ (hh_i h a4 n5) = (Int32.ofNat 46) → (Q (.inl (some (.int (Int32.ofNat 0)))) h)) ∧ ((hh_i h a4 n5) = (Int32.ofNat 46) → (∀ r7, r7 = hh_r h a1 0 → (∃ a8, r7 = some a8 ∧ ((hh_tg h a8 = 101 ∨ hh_tg h a8 = 102) ∧ (∃ n9, gm_ix (x1 + (Int32.ofNat 1)) n9 (hh_ln h a8) ∧ ((¬ (hh_i h a8 n9) = (Int32.ofNat 46) → (Q (.inl (some (.int (Int32.ofNat 0)))) h)) ∧ ((hh_i h a8 n9) = (Int32.ofNat 46) → (gm_G 7 49 [] [] h Q))))))))))))))))) : gm_G 7 18 [some (va_rf r_0), some (.int x1), some (.int x2)] [] h Q := by
  refine g_iload rfl rfl rfl (pc' := 19) ?_
  refine g_iload rfl rfl rfl (pc' := 20) ?_
  refine g_isub rfl rfl (pc' := 21) ?_
  refine g_iconst rfl rfl rfl (pc' := 22) ?_
  refine g_ic_ne rfl (pc' := 25) (pt := 53) rfl rfl ⟨fun hc => ?_, fun hc => ?_⟩
  · replace H := H.1 hc
    refine g_iconst rfl rfl rfl (pc' := 54) ?_
    exact g_ireturn rfl (Or.inr (by decide)) H
  · replace H := H.2 hc
    refine g_aload (r := _) rfl rfl rfl (pc' := 26) ?_
    obtain ⟨a1, rfl, H⟩ := H
    obtain ⟨ht2, H⟩ := H
    refine g_getRv rfl rfl rfl rfl ht2 (pc' := 29) rfl (fun r3 hr3 => ?_)
    replace H := H r3 hr3
    refine g_iload rfl rfl rfl (pc' := 30) ?_
    obtain ⟨a4, rfl, H⟩ := H
    obtain ⟨ht6, H⟩ := H
    obtain ⟨n5, hn5, H⟩ := H
    refine g_baload rfl ht6 hn5 (pc' := 31) rfl ?_
    refine g_iconst rfl rfl rfl (pc' := 33) ?_
    refine g_ic_ne rfl (pc' := 36) (pt := 53) rfl rfl ⟨fun hc => ?_, fun hc => ?_⟩
    · replace H := H.1 hc
      refine g_iconst rfl rfl rfl (pc' := 54) ?_
      exact g_ireturn rfl (Or.inr (by decide)) H
    · replace H := H.2 hc
      refine g_aload (r := some _) rfl rfl rfl (pc' := 37) ?_
      refine g_getRv rfl rfl rfl rfl ht2 (pc' := 40) rfl (fun r7 hr7 => ?_)
      replace H := H r7 hr7
      refine g_iload rfl rfl rfl (pc' := 41) ?_
      refine g_iconst rfl rfl rfl (pc' := 42) ?_
      refine g_iadd rfl rfl (pc' := 43) ?_
      obtain ⟨a8, rfl, H⟩ := H
      obtain ⟨ht10, H⟩ := H
      obtain ⟨n9, hn9, H⟩ := H
      refine g_baload rfl ht10 hn9 (pc' := 44) rfl ?_
      refine g_iconst rfl rfl rfl (pc' := 46) ?_
      refine g_ic_ne rfl (pc' := 49) (pt := 53) rfl rfl ⟨fun hc => ?_, fun hc => ?_⟩
      · replace H := H.1 hc
        refine g_iconst rfl rfl rfl (pc' := 54) ?_
        exact g_ireturn rfl (Or.inr (by decide)) H
      · replace H := H.2 hc
        exact g_weak (show gm_Lle [] _ from trivial) H
set_option maxRecDepth 20000 in
theorem w_7_49   {h : hh_T} {Q : Option Value ⊕ Nat → hh_T → Prop} (H : Q (.inl (some (.int (Int32.ofNat 1)))) h) : gm_G 7 49 [] [] h Q := by
  refine g_iconst rfl rfl rfl (pc' := 50) ?_
  refine g_goto rfl (pc' := 54) rfl ?_
  exact g_ireturn rfl (Or.inr (by decide)) H
set_option maxRecDepth 20000 in
theorem w_8_0 {a0 : Nat} {x1 : Int32} {x2 : Int32} {h : hh_T} {Q : Option Value ⊕ Nat → hh_T → Prop} (H : gm_sub (hh_tg h a0) 0 = true ∧ (∀ r2, r2 = hh_r h a0 43 → (∃ a3, r2 = some a3 ∧ ((hh_tg h a3 = 101 ∨ hh_tg h a3 = 102) ∧ (∃ n4, gm_ix (((Int32.ofNat 8) * x1) + x2) n4 (hh_ln h a3) ∧ (((hh_i h a3 n4) = 0 ∨ (hh_i h a3 n4) = 1) ∧ Q (.inl (some (.int (hh_i h a3 n4)))) h)))))) : gm_G 8 0 [some (.ref a0), some (.int x1), some (.int x2)] [] h Q := by
  refine g_aload (r := some _) rfl rfl rfl (pc' := 1) ?_
  obtain ⟨ht1, H⟩ := H
  refine g_getRv rfl rfl rfl rfl ht1 (pc' := 4) rfl (fun r2 hr2 => ?_)
  replace H := H r2 hr2
  refine g_iconst rfl rfl rfl (pc' := 6) ?_
  refine g_iload rfl rfl rfl (pc' := 7) ?_
  refine g_imul rfl rfl (pc' := 8) ?_
  refine g_iload rfl rfl rfl (pc' := 9) ?_
  refine g_iadd rfl rfl (pc' := 10) ?_
  obtain ⟨a3, rfl, H⟩ := H
  obtain ⟨ht5, H⟩ := H
  obtain ⟨n4, hn4, H⟩ := H
  refine g_baload rfl ht5 hn4 (pc' := 11) rfl ?_
  exact g_ireturn rfl (Or.inr H.1) H.2
set_option maxRecDepth 20000 in
theorem w_9_0 {a0 : Nat} {r_1 : Option Nat} {h : hh_T} {Q : Option Value ⊕ Nat → hh_T → Prop} (H : gm_sub (hh_tg h a0) 0 = true ∧ (((hh_i h a0 41) = Int32.ofNat 0 → (gm_G 9 18 [] [] h Q)) ∧ (¬ (hh_i h a0 41) = Int32.ofNat 0 → (∃ a2, r_1 = some a2 ∧ (gm_sub (hh_tg h a2) 25 = true ∧ ((¬ (hh_i h a0 41) = (hh_i h a2 3) → (Q (.inl (some (.int (Int32.ofNat 0)))) h)) ∧ ((hh_i h a0 41) = (hh_i h a2 3) → (gm_G 9 18 [] [] h Q)))))))) : gm_G 9 0 [some (.ref a0), some (va_rf r_1)] [] h Q := by
  refine g_aload (r := some _) rfl rfl rfl (pc' := 1) ?_
  obtain ⟨ht1, H⟩ := H
  refine g_getI rfl rfl rfl rfl ht1 (pc' := 4) rfl ?_
  refine g_if_eq rfl (pc' := 7) (pt := 18) rfl rfl ⟨fun hc => ?_, fun hc => ?_⟩
  · replace H := H.1 hc
    exact g_weak (show gm_Lle [] _ from trivial) H
  · replace H := H.2 hc
    refine g_aload (r := some _) rfl rfl rfl (pc' := 8) ?_
    refine g_getI rfl rfl rfl rfl ht1 (pc' := 11) rfl ?_
    refine g_aload (r := _) rfl rfl rfl (pc' := 12) ?_
    obtain ⟨a2, rfl, H⟩ := H
    obtain ⟨ht3, H⟩ := H
    refine g_getI rfl rfl rfl rfl ht3 (pc' := 15) rfl ?_
    refine g_ic_ne rfl (pc' := 18) (pt := 22) rfl rfl ⟨fun hc => ?_, fun hc => ?_⟩
    · replace H := H.1 hc
      refine g_iconst rfl rfl rfl (pc' := 23) ?_
      exact g_ireturn rfl (Or.inr (by decide)) H
    · replace H := H.2 hc
      exact g_weak (show gm_Lle [] _ from trivial) H
set_option maxRecDepth 20000 in
theorem w_9_18 {a0 : Nat}  {h : hh_T} {Q : Option Value ⊕ Nat → hh_T → Prop} (H : Q (.inl (some (.int (Int32.ofNat 1)))) h) : gm_G 9 18 [] [] h Q := by
  refine g_iconst rfl rfl rfl (pc' := 19) ?_
  refine g_goto rfl (pc' := 23) rfl ?_
  exact g_ireturn rfl (Or.inr (by decide)) H
set_option maxRecDepth 20000 in
theorem w_10_0  {x0 : Int32} {h : hh_T} {Q : Option Value ⊕ Nat → hh_T → Prop} (H : (x0 < (Int32.ofNat 97) → (gm_G 10 12 [some (.int x0)] [] h Q)) ∧ (¬ x0 < (Int32.ofNat 97) → ((¬ (Int32.ofNat 122) < x0 → (gm_G 10 42 [] [] h Q)) ∧ ((Int32.ofNat 122) < x0 → (gm_G 10 12 [some (.int x0)] [] h Q))))) : gm_G 10 0 [some (.int x0)] [] h Q := by
  refine g_iload rfl rfl rfl (pc' := 1) ?_
  refine g_iconst rfl rfl rfl (pc' := 3) ?_
  refine g_ic_lt rfl (pc' := 6) (pt := 12) rfl rfl ⟨fun hc => ?_, fun hc => ?_⟩
  · replace H := H.1 hc
    exact g_weak (show gm_Lle [some _] _ from ⟨rfl, trivial⟩) H
  · replace H := H.2 hc
    refine g_iload rfl rfl rfl (pc' := 7) ?_
    refine g_iconst rfl rfl rfl (pc' := 9) ?_
    refine g_ic_le rfl (pc' := 12) (pt := 42) rfl rfl ⟨fun hc => ?_, fun hc => ?_⟩
    · replace H := H.1 hc
      exact g_weak (show gm_Lle [] _ from trivial) H
    · replace H := H.2 hc
      exact g_weak (show gm_Lle [some _] _ from ⟨rfl, trivial⟩) H
set_option maxRecDepth 20000 in
theorem w_10_12  {x0 : Int32} {h : hh_T} {Q : Option Value ⊕ Nat → hh_T → Prop} (H : (x0 < (Int32.ofNat 48) → (gm_G 10 24 [some (.int x0)] [] h Q)) ∧ (¬ x0 < (Int32.ofNat 48) → ((¬ (Int32.ofNat 57) < x0 → (gm_G 10 42 [] [] h Q)) ∧ ((Int32.ofNat 57) < x0 → (gm_G 10 24 [some (.int x0)] [] h Q))))) : gm_G 10 12 [some (.int x0)] [] h Q := by
  refine g_iload rfl rfl rfl (pc' := 13) ?_
  refine g_iconst rfl rfl rfl (pc' := 15) ?_
  refine g_ic_lt rfl (pc' := 18) (pt := 24) rfl rfl ⟨fun hc => ?_, fun hc => ?_⟩
  · replace H := H.1 hc
    exact g_weak (show gm_Lle [some _] _ from ⟨rfl, trivial⟩) H
  · replace H := H.2 hc
    refine g_iload rfl rfl rfl (pc' := 19) ?_
    refine g_iconst rfl rfl rfl (pc' := 21) ?_
    refine g_ic_le rfl (pc' := 24) (pt := 42) rfl rfl ⟨fun hc => ?_, fun hc => ?_⟩
    · replace H := H.1 hc
      exact g_weak (show gm_Lle [] _ from trivial) H
    · replace H := H.2 hc
      exact g_weak (show gm_Lle [some _] _ from ⟨rfl, trivial⟩) H
set_option maxRecDepth 20000 in
theorem w_10_24  {x0 : Int32} {h : hh_T} {Q : Option Value ⊕ Nat → hh_T → Prop} (H : (x0 = (Int32.ofNat 45) → (gm_G 10 42 [] [] h Q)) ∧ (¬ x0 = (Int32.ofNat 45) → ((x0 = (Int32.ofNat 95) → (gm_G 10 42 [] [] h Q)) ∧ (¬ x0 = (Int32.ofNat 95) → ((¬ x0 = (Int32.ofNat 46) → (Q (.inl (some (.int (Int32.ofNat 0)))) h)) ∧ (x0 = (Int32.ofNat 46) → (gm_G 10 42 [] [] h Q))))))) : gm_G 10 24 [some (.int x0)] [] h Q := by
  refine g_iload rfl rfl rfl (pc' := 25) ?_
  refine g_iconst rfl rfl rfl (pc' := 27) ?_
  refine g_ic_eq rfl (pc' := 30) (pt := 42) rfl rfl ⟨fun hc => ?_, fun hc => ?_⟩
  · replace H := H.1 hc
    exact g_weak (show gm_Lle [] _ from trivial) H
  · replace H := H.2 hc
    refine g_iload rfl rfl rfl (pc' := 31) ?_
    refine g_iconst rfl rfl rfl (pc' := 33) ?_
    refine g_ic_eq rfl (pc' := 36) (pt := 42) rfl rfl ⟨fun hc => ?_, fun hc => ?_⟩
    · replace H := H.1 hc
      exact g_weak (show gm_Lle [] _ from trivial) H
    · replace H := H.2 hc
      refine g_iload rfl rfl rfl (pc' := 37) ?_
      refine g_iconst rfl rfl rfl (pc' := 39) ?_
      refine g_ic_ne rfl (pc' := 42) (pt := 46) rfl rfl ⟨fun hc => ?_, fun hc => ?_⟩
      · replace H := H.1 hc
        refine g_iconst rfl rfl rfl (pc' := 47) ?_
        exact g_ireturn rfl (Or.inr (by decide)) H
      · replace H := H.2 hc
        exact g_weak (show gm_Lle [] _ from trivial) H
set_option maxRecDepth 20000 in
theorem w_10_42   {h : hh_T} {Q : Option Value ⊕ Nat → hh_T → Prop} (H : Q (.inl (some (.int (Int32.ofNat 1)))) h) : gm_G 10 42 [] [] h Q := by
  refine g_iconst rfl rfl rfl (pc' := 43) ?_
  refine g_goto rfl (pc' := 47) rfl ?_
  exact g_ireturn rfl (Or.inr (by decide)) H
set_option maxRecDepth 20000 in
theorem w_11_0  {r_0 : Option Nat} {r_1 : Option Nat} {h : hh_T} {Q : Option Value ⊕ Nat → hh_T → Prop} (H : ∃ a1, r_0 = some a1 ∧ (gm_sub (hh_tg h a1) 21 = true ∧ (((hh_i h a1 4) = Int32.ofNat 0 → (Q (.inl (some (.int (Int32.ofNat 0)))) h)) ∧ (¬ (hh_i h a1 4) = Int32.ofNat 0 → (∀ r3, r3 = hh_r h a1 5 → ((∀ a4, r3 = some a4 → (Q (.inl (some (.int (Int32.ofNat 0)))) h)) ∧ (r3 = none → (∃ a5, r_1 = some a5 ∧ (gm_sub (hh_tg h a5) 3 = true ∧ (((hh_i h a1 0) < (hh_i h a5 3) → (Q (.inl (some (.int (Int32.ofNat 0)))) h)) ∧ (¬ (hh_i h a1 0) < (hh_i h a5 3) → (Q (.inl (some (.int (Int32.ofNat 1)))) h)))))))))))) : gm_G 11 0 [some (va_rf r_0), some (va_rf r_1)] [] h Q := by
  refine g_aload (r := _) rfl rfl rfl (pc' := 1) ?_
  obtain ⟨a1, rfl, H⟩ := H
  obtain ⟨ht2, H⟩ := H
  refine g_getZ rfl rfl rfl rfl ht2 (pc' := 4) rfl ?_
  refine g_if_eq rfl (pc' := 7) (pt := 29) rfl rfl ⟨fun hc => ?_, fun hc => ?_⟩
  · replace H := H.1 hc
    refine g_iconst rfl rfl rfl (pc' := 30) ?_
    exact g_ireturn rfl (Or.inr (by decide)) H
  · replace H := H.2 hc
    refine g_aload (r := some _) rfl rfl rfl (pc' := 8) ?_
    refine g_getRv rfl rfl rfl rfl ht2 (pc' := 11) rfl (fun r3 hr3 => ?_)
    replace H := H r3 hr3
    refine g_ifnonnull rfl (pc' := 14) (pt := 29) rfl rfl ⟨fun a4 hc => ?_, fun hc => ?_⟩
    · replace H := H.1 a4 hc
      subst hc
      refine g_iconst rfl rfl rfl (pc' := 30) ?_
      exact g_ireturn rfl (Or.inr (by decide)) H
    · replace H := H.2 hc
      subst hc
      refine g_aload (r := some _) rfl rfl rfl (pc' := 15) ?_
      refine g_getI rfl rfl rfl rfl ht2 (pc' := 18) rfl ?_
      refine g_aload (r := _) rfl rfl rfl (pc' := 19) ?_
      obtain ⟨a5, rfl, H⟩ := H
      obtain ⟨ht6, H⟩ := H
      refine g_getI rfl rfl rfl rfl ht6 (pc' := 22) rfl ?_
      refine g_ic_lt rfl (pc' := 25) (pt := 29) rfl rfl ⟨fun hc => ?_, fun hc => ?_⟩
      · replace H := H.1 hc
        refine g_iconst rfl rfl rfl (pc' := 30) ?_
        exact g_ireturn rfl (Or.inr (by decide)) H
      · replace H := H.2 hc
        refine g_iconst rfl rfl rfl (pc' := 26) ?_
        refine g_goto rfl (pc' := 30) rfl ?_
        exact g_ireturn rfl (Or.inr (by decide)) H
set_option maxRecDepth 20000 in
theorem w_12_0  {r_0 : Option Nat} {x1 : Int32} {h : hh_T} {Q : Option Value ⊕ Nat → hh_T → Prop} (H : gm_G 12 2 [some (va_rf r_0), some (.int x1), some (.int (Int32.ofNat 0))] [] h Q) : gm_G 12 0 [some (va_rf r_0), some (.int x1)] [] h Q := by
  refine g_iconst rfl rfl rfl (pc' := 1) ?_
  refine g_istore rfl rfl rfl (pc' := 2) ?_
  exact g_weak (show gm_Lle [some _, some _, some _] _ from ⟨rfl, ⟨rfl, ⟨rfl, trivial⟩⟩⟩) H
set_option maxRecDepth 20000 in
theorem w_12_2  {r_0 : Option Nat} {x1 : Int32} {x2 : Int32} {h : hh_T} {Q : Option Value ⊕ Nat → hh_T → Prop} (H : (¬ x2 < (Int32.ofNat 32) → (Q (.inl (some (.int (Int32.ofNat 1)))) h)) ∧ (x2 < (Int32.ofNat 32) → (∃ a1, r_0 = some a1 ∧ ((hh_tg h a1 = 101 ∨ hh_tg h a1 = 102) ∧ (∃ n2, gm_ix (x1 + x2) n2 (hh_ln h a1) ∧ (((hh_i h a1 n2) = Int32.ofNat 0 → (gm_G 12 2 [some (.ref a1), some (.int x1), some (.int (x2 + (Int32.ofNat 1)))] [] h Q)) ∧ (¬ (hh_i h a1 n2) = Int32.ofNat 0 → (Q (.inl (some (.int (Int32.ofNat 0)))) h)))))))) : gm_G 12 2 [some (va_rf r_0), some (.int x1), some (.int x2)] [] h Q := by
  refine g_iload rfl rfl rfl (pc' := 3) ?_
  refine g_iconst rfl rfl rfl (pc' := 5) ?_
  refine g_ic_ge rfl (pc' := 8) (pt := 24) rfl rfl ⟨fun hc => ?_, fun hc => ?_⟩
  · replace H := H.1 hc
    refine g_iconst rfl rfl rfl (pc' := 25) ?_
    exact g_ireturn rfl (Or.inr (by decide)) H
  · replace H := H.2 hc
    refine g_aload (r := _) rfl rfl rfl (pc' := 9) ?_
    refine g_iload rfl rfl rfl (pc' := 10) ?_
    refine g_iload rfl rfl rfl (pc' := 11) ?_
    refine g_iadd rfl rfl (pc' := 12) ?_
    obtain ⟨a1, rfl, H⟩ := H
    obtain ⟨ht3, H⟩ := H
    obtain ⟨n2, hn2, H⟩ := H
    refine g_baload rfl ht3 hn2 (pc' := 13) rfl ?_
    refine g_if_eq rfl (pc' := 16) (pt := 18) rfl rfl ⟨fun hc => ?_, fun hc => ?_⟩
    · replace H := H.1 hc
      refine g_iinc (c := (Int32.ofNat 1)) rfl rfl rfl rfl rfl (pc' := 21) ?_
      refine g_goto rfl (pc' := 2) rfl ?_
      exact g_weak (show gm_Lle [some _, some _, some _] _ from ⟨rfl, ⟨rfl, ⟨rfl, trivial⟩⟩⟩) H
    · replace H := H.2 hc
      refine g_iconst rfl rfl rfl (pc' := 17) ?_
      exact g_ireturn rfl (Or.inr (by decide)) H
set_option maxRecDepth 20000 in
theorem w_13_0  {r_0 : Option Nat} {x1 : Int32} {x2 : Int32} {h : hh_T} {Q : Option Value ⊕ Nat → hh_T → Prop} (H : gm_G 13 2 [some (va_rf r_0), some (.int x1), none, some (.int x2)] [] h Q) : gm_G 13 0 [some (va_rf r_0), some (.int x1), some (.int x2)] [] h Q := by
  refine g_iload rfl rfl rfl (pc' := 1) ?_
  refine g_istore rfl rfl rfl (pc' := 2) ?_
  exact g_weak (show gm_Lle [some _, some _, none, some _] _ from ⟨rfl, ⟨rfl, ⟨rfl, trivial⟩⟩⟩) H
set_option maxRecDepth 20000 in
theorem w_13_2  {r_0 : Option Nat} {x1 : Int32} {x3 : Int32} {h : hh_T} {Q : Option Value ⊕ Nat → hh_T → Prop} (H : (¬ x1 < x3 → (gm_G 13 26 [none, none, none, some (.int x3)] [] h Q)) ∧ (x1 < x3 → (∃ a1, r_0 = some a1 ∧ (gm_sub (hh_tg h a1) 12 = true ∧ (∀ r3, r3 = hh_r h a1 0 → (∃ a4, r3 = some a4 ∧ ((hh_tg h a4 = 101 ∨ hh_tg h a4 = 102) ∧ (∃ n5, gm_ix (x3 - (Int32.ofNat 1)) n5 (hh_ln h a4) ∧ (((hh_i h a4 n5) = (Int32.ofNat 47) → (gm_G 13 26 [none, none, none, some (.int x3)] [] h Q)) ∧ (¬ (hh_i h a4 n5) = (Int32.ofNat 47) → (gm_G 13 2 [some (.ref a1), some (.int x1), none, some (.int (x3 + (Int32.ofInt (-1))))] [] h Q))))))))))) : gm_G 13 2 [some (va_rf r_0), some (.int x1), none, some (.int x3)] [] h Q := by
  refine g_iload rfl rfl rfl (pc' := 3) ?_
  refine g_iload rfl rfl rfl (pc' := 4) ?_
  refine g_ic_le rfl (pc' := 7) (pt := 26) rfl rfl ⟨fun hc => ?_, fun hc => ?_⟩
  · replace H := H.1 hc
    exact g_weak (show gm_Lle [none, none, none, some _] _ from ⟨rfl, trivial⟩) H
  · replace H := H.2 hc
    refine g_aload (r := _) rfl rfl rfl (pc' := 8) ?_
    obtain ⟨a1, rfl, H⟩ := H
    obtain ⟨ht2, H⟩ := H
    refine g_getRv rfl rfl rfl rfl ht2 (pc' := 11) rfl (fun r3 hr3 => ?_)
    replace H := H r3 hr3
    refine g_iload rfl rfl rfl (pc' := 12) ?_
    refine g_iconst rfl rfl rfl (pc' := 13) ?_
    refine g_isub rfl rfl (pc' := 14) ?_
    obtain ⟨a4, rfl, H⟩ := H
    obtain ⟨ht6, H⟩ := H
    obtain ⟨n5, hn5, H⟩ := H
    refine g_baload rfl ht6 hn5 (pc' := 15) rfl ?_
    refine g_iconst rfl rfl rfl (pc' := 17) ?_
    refine g_ic_eq rfl (pc' := 20) (pt := 26) rfl rfl ⟨fun hc => ?_, fun hc => ?_⟩
    · replace H := H.1 hc
      exact g_weak (show gm_Lle [none, none, none, some _] _ from ⟨rfl, trivial⟩) H
    · replace H := H.2 hc
      refine g_iinc (c := (Int32.ofInt (-1))) rfl rfl rfl rfl rfl (pc' := 23) ?_
      refine g_goto rfl (pc' := 2) rfl ?_
      exact g_weak (show gm_Lle [some _, some _, none, some _] _ from ⟨rfl, ⟨rfl, ⟨rfl, trivial⟩⟩⟩) H
set_option maxRecDepth 20000 in
theorem w_13_26  {x3 : Int32} {h : hh_T} {Q : Option Value ⊕ Nat → hh_T → Prop} (H : Q (.inl (some (.int x3))) h) : gm_G 13 26 [none, none, none, some (.int x3)] [] h Q := by
  refine g_iload rfl rfl rfl (pc' := 27) ?_
  exact g_ireturn rfl (Or.inl rfl) H
set_option maxRecDepth 20000 in
theorem w_14_0  {j0 : Int64} {h : hh_T} {Q : Option Value ⊕ Nat → hh_T → Prop} (H : gm_G 14 2 [some (.long j0), none, some (.int (Int32.ofNat 0))] [] h Q) : gm_G 14 0 [some (.long j0), none] [] h Q := by
  refine g_iconst rfl rfl rfl (pc' := 1) ?_
  refine g_istore rfl rfl rfl (pc' := 2) ?_
  exact g_weak (show gm_Lle [some _, none, some _] _ from ⟨rfl, ⟨rfl, trivial⟩⟩) H
set_option maxRecDepth 20000 in
theorem w_14_2  {j0 : Int64} {x2 : Int32} {h : hh_T} {Q : Option Value ⊕ Nat → hh_T → Prop} (H : (¬ x2 < (Int32.ofNat 8) → (gm_G 14 32 [none, none, some (.int x2)] [] h Q)) ∧ (x2 < (Int32.ofNat 8) → (((lg_cmp ((j0 >>> (((Int32.ofNat 56) - ((Int32.ofNat 8) * x2)).toInt64 &&& 63)) &&& (Int64.ofNat 255)) (Int64.ofNat 0)) = Int32.ofNat 0 → (gm_G 14 32 [none, none, some (.int x2)] [] h Q)) ∧ (¬ (lg_cmp ((j0 >>> (((Int32.ofNat 56) - ((Int32.ofNat 8) * x2)).toInt64 &&& 63)) &&& (Int64.ofNat 255)) (Int64.ofNat 0)) = Int32.ofNat 0 → (gm_G 14 2 [some (.long j0), none, some (.int (x2 + (Int32.ofNat 1)))] [] h Q))))) : gm_G 14 2 [some (.long j0), none, some (.int x2)] [] h Q := by
  refine g_iload rfl rfl rfl (pc' := 3) ?_
  refine g_iconst rfl rfl rfl (pc' := 5) ?_
  refine g_ic_ge rfl (pc' := 8) (pt := 32) rfl rfl ⟨fun hc => ?_, fun hc => ?_⟩
  · replace H := H.1 hc
    exact g_weak (show gm_Lle [none, none, some _] _ from ⟨rfl, trivial⟩) H
  · replace H := H.2 hc
    refine g_lload rfl rfl rfl (pc' := 9) ?_
    refine g_iconst rfl rfl rfl (pc' := 11) ?_
    refine g_iconst rfl rfl rfl (pc' := 13) ?_
    refine g_iload rfl rfl rfl (pc' := 14) ?_
    refine g_imul rfl rfl (pc' := 15) ?_
    refine g_isub rfl rfl (pc' := 16) ?_
    refine g_lshr rfl rfl (pc' := 17) ?_
    refine g_lconst rfl rfl rfl (pc' := 20) ?_
    refine g_land rfl rfl (pc' := 21) ?_
    refine g_lconst rfl rfl rfl (pc' := 22) ?_
    refine g_lcmp rfl rfl (pc' := 23) ?_
    refine g_if_eq rfl (pc' := 26) (pt := 32) rfl rfl ⟨fun hc => ?_, fun hc => ?_⟩
    · replace H := H.1 hc
      exact g_weak (show gm_Lle [none, none, some _] _ from ⟨rfl, trivial⟩) H
    · replace H := H.2 hc
      refine g_iinc (c := (Int32.ofNat 1)) rfl rfl rfl rfl rfl (pc' := 29) ?_
      refine g_goto rfl (pc' := 2) rfl ?_
      exact g_weak (show gm_Lle [some _, none, some _] _ from ⟨rfl, ⟨rfl, trivial⟩⟩) H
set_option maxRecDepth 20000 in
theorem w_14_32  {x2 : Int32} {h : hh_T} {Q : Option Value ⊕ Nat → hh_T → Prop} (H : Q (.inl (some (.int x2))) h) : gm_G 14 32 [none, none, some (.int x2)] [] h Q := by
  refine g_iload rfl rfl rfl (pc' := 33) ?_
  exact g_ireturn rfl (Or.inl rfl) H
set_option maxRecDepth 20000 in
theorem w_15_0  {r_0 : Option Nat} {x1 : Int32} {h : hh_T} {Q : Option Value ⊕ Nat → hh_T → Prop} (H : gm_G 15 2 [some (va_rf r_0), some (.int x1), some (.int (Int32.ofNat 0))] [] h Q) : gm_G 15 0 [some (va_rf r_0), some (.int x1)] [] h Q := by
  refine g_iconst rfl rfl rfl (pc' := 1) ?_
  refine g_istore rfl rfl rfl (pc' := 2) ?_
  exact g_weak (show gm_Lle [some _, some _, some _] _ from ⟨rfl, ⟨rfl, ⟨rfl, trivial⟩⟩⟩) H
set_option maxRecDepth 20000 in
theorem w_15_2  {r_0 : Option Nat} {x1 : Int32} {x2 : Int32} {h : hh_T} {Q : Option Value ⊕ Nat → hh_T → Prop} (H : (¬ x2 < x1 → (Q (.inl none) h)) ∧ (x2 < x1 → (∃ a1, r_0 = some a1 ∧ (gm_sub (hh_tg h a1) 21 = true ∧ (∀ r3, r3 = hh_r h a1 3 → (∃ a4, r3 = some a4 ∧ (hh_tg h a4 = 102 ∧ (∃ n5, gm_ix x2 n5 (hh_ln h a4) ∧ (∀ h6, h6 = hh_wi h a4 n5 (Int32.ofNat 1) → (gm_G 15 2 [some (.ref a1), some (.int x1), some (.int (x2 + (Int32.ofNat 1)))] [] h6 Q)))))))))) : gm_G 15 2 [some (va_rf r_0), some (.int x1), some (.int x2)] [] h Q := by
  refine g_iload rfl rfl rfl (pc' := 3) ?_
  refine g_iload rfl rfl rfl (pc' := 4) ?_
  refine g_ic_ge rfl (pc' := 7) (pt := 20) rfl rfl ⟨fun hc => ?_, fun hc => ?_⟩
  · replace H := H.1 hc
    exact g_return rfl H
  · replace H := H.2 hc
    refine g_aload (r := _) rfl rfl rfl (pc' := 8) ?_
    obtain ⟨a1, rfl, H⟩ := H
    obtain ⟨ht2, H⟩ := H
    refine g_getRv rfl rfl rfl rfl ht2 (pc' := 11) rfl (fun r3 hr3 => ?_)
    replace H := H r3 hr3
    refine g_iload rfl rfl rfl (pc' := 12) ?_
    refine g_iconst rfl rfl rfl (pc' := 13) ?_
    obtain ⟨a4, rfl, H⟩ := H
    obtain ⟨ht7, H⟩ := H
    obtain ⟨n5, hn5, H⟩ := H
    refine g_zastore rfl ht7 hn5 (by decide) (pc' := 14) rfl ?_
    replace H := H _ rfl
    refine g_iinc (c := (Int32.ofNat 1)) rfl rfl rfl rfl rfl (pc' := 17) ?_
    refine g_goto rfl (pc' := 2) rfl ?_
    exact g_weak (show gm_Lle [some _, some _, some _] _ from ⟨rfl, ⟨rfl, ⟨rfl, trivial⟩⟩⟩) H
set_option maxRecDepth 20000 in
theorem w_16_0  {r_0 : Option Nat} {r_1 : Option Nat} {x2 : Int32} {x3 : Int32} {x4 : Int32} {h : hh_T} {Q : Option Value ⊕ Nat → hh_T → Prop} (H : ∃ a1, r_0 = some a1 ∧ (gm_sub (hh_tg h a1) 25 = true ∧ ((¬ (((((hh_i h a1 6) + (Int32.ofNat 32)) - (Int32.ofNat 1)) / (Int32.ofNat 32)) * (Int32.ofNat 32)) < ((Int32.ofNat 32) * (x2 + x4)) → ((((hh_i h a1 6) - (hh_i h a1 6) / (Int32.ofNat 32) * (Int32.ofNat 32)) = Int32.ofNat 0 → (gm_G 16 55 [none, some (va_rf r_1), none, some (.int x3), some (.int x4)] [] h Q)) ∧ (¬ ((hh_i h a1 6) - (hh_i h a1 6) / (Int32.ofNat 32) * (Int32.ofNat 32)) = Int32.ofNat 0 → ((¬ (hh_i h a1 6) < ((Int32.ofNat 32) * (x2 + x4)) → (gm_G 16 55 [none, some (va_rf r_1), none, some (.int x3), some (.int x4)] [] h Q)) ∧ ((hh_i h a1 6) < ((Int32.ofNat 32) * (x2 + x4)) → (gm_G 16 56 [none, some (va_rf r_1), none, some (.int x3), some (.int x4)] [.int (Int32.ofNat 1)] h Q)))))) ∧ ((((((hh_i h a1 6) + (Int32.ofNat 32)) - (Int32.ofNat 1)) / (Int32.ofNat 32)) * (Int32.ofNat 32)) < ((Int32.ofNat 32) * (x2 + x4)) → (Q (.inl (some (.int (Int32.ofNat 0)))) h))))) : gm_G 16 0 [some (va_rf r_0), some (va_rf r_1), some (.int x2), some (.int x3), some (.int x4)] [] h Q := by
  refine g_iconst rfl rfl rfl (pc' := 2) ?_
  refine g_iload rfl rfl rfl (pc' := 3) ?_
  refine g_iload rfl rfl rfl (pc' := 5) ?_
  refine g_iadd rfl rfl (pc' := 6) ?_
  refine g_imul rfl rfl (pc' := 7) ?_
  refine g_aload (r := _) rfl rfl rfl (pc' := 8) ?_
  obtain ⟨a1, rfl, H⟩ := H
  obtain ⟨ht2, H⟩ := H
  refine g_getI rfl rfl rfl rfl ht2 (pc' := 11) rfl ?_
  refine g_iconst rfl rfl rfl (pc' := 13) ?_
  refine g_iadd rfl rfl (pc' := 14) ?_
  refine g_iconst rfl rfl rfl (pc' := 15) ?_
  refine g_isub rfl rfl (pc' := 16) ?_
  refine g_iconst rfl rfl rfl (pc' := 18) ?_
  refine g_idiv rfl (by decide) (pc' := 19) rfl ?_
  refine g_iconst rfl rfl rfl (pc' := 21) ?_
  refine g_imul rfl rfl (pc' := 22) ?_
  refine g_ic_le rfl (pc' := 25) (pt := 27) rfl rfl ⟨fun hc => ?_, fun hc => ?_⟩
  · replace H := H.1 hc
    refine g_aload (r := some _) rfl rfl rfl (pc' := 28) ?_
    refine g_getI rfl rfl rfl rfl ht2 (pc' := 31) rfl ?_
    refine g_iconst rfl rfl rfl (pc' := 33) ?_
    refine g_irem rfl (by decide) (pc' := 34) rfl ?_
    refine g_if_eq rfl (pc' := 37) (pt := 55) rfl rfl ⟨fun hc => ?_, fun hc => ?_⟩
    · replace H := H.1 hc
      exact g_weak (show gm_Lle [none, some _, none, some _, some _] _ from ⟨rfl, ⟨rfl, ⟨rfl, trivial⟩⟩⟩) H
    · replace H := H.2 hc
      refine g_iconst rfl rfl rfl (pc' := 39) ?_
      refine g_iload rfl rfl rfl (pc' := 40) ?_
      refine g_iload rfl rfl rfl (pc' := 42) ?_
      refine g_iadd rfl rfl (pc' := 43) ?_
      refine g_imul rfl rfl (pc' := 44) ?_
      refine g_aload (r := some _) rfl rfl rfl (pc' := 45) ?_
      refine g_getI rfl rfl rfl rfl ht2 (pc' := 48) rfl ?_
      refine g_ic_le rfl (pc' := 51) (pt := 55) rfl rfl ⟨fun hc => ?_, fun hc => ?_⟩
      · replace H := H.1 hc
        exact g_weak (show gm_Lle [none, some _, none, some _, some _] _ from ⟨rfl, ⟨rfl, ⟨rfl, trivial⟩⟩⟩) H
      · replace H := H.2 hc
        refine g_iconst rfl rfl rfl (pc' := 52) ?_
        refine g_goto rfl (pc' := 56) rfl ?_
        exact g_weak (show gm_Lle [none, some _, none, some _, some _] _ from ⟨rfl, ⟨rfl, ⟨rfl, trivial⟩⟩⟩) H
  · replace H := H.2 hc
    refine g_iconst rfl rfl rfl (pc' := 26) ?_
    exact g_ireturn rfl (Or.inr (by decide)) H
set_option maxRecDepth 20000 in
theorem w_16_55  {r_1 : Option Nat} {x3 : Int32} {x4 : Int32} {h : hh_T} {Q : Option Value ⊕ Nat → hh_T → Prop} (H : gm_G 16 56 [none, some (va_rf r_1), none, some (.int x3), some (.int x4)] [.int (Int32.ofNat 0)] h Q) : gm_G 16 55 [none, some (va_rf r_1), none, some (.int x3), some (.int x4)] [] h Q := by
  refine g_iconst rfl rfl rfl (pc' := 56) ?_
  exact g_weak (show gm_Lle [none, some _, none, some _, some _] _ from ⟨rfl, ⟨rfl, ⟨rfl, trivial⟩⟩⟩) H
set_option maxRecDepth 20000 in
theorem w_16_56  {r_1 : Option Nat} {x3 : Int32} {x4 : Int32} {y0 : Int32} {h : hh_T} {Q : Option Value ⊕ Nat → hh_T → Prop} (H : (y0 = Int32.ofNat 0 → (gm_G 16 77 [] [] h Q)) ∧ (¬ y0 = Int32.ofNat 0 → (∃ a1, r_1 = some a1 ∧ (gm_sub (hh_tg h a1) 25 = true ∧ ((((Int32.ofNat 32) * (x3 + x4)) < (hh_i h a1 6) → (Q (.inl (some (.int (Int32.ofNat 0)))) h)) ∧ (¬ ((Int32.ofNat 32) * (x3 + x4)) < (hh_i h a1 6) → (gm_G 16 77 [] [] h Q))))))) : gm_G 16 56 [none, some (va_rf r_1), none, some (.int x3), some (.int x4)] [.int y0] h Q := by
  refine g_istore rfl rfl rfl (pc' := 58) ?_
  refine g_iload rfl rfl rfl (pc' := 60) ?_
  refine g_if_eq rfl (pc' := 63) (pt := 77) rfl rfl ⟨fun hc => ?_, fun hc => ?_⟩
  · replace H := H.1 hc
    exact g_weak (show gm_Lle [] _ from trivial) H
  · replace H := H.2 hc
    refine g_iconst rfl rfl rfl (pc' := 65) ?_
    refine g_iload rfl rfl rfl (pc' := 66) ?_
    refine g_iload rfl rfl rfl (pc' := 68) ?_
    refine g_iadd rfl rfl (pc' := 69) ?_
    refine g_imul rfl rfl (pc' := 70) ?_
    refine g_aload (r := _) rfl rfl rfl (pc' := 71) ?_
    obtain ⟨a1, rfl, H⟩ := H
    obtain ⟨ht2, H⟩ := H
    refine g_getI rfl rfl rfl rfl ht2 (pc' := 74) rfl ?_
    refine g_ic_lt rfl (pc' := 77) (pt := 81) rfl rfl ⟨fun hc => ?_, fun hc => ?_⟩
    · replace H := H.1 hc
      refine g_iconst rfl rfl rfl (pc' := 82) ?_
      exact g_ireturn rfl (Or.inr (by decide)) H
    · replace H := H.2 hc
      exact g_weak (show gm_Lle [] _ from trivial) H
set_option maxRecDepth 20000 in
theorem w_16_77   {h : hh_T} {Q : Option Value ⊕ Nat → hh_T → Prop} (H : Q (.inl (some (.int (Int32.ofNat 1)))) h) : gm_G 16 77 [] [] h Q := by
  refine g_iconst rfl rfl rfl (pc' := 78) ?_
  refine g_goto rfl (pc' := 82) rfl ?_
  exact g_ireturn rfl (Or.inr (by decide)) H
set_option maxRecDepth 20000 in
theorem w_17_0 {a0 : Nat}  {h : hh_T} {Q : Option Value ⊕ Nat → hh_T → Prop} (H : gm_G 17 2 [some (.ref a0), some (.int (Int32.ofNat 0))] [] h Q) : gm_G 17 0 [some (.ref a0)] [] h Q := by
  refine g_iconst rfl rfl rfl (pc' := 1) ?_
  refine g_istore rfl rfl rfl (pc' := 2) ?_
  exact g_weak (show gm_Lle [some _, some _] _ from ⟨rfl, ⟨rfl, trivial⟩⟩) H
set_option maxRecDepth 20000 in
theorem w_17_2 {a0 : Nat} {x1 : Int32} {h : hh_T} {Q : Option Value ⊕ Nat → hh_T → Prop} (H : gm_sub (hh_tg h a0) 0 = true ∧ (∀ r2, r2 = hh_r h a0 58 → (∃ a3, r2 = some a3 ∧ (gm_sub (hh_tg h a3) 12 = true ∧ ((¬ x1 < (hh_i h a3 1) → (Q (.inl (some (.int (Int32.ofInt (-1))))) h)) ∧ (x1 < (hh_i h a3 1) → (∀ r5, r5 = hh_r h a0 58 → (∃ a6, r5 = some a6 ∧ (gm_sub (hh_tg h a6) 12 = true ∧ (∀ r8, r8 = hh_r h a6 0 → (∃ a9, r8 = some a9 ∧ ((hh_tg h a9 = 101 ∨ hh_tg h a9 = 102) ∧ (∃ n10, gm_ix x1 n10 (hh_ln h a9) ∧ ((¬ (hh_i h a9 n10) = (Int32.ofNat 32) → (gm_G 17 2 [some (.ref a0), some (.int (x1 + (Int32.ofNat 1)))] [] h Q)) ∧ ((hh_i h a9 n10) = (Int32.ofNat 32) → (Q (.inl (some (.int x1))) h)))))))))))))))) : gm_G 17 2 [some (.ref a0), some (.int x1)] [] h Q := by
  refine g_iload rfl rfl rfl (pc' := 3) ?_
  refine g_aload (r := some _) rfl rfl rfl (pc' := 4) ?_
  obtain ⟨ht1, H⟩ := H
  refine g_getRv rfl rfl rfl rfl ht1 (pc' := 7) rfl (fun r2 hr2 => ?_)
  replace H := H r2 hr2
  obtain ⟨a3, rfl, H⟩ := H
  obtain ⟨ht4, H⟩ := H
  refine g_getI rfl rfl rfl rfl ht4 (pc' := 10) rfl ?_
  refine g_ic_ge rfl (pc' := 13) (pt := 35) rfl rfl ⟨fun hc => ?_, fun hc => ?_⟩
  · replace H := H.1 hc
    refine g_iconst rfl rfl rfl (pc' := 36) ?_
    exact g_ireturn rfl (Or.inl rfl) H
  · replace H := H.2 hc
    refine g_aload (r := some _) rfl rfl rfl (pc' := 14) ?_
    refine g_getRv rfl rfl rfl rfl ht1 (pc' := 17) rfl (fun r5 hr5 => ?_)
    replace H := H r5 hr5
    obtain ⟨a6, rfl, H⟩ := H
    obtain ⟨ht7, H⟩ := H
    refine g_getRv rfl rfl rfl rfl ht7 (pc' := 20) rfl (fun r8 hr8 => ?_)
    replace H := H r8 hr8
    refine g_iload rfl rfl rfl (pc' := 21) ?_
    obtain ⟨a9, rfl, H⟩ := H
    obtain ⟨ht11, H⟩ := H
    obtain ⟨n10, hn10, H⟩ := H
    refine g_baload rfl ht11 hn10 (pc' := 22) rfl ?_
    refine g_iconst rfl rfl rfl (pc' := 24) ?_
    refine g_ic_ne rfl (pc' := 27) (pt := 29) rfl rfl ⟨fun hc => ?_, fun hc => ?_⟩
    · replace H := H.1 hc
      refine g_iinc (c := (Int32.ofNat 1)) rfl rfl rfl rfl rfl (pc' := 32) ?_
      refine g_goto rfl (pc' := 2) rfl ?_
      exact g_weak (show gm_Lle [some _, some _] _ from ⟨rfl, ⟨rfl, trivial⟩⟩) H
    · replace H := H.2 hc
      refine g_iload rfl rfl rfl (pc' := 28) ?_
      exact g_ireturn rfl (Or.inl rfl) H
set_option maxRecDepth 20000 in
theorem w_18_0  {r_0 : Option Nat} {x1 : Int32} {x2 : Int32} {h : hh_T} {Q : Option Value ⊕ Nat → hh_T → Prop} (H : gm_G 18 2 [some (va_rf r_0), none, some (.int x2), some (.int x1)] [] h Q) : gm_G 18 0 [some (va_rf r_0), some (.int x1), some (.int x2)] [] h Q := by
  refine g_iload rfl rfl rfl (pc' := 1) ?_
  refine g_istore rfl rfl rfl (pc' := 2) ?_
  exact g_weak (show gm_Lle [some _, none, some _, some _] _ from ⟨rfl, ⟨rfl, ⟨rfl, trivial⟩⟩⟩) H
set_option maxRecDepth 20000 in
theorem w_18_2  {r_0 : Option Nat} {x2 : Int32} {x3 : Int32} {h : hh_T} {Q : Option Value ⊕ Nat → hh_T → Prop} (H : (¬ x3 < x2 → (gm_G 18 24 [none, none, none, some (.int x3)] [] h Q)) ∧ (x3 < x2 → (∃ a1, r_0 = some a1 ∧ (gm_sub (hh_tg h a1) 12 = true ∧ (∀ r3, r3 = hh_r h a1 0 → (∃ a4, r3 = some a4 ∧ ((hh_tg h a4 = 101 ∨ hh_tg h a4 = 102) ∧ (∃ n5, gm_ix x3 n5 (hh_ln h a4) ∧ (((hh_i h a4 n5) = (Int32.ofNat 47) → (gm_G 18 24 [none, none, none, some (.int x3)] [] h Q)) ∧ (¬ (hh_i h a4 n5) = (Int32.ofNat 47) → (gm_G 18 2 [some (.ref a1), none, some (.int x2), some (.int (x3 + (Int32.ofNat 1)))] [] h Q))))))))))) : gm_G 18 2 [some (va_rf r_0), none, some (.int x2), some (.int x3)] [] h Q := by
  refine g_iload rfl rfl rfl (pc' := 3) ?_
  refine g_iload rfl rfl rfl (pc' := 4) ?_
  refine g_ic_ge rfl (pc' := 7) (pt := 24) rfl rfl ⟨fun hc => ?_, fun hc => ?_⟩
  · replace H := H.1 hc
    exact g_weak (show gm_Lle [none, none, none, some _] _ from ⟨rfl, trivial⟩) H
  · replace H := H.2 hc
    refine g_aload (r := _) rfl rfl rfl (pc' := 8) ?_
    obtain ⟨a1, rfl, H⟩ := H
    obtain ⟨ht2, H⟩ := H
    refine g_getRv rfl rfl rfl rfl ht2 (pc' := 11) rfl (fun r3 hr3 => ?_)
    replace H := H r3 hr3
    refine g_iload rfl rfl rfl (pc' := 12) ?_
    obtain ⟨a4, rfl, H⟩ := H
    obtain ⟨ht6, H⟩ := H
    obtain ⟨n5, hn5, H⟩ := H
    refine g_baload rfl ht6 hn5 (pc' := 13) rfl ?_
    refine g_iconst rfl rfl rfl (pc' := 15) ?_
    refine g_ic_eq rfl (pc' := 18) (pt := 24) rfl rfl ⟨fun hc => ?_, fun hc => ?_⟩
    · replace H := H.1 hc
      exact g_weak (show gm_Lle [none, none, none, some _] _ from ⟨rfl, trivial⟩) H
    · replace H := H.2 hc
      refine g_iinc (c := (Int32.ofNat 1)) rfl rfl rfl rfl rfl (pc' := 21) ?_
      refine g_goto rfl (pc' := 2) rfl ?_
      exact g_weak (show gm_Lle [some _, none, some _, some _] _ from ⟨rfl, ⟨rfl, ⟨rfl, trivial⟩⟩⟩) H
set_option maxRecDepth 20000 in
theorem w_18_24  {x3 : Int32} {h : hh_T} {Q : Option Value ⊕ Nat → hh_T → Prop} (H : Q (.inl (some (.int x3))) h) : gm_G 18 24 [none, none, none, some (.int x3)] [] h Q := by
  refine g_iload rfl rfl rfl (pc' := 25) ?_
  exact g_ireturn rfl (Or.inl rfl) H
set_option maxRecDepth 20000 in
theorem w_19_0 {a0 : Nat} {r_1 : Option Nat} {h : hh_T} {Q : Option Value ⊕ Nat → hh_T → Prop} (H : gm_sub (hh_tg h a0) 0 = true ∧ (∀ r2, r2 = hh_r h a0 30 → (∃ a3, r_1 = some a3 ∧ (gm_sub (hh_tg h a3) 31 = true ∧ (∀ h5, h5 = hh_wr h a3 9 r2 → (∀ h6, h6 = hh_wr h5 a0 30 (some a3) → (Q (.inl none) h6))))))) : gm_G 19 0 [some (.ref a0), some (va_rf r_1)] [] h Q := by
  refine g_aload (r := _) rfl rfl rfl (pc' := 1) ?_
  refine g_aload (r := some _) rfl rfl rfl (pc' := 2) ?_
  obtain ⟨ht1, H⟩ := H
  refine g_getRv rfl rfl rfl rfl ht1 (pc' := 5) rfl (fun r2 hr2 => ?_)
  replace H := H r2 hr2
  obtain ⟨a3, rfl, H⟩ := H
  obtain ⟨ht4, H⟩ := H
  refine g_putR rfl rfl rfl rfl ht4  (pc' := 8) rfl ?_
  replace H := H _ rfl
  refine g_aload (r := some _) rfl rfl rfl (pc' := 9) ?_
  refine g_aload (r := some _) rfl rfl rfl (pc' := 10) ?_
  refine g_putR (x := some _) rfl rfl rfl rfl ht1  (pc' := 13) rfl ?_
  replace H := H _ rfl
  exact g_return rfl H
set_option maxRecDepth 20000 in
theorem w_20_0  {x0 : Int32} {h : hh_T} {Q : Option Value ⊕ Nat → hh_T → Prop} (H : (¬ x0 = (Int32.ofNat 2) → ((¬ x0 = (Int32.ofNat 3) → (Q (.inl (some (.int (Int32.ofNat 0)))) h)) ∧ (x0 = (Int32.ofNat 3) → (Q (.inl (some (.int (Int32.ofNat 2)))) h)))) ∧ (x0 = (Int32.ofNat 2) → (Q (.inl (some (.int (Int32.ofNat 1)))) h))) : gm_G 20 0 [some (.int x0)] [] h Q := by
  refine g_iload rfl rfl rfl (pc' := 1) ?_
  refine g_iconst rfl rfl rfl (pc' := 2) ?_
  refine g_ic_ne rfl (pc' := 5) (pt := 9) rfl rfl ⟨fun hc => ?_, fun hc => ?_⟩
  · replace H := H.1 hc
    refine g_iload rfl rfl rfl (pc' := 10) ?_
    refine g_iconst rfl rfl rfl (pc' := 11) ?_
    refine g_ic_ne rfl (pc' := 14) (pt := 18) rfl rfl ⟨fun hc => ?_, fun hc => ?_⟩
    · replace H := H.1 hc
      refine g_iconst rfl rfl rfl (pc' := 19) ?_
      exact g_ireturn rfl (Or.inl rfl) H
    · replace H := H.2 hc
      refine g_iconst rfl rfl rfl (pc' := 15) ?_
      refine g_goto rfl (pc' := 19) rfl ?_
      exact g_ireturn rfl (Or.inl rfl) H
  · replace H := H.2 hc
    refine g_iconst rfl rfl rfl (pc' := 6) ?_
    refine g_goto rfl (pc' := 19) rfl ?_
    exact g_ireturn rfl (Or.inl rfl) H
set_option maxRecDepth 20000 in
theorem w_21_0  {j0 : Int64} {x2 : Int32} {h : hh_T} {Q : Option Value ⊕ Nat → hh_T → Prop} (H : Q (.inl (some (.long ((((j0 ^^^ ((x2.toInt64) &&& (Int64.ofNat 255))) <<< ((Int32.ofNat 11).toInt64 &&& 63)) ||| (((j0 ^^^ ((x2.toInt64) &&& (Int64.ofNat 255))).toUInt64 >>> ((Int32.ofNat 53).toInt64.toUInt64 &&& Int64.toUInt64 63)).toInt64)) * (Int64.ofNat 2654435761))))) h) : gm_G 21 0 [some (.long j0), none, some (.int x2)] [] h Q := by
  refine g_lload rfl rfl rfl (pc' := 1) ?_
  refine g_iload rfl rfl rfl (pc' := 2) ?_
  refine g_i2l rfl rfl (pc' := 3) ?_
  refine g_lconst rfl rfl rfl (pc' := 6) ?_
  refine g_land rfl rfl (pc' := 7) ?_
  refine g_lxor rfl rfl (pc' := 8) ?_
  refine g_lstore rfl rfl rfl (pc' := 9) ?_
  refine g_lload rfl rfl rfl (pc' := 10) ?_
  refine g_iconst rfl rfl rfl (pc' := 12) ?_
  refine g_lshl rfl rfl (pc' := 13) ?_
  refine g_lload rfl rfl rfl (pc' := 14) ?_
  refine g_iconst rfl rfl rfl (pc' := 16) ?_
  refine g_lushr rfl rfl (pc' := 17) ?_
  refine g_lor rfl rfl (pc' := 18) ?_
  refine g_lconst rfl rfl rfl (pc' := 21) ?_
  refine g_lmul rfl rfl (pc' := 22) ?_
  exact g_lreturn rfl H
set_option maxRecDepth 20000 in
theorem w_22_0 {a0 : Nat} {r_1 : Option Nat} {h : hh_T} {Q : Option Value ⊕ Nat → hh_T → Prop} (H : gm_sub (hh_tg h a0) 1 = true ∧ (∀ h2, h2 = hh_wr h a0 5 r_1 → (Q (.inl none) h2))) : gm_G 22 0 [some (.ref a0), some (va_rf r_1)] [] h Q := by
  refine g_aload (r := some _) rfl rfl rfl (pc' := 1) ?_
  refine g_aload (r := _) rfl rfl rfl (pc' := 2) ?_
  obtain ⟨ht1, H⟩ := H
  refine g_putR rfl rfl rfl rfl ht1  (pc' := 5) rfl ?_
  replace H := H _ rfl
  refine g_aload (r := some _) rfl rfl rfl (pc' := 6) ?_
  refine g_objinit rfl (Nat.le_of_ble_eq_true rfl) (pc' := 9) rfl ?_
  exact g_return rfl H
set_option maxRecDepth 20000 in
theorem w_23_0 {a0 : Nat}  {h : hh_T} {Q : Option Value ⊕ Nat → hh_T → Prop} (H : gm_sub (hh_tg h a0) 1 = true ∧ ((¬ (hh_i h a0 0) = Int32.ofNat 0 → ((¬ (hh_i h a0 1) = Int32.ofNat 0 → (∀ h2, h2 = hh_wi h a0 1 ((hh_i h a0 1) - (Int32.ofNat 1)) → (Q (.inl (some (.int (Int32.ofNat 1)))) h2))) ∧ ((hh_i h a0 1) = Int32.ofNat 0 → (Q (.inl (some (.int (Int32.ofNat 0)))) h)))) ∧ ((hh_i h a0 0) = Int32.ofNat 0 → (Q (.inl (some (.int (Int32.ofNat 1)))) h)))) : gm_G 23 0 [some (.ref a0)] [] h Q := by
  refine g_aload (r := some _) rfl rfl rfl (pc' := 1) ?_
  obtain ⟨ht1, H⟩ := H
  refine g_getZ rfl rfl rfl rfl ht1 (pc' := 4) rfl ?_
  refine g_if_ne rfl (pc' := 7) (pt := 9) rfl rfl ⟨fun hc => ?_, fun hc => ?_⟩
  · replace H := H.1 hc
    refine g_aload (r := some _) rfl rfl rfl (pc' := 10) ?_
    refine g_getI rfl rfl rfl rfl ht1 (pc' := 13) rfl ?_
    refine g_if_ne rfl (pc' := 16) (pt := 18) rfl rfl ⟨fun hc => ?_, fun hc => ?_⟩
    · replace H := H.1 hc
      refine g_aload (r := some _) rfl rfl rfl (pc' := 19) ?_
      refine g_dup_a (r := some _) rfl rfl (pc' := 20) ?_
      refine g_getI rfl rfl rfl rfl ht1 (pc' := 23) rfl ?_
      refine g_iconst rfl rfl rfl (pc' := 24) ?_
      refine g_isub rfl rfl (pc' := 25) ?_
      refine g_putI rfl rfl rfl rfl ht1  (pc' := 28) rfl ?_
      replace H := H _ rfl
      refine g_iconst rfl rfl rfl (pc' := 29) ?_
      exact g_ireturn rfl (Or.inr (by decide)) H
    · replace H := H.2 hc
      refine g_iconst rfl rfl rfl (pc' := 17) ?_
      exact g_ireturn rfl (Or.inr (by decide)) H
  · replace H := H.2 hc
    refine g_iconst rfl rfl rfl (pc' := 8) ?_
    exact g_ireturn rfl (Or.inr (by decide)) H
set_option maxRecDepth 20000 in
theorem w_24_0 {a0 : Nat}  {h : hh_T} {Q : Option Value ⊕ Nat → hh_T → Prop} (H : ∀ a1 h2, a1 = hh_sz h → h2 = hh_al h 100 512 512 → (gm_sub (hh_tg h2 a0) 2 = true ∧ (∀ h4, h4 = hh_wr h2 a0 0 (some a1) → (∀ a5 h6, a5 = hh_sz h4 → h6 = hh_al h4 100 256 256 → (gm_sub (hh_tg h6 a0) 2 = true ∧ (∀ h8, h8 = hh_wr h6 a0 1 (some a5) → (gm_G 24 22 [some (.ref a0)] [] h8 Q))))))) : gm_G 24 0 [some (.ref a0)] [] h Q := by
  refine g_aload (r := some _) rfl rfl rfl (pc' := 1) ?_
  refine g_objinit rfl (Nat.le_of_ble_eq_true rfl) (pc' := 4) rfl ?_
  refine g_aload (r := some _) rfl rfl rfl (pc' := 5) ?_
  refine g_iconst rfl rfl rfl (pc' := 8) ?_
  refine g_newarray rfl (u := 100) (n := 512) rfl (by decide) rfl (by decide) (pc' := 10) rfl ?_
  replace H := H _ _ rfl rfl
  obtain ⟨ht3, H⟩ := H
  refine g_putR (x := some _) rfl rfl rfl rfl ht3  (pc' := 13) rfl ?_
  replace H := H _ rfl
  refine g_aload (r := some _) rfl rfl rfl (pc' := 14) ?_
  refine g_iconst rfl rfl rfl (pc' := 17) ?_
  refine g_newarray rfl (u := 100) (n := 256) rfl (by decide) rfl (by decide) (pc' := 19) rfl ?_
  replace H := H _ _ rfl rfl
  obtain ⟨ht7, H⟩ := H
  refine g_putR (x := some _) rfl rfl rfl rfl ht7  (pc' := 22) rfl ?_
  replace H := H _ rfl
  exact g_weak (show gm_Lle [some _] _ from ⟨rfl, trivial⟩) H
set_option maxRecDepth 20000 in
theorem w_24_22 {a0 : Nat}  {h : hh_T} {Q : Option Value ⊕ Nat → hh_T → Prop} (H : gm_G 24 26 [some (.ref a0), some (.int (Int32.ofNat 1)), some (.int (Int32.ofNat 0))] [] h Q) : gm_G 24 22 [some (.ref a0)] [] h Q := by
  refine g_iconst rfl rfl rfl (pc' := 23) ?_
  refine g_istore rfl rfl rfl (pc' := 24) ?_
  refine g_iconst rfl rfl rfl (pc' := 25) ?_
  refine g_istore rfl rfl rfl (pc' := 26) ?_
  exact g_weak (show gm_Lle [some _, some _, some _] _ from ⟨rfl, ⟨rfl, ⟨rfl, trivial⟩⟩⟩) H
set_option maxRecDepth 20000 in
theorem w_24_26 {a0 : Nat} {x1 : Int32} {x2 : Int32} {h : hh_T} {Q : Option Value ⊕ Nat → hh_T → Prop} (H : (¬ x2 < (Int32.ofNat 255) → (Q (.inl none) h)) ∧ (x2 < (Int32.ofNat 255) → (gm_sub (hh_tg h a0) 2 = true ∧ (∀ r2, r2 = hh_r h a0 0 → (∃ a3, r2 = some a3 ∧ (hh_tg h a3 = 100 ∧ (∃ n4, gm_ix x2 n4 (hh_ln h a3) ∧ (∀ h5, h5 = hh_wi h a3 n4 x1 → (∀ r6, r6 = hh_r h5 a0 0 → (∃ a7, r6 = some a7 ∧ (hh_tg h5 a7 = 100 ∧ (∃ n8, gm_ix (x2 + (Int32.ofNat 255)) n8 (hh_ln h5 a7) ∧ (∀ h9, h9 = hh_wi h5 a7 n8 x1 → (∀ r10, r10 = hh_r h9 a0 1 → (∃ a11, r10 = some a11 ∧ (hh_tg h9 a11 = 100 ∧ (∃ n12, gm_ix x1 n12 (hh_ln h9 a11) ∧ (∀ h13, h13 = hh_wi h9 a11 n12 x2 → ((¬ (Int32.ofNat 255) < (x1 <<< ((Int32.ofNat 1) &&& 31)) → (gm_G 24 75 [some (.ref a0), some (.int (x1 <<< ((Int32.ofNat 1) &&& 31))), some (.int x2)] [] h13 Q)) ∧ ((Int32.ofNat 255) < (x1 <<< ((Int32.ofNat 1) &&& 31)) → (gm_G 24 75 [some (.ref a0), some (.int ((x1 <<< ((Int32.ofNat 1) &&& 31)) ^^^ (Int32.ofNat 285))), some (.int x2)] [] h13 Q))))))))))))))))))))) : gm_G 24 26 [some (.ref a0), some (.int x1), some (.int x2)] [] h Q := by
  refine g_iload rfl rfl rfl (pc' := 27) ?_
  refine g_iconst rfl rfl rfl (pc' := 30) ?_
  refine g_ic_ge rfl (pc' := 33) (pt := 81) rfl rfl ⟨fun hc => ?_, fun hc => ?_⟩
  · replace H := H.1 hc
    exact g_return rfl H
  · replace H := H.2 hc
    refine g_aload (r := some _) rfl rfl rfl (pc' := 34) ?_
    obtain ⟨ht1, H⟩ := H
    refine g_getRv rfl rfl rfl rfl ht1 (pc' := 37) rfl (fun r2 hr2 => ?_)
    replace H := H r2 hr2
    refine g_iload rfl rfl rfl (pc' := 38) ?_
    refine g_iload rfl rfl rfl (pc' := 39) ?_
    obtain ⟨a3, rfl, H⟩ := H
    obtain ⟨ht16, H⟩ := H
    obtain ⟨n4, hn4, H⟩ := H
    refine g_iastore rfl ht16 hn4  (pc' := 40) rfl ?_
    replace H := H _ rfl
    refine g_aload (r := some _) rfl rfl rfl (pc' := 41) ?_
    refine g_getRv rfl rfl rfl rfl ht1 (pc' := 44) rfl (fun r6 hr6 => ?_)
    replace H := H r6 hr6
    refine g_iload rfl rfl rfl (pc' := 45) ?_
    refine g_iconst rfl rfl rfl (pc' := 48) ?_
    refine g_iadd rfl rfl (pc' := 49) ?_
    refine g_iload rfl rfl rfl (pc' := 50) ?_
    obtain ⟨a7, rfl, H⟩ := H
    obtain ⟨ht15, H⟩ := H
    obtain ⟨n8, hn8, H⟩ := H
    refine g_iastore rfl ht15 hn8  (pc' := 51) rfl ?_
    replace H := H _ rfl
    refine g_aload (r := some _) rfl rfl rfl (pc' := 52) ?_
    refine g_getRv rfl rfl rfl rfl ht1 (pc' := 55) rfl (fun r10 hr10 => ?_)
    replace H := H r10 hr10
    refine g_iload rfl rfl rfl (pc' := 56) ?_
    refine g_iload rfl rfl rfl (pc' := 57) ?_
    obtain ⟨a11, rfl, H⟩ := H
    obtain ⟨ht14, H⟩ := H
    obtain ⟨n12, hn12, H⟩ := H
    refine g_iastore rfl ht14 hn12  (pc' := 58) rfl ?_
    replace H := H _ rfl
    refine g_iload rfl rfl rfl (pc' := 59) ?_
    refine g_iconst rfl rfl rfl (pc' := 60) ?_
    refine g_ishl rfl rfl (pc' := 61) ?_
    refine g_istore rfl rfl rfl (pc' := 62) ?_
    refine g_iload rfl rfl rfl (pc' := 63) ?_
    refine g_iconst rfl rfl rfl (pc' := 66) ?_
    refine g_ic_le rfl (pc' := 69) (pt := 75) rfl rfl ⟨fun hc => ?_, fun hc => ?_⟩
    · replace H := H.1 hc
      exact g_weak (show gm_Lle [some _, some _, some _] _ from ⟨rfl, ⟨rfl, ⟨rfl, trivial⟩⟩⟩) H
    · replace H := H.2 hc
      refine g_iload rfl rfl rfl (pc' := 70) ?_
      refine g_iconst rfl rfl rfl (pc' := 73) ?_
      refine g_ixor rfl rfl (pc' := 74) ?_
      refine g_istore rfl rfl rfl (pc' := 75) ?_
      exact g_weak (show gm_Lle [some _, some _, some _] _ from ⟨rfl, ⟨rfl, ⟨rfl, trivial⟩⟩⟩) H
set_option maxRecDepth 20000 in
theorem w_24_75 {a0 : Nat} {x1 : Int32} {x2 : Int32} {h : hh_T} {Q : Option Value ⊕ Nat → hh_T → Prop} (H : gm_G 24 26 [some (.ref a0), some (.int x1), some (.int (x2 + (Int32.ofNat 1)))] [] h Q) : gm_G 24 75 [some (.ref a0), some (.int x1), some (.int x2)] [] h Q := by
  refine g_iinc (c := (Int32.ofNat 1)) rfl rfl rfl rfl rfl (pc' := 78) ?_
  refine g_goto rfl (pc' := 26) rfl ?_
  exact g_weak (show gm_Lle [some _, some _, some _] _ from ⟨rfl, ⟨rfl, ⟨rfl, trivial⟩⟩⟩) H
set_option maxRecDepth 20000 in
theorem w_25_0 {a0 : Nat} {x1 : Int32} {x2 : Int32} {h : hh_T} {Q : Option Value ⊕ Nat → hh_T → Prop} (H : gm_sub (hh_tg h a0) 2 = true ∧ (∀ r2, r2 = hh_r h a0 0 → (∃ a3, r2 = some a3 ∧ ((hh_tg h a3 = 100 ∨ hh_tg h a3 = 105) ∧ (∃ n4, gm_ix ((x1 * x2) - (x1 * x2) / (Int32.ofNat 255) * (Int32.ofNat 255)) n4 (hh_ln h a3) ∧ (Q (.inl (some (.int (hh_i h a3 n4)))) h)))))) : gm_G 25 0 [some (.ref a0), some (.int x1), some (.int x2)] [] h Q := by
  refine g_aload (r := some _) rfl rfl rfl (pc' := 1) ?_
  obtain ⟨ht1, H⟩ := H
  refine g_getRv rfl rfl rfl rfl ht1 (pc' := 4) rfl (fun r2 hr2 => ?_)
  replace H := H r2 hr2
  refine g_iload rfl rfl rfl (pc' := 5) ?_
  refine g_iload rfl rfl rfl (pc' := 6) ?_
  refine g_imul rfl rfl (pc' := 7) ?_
  refine g_iconst rfl rfl rfl (pc' := 10) ?_
  refine g_irem rfl (by decide) (pc' := 11) rfl ?_
  obtain ⟨a3, rfl, H⟩ := H
  obtain ⟨ht5, H⟩ := H
  obtain ⟨n4, hn4, H⟩ := H
  refine g_iaload rfl ht5 hn4 (pc' := 12) rfl ?_
  exact g_ireturn rfl (Or.inl rfl) H
set_option maxRecDepth 20000 in
theorem w_26_0 {a0 : Nat} {x1 : Int32} {x2 : Int32} {h : hh_T} {Q : Option Value ⊕ Nat → hh_T → Prop} (H : (¬ x1 = Int32.ofNat 0 → (gm_sub (hh_tg h a0) 2 = true ∧ (∀ r2, r2 = hh_r h a0 0 → (∀ r3, r3 = hh_r h a0 1 → (∃ a4, r3 = some a4 ∧ ((hh_tg h a4 = 100 ∨ hh_tg h a4 = 105) ∧ (∃ n5, gm_ix x1 n5 (hh_ln h a4) ∧ (∀ r7, r7 = hh_r h a0 1 → (∃ a8, r7 = some a8 ∧ ((hh_tg h a8 = 100 ∨ hh_tg h a8 = 105) ∧ (∃ n9, gm_ix x2 n9 (hh_ln h a8) ∧ (∃ a11, r2 = some a11 ∧ ((hh_tg h a11 = 100 ∨ hh_tg h a11 = 105) ∧ (∃ n12, gm_ix (((hh_i h a4 n5) + (Int32.ofNat 255)) - (hh_i h a8 n9)) n12 (hh_ln h a11) ∧ (Q (.inl (some (.int (hh_i h a11 n12)))) h))))))))))))))) ∧ (x1 = Int32.ofNat 0 → (Q (.inl (some (.int (Int32.ofNat 0)))) h))) : gm_G 26 0 [some (.ref a0), some (.int x1), some (.int x2)] [] h Q := by
  refine g_iload rfl rfl rfl (pc' := 1) ?_
  refine g_if_ne rfl (pc' := 4) (pt := 8) rfl rfl ⟨fun hc => ?_, fun hc => ?_⟩
  · replace H := H.1 hc
    refine g_aload (r := some _) rfl rfl rfl (pc' := 9) ?_
    obtain ⟨ht1, H⟩ := H
    refine g_getRv rfl rfl rfl rfl ht1 (pc' := 12) rfl (fun r2 hr2 => ?_)
    replace H := H r2 hr2
    refine g_aload (r := some _) rfl rfl rfl (pc' := 13) ?_
    refine g_getRv rfl rfl rfl rfl ht1 (pc' := 16) rfl (fun r3 hr3 => ?_)
    replace H := H r3 hr3
    refine g_iload rfl rfl rfl (pc' := 17) ?_
    obtain ⟨a4, rfl, H⟩ := H
    obtain ⟨ht6, H⟩ := H
    obtain ⟨n5, hn5, H⟩ := H
    refine g_iaload rfl ht6 hn5 (pc' := 18) rfl ?_
    refine g_iconst rfl rfl rfl (pc' := 21) ?_
    refine g_iadd rfl rfl (pc' := 22) ?_
    refine g_aload (r := some _) rfl rfl rfl (pc' := 23) ?_
    refine g_getRv rfl rfl rfl rfl ht1 (pc' := 26) rfl (fun r7 hr7 => ?_)
    replace H := H r7 hr7
    refine g_iload rfl rfl rfl (pc' := 27) ?_
    obtain ⟨a8, rfl, H⟩ := H
    obtain ⟨ht10, H⟩ := H
    obtain ⟨n9, hn9, H⟩ := H
    refine g_iaload rfl ht10 hn9 (pc' := 28) rfl ?_
    refine g_isub rfl rfl (pc' := 29) ?_
    obtain ⟨a11, rfl, H⟩ := H
    obtain ⟨ht13, H⟩ := H
    obtain ⟨n12, hn12, H⟩ := H
    refine g_iaload rfl ht13 hn12 (pc' := 30) rfl ?_
    exact g_ireturn rfl (Or.inl rfl) H
  · replace H := H.2 hc
    refine g_iconst rfl rfl rfl (pc' := 5) ?_
    refine g_goto rfl (pc' := 30) rfl ?_
    exact g_ireturn rfl (Or.inl rfl) H
set_option maxRecDepth 20000 in
theorem w_27_0 {a0 : Nat} {x1 : Int32} {x2 : Int32} {h : hh_T} {Q : Option Value ⊕ Nat → hh_T → Prop} (H : (x1 = Int32.ofNat 0 → (gm_G 27 8 [] [] h Q)) ∧ (¬ x1 = Int32.ofNat 0 → ((¬ x2 = Int32.ofNat 0 → (gm_sub (hh_tg h a0) 2 = true ∧ (∀ r2, r2 = hh_r h a0 0 → (∀ r3, r3 = hh_r h a0 1 → (∃ a4, r3 = some a4 ∧ ((hh_tg h a4 = 100 ∨ hh_tg h a4 = 105) ∧ (∃ n5, gm_ix x1 n5 (hh_ln h a4) ∧ (∀ r7, r7 = hh_r h a0 1 → (∃ a8, r7 = some a8 ∧ ((hh_tg h a8 = 100 ∨ hh_tg h a8 = 105) ∧ (∃ n9, gm_ix x2 n9 (hh_ln h a8) ∧ (∃ a11, r2 = some a11 ∧ ((hh_tg h a11 = 100 ∨ hh_tg h a11 = 105) ∧ (∃ n12, gm_ix ((hh_i h a4 n5) + (hh_i h a8 n9)) n12 (hh_ln h a11) ∧ (Q (.inl (some (.int (hh_i h a11 n12)))) h))))))))))))))) ∧ (x2 = Int32.ofNat 0 → (gm_G 27 8 [] [] h Q))))) : gm_G 27 0 [some (.ref a0), some (.int x1), some (.int x2)] [] h Q := by
  refine g_iload rfl rfl rfl (pc' := 1) ?_
  refine g_if_eq rfl (pc' := 4) (pt := 8) rfl rfl ⟨fun hc => ?_, fun hc => ?_⟩
  · replace H := H.1 hc
    exact g_weak (show gm_Lle [] _ from trivial) H
  · replace H := H.2 hc
    refine g_iload rfl rfl rfl (pc' := 5) ?_
    refine g_if_ne rfl (pc' := 8) (pt := 12) rfl rfl ⟨fun hc => ?_, fun hc => ?_⟩
    · replace H := H.1 hc
      refine g_aload (r := some _) rfl rfl rfl (pc' := 13) ?_
      obtain ⟨ht1, H⟩ := H
      refine g_getRv rfl rfl rfl rfl ht1 (pc' := 16) rfl (fun r2 hr2 => ?_)
      replace H := H r2 hr2
      refine g_aload (r := some _) rfl rfl rfl (pc' := 17) ?_
      refine g_getRv rfl rfl rfl rfl ht1 (pc' := 20) rfl (fun r3 hr3 => ?_)
      replace H := H r3 hr3
      refine g_iload rfl rfl rfl (pc' := 21) ?_
      obtain ⟨a4, rfl, H⟩ := H
      obtain ⟨ht6, H⟩ := H
      obtain ⟨n5, hn5, H⟩ := H
      refine g_iaload rfl ht6 hn5 (pc' := 22) rfl ?_
      refine g_aload (r := some _) rfl rfl rfl (pc' := 23) ?_
      refine g_getRv rfl rfl rfl rfl ht1 (pc' := 26) rfl (fun r7 hr7 => ?_)
      replace H := H r7 hr7
      refine g_iload rfl rfl rfl (pc' := 27) ?_
      obtain ⟨a8, rfl, H⟩ := H
      obtain ⟨ht10, H⟩ := H
      obtain ⟨n9, hn9, H⟩ := H
      refine g_iaload rfl ht10 hn9 (pc' := 28) rfl ?_
      refine g_iadd rfl rfl (pc' := 29) ?_
      obtain ⟨a11, rfl, H⟩ := H
      obtain ⟨ht13, H⟩ := H
      obtain ⟨n12, hn12, H⟩ := H
      refine g_iaload rfl ht13 hn12 (pc' := 30) rfl ?_
      exact g_ireturn rfl (Or.inl rfl) H
    · replace H := H.2 hc
      exact g_weak (show gm_Lle [] _ from trivial) H
set_option maxRecDepth 20000 in
theorem w_27_8 {a0 : Nat}  {h : hh_T} {Q : Option Value ⊕ Nat → hh_T → Prop} (H : Q (.inl (some (.int (Int32.ofNat 0)))) h) : gm_G 27 8 [] [] h Q := by
  refine g_iconst rfl rfl rfl (pc' := 9) ?_
  refine g_goto rfl (pc' := 30) rfl ?_
  exact g_ireturn rfl (Or.inl rfl) H
set_option maxRecDepth 20000 in
theorem w_28_0 {a0 : Nat} {r_1 : Option Nat} {h : hh_T} {Q : Option Value ⊕ Nat → hh_T → Prop} (H : gm_sub (hh_tg h a0) 3 = true ∧ (∀ r2, r2 = hh_r h a0 1 → (∃ a3, r2 = some a3 ∧ (200 ≤ hh_tg h a3 ∧ (∀ b, r_1 = some b → gm_as (hh_tg h a3) (hh_tg h b) = true) ∧ (∃ n4, gm_ix (hh_i h a0 2) n4 (hh_ln h a3) ∧ (∀ h5, h5 = hh_wr h a3 n4 r_1 → (∀ h6, h6 = hh_wi h5 a0 2 ((hh_i h5 a0 2) + (Int32.ofNat 1)) → (∃ a7, r_1 = some a7 ∧ (gm_sub (hh_tg h6 a7) 21 = true ∧ (∀ h9, h9 = hh_wr h6 a7 5 (some a0) → (Q (.inl none) h9))))))))))) : gm_G 28 0 [some (.ref a0), some (va_rf r_1)] [] h Q := by
  refine g_aload (r := some _) rfl rfl rfl (pc' := 1) ?_
  obtain ⟨ht1, H⟩ := H
  refine g_getRv rfl rfl rfl rfl ht1 (pc' := 4) rfl (fun r2 hr2 => ?_)
  replace H := H r2 hr2
  refine g_aload (r := some _) rfl rfl rfl (pc' := 5) ?_
  refine g_getI rfl rfl rfl rfl ht1 (pc' := 8) rfl ?_
  refine g_aload (r := _) rfl rfl rfl (pc' := 9) ?_
  obtain ⟨a3, rfl, H⟩ := H
  obtain ⟨Ha, Hb, H⟩ := H
  obtain ⟨n4, hn4, H⟩ := H
  refine g_aastore (r := _) rfl Ha Hb hn4 (pc' := 10) rfl ?_
  replace H := H _ rfl
  refine g_aload (r := some _) rfl rfl rfl (pc' := 11) ?_
  refine g_dup_a (r := some _) rfl rfl (pc' := 12) ?_
  refine g_getI rfl rfl rfl rfl ht1 (pc' := 15) rfl ?_
  refine g_iconst rfl rfl rfl (pc' := 16) ?_
  refine g_iadd rfl rfl (pc' := 17) ?_
  refine g_putI rfl rfl rfl rfl ht1  (pc' := 20) rfl ?_
  replace H := H _ rfl
  refine g_aload (r := _) rfl rfl rfl (pc' := 21) ?_
  refine g_aload (r := some _) rfl rfl rfl (pc' := 22) ?_
  obtain ⟨a7, rfl, H⟩ := H
  obtain ⟨ht8, H⟩ := H
  refine g_putR (x := some _) rfl rfl rfl rfl ht8  (pc' := 25) rfl ?_
  replace H := H _ rfl
  exact g_return rfl H
set_option maxRecDepth 20000 in
theorem w_29_0 {a0 : Nat}  {h : hh_T} {Q : Option Value ⊕ Nat → hh_T → Prop} (H : gm_G 29 4 [some (.ref a0), some (.int (Int32.ofNat 0)), some (.int (Int32.ofNat 0))] [] h Q) : gm_G 29 0 [some (.ref a0)] [] h Q := by
  refine g_iconst rfl rfl rfl (pc' := 1) ?_
  refine g_istore rfl rfl rfl (pc' := 2) ?_
  refine g_iconst rfl rfl rfl (pc' := 3) ?_
  refine g_istore rfl rfl rfl (pc' := 4) ?_
  exact g_weak (show gm_Lle [some _, some _, some _] _ from ⟨rfl, ⟨rfl, ⟨rfl, trivial⟩⟩⟩) H
set_option maxRecDepth 20000 in
theorem w_29_4 {a0 : Nat} {x1 : Int32} {x2 : Int32} {h : hh_T} {Q : Option Value ⊕ Nat → hh_T → Prop} (H : gm_sub (hh_tg h a0) 3 = true ∧ ((¬ x2 < (hh_i h a0 2) → (Q (.inl (some (.int x1))) h)) ∧ (x2 < (hh_i h a0 2) → (∀ r2, r2 = hh_r h a0 1 → (∃ a3, r2 = some a3 ∧ ((hh_tg h a3 = 104 ∨ 200 ≤ hh_tg h a3) ∧ (∃ n4, gm_ix x2 n4 (hh_ln h a3) ∧ (∀ r6, r6 = hh_r h a3 n4 → (∃ a7, r6 = some a7 ∧ (gm_sub (hh_tg h a7) 21 = true ∧ ((¬ (hh_i h a7 4) = Int32.ofNat 0 → (gm_G 29 27 [some (.ref a0), some (.int x1), some (.int x2)] [] h Q)) ∧ ((hh_i h a7 4) = Int32.ofNat 0 → (gm_G 29 27 [some (.ref a0), some (.int (x1 + (Int32.ofNat 1))), some (.int x2)] [] h Q))))))))))))) : gm_G 29 4 [some (.ref a0), some (.int x1), some (.int x2)] [] h Q := by
  refine g_iload rfl rfl rfl (pc' := 5) ?_
  refine g_aload (r := some _) rfl rfl rfl (pc' := 6) ?_
  obtain ⟨ht1, H⟩ := H
  refine g_getI rfl rfl rfl rfl ht1 (pc' := 9) rfl ?_
  refine g_ic_ge rfl (pc' := 12) (pt := 33) rfl rfl ⟨fun hc => ?_, fun hc => ?_⟩
  · replace H := H.1 hc
    refine g_iload rfl rfl rfl (pc' := 34) ?_
    exact g_ireturn rfl (Or.inl rfl) H
  · replace H := H.2 hc
    refine g_aload (r := some _) rfl rfl rfl (pc' := 13) ?_
    refine g_getRv rfl rfl rfl rfl ht1 (pc' := 16) rfl (fun r2 hr2 => ?_)
    replace H := H r2 hr2
    refine g_iload rfl rfl rfl (pc' := 17) ?_
    obtain ⟨a3, rfl, H⟩ := H
    obtain ⟨ht5, H⟩ := H
    obtain ⟨n4, hn4, H⟩ := H
    refine g_aaloadv rfl ht5 hn4 (pc' := 18) rfl (fun r6 hr6 => ?_)
    replace H := H r6 hr6
    obtain ⟨a7, rfl, H⟩ := H
    obtain ⟨ht8, H⟩ := H
    refine g_getZ rfl rfl rfl rfl ht8 (pc' := 21) rfl ?_
    refine g_if_ne rfl (pc' := 24) (pt := 27) rfl rfl ⟨fun hc => ?_, fun hc => ?_⟩
    · replace H := H.1 hc
      exact g_weak (show gm_Lle [some _, some _, some _] _ from ⟨rfl, ⟨rfl, ⟨rfl, trivial⟩⟩⟩) H
    · replace H := H.2 hc
      refine g_iinc (c := (Int32.ofNat 1)) rfl rfl rfl rfl rfl (pc' := 27) ?_
      exact g_weak (show gm_Lle [some _, some _, some _] _ from ⟨rfl, ⟨rfl, ⟨rfl, trivial⟩⟩⟩) H
set_option maxRecDepth 20000 in
theorem w_29_27 {a0 : Nat} {x1 : Int32} {x2 : Int32} {h : hh_T} {Q : Option Value ⊕ Nat → hh_T → Prop} (H : gm_G 29 4 [some (.ref a0), some (.int x1), some (.int (x2 + (Int32.ofNat 1)))] [] h Q) : gm_G 29 27 [some (.ref a0), some (.int x1), some (.int x2)] [] h Q := by
  refine g_iinc (c := (Int32.ofNat 1)) rfl rfl rfl rfl rfl (pc' := 30) ?_
  refine g_goto rfl (pc' := 4) rfl ?_
  exact g_weak (show gm_Lle [some _, some _, some _] _ from ⟨rfl, ⟨rfl, ⟨rfl, trivial⟩⟩⟩) H
set_option maxRecDepth 20000 in
theorem w_30_0 {a0 : Nat} {r_1 : Option Nat} {h : hh_T} {Q : Option Value ⊕ Nat → hh_T → Prop} (H : gm_G 30 2 [some (.ref a0), some (va_rf r_1), some (.int (Int32.ofNat 0))] [] h Q) : gm_G 30 0 [some (.ref a0), some (va_rf r_1)] [] h Q := by
  refine g_iconst rfl rfl rfl (pc' := 1) ?_
  refine g_istore rfl gm_sto_rf1 rfl (pc' := 2) ?_
  exact g_weak (show gm_Lle [some _, some _, some _] _ from ⟨rfl, ⟨rfl, ⟨rfl, trivial⟩⟩⟩) H
set_option maxRecDepth 20000 in
theorem w_30_2 {a0 : Nat} {r_1 : Option Nat} {x2 : Int32} {h : hh_T} {Q : Option Value ⊕ Nat → hh_T → Prop} (H : gm_sub (hh_tg h a0) 3 = true ∧ ((¬ x2 < (hh_i h a0 2) → (Q (.inl (some (.int (Int32.ofInt (-1))))) h)) ∧ (x2 < (hh_i h a0 2) → (∀ r2, r2 = hh_r h a0 1 → (∃ a3, r2 = some a3 ∧ ((hh_tg h a3 = 104 ∨ 200 ≤ hh_tg h a3) ∧ (∃ n4, gm_ix x2 n4 (hh_ln h a3) ∧ (∀ r6, r6 = hh_r h a3 n4 → ((¬ r6 = r_1 → (gm_G 30 2 [some (.ref a0), some (va_rf r_1), some (.int (x2 + (Int32.ofNat 1)))] [] h Q)) ∧ (r6 = r_1 → (Q (.inl (some (.int x2))) h))))))))))) : gm_G 30 2 [some (.ref a0), some (va_rf r_1), some (.int x2)] [] h Q := by
  refine g_iload rfl rfl rfl (pc' := 3) ?_
  refine g_aload (r := some _) rfl rfl rfl (pc' := 4) ?_
  obtain ⟨ht1, H⟩ := H
  refine g_getI rfl rfl rfl rfl ht1 (pc' := 7) rfl ?_
  refine g_ic_ge rfl (pc' := 10) (pt := 28) rfl rfl ⟨fun hc => ?_, fun hc => ?_⟩
  · replace H := H.1 hc
    refine g_iconst rfl rfl rfl (pc' := 29) ?_
    exact g_ireturn rfl (Or.inl rfl) H
  · replace H := H.2 hc
    refine g_aload (r := some _) rfl rfl rfl (pc' := 11) ?_
    refine g_getRv rfl rfl rfl rfl ht1 (pc' := 14) rfl (fun r2 hr2 => ?_)
    replace H := H r2 hr2
    refine g_iload rfl rfl rfl (pc' := 15) ?_
    obtain ⟨a3, rfl, H⟩ := H
    obtain ⟨ht5, H⟩ := H
    obtain ⟨n4, hn4, H⟩ := H
    refine g_aaloadv rfl ht5 hn4 (pc' := 16) rfl (fun r6 hr6 => ?_)
    replace H := H r6 hr6
    refine g_aload (r := _) rfl rfl rfl (pc' := 17) ?_
    refine g_ac_ne (r1 := _) (r2 := _) rfl (pc' := 20) (pt := 22) rfl rfl ⟨fun hc => ?_, fun hc => ?_⟩
    · replace H := H.1 hc
      refine g_iinc (c := (Int32.ofNat 1)) rfl rfl rfl gm_sto_rf1 rfl (pc' := 25) ?_
      refine g_goto rfl (pc' := 2) rfl ?_
      exact g_weak (show gm_Lle [some _, some _, some _] _ from ⟨rfl, ⟨rfl, ⟨rfl, trivial⟩⟩⟩) H
    · replace H := H.2 hc
      refine g_iload rfl rfl rfl (pc' := 21) ?_
      exact g_ireturn rfl (Or.inl rfl) H
set_option maxRecDepth 20000 in
theorem w_31_0 {a0 : Nat}  {h : hh_T} {Q : Option Value ⊕ Nat → hh_T → Prop} (H : gm_sub (hh_tg h a0) 3 = true ∧ (Q (.inl (some (.int (hh_i h a0 3)))) h)) : gm_G 31 0 [some (.ref a0)] [] h Q := by
  refine g_aload (r := some _) rfl rfl rfl (pc' := 1) ?_
  obtain ⟨ht1, H⟩ := H
  refine g_getI rfl rfl rfl rfl ht1 (pc' := 4) rfl ?_
  exact g_ireturn rfl (Or.inl rfl) H
set_option maxRecDepth 20000 in
theorem w_32_0 {a0 : Nat}  {h : hh_T} {Q : Option Value ⊕ Nat → hh_T → Prop} (H : Q (.inl (some (.int (Int32.ofNat 0)))) h) : gm_G 32 0 [some (.ref a0)] [] h Q := by
  refine g_iconst rfl rfl rfl (pc' := 1) ?_
  exact g_ireturn rfl (Or.inl rfl) H
set_option maxRecDepth 20000 in
theorem w_33_0 {a0 : Nat}  {h : hh_T} {Q : Option Value ⊕ Nat → hh_T → Prop} (H : gm_sub (hh_tg h a0) 3 = true ∧ ((¬ (hh_i h a0 2) = (Int32.ofNat 1) → (Q (.inl (some (.int (Int32.ofNat 1)))) h)) ∧ ((hh_i h a0 2) = (Int32.ofNat 1) → (Q (.inl (some (.int (Int32.ofNat 0)))) h)))) : gm_G 33 0 [some (.ref a0)] [] h Q := by
  refine g_aload (r := some _) rfl rfl rfl (pc' := 1) ?_
  obtain ⟨ht1, H⟩ := H
  refine g_getI rfl rfl rfl rfl ht1 (pc' := 4) rfl ?_
  refine g_iconst rfl rfl rfl (pc' := 5) ?_
  refine g_ic_ne rfl (pc' := 8) (pt := 12) rfl rfl ⟨fun hc => ?_, fun hc => ?_⟩
  · replace H := H.1 hc
    refine g_iconst rfl rfl rfl (pc' := 13) ?_
    exact g_ireturn rfl (Or.inl rfl) H
  · replace H := H.2 hc
    refine g_iconst rfl rfl rfl (pc' := 9) ?_
    refine g_goto rfl (pc' := 13) rfl ?_
    exact g_ireturn rfl (Or.inl rfl) H
set_option maxRecDepth 20000 in
theorem w_34_0 {a0 : Nat} {x1 : Int32} {h : hh_T} {Q : Option Value ⊕ Nat → hh_T → Prop} (H : Q (.inl (some (.int x1))) h) : gm_G 34 0 [some (.ref a0), some (.int x1)] [] h Q := by
  refine g_iload rfl rfl rfl (pc' := 1) ?_
  exact g_ireturn rfl (Or.inl rfl) H
set_option maxRecDepth 20000 in
theorem w_35_0 {a0 : Nat}  {h : hh_T} {Q : Option Value ⊕ Nat → hh_T → Prop} (H : gm_sub (hh_tg h a0) 3 = true ∧ (Q (.inl (some (.int (hh_i h a0 2)))) h)) : gm_G 35 0 [some (.ref a0)] [] h Q := by
  refine g_aload (r := some _) rfl rfl rfl (pc' := 1) ?_
  obtain ⟨ht1, H⟩ := H
  refine g_getI rfl rfl rfl rfl ht1 (pc' := 4) rfl ?_
  exact g_ireturn rfl (Or.inl rfl) H
set_option maxRecDepth 20000 in
theorem w_36_0 {a0 : Nat}  {h : hh_T} {Q : Option Value ⊕ Nat → hh_T → Prop} (H : ∀ a1 h2, a1 = hh_sz h → h2 = hh_al h 100 194 194 → (gm_sub (hh_tg h2 a0) 5 = true ∧ (∀ h4, h4 = hh_wr h2 a0 0 (some a1) → (∀ a5 h6, a5 = hh_sz h4 → h6 = hh_al h4 100 194 194 → (gm_sub (hh_tg h6 a0) 5 = true ∧ (∀ h8, h8 = hh_wr h6 a0 1 (some a5) → (gm_G 36 22 [] [] h8 Q))))))) : gm_G 36 0 [some (.ref a0)] [] h Q := by
  refine g_aload (r := some _) rfl rfl rfl (pc' := 1) ?_
  refine g_objinit rfl (Nat.le_of_ble_eq_true rfl) (pc' := 4) rfl ?_
  refine g_aload (r := some _) rfl rfl rfl (pc' := 5) ?_
  refine g_iconst rfl rfl rfl (pc' := 8) ?_
  refine g_newarray rfl (u := 100) (n := 194) rfl (by decide) rfl (by decide) (pc' := 10) rfl ?_
  replace H := H _ _ rfl rfl
  obtain ⟨ht3, H⟩ := H
  refine g_putR (x := some _) rfl rfl rfl rfl ht3  (pc' := 13) rfl ?_
  replace H := H _ rfl
  refine g_aload (r := some _) rfl rfl rfl (pc' := 14) ?_
  refine g_iconst rfl rfl rfl (pc' := 17) ?_
  refine g_newarray rfl (u := 100) (n := 194) rfl (by decide) rfl (by decide) (pc' := 19) rfl ?_
  replace H := H _ _ rfl rfl
  obtain ⟨ht7, H⟩ := H
  refine g_putR (x := some _) rfl rfl rfl rfl ht7  (pc' := 22) rfl ?_
  replace H := H _ rfl
  exact g_weak (show gm_Lle [] _ from trivial) H
set_option maxRecDepth 20000 in
theorem w_36_22 {a0 : Nat}  {h : hh_T} {Q : Option Value ⊕ Nat → hh_T → Prop} (H : Q (.inl none) h) : gm_G 36 22 [] [] h Q := by
  exact g_return rfl H
set_option maxRecDepth 20000 in
theorem w_37_0 {a0 : Nat} {x1 : Int32} {h : hh_T} {Q : Option Value ⊕ Nat → hh_T → Prop} (H : gm_sub (hh_tg h a0) 5 = true ∧ (∀ h2, h2 = hh_wi h a0 2 (Int32.ofNat 1) → (∀ r3, r3 = hh_r h2 a0 0 → (∃ a4, r3 = some a4 ∧ (hh_tg h2 a4 = 100 ∧ (0 < hh_ln h2 a4 ∧ (∀ h6, h6 = hh_wi h2 a4 0 (Int32.ofNat 0) → (∀ r7, r7 = hh_r h6 a0 1 → (∃ a8, r7 = some a8 ∧ (hh_tg h6 a8 = 100 ∧ (0 < hh_ln h6 a8 ∧ (∀ h10, h10 = hh_wi h6 a8 0 x1 → (∀ h11, h11 = hh_wi h10 a0 3 x1 → (Q (.inl none) h11)))))))))))))) : gm_G 37 0 [some (.ref a0), some (.int x1)] [] h Q := by
  refine g_aload (r := some _) rfl rfl rfl (pc' := 1) ?_
  refine g_iconst rfl rfl rfl (pc' := 2) ?_
  obtain ⟨ht1, H⟩ := H
  refine g_putI rfl rfl rfl rfl ht1  (pc' := 5) rfl ?_
  replace H := H _ rfl
  refine g_aload (r := some _) rfl rfl rfl (pc' := 6) ?_
  refine g_getRv rfl rfl rfl rfl ht1 (pc' := 9) rfl (fun r3 hr3 => ?_)
  replace H := H r3 hr3
  refine g_iconst rfl rfl rfl (pc' := 10) ?_
  refine g_iconst rfl rfl rfl (pc' := 11) ?_
  obtain ⟨a4, rfl, H⟩ := H
  obtain ⟨ht13, H⟩ := H
  obtain ⟨hn5, H⟩ := H
  refine g_iastore rfl ht13 ⟨rfl, by decide, hn5⟩  (pc' := 12) rfl ?_
  replace H := H _ rfl
  refine g_aload (r := some _) rfl rfl rfl (pc' := 13) ?_
  refine g_getRv rfl rfl rfl rfl ht1 (pc' := 16) rfl (fun r7 hr7 => ?_)
  replace H := H r7 hr7
  refine g_iconst rfl rfl rfl (pc' := 17) ?_
  refine g_iload rfl rfl rfl (pc' := 18) ?_
  obtain ⟨a8, rfl, H⟩ := H
  obtain ⟨ht12, H⟩ := H
  obtain ⟨hn9, H⟩ := H
  refine g_iastore rfl ht12 ⟨rfl, by decide, hn9⟩  (pc' := 19) rfl ?_
  replace H := H _ rfl
  refine g_aload (r := some _) rfl rfl rfl (pc' := 20) ?_
  refine g_iload rfl rfl rfl (pc' := 21) ?_
  refine g_putI rfl rfl rfl rfl ht1  (pc' := 24) rfl ?_
  replace H := H _ rfl
  exact g_return rfl H
set_option maxRecDepth 20000 in
theorem w_38_0 {a0 : Nat} {x1 : Int32} {h : hh_T} {Q : Option Value ⊕ Nat → hh_T → Prop} (H : gm_G 38 2 [some (.ref a0), none, some (.int x1)] [] h Q) : gm_G 38 0 [some (.ref a0), some (.int x1)] [] h Q := by
  refine g_iload rfl rfl rfl (pc' := 1) ?_
  refine g_istore rfl rfl rfl (pc' := 2) ?_
  exact g_weak (show gm_Lle [some _, none, some _] _ from ⟨rfl, ⟨rfl, trivial⟩⟩) H
set_option maxRecDepth 20000 in
theorem w_38_2 {a0 : Nat} {x2 : Int32} {h : hh_T} {Q : Option Value ⊕ Nat → hh_T → Prop} (H : gm_sub (hh_tg h a0) 5 = true ∧ ((¬ x2 < ((hh_i h a0 2) - (Int32.ofNat 1)) → (∀ h2, h2 = hh_wi h a0 2 ((hh_i h a0 2) - (Int32.ofNat 1)) → (Q (.inl none) h2))) ∧ (x2 < ((hh_i h a0 2) - (Int32.ofNat 1)) → (∀ r3, r3 = hh_r h a0 0 → (∀ r4, r4 = hh_r h a0 0 → (∃ a5, r4 = some a5 ∧ ((hh_tg h a5 = 100 ∨ hh_tg h a5 = 105) ∧ (∃ n6, gm_ix (x2 + (Int32.ofNat 1)) n6 (hh_ln h a5) ∧ (∃ a8, r3 = some a8 ∧ (hh_tg h a8 = 100 ∧ (∃ n9, gm_ix x2 n9 (hh_ln h a8) ∧ (∀ h10, h10 = hh_wi h a8 n9 (hh_i h a5 n6) → (∀ r11, r11 = hh_r h10 a0 1 → (∀ r12, r12 = hh_r h10 a0 1 → (∃ a13, r12 = some a13 ∧ ((hh_tg h10 a13 = 100 ∨ hh_tg h10 a13 = 105) ∧ (∃ n14, gm_ix (x2 + (Int32.ofNat 1)) n14 (hh_ln h10 a13) ∧ (∃ a16, r11 = some a16 ∧ (hh_tg h10 a16 = 100 ∧ (∃ n17, gm_ix x2 n17 (hh_ln h10 a16) ∧ (∀ h18, h18 = hh_wi h10 a16 n17 (hh_i h10 a13 n14) → (gm_G 38 2 [some (.ref a0), none, some (.int (x2 + (Int32.ofNat 1)))] [] h18 Q)))))))))))))))))))))) : gm_G 38 2 [some (.ref a0), none, some (.int x2)] [] h Q := by
  refine g_iload rfl rfl rfl (pc' := 3) ?_
  refine g_aload (r := some _) rfl rfl rfl (pc' := 4) ?_
  obtain ⟨ht1, H⟩ := H
  refine g_getI rfl rfl rfl rfl ht1 (pc' := 7) rfl ?_
  refine g_iconst rfl rfl rfl (pc' := 8) ?_
  refine g_isub rfl rfl (pc' := 9) ?_
  refine g_ic_ge rfl (pc' := 12) (pt := 46) rfl rfl ⟨fun hc => ?_, fun hc => ?_⟩
  · replace H := H.1 hc
    refine g_aload (r := some _) rfl rfl rfl (pc' := 47) ?_
    refine g_dup_a (r := some _) rfl rfl (pc' := 48) ?_
    refine g_getI rfl rfl rfl rfl ht1 (pc' := 51) rfl ?_
    refine g_iconst rfl rfl rfl (pc' := 52) ?_
    refine g_isub rfl rfl (pc' := 53) ?_
    refine g_putI rfl rfl rfl rfl ht1  (pc' := 56) rfl ?_
    replace H := H _ rfl
    exact g_return rfl H
  · replace H := H.2 hc
    refine g_aload (r := some _) rfl rfl rfl (pc' := 13) ?_
    refine g_getRv rfl rfl rfl rfl ht1 (pc' := 16) rfl (fun r3 hr3 => ?_)
    replace H := H r3 hr3
    refine g_iload rfl rfl rfl (pc' := 17) ?_
    refine g_aload (r := some _) rfl rfl rfl (pc' := 18) ?_
    refine g_getRv rfl rfl rfl rfl ht1 (pc' := 21) rfl (fun r4 hr4 => ?_)
    replace H := H r4 hr4
    refine g_iload rfl rfl rfl (pc' := 22) ?_
    refine g_iconst rfl rfl rfl (pc' := 23) ?_
    refine g_iadd rfl rfl (pc' := 24) ?_
    obtain ⟨a5, rfl, H⟩ := H
    obtain ⟨ht7, H⟩ := H
    obtain ⟨n6, hn6, H⟩ := H
    refine g_iaload rfl ht7 hn6 (pc' := 25) rfl ?_
    obtain ⟨a8, rfl, H⟩ := H
    obtain ⟨ht20, H⟩ := H
    obtain ⟨n9, hn9, H⟩ := H
    refine g_iastore rfl ht20 hn9  (pc' := 26) rfl ?_
    replace H := H _ rfl
    refine g_aload (r := some _) rfl rfl rfl (pc' := 27) ?_
    refine g_getRv rfl rfl rfl rfl ht1 (pc' := 30) rfl (fun r11 hr11 => ?_)
    replace H := H r11 hr11
    refine g_iload rfl rfl rfl (pc' := 31) ?_
    refine g_aload (r := some _) rfl rfl rfl (pc' := 32) ?_
    refine g_getRv rfl rfl rfl rfl ht1 (pc' := 35) rfl (fun r12 hr12 => ?_)
    replace H := H r12 hr12
    refine g_iload rfl rfl rfl (pc' := 36) ?_
    refine g_iconst rfl rfl rfl (pc' := 37) ?_
    refine g_iadd rfl rfl (pc' := 38) ?_
    obtain ⟨a13, rfl, H⟩ := H
    obtain ⟨ht15, H⟩ := H
    obtain ⟨n14, hn14, H⟩ := H
    refine g_iaload rfl ht15 hn14 (pc' := 39) rfl ?_
    obtain ⟨a16, rfl, H⟩ := H
    obtain ⟨ht19, H⟩ := H
    obtain ⟨n17, hn17, H⟩ := H
    refine g_iastore rfl ht19 hn17  (pc' := 40) rfl ?_
    replace H := H _ rfl
    refine g_iinc (c := (Int32.ofNat 1)) rfl rfl rfl rfl rfl (pc' := 43) ?_
    refine g_goto rfl (pc' := 2) rfl ?_
    exact g_weak (show gm_Lle [some _, none, some _] _ from ⟨rfl, ⟨rfl, trivial⟩⟩) H
set_option maxRecDepth 20000 in
theorem w_39_0 {a0 : Nat} {x1 : Int32} {h : hh_T} {Q : Option Value ⊕ Nat → hh_T → Prop} (H : gm_G 39 2 [some (.ref a0), some (.int x1), some (.int (Int32.ofNat 0))] [] h Q) : gm_G 39 0 [some (.ref a0), some (.int x1)] [] h Q := by
  refine g_iconst rfl rfl rfl (pc' := 1) ?_
  refine g_istore rfl rfl rfl (pc' := 2) ?_
  exact g_weak (show gm_Lle [some _, some _, some _] _ from ⟨rfl, ⟨rfl, ⟨rfl, trivial⟩⟩⟩) H
set_option maxRecDepth 20000 in
theorem w_39_2 {a0 : Nat} {x1 : Int32} {x2 : Int32} {h : hh_T} {Q : Option Value ⊕ Nat → hh_T → Prop} (H : gm_sub (hh_tg h a0) 5 = true ∧ ((¬ x2 < (hh_i h a0 2) → (Q (.inl (some (.int (Int32.ofInt (-1))))) h)) ∧ (x2 < (hh_i h a0 2) → (∀ r2, r2 = hh_r h a0 1 → (∃ a3, r2 = some a3 ∧ ((hh_tg h a3 = 100 ∨ hh_tg h a3 = 105) ∧ (∃ n4, gm_ix x2 n4 (hh_ln h a3) ∧ (∀ r6, r6 = hh_r h a0 0 → (∃ a7, r6 = some a7 ∧ ((hh_tg h a7 = 100 ∨ hh_tg h a7 = 105) ∧ (∃ n8, gm_ix x2 n8 (hh_ln h a7) ∧ ((((hh_i h a3 n4) - (hh_i h a7 n8)) < x1 → (gm_G 39 2 [some (.ref a0), some (.int x1), some (.int (x2 + (Int32.ofNat 1)))] [] h Q)) ∧ (¬ ((hh_i h a3 n4) - (hh_i h a7 n8)) < x1 → (∀ r10, r10 = hh_r h a0 0 → (∃ a11, r10 = some a11 ∧ ((hh_tg h a11 = 100 ∨ hh_tg h a11 = 105) ∧ (∃ n12, gm_ix x2 n12 (hh_ln h a11) ∧ (Q (.inl (some (.int (hh_i h a11 n12)))) h)))))))))))))))))) : gm_G 39 2 [some (.ref a0), some (.int x1), some (.int x2)] [] h Q := by
  refine g_iload rfl rfl rfl (pc' := 3) ?_
  refine g_aload (r := some _) rfl rfl rfl (pc' := 4) ?_
  obtain ⟨ht1, H⟩ := H
  refine g_getI rfl rfl rfl rfl ht1 (pc' := 7) rfl ?_
  refine g_ic_ge rfl (pc' := 10) (pt := 40) rfl rfl ⟨fun hc => ?_, fun hc => ?_⟩
  · replace H := H.1 hc
    refine g_iconst rfl rfl rfl (pc' := 41) ?_
    exact g_ireturn rfl (Or.inl rfl) H
  · replace H := H.2 hc
    refine g_aload (r := some _) rfl rfl rfl (pc' := 11) ?_
    refine g_getRv rfl rfl rfl rfl ht1 (pc' := 14) rfl (fun r2 hr2 => ?_)
    replace H := H r2 hr2
    refine g_iload rfl rfl rfl (pc' := 15) ?_
    obtain ⟨a3, rfl, H⟩ := H
    obtain ⟨ht5, H⟩ := H
    obtain ⟨n4, hn4, H⟩ := H
    refine g_iaload rfl ht5 hn4 (pc' := 16) rfl ?_
    refine g_aload (r := some _) rfl rfl rfl (pc' := 17) ?_
    refine g_getRv rfl rfl rfl rfl ht1 (pc' := 20) rfl (fun r6 hr6 => ?_)
    replace H := H r6 hr6
    refine g_iload rfl rfl rfl (pc' := 21) ?_
    obtain ⟨a7, rfl, H⟩ := H
    obtain ⟨ht9, H⟩ := H
    obtain ⟨n8, hn8, H⟩ := H
    refine g_iaload rfl ht9 hn8 (pc' := 22) rfl ?_
    refine g_isub rfl rfl (pc' := 23) ?_
    refine g_iload rfl rfl rfl (pc' := 24) ?_
    refine g_ic_lt rfl (pc' := 27) (pt := 34) rfl rfl ⟨fun hc => ?_, fun hc => ?_⟩
    · replace H := H.1 hc
      refine g_iinc (c := (Int32.ofNat 1)) rfl rfl rfl rfl rfl (pc' := 37) ?_
      refine g_goto rfl (pc' := 2) rfl ?_
      exact g_weak (show gm_Lle [some _, some _, some _] _ from ⟨rfl, ⟨rfl, ⟨rfl, trivial⟩⟩⟩) H
    · replace H := H.2 hc
      refine g_aload (r := some _) rfl rfl rfl (pc' := 28) ?_
      refine g_getRv rfl rfl rfl rfl ht1 (pc' := 31) rfl (fun r10 hr10 => ?_)
      replace H := H r10 hr10
      refine g_iload rfl rfl rfl (pc' := 32) ?_
      obtain ⟨a11, rfl, H⟩ := H
      obtain ⟨ht13, H⟩ := H
      obtain ⟨n12, hn12, H⟩ := H
      refine g_iaload rfl ht13 hn12 (pc' := 33) rfl ?_
      exact g_ireturn rfl (Or.inl rfl) H
set_option maxRecDepth 20000 in
theorem w_40_0 {a0 : Nat} {x1 : Int32} {h : hh_T} {Q : Option Value ⊕ Nat → hh_T → Prop} (H : gm_sub (hh_tg h a0) 5 = true ∧ (gm_G 40 5 [some (.ref a0), some (.int x1), some (.int (hh_i h a0 2))] [] h Q)) : gm_G 40 0 [some (.ref a0), some (.int x1)] [] h Q := by
  refine g_aload (r := some _) rfl rfl rfl (pc' := 1) ?_
  obtain ⟨ht1, H⟩ := H
  refine g_getI rfl rfl rfl rfl ht1 (pc' := 4) rfl ?_
  refine g_istore rfl rfl rfl (pc' := 5) ?_
  exact g_weak (show gm_Lle [some _, some _, some _] _ from ⟨rfl, ⟨rfl, ⟨rfl, trivial⟩⟩⟩) H
set_option maxRecDepth 20000 in
theorem w_40_5 {a0 : Nat} {x1 : Int32} {x2 : Int32} {h : hh_T} {Q : Option Value ⊕ Nat → hh_T → Prop} (H : (¬ x1 < x2 → (gm_sub (hh_tg h a0) 5 = true ∧ (∀ h2, h2 = hh_wi h a0 2 ((hh_i h a0 2) + (Int32.ofNat 1)) → (Q (.inl none) h2)))) ∧ (x1 < x2 → (gm_sub (hh_tg h a0) 5 = true ∧ (∀ r4, r4 = hh_r h a0 0 → (∀ r5, r5 = hh_r h a0 0 → (∃ a6, r5 = some a6 ∧ ((hh_tg h a6 = 100 ∨ hh_tg h a6 = 105) ∧ (∃ n7, gm_ix (x2 - (Int32.ofNat 1)) n7 (hh_ln h a6) ∧ (∃ a9, r4 = some a9 ∧ (hh_tg h a9 = 100 ∧ (∃ n10, gm_ix x2 n10 (hh_ln h a9) ∧ (∀ h11, h11 = hh_wi h a9 n10 (hh_i h a6 n7) → (∀ r12, r12 = hh_r h11 a0 1 → (∀ r13, r13 = hh_r h11 a0 1 → (∃ a14, r13 = some a14 ∧ ((hh_tg h11 a14 = 100 ∨ hh_tg h11 a14 = 105) ∧ (∃ n15, gm_ix (x2 - (Int32.ofNat 1)) n15 (hh_ln h11 a14) ∧ (∃ a17, r12 = some a17 ∧ (hh_tg h11 a17 = 100 ∧ (∃ n18, gm_ix x2 n18 (hh_ln h11 a17) ∧ (∀ h19, h19 = hh_wi h11 a17 n18 (hh_i h11 a14 n15) → (gm_G 40 5 [some (.ref a0), some (.int x1), some (.int (x2 + (Int32.ofInt (-1))))] [] h19 Q)))))))))))))))))))))) : gm_G 40 5 [some (.ref a0), some (.int x1), some (.int x2)] [] h Q := by
  refine g_iload rfl rfl rfl (pc' := 6) ?_
  refine g_iload rfl rfl rfl (pc' := 7) ?_
  refine g_ic_le rfl (pc' := 10) (pt := 44) rfl rfl ⟨fun hc => ?_, fun hc => ?_⟩
  · replace H := H.1 hc
    refine g_aload (r := some _) rfl rfl rfl (pc' := 45) ?_
    refine g_dup_a (r := some _) rfl rfl (pc' := 46) ?_
    obtain ⟨ht1, H⟩ := H
    refine g_getI rfl rfl rfl rfl ht1 (pc' := 49) rfl ?_
    refine g_iconst rfl rfl rfl (pc' := 50) ?_
    refine g_iadd rfl rfl (pc' := 51) ?_
    refine g_putI rfl rfl rfl rfl ht1  (pc' := 54) rfl ?_
    replace H := H _ rfl
    exact g_return rfl H
  · replace H := H.2 hc
    refine g_aload (r := some _) rfl rfl rfl (pc' := 11) ?_
    obtain ⟨ht3, H⟩ := H
    refine g_getRv rfl rfl rfl rfl ht3 (pc' := 14) rfl (fun r4 hr4 => ?_)
    replace H := H r4 hr4
    refine g_iload rfl rfl rfl (pc' := 15) ?_
    refine g_aload (r := some _) rfl rfl rfl (pc' := 16) ?_
    refine g_getRv rfl rfl rfl rfl ht3 (pc' := 19) rfl (fun r5 hr5 => ?_)
    replace H := H r5 hr5
    refine g_iload rfl rfl rfl (pc' := 20) ?_
    refine g_iconst rfl rfl rfl (pc' := 21) ?_
    refine g_isub rfl rfl (pc' := 22) ?_
    obtain ⟨a6, rfl, H⟩ := H
    obtain ⟨ht8, H⟩ := H
    obtain ⟨n7, hn7, H⟩ := H
    refine g_iaload rfl ht8 hn7 (pc' := 23) rfl ?_
    obtain ⟨a9, rfl, H⟩ := H
    obtain ⟨ht21, H⟩ := H
    obtain ⟨n10, hn10, H⟩ := H
    refine g_iastore rfl ht21 hn10  (pc' := 24) rfl ?_
    replace H := H _ rfl
    refine g_aload (r := some _) rfl rfl rfl (pc' := 25) ?_
    refine g_getRv rfl rfl rfl rfl ht3 (pc' := 28) rfl (fun r12 hr12 => ?_)
    replace H := H r12 hr12
    refine g_iload rfl rfl rfl (pc' := 29) ?_
    refine g_aload (r := some _) rfl rfl rfl (pc' := 30) ?_
    refine g_getRv rfl rfl rfl rfl ht3 (pc' := 33) rfl (fun r13 hr13 => ?_)
    replace H := H r13 hr13
    refine g_iload rfl rfl rfl (pc' := 34) ?_
    refine g_iconst rfl rfl rfl (pc' := 35) ?_
    refine g_isub rfl rfl (pc' := 36) ?_
    obtain ⟨a14, rfl, H⟩ := H
    obtain ⟨ht16, H⟩ := H
    obtain ⟨n15, hn15, H⟩ := H
    refine g_iaload rfl ht16 hn15 (pc' := 37) rfl ?_
    obtain ⟨a17, rfl, H⟩ := H
    obtain ⟨ht20, H⟩ := H
    obtain ⟨n18, hn18, H⟩ := H
    refine g_iastore rfl ht20 hn18  (pc' := 38) rfl ?_
    replace H := H _ rfl
    refine g_iinc (c := (Int32.ofInt (-1))) rfl rfl rfl rfl rfl (pc' := 41) ?_
    refine g_goto rfl (pc' := 5) rfl ?_
    exact g_weak (show gm_Lle [some _, some _, some _] _ from ⟨rfl, ⟨rfl, ⟨rfl, trivial⟩⟩⟩) H
set_option maxRecDepth 20000 in
theorem w_41_0 {a0 : Nat} {x1 : Int32} {h : hh_T} {Q : Option Value ⊕ Nat → hh_T → Prop} (H : gm_sub (hh_tg h a0) 5 = true ∧ (gm_G 41 7 [some (.ref a0), some (.int x1), some (.int (Int32.ofNat 0)), some (.int (hh_i h a0 2))] [] h Q)) : gm_G 41 0 [some (.ref a0), some (.int x1)] [] h Q := by
  refine g_iconst rfl rfl rfl (pc' := 1) ?_
  refine g_istore rfl rfl rfl (pc' := 2) ?_
  refine g_aload (r := some _) rfl rfl rfl (pc' := 3) ?_
  obtain ⟨ht1, H⟩ := H
  refine g_getI rfl rfl rfl rfl ht1 (pc' := 6) rfl ?_
  refine g_istore rfl rfl rfl (pc' := 7) ?_
  exact g_weak (show gm_Lle [some _, some _, some _, some _] _ from ⟨rfl, ⟨rfl, ⟨rfl, ⟨rfl, trivial⟩⟩⟩⟩) H
set_option maxRecDepth 20000 in
theorem w_41_7 {a0 : Nat} {x1 : Int32} {x2 : Int32} {x3 : Int32} {h : hh_T} {Q : Option Value ⊕ Nat → hh_T → Prop} (H : (¬ x2 < x3 → (Q (.inl (some (.int x2))) h)) ∧ (x2 < x3 → (gm_sub (hh_tg h a0) 5 = true ∧ (∀ r2, r2 = hh_r h a0 1 → (∃ a3, r2 = some a3 ∧ ((hh_tg h a3 = 100 ∨ hh_tg h a3 = 105) ∧ (∃ n4, gm_ix ((x2 + x3) / (Int32.ofNat 2)) n4 (hh_ln h a3) ∧ ((x1 < (hh_i h a3 n4) → (gm_G 41 41 [some (.ref a0), some (.int x1), some (.int x2), some (.int ((x2 + x3) / (Int32.ofNat 2)))] [] h Q)) ∧ (¬ x1 < (hh_i h a3 n4) → (gm_G 41 41 [some (.ref a0), some (.int x1), some (.int (((x2 + x3) / (Int32.ofNat 2)) + (Int32.ofNat 1))), some (.int x3)] [] h Q)))))))))) : gm_G 41 7 [some (.ref a0), some (.int x1), some (.int x2), some (.int x3)] [] h Q := by
  refine g_iload rfl rfl rfl (pc' := 8) ?_
  refine g_iload rfl rfl rfl (pc' := 9) ?_
  refine g_ic_ge rfl (pc' := 12) (pt := 44) rfl rfl ⟨fun hc => ?_, fun hc => ?_⟩
  · replace H := H.1 hc
    refine g_iload rfl rfl rfl (pc' := 45) ?_
    exact g_ireturn rfl (Or.inl rfl) H
  · replace H := H.2 hc
    refine g_iload rfl rfl rfl (pc' := 13) ?_
    refine g_iload rfl rfl rfl (pc' := 14) ?_
    refine g_iadd rfl rfl (pc' := 15) ?_
    refine g_iconst rfl rfl rfl (pc' := 16) ?_
    refine g_idiv rfl (by decide) (pc' := 17) rfl ?_
    refine g_istore rfl rfl rfl (pc' := 19) ?_
    refine g_aload (r := some _) rfl rfl rfl (pc' := 20) ?_
    obtain ⟨ht1, H⟩ := H
    refine g_getRv rfl rfl rfl rfl ht1 (pc' := 23) rfl (fun r2 hr2 => ?_)
    replace H := H r2 hr2
    refine g_iload rfl rfl rfl (pc' := 25) ?_
    obtain ⟨a3, rfl, H⟩ := H
    obtain ⟨ht5, H⟩ := H
    obtain ⟨n4, hn4, H⟩ := H
    refine g_iaload rfl ht5 hn4 (pc' := 26) rfl ?_
    refine g_iload rfl rfl rfl (pc' := 27) ?_
    refine g_ic_gt rfl (pc' := 30) (pt := 38) rfl rfl ⟨fun hc => ?_, fun hc => ?_⟩
    · replace H := H.1 hc
      refine g_iload rfl rfl rfl (pc' := 40) ?_
      refine g_istore rfl rfl rfl (pc' := 41) ?_
      exact g_weak (show gm_Lle [some _, some _, some _, some _] _ from ⟨rfl, ⟨rfl, ⟨rfl, ⟨rfl, trivial⟩⟩⟩⟩) H
    · replace H := H.2 hc
      refine g_iload rfl rfl rfl (pc' := 32) ?_
      refine g_iconst rfl rfl rfl (pc' := 33) ?_
      refine g_iadd rfl rfl (pc' := 34) ?_
      refine g_istore rfl rfl rfl (pc' := 35) ?_
      refine g_goto rfl (pc' := 41) rfl ?_
      exact g_weak (show gm_Lle [some _, some _, some _, some _] _ from ⟨rfl, ⟨rfl, ⟨rfl, ⟨rfl, trivial⟩⟩⟩⟩) H
set_option maxRecDepth 20000 in
theorem w_41_41 {a0 : Nat} {x1 : Int32} {x2 : Int32} {x3 : Int32} {h : hh_T} {Q : Option Value ⊕ Nat → hh_T → Prop} (H : gm_G 41 7 [some (.ref a0), some (.int x1), some (.int x2), some (.int x3)] [] h Q) : gm_G 41 41 [some (.ref a0), some (.int x1), some (.int x2), some (.int x3)] [] h Q := by
  refine g_goto rfl (pc' := 7) rfl ?_
  exact g_weak (show gm_Lle [some _, some _, some _, some _] _ from ⟨rfl, ⟨rfl, ⟨rfl, ⟨rfl, trivial⟩⟩⟩⟩) H
set_option maxRecDepth 20000 in
theorem w_42_0 {a0 : Nat}  {h : hh_T} {Q : Option Value ⊕ Nat → hh_T → Prop} (H : gm_sub (hh_tg h a0) 6 = true ∧ (Q (.inl (some (.int (hh_i h a0 8)))) h)) : gm_G 42 0 [some (.ref a0)] [] h Q := by
  refine g_aload (r := some _) rfl rfl rfl (pc' := 1) ?_
  obtain ⟨ht1, H⟩ := H
  refine g_getI rfl rfl rfl rfl ht1 (pc' := 4) rfl ?_
  exact g_ireturn rfl (Or.inl rfl) H
set_option maxRecDepth 20000 in
theorem w_43_0 {a0 : Nat} {x1 : Int32} {x2 : Int32} {h : hh_T} {Q : Option Value ⊕ Nat → hh_T → Prop} (H : gm_G 43 2 [some (.ref a0), some (.int x1), some (.int x2), some (.int (Int32.ofNat 0))] [] h Q) : gm_G 43 0 [some (.ref a0), some (.int x1), some (.int x2)] [] h Q := by
  refine g_iconst rfl rfl rfl (pc' := 1) ?_
  refine g_istore rfl rfl rfl (pc' := 2) ?_
  exact g_weak (show gm_Lle [some _, some _, some _, some _] _ from ⟨rfl, ⟨rfl, ⟨rfl, ⟨rfl, trivial⟩⟩⟩⟩) H
set_option maxRecDepth 20000 in
theorem w_43_2 {a0 : Nat} {x1 : Int32} {x2 : Int32} {x3 : Int32} {h : hh_T} {Q : Option Value ⊕ Nat → hh_T → Prop} (H : (¬ x3 < x2 → (Q (.inl (some (.int (Int32.ofNat 0)))) h)) ∧ (x3 < x2 → (gm_sub (hh_tg h a0) 6 = true ∧ (∀ r2, r2 = hh_r h a0 11 → (∃ a3, r2 = some a3 ∧ ((hh_tg h a3 = 100 ∨ hh_tg h a3 = 105) ∧ (∃ n4, gm_ix x3 n4 (hh_ln h a3) ∧ ((¬ (hh_i h a3 n4) = x1 → (gm_G 43 2 [some (.ref a0), some (.int x1), some (.int x2), some (.int (x3 + (Int32.ofNat 1)))] [] h Q)) ∧ ((hh_i h a3 n4) = x1 → (Q (.inl (some (.int (Int32.ofNat 1)))) h)))))))))) : gm_G 43 2 [some (.ref a0), some (.int x1), some (.int x2), some (.int x3)] [] h Q := by
  refine g_iload rfl rfl rfl (pc' := 3) ?_
  refine g_iload rfl rfl rfl (pc' := 4) ?_
  refine g_ic_ge rfl (pc' := 7) (pt := 25) rfl rfl ⟨fun hc => ?_, fun hc => ?_⟩
  · replace H := H.1 hc
    refine g_iconst rfl rfl rfl (pc' := 26) ?_
    exact g_ireturn rfl (Or.inr (by decide)) H
  · replace H := H.2 hc
    refine g_aload (r := some _) rfl rfl rfl (pc' := 8) ?_
    obtain ⟨ht1, H⟩ := H
    refine g_getRv rfl rfl rfl rfl ht1 (pc' := 11) rfl (fun r2 hr2 => ?_)
    replace H := H r2 hr2
    refine g_iload rfl rfl rfl (pc' := 12) ?_
    obtain ⟨a3, rfl, H⟩ := H
    obtain ⟨ht5, H⟩ := H
    obtain ⟨n4, hn4, H⟩ := H
    refine g_iaload rfl ht5 hn4 (pc' := 13) rfl ?_
    refine g_iload rfl rfl rfl (pc' := 14) ?_
    refine g_ic_ne rfl (pc' := 17) (pt := 19) rfl rfl ⟨fun hc => ?_, fun hc => ?_⟩
    · replace H := H.1 hc
      refine g_iinc (c := (Int32.ofNat 1)) rfl rfl rfl rfl rfl (pc' := 22) ?_
      refine g_goto rfl (pc' := 2) rfl ?_
      exact g_weak (show gm_Lle [some _, some _, some _, some _] _ from ⟨rfl, ⟨rfl, ⟨rfl, ⟨rfl, trivial⟩⟩⟩⟩) H
    · replace H := H.2 hc
      refine g_iconst rfl rfl rfl (pc' := 18) ?_
      exact g_ireturn rfl (Or.inr (by decide)) H
set_option maxRecDepth 20000 in
theorem w_44_0 {a0 : Nat}  {h : hh_T} {Q : Option Value ⊕ Nat → hh_T → Prop} (H : Q (.inl (some (.int (Int32.ofNat 2)))) h) : gm_G 44 0 [some (.ref a0)] [] h Q := by
  refine g_iconst rfl rfl rfl (pc' := 1) ?_
  exact g_ireturn rfl (Or.inl rfl) H
set_option maxRecDepth 20000 in
theorem w_45_0 {a0 : Nat} {x1 : Int32} {h : hh_T} {Q : Option Value ⊕ Nat → hh_T → Prop} (H : gm_sub (hh_tg h a0) 3 = true ∧ (gm_sub (hh_tg h a0) 6 = true ∧ (((hh_i h a0 2) - (hh_i h a0 8)) ≠ 0 ∧ (Q (.inl (some (.int (x1 + ((hh_i h a0 8) * (((x1 + ((hh_i h a0 2) - (hh_i h a0 8))) - (Int32.ofNat 1)) / ((hh_i h a0 2) - (hh_i h a0 8)))))))) h)))) : gm_G 45 0 [some (.ref a0), some (.int x1)] [] h Q := by
  refine g_aload (r := some _) rfl rfl rfl (pc' := 1) ?_
  obtain ⟨ht1, H⟩ := H
  refine g_getI rfl rfl rfl rfl ht1 (pc' := 4) rfl ?_
  refine g_aload (r := some _) rfl rfl rfl (pc' := 5) ?_
  obtain ⟨ht2, H⟩ := H
  refine g_getI rfl rfl rfl rfl ht2 (pc' := 8) rfl ?_
  refine g_isub rfl rfl (pc' := 9) ?_
  refine g_istore rfl rfl rfl (pc' := 10) ?_
  refine g_iload rfl rfl rfl (pc' := 11) ?_
  refine g_aload (r := some _) rfl rfl rfl (pc' := 12) ?_
  refine g_getI rfl rfl rfl rfl ht2 (pc' := 15) rfl ?_
  refine g_iload rfl rfl rfl (pc' := 16) ?_
  refine g_iload rfl rfl rfl (pc' := 17) ?_
  refine g_iadd rfl rfl (pc' := 18) ?_
  refine g_iconst rfl rfl rfl (pc' := 19) ?_
  refine g_isub rfl rfl (pc' := 20) ?_
  refine g_iload rfl rfl rfl (pc' := 21) ?_
  obtain ⟨Hp, H⟩ := H
  refine g_idiv rfl Hp (pc' := 22) rfl ?_
  refine g_imul rfl rfl (pc' := 23) ?_
  refine g_iadd rfl rfl (pc' := 24) ?_
  exact g_ireturn rfl (Or.inl rfl) H
set_option maxRecDepth 20000 in
theorem w_46_0 {a0 : Nat}  {h : hh_T} {Q : Option Value ⊕ Nat → hh_T → Prop} (H : gm_sub (hh_tg h a0) 3 = true ∧ (Q (.inl (some (.int ((Int32.ofNat 1) <<< ((hh_i h a0 2) &&& 31))))) h)) : gm_G 46 0 [some (.ref a0)] [] h Q := by
  refine g_iconst rfl rfl rfl (pc' := 1) ?_
  refine g_aload (r := some _) rfl rfl rfl (pc' := 2) ?_
  obtain ⟨ht1, H⟩ := H
  refine g_getI rfl rfl rfl rfl ht1 (pc' := 5) rfl ?_
  refine g_ishl rfl rfl (pc' := 6) ?_
  exact g_ireturn rfl (Or.inl rfl) H
set_option maxRecDepth 20000 in
theorem w_47_0 {a0 : Nat}  {h : hh_T} {Q : Option Value ⊕ Nat → hh_T → Prop} (H : Q (.inl none) h) : gm_G 47 0 [some (.ref a0)] [] h Q := by
  refine g_aload (r := some _) rfl rfl rfl (pc' := 1) ?_
  refine g_objinit rfl (Nat.le_of_ble_eq_true rfl) (pc' := 4) rfl ?_
  exact g_return rfl H
set_option maxRecDepth 20000 in
theorem w_48_0 {a0 : Nat} {r_1 : Option Nat} {x2 : Int32} {r_3 : Option Nat} {h : hh_T} {Q : Option Value ⊕ Nat → hh_T → Prop} (H : (¬ x2 < (Int32.ofNat 32) → (gm_G 48 11 [none, some (va_rf r_1), none, some (va_rf r_3), some (.int (Int32.ofNat 0))] [] h Q)) ∧ (x2 < (Int32.ofNat 32) → (Q (.inl (some (.int (Int32.ofInt (-1))))) h))) : gm_G 48 0 [some (.ref a0), some (va_rf r_1), some (.int x2), some (va_rf r_3)] [] h Q := by
  refine g_iload rfl rfl rfl (pc' := 1) ?_
  refine g_iconst rfl rfl rfl (pc' := 3) ?_
  refine g_ic_ge rfl (pc' := 6) (pt := 8) rfl rfl ⟨fun hc => ?_, fun hc => ?_⟩
  · replace H := H.1 hc
    refine g_iconst rfl rfl rfl (pc' := 9) ?_
    refine g_istore rfl gm_sto_rf3 rfl (pc' := 11) ?_
    exact g_weak (show gm_Lle [none, some _, none, some _, some _] _ from ⟨rfl, ⟨rfl, ⟨rfl, trivial⟩⟩⟩) H
  · replace H := H.2 hc
    refine g_iconst rfl rfl rfl (pc' := 7) ?_
    exact g_ireturn rfl (Or.inl rfl) H
set_option maxRecDepth 20000 in
theorem w_48_11 {a0 : Nat} {r_1 : Option Nat} {r_3 : Option Nat} {x4 : Int32} {h : hh_T} {Q : Option Value ⊕ Nat → hh_T → Prop} (H : (¬ x4 < (Int32.ofNat 32) → (Q (.inl (some (.int (Int32.ofNat 32)))) h)) ∧ (x4 < (Int32.ofNat 32) → (∃ a1, r_1 = some a1 ∧ ((hh_tg h a1 = 101 ∨ hh_tg h a1 = 102) ∧ (∃ n2, gm_ix x4 n2 (hh_ln h a1) ∧ (∃ a4, r_3 = some a4 ∧ (hh_tg h a4 = 101 ∧ (∃ n5, gm_ix x4 n5 (hh_ln h a4) ∧ (∀ h6, h6 = hh_wi h a4 n5 ((hh_i h a1 n2).toInt8.toInt32) → (gm_G 48 11 [none, some (.ref a1), none, some (.ref a4), some (.int (x4 + (Int32.ofNat 1)))] [] h6 Q)))))))))) : gm_G 48 11 [none, some (va_rf r_1), none, some (va_rf r_3), some (.int x4)] [] h Q := by
  refine g_iload rfl rfl rfl (pc' := 13) ?_
  refine g_iconst rfl rfl rfl (pc' := 15) ?_
  refine g_ic_ge rfl (pc' := 18) (pt := 32) rfl rfl ⟨fun hc => ?_, fun hc => ?_⟩
  · replace H := H.1 hc
    refine g_iconst rfl rfl rfl (pc' := 34) ?_
    exact g_ireturn rfl (Or.inl rfl) H
  · replace H := H.2 hc
    refine g_aload (r := _) rfl rfl rfl (pc' := 19) ?_
    refine g_iload rfl rfl rfl (pc' := 21) ?_
    refine g_aload (r := _) rfl rfl rfl (pc' := 22) ?_
    refine g_iload rfl rfl rfl (pc' := 24) ?_
    obtain ⟨a1, rfl, H⟩ := H
    obtain ⟨ht3, H⟩ := H
    obtain ⟨n2, hn2, H⟩ := H
    refine g_baload rfl ht3 hn2 (pc' := 25) rfl ?_
    obtain ⟨a4, rfl, H⟩ := H
    obtain ⟨ht7, H⟩ := H
    obtain ⟨n5, hn5, H⟩ := H
    refine g_bastore rfl ht7 hn5  (pc' := 26) rfl ?_
    replace H := H _ rfl
    refine g_iinc (c := (Int32.ofNat 1)) rfl rfl rfl rfl rfl (pc' := 29) ?_
    refine g_goto rfl (pc' := 11) rfl ?_
    exact g_weak (show gm_Lle [none, some _, none, some _, some _] _ from ⟨rfl, ⟨rfl, ⟨rfl, trivial⟩⟩⟩) H
set_option maxRecDepth 20000 in
theorem w_49_0 {a0 : Nat}  {h : hh_T} {Q : Option Value ⊕ Nat → hh_T → Prop} (H : Q (.inl none) h) : gm_G 49 0 [some (.ref a0)] [] h Q := by
  refine g_aload (r := some _) rfl rfl rfl (pc' := 1) ?_
  refine g_objinit rfl (Nat.le_of_ble_eq_true rfl) (pc' := 4) rfl ?_
  exact g_return rfl H
set_option maxRecDepth 20000 in
theorem w_50_0 {a0 : Nat} {r_1 : Option Nat} {x2 : Int32} {r_3 : Option Nat} {h : hh_T} {Q : Option Value ⊕ Nat → hh_T → Prop} (H : gm_G 50 6 [none, some (va_rf r_1), some (.int x2), some (va_rf r_3), some (.int (Int32.ofNat 0)), some (.int (Int32.ofNat 0))] [] h Q) : gm_G 50 0 [some (.ref a0), some (va_rf r_1), some (.int x2), some (va_rf r_3)] [] h Q := by
  refine g_iconst rfl rfl rfl (pc' := 1) ?_
  refine g_istore rfl gm_sto_rf3 rfl (pc' := 3) ?_
  refine g_iconst rfl rfl rfl (pc' := 4) ?_
  refine g_istore rfl rfl rfl (pc' := 6) ?_
  exact g_weak (show gm_Lle [none, some _, some _, some _, some _, some _] _ from ⟨rfl, ⟨rfl, ⟨rfl, ⟨rfl, ⟨rfl, trivial⟩⟩⟩⟩⟩) H
set_option maxRecDepth 20000 in
theorem w_50_6 {a0 : Nat} {r_1 : Option Nat} {x2 : Int32} {r_3 : Option Nat} {x4 : Int32} {x5 : Int32} {h : hh_T} {Q : Option Value ⊕ Nat → hh_T → Prop} (H : (¬ x5 < (Int32.ofNat 32) → (Q (.inl (some (.int x4))) h)) ∧ (x5 < (Int32.ofNat 32) → ((¬ x4 = x2 → (∃ a1, r_1 = some a1 ∧ ((hh_tg h a1 = 101 ∨ hh_tg h a1 = 102) ∧ (∃ n2, gm_ix x4 n2 (hh_ln h a1) ∧ ((¬ ((hh_i h a1 n2) &&& (Int32.ofNat 255)) = Int32.ofNat 0 → (gm_G 50 81 [none, some (.ref a1), some (.int x2), some (va_rf r_3), some (.int (x4 + (Int32.ofNat 1))), some (.int x5), some (.int ((hh_i h a1 n2) &&& (Int32.ofNat 255))), some (.int (Int32.ofNat 1))] [] h Q)) ∧ (((hh_i h a1 n2) &&& (Int32.ofNat 255)) = Int32.ofNat 0 → ((¬ (x4 + (Int32.ofNat 1)) = x2 → (∃ n4, gm_ix (x4 + (Int32.ofNat 1)) n4 (hh_ln h a1) ∧ ((((hh_i h a1 n4) &&& (Int32.ofNat 255)) < (Int32.ofNat 1) → (Q (.inl (some (.int (Int32.ofInt (-1))))) h)) ∧ (¬ ((hh_i h a1 n4) &&& (Int32.ofNat 255)) < (Int32.ofNat 1) → ((¬ ((Int32.ofNat 32) - x5) < ((hh_i h a1 n4) &&& (Int32.ofNat 255)) → (gm_G 50 81 [none, some (.ref a1), some (.int x2), some (va_rf r_3), some (.int ((x4 + (Int32.ofNat 1)) + (Int32.ofNat 1))), some (.int x5), some (.int ((hh_i h a1 n2) &&& (Int32.ofNat 255))), some (.int ((hh_i h a1 n4) &&& (Int32.ofNat 255)))] [] h Q)) ∧ (((Int32.ofNat 32) - x5) < ((hh_i h a1 n4) &&& (Int32.ofNat 255)) → (Q (.inl (some (.int (Int32.ofInt (-1))))) h))))))) ∧ ((x4 + (Int32.ofNat 1)) = x2 → (Q (.inl (some (.int (Int32.ofInt (-1))))) h))))))))) ∧ (x4 = x2 → (Q (.inl (some (.int (Int32.ofInt (-1))))) h))))) : gm_G 50 6 [none, some (va_rf r_1), some (.int x2), some (va_rf r_3), some (.int x4), some (.int x5)] [] h Q := by
  refine g_iload rfl rfl rfl (pc' := 8) ?_
  refine g_iconst rfl rfl rfl (pc' := 10) ?_
  refine g_ic_ge rfl (pc' := 13) (pt := 117) rfl rfl ⟨fun hc => ?_, fun hc => ?_⟩
  · replace H := H.1 hc
    refine g_iload rfl rfl rfl (pc' := 119) ?_
    exact g_ireturn rfl (Or.inl rfl) H
  · replace H := H.2 hc
    refine g_iload rfl rfl rfl (pc' := 15) ?_
    refine g_iload rfl rfl rfl (pc' := 16) ?_
    refine g_ic_ne rfl (pc' := 19) (pt := 21) rfl rfl ⟨fun hc => ?_, fun hc => ?_⟩
    · replace H := H.1 hc
      refine g_aload (r := _) rfl rfl rfl (pc' := 22) ?_
      refine g_iload rfl rfl rfl (pc' := 24) ?_
      obtain ⟨a1, rfl, H⟩ := H
      obtain ⟨ht3, H⟩ := H
      obtain ⟨n2, hn2, H⟩ := H
      refine g_baload rfl ht3 hn2 (pc' := 25) rfl ?_
      refine g_iconst rfl rfl rfl (pc' := 28) ?_
      refine g_iand rfl rfl (pc' := 29) ?_
      refine g_istore rfl rfl rfl (pc' := 31) ?_
      refine g_iinc (c := (Int32.ofNat 1)) rfl rfl rfl gm_sto_rf3 rfl (pc' := 34) ?_
      refine g_iconst rfl rfl rfl (pc' := 35) ?_
      refine g_istore rfl rfl rfl (pc' := 37) ?_
      refine g_iload rfl rfl rfl (pc' := 39) ?_
      refine g_if_ne rfl (pc' := 42) (pt := 81) rfl rfl ⟨fun hc => ?_, fun hc => ?_⟩
      · replace H := H.1 hc
        exact g_weak (show gm_Lle [none, some _, some _, some _, some _, some _, some _, some _] _ from ⟨rfl, ⟨rfl, ⟨rfl, ⟨rfl, ⟨rfl, ⟨rfl, ⟨rfl, trivial⟩⟩⟩⟩⟩⟩⟩) H
      · replace H := H.2 hc
        refine g_iload rfl rfl rfl (pc' := 44) ?_
        refine g_iload rfl rfl rfl (pc' := 45) ?_
        refine g_ic_ne rfl (pc' := 48) (pt := 50) rfl rfl ⟨fun hc => ?_, fun hc => ?_⟩
        · replace H := H.1 hc
          refine g_aload (r := some _) rfl rfl rfl (pc' := 51) ?_
          refine g_iload rfl rfl rfl (pc' := 53) ?_
          obtain ⟨n4, hn4, H⟩ := H
          refine g_baload rfl ht3 hn4 (pc' := 54) rfl ?_
          refine g_iconst rfl rfl rfl (pc' := 57) ?_
          refine g_iand rfl rfl (pc' := 58) ?_
          refine g_istore rfl rfl rfl (pc' := 60) ?_
          refine g_iinc (c := (Int32.ofNat 1)) rfl rfl rfl gm_sto_rf3 rfl (pc' := 63) ?_
          refine g_iload rfl rfl rfl (pc' := 65) ?_
          refine g_iconst rfl rfl rfl (pc' := 66) ?_
          refine g_ic_lt rfl (pc' := 69) (pt := 79) rfl rfl ⟨fun hc => ?_, fun hc => ?_⟩
          · replace H := H.1 hc
            refine g_iconst rfl rfl rfl (pc' := 80) ?_
            exact g_ireturn rfl (Or.inl rfl) H
          · replace H := H.2 hc
            refine g_iload rfl rfl rfl (pc' := 71) ?_
            refine g_iconst rfl rfl rfl (pc' := 73) ?_
            refine g_iload rfl rfl rfl (pc' := 75) ?_
            refine g_isub rfl rfl (pc' := 76) ?_
            refine g_ic_le rfl (pc' := 79) (pt := 81) rfl rfl ⟨fun hc => ?_, fun hc => ?_⟩
            · replace H := H.1 hc
              exact g_weak (show gm_Lle [none, some _, some _, some _, some _, some _, some _, some _] _ from ⟨rfl, ⟨rfl, ⟨rfl, ⟨rfl, ⟨rfl, ⟨rfl, ⟨rfl, trivial⟩⟩⟩⟩⟩⟩⟩) H
            · replace H := H.2 hc
              refine g_iconst rfl rfl rfl (pc' := 80) ?_
              exact g_ireturn rfl (Or.inl rfl) H
        · replace H := H.2 hc
          refine g_iconst rfl rfl rfl (pc' := 49) ?_
          exact g_ireturn rfl (Or.inl rfl) H
    · replace H := H.2 hc
      refine g_iconst rfl rfl rfl (pc' := 20) ?_
      exact g_ireturn rfl (Or.inl rfl) H
set_option maxRecDepth 20000 in
theorem w_50_81 {a0 : Nat} {r_1 : Option Nat} {x2 : Int32} {r_3 : Option Nat} {x4 : Int32} {x5 : Int32} {x6 : Int32} {x7 : Int32} {h : hh_T} {Q : Option Value ⊕ Nat → hh_T → Prop} (H : gm_G 50 84 [none, some (va_rf r_1), some (.int x2), some (va_rf r_3), some (.int x4), some (.int x5), some (.int x6), some (.int x7), some (.int (Int32.ofNat 0))] [] h Q) : gm_G 50 81 [none, some (va_rf r_1), some (.int x2), some (va_rf r_3), some (.int x4), some (.int x5), some (.int x6), some (.int x7)] [] h Q := by
  refine g_iconst rfl rfl rfl (pc' := 82) ?_
  refine g_istore rfl rfl rfl (pc' := 84) ?_
  exact g_weak (show gm_Lle [none, some _, some _, some _, some _, some _, some _, some _, some _] _ from ⟨rfl, ⟨rfl, ⟨rfl, ⟨rfl, ⟨rfl, ⟨rfl, ⟨rfl, ⟨rfl, trivial⟩⟩⟩⟩⟩⟩⟩⟩) H
set_option maxRecDepth 20000 in
theorem w_50_84 {a0 : Nat} {r_1 : Option Nat} {x2 : Int32} {r_3 : Option Nat} {x4 : Int32} {x5 : Int32} {x6 : Int32} {x7 : Int32} {x8 : Int32} {h : hh_T} {Q : Option Value ⊕ Nat → hh_T → Prop} (H : (¬ x8 < x7 → (gm_G 50 6 [none, some (va_rf r_1), some (.int x2), some (va_rf r_3), some (.int x4), some (.int (x5 + x7))] [] h Q)) ∧ (x8 < x7 → (∃ a1, r_3 = some a1 ∧ (hh_tg h a1 = 101 ∧ (∃ n2, gm_ix (x5 + x8) n2 (hh_ln h a1) ∧ (∀ h3, h3 = hh_wi h a1 n2 ((x6.toInt8.toInt32).toInt8.toInt32) → (gm_G 50 84 [none, some (va_rf r_1), some (.int x2), some (.ref a1), some (.int x4), some (.int x5), some (.int x6), some (.int x7), some (.int (x8 + (Int32.ofNat 1)))] [] h3 Q))))))) : gm_G 50 84 [none, some (va_rf r_1), some (.int x2), some (va_rf r_3), some (.int x4), some (.int x5), some (.int x6), some (.int x7), some (.int x8)] [] h Q := by
  refine g_iload rfl rfl rfl (pc' := 86) ?_
  refine g_iload rfl rfl rfl (pc' := 88) ?_
  refine g_ic_ge rfl (pc' := 91) (pt := 107) rfl rfl ⟨fun hc => ?_, fun hc => ?_⟩
  · replace H := H.1 hc
    refine g_iload rfl rfl rfl (pc' := 109) ?_
    refine g_iload rfl rfl rfl (pc' := 111) ?_
    refine g_iadd rfl rfl (pc' := 112) ?_
    refine g_istore rfl rfl rfl (pc' := 114) ?_
    refine g_goto rfl (pc' := 6) rfl ?_
    exact g_weak (show gm_Lle [none, some _, some _, some _, some _, some _] _ from ⟨rfl, ⟨rfl, ⟨rfl, ⟨rfl, ⟨rfl, trivial⟩⟩⟩⟩⟩) H
  · replace H := H.2 hc
    refine g_aload (r := _) rfl rfl rfl (pc' := 92) ?_
    refine g_iload rfl rfl rfl (pc' := 94) ?_
    refine g_iload rfl rfl rfl (pc' := 96) ?_
    refine g_iadd rfl rfl (pc' := 97) ?_
    refine g_iload rfl rfl rfl (pc' := 99) ?_
    refine g_i2b rfl rfl (pc' := 100) ?_
    obtain ⟨a1, rfl, H⟩ := H
    obtain ⟨ht4, H⟩ := H
    obtain ⟨n2, hn2, H⟩ := H
    refine g_bastore rfl ht4 hn2  (pc' := 101) rfl ?_
    replace H := H _ rfl
    refine g_iinc (c := (Int32.ofNat 1)) rfl rfl rfl rfl rfl (pc' := 104) ?_
    refine g_goto rfl (pc' := 84) rfl ?_
    exact g_weak (show gm_Lle [none, some _, some _, some _, some _, some _, some _, some _, some _] _ from ⟨rfl, ⟨rfl, ⟨rfl, ⟨rfl, ⟨rfl, ⟨rfl, ⟨rfl, ⟨rfl, trivial⟩⟩⟩⟩⟩⟩⟩⟩) H
set_option maxRecDepth 20000 in
theorem w_51_0 {a0 : Nat}  {h : hh_T} {Q : Option Value ⊕ Nat → hh_T → Prop} (H : Q (.inl none) h) : gm_G 51 0 [some (.ref a0)] [] h Q := by
  refine g_aload (r := some _) rfl rfl rfl (pc' := 1) ?_
  refine g_objinit rfl (Nat.le_of_ble_eq_true rfl) (pc' := 4) rfl ?_
  exact g_return rfl H
set_option maxRecDepth 20000 in
theorem w_52_0 {a0 : Nat} {r_1 : Option Nat} {x2 : Int32} {r_3 : Option Nat} {h : hh_T} {Q : Option Value ⊕ Nat → hh_T → Prop} (H : gm_G 52 6 [none, some (va_rf r_1), some (.int x2), some (va_rf r_3), some (.int (Int32.ofNat 0)), some (.int (Int32.ofNat 0))] [] h Q) : gm_G 52 0 [some (.ref a0), some (va_rf r_1), some (.int x2), some (va_rf r_3)] [] h Q := by
  refine g_iconst rfl rfl rfl (pc' := 1) ?_
  refine g_istore rfl gm_sto_rf3 rfl (pc' := 3) ?_
  refine g_iconst rfl rfl rfl (pc' := 4) ?_
  refine g_istore rfl rfl rfl (pc' := 6) ?_
  exact g_weak (show gm_Lle [none, some _, some _, some _, some _, some _] _ from ⟨rfl, ⟨rfl, ⟨rfl, ⟨rfl, ⟨rfl, trivial⟩⟩⟩⟩⟩) H
set_option maxRecDepth 20000 in
theorem w_52_6 {a0 : Nat} {r_1 : Option Nat} {x2 : Int32} {r_3 : Option Nat} {x4 : Int32} {x5 : Int32} {h : hh_T} {Q : Option Value ⊕ Nat → hh_T → Prop} (H : (¬ x5 < (Int32.ofNat 32) → (Q (.inl (some (.int x4))) h)) ∧ (x5 < (Int32.ofNat 32) → ((¬ x4 = x2 → (∃ a1, r_1 = some a1 ∧ ((hh_tg h a1 = 101 ∨ hh_tg h a1 = 102) ∧ (∃ n2, gm_ix x4 n2 (hh_ln h a1) ∧ ((¬ ((hh_i h a1 n2) &&& (Int32.ofNat 255)) < (Int32.ofNat 128) → (((x4 + (Int32.ofNat 1)) = x2 → (Q (.inl (some (.int (Int32.ofInt (-1))))) h)) ∧ (¬ (x4 + (Int32.ofNat 1)) = x2 → ((¬ ((Int32.ofNat 32) - x5) < (((hh_i h a1 n2) &&& (Int32.ofNat 255)) - (Int32.ofNat 125)) → (∃ n4, gm_ix (x4 + (Int32.ofNat 1)) n4 (hh_ln h a1) ∧ ((((hh_i h a1 n4) &&& (Int32.ofNat 255)) < (Int32.ofNat 1) → (Q (.inl (some (.int (Int32.ofInt (-1))))) h)) ∧ (¬ ((hh_i h a1 n4) &&& (Int32.ofNat 255)) < (Int32.ofNat 1) → ((¬ x5 < ((hh_i h a1 n4) &&& (Int32.ofNat 255)) → (gm_G 52 172 [none, some (.ref a1), some (.int x2), some (va_rf r_3), some (.int ((x4 + (Int32.ofNat 1)) + (Int32.ofNat 1))), some (.int x5), none, some (.int (((hh_i h a1 n2) &&& (Int32.ofNat 255)) - (Int32.ofNat 125))), some (.int ((hh_i h a1 n4) &&& (Int32.ofNat 255))), some (.int (Int32.ofNat 0))] [] h Q)) ∧ (x5 < ((hh_i h a1 n4) &&& (Int32.ofNat 255)) → (Q (.inl (some (.int (Int32.ofInt (-1))))) h))))))) ∧ (((Int32.ofNat 32) - x5) < (((hh_i h a1 n2) &&& (Int32.ofNat 255)) - (Int32.ofNat 125)) → (Q (.inl (some (.int (Int32.ofInt (-1))))) h)))))) ∧ (((hh_i h a1 n2) &&& (Int32.ofNat 255)) < (Int32.ofNat 128) → ((((Int32.ofNat 32) - x5) < (((hh_i h a1 n2) &&& (Int32.ofNat 255)) + (Int32.ofNat 1)) → (Q (.inl (some (.int (Int32.ofInt (-1))))) h)) ∧ (¬ ((Int32.ofNat 32) - x5) < (((hh_i h a1 n2) &&& (Int32.ofNat 255)) + (Int32.ofNat 1)) → ((¬ (x2 - (x4 + (Int32.ofNat 1))) < (((hh_i h a1 n2) &&& (Int32.ofNat 255)) + (Int32.ofNat 1)) → (gm_G 52 72 [none, some (.ref a1), some (.int x2), some (va_rf r_3), some (.int (x4 + (Int32.ofNat 1))), some (.int x5), none, some (.int (((hh_i h a1 n2) &&& (Int32.ofNat 255)) + (Int32.ofNat 1))), some (.int (Int32.ofNat 0))] [] h Q)) ∧ ((x2 - (x4 + (Int32.ofNat 1))) < (((hh_i h a1 n2) &&& (Int32.ofNat 255)) + (Int32.ofNat 1)) → (Q (.inl (some (.int (Int32.ofInt (-1))))) h))))))))))) ∧ (x4 = x2 → (Q (.inl (some (.int (Int32.ofInt (-1))))) h))))) : gm_G 52 6 [none, some (va_rf r_1), some (.int x2), some (va_rf r_3), some (.int x4), some (.int x5)] [] h Q := by
  refine g_iload rfl rfl rfl (pc' := 8) ?_
  refine g_iconst rfl rfl rfl (pc' := 10) ?_
  refine g_ic_ge rfl (pc' := 13) (pt := 212) rfl rfl ⟨fun hc => ?_, fun hc => ?_⟩
  · replace H := H.1 hc
    refine g_iload rfl rfl rfl (pc' := 214) ?_
    exact g_ireturn rfl (Or.inl rfl) H
  · replace H := H.2 hc
    refine g_iload rfl rfl rfl (pc' := 15) ?_
    refine g_iload rfl rfl rfl (pc' := 16) ?_
    refine g_ic_ne rfl (pc' := 19) (pt := 21) rfl rfl ⟨fun hc => ?_, fun hc => ?_⟩
    · replace H := H.1 hc
      refine g_aload (r := _) rfl rfl rfl (pc' := 22) ?_
      refine g_iload rfl rfl rfl (pc' := 24) ?_
      obtain ⟨a1, rfl, H⟩ := H
      obtain ⟨ht3, H⟩ := H
      obtain ⟨n2, hn2, H⟩ := H
      refine g_baload rfl ht3 hn2 (pc' := 25) rfl ?_
      refine g_iconst rfl rfl rfl (pc' := 28) ?_
      refine g_iand rfl rfl (pc' := 29) ?_
      refine g_istore rfl rfl rfl (pc' := 31) ?_
      refine g_iinc (c := (Int32.ofNat 1)) rfl rfl rfl gm_sto_rf3 rfl (pc' := 34) ?_
      refine g_iload rfl rfl rfl (pc' := 36) ?_
      refine g_iconst rfl rfl rfl (pc' := 39) ?_
      refine g_ic_ge rfl (pc' := 42) (pt := 116) rfl rfl ⟨fun hc => ?_, fun hc => ?_⟩
      · replace H := H.1 hc
        refine g_iload rfl rfl rfl (pc' := 118) ?_
        refine g_iconst rfl rfl rfl (pc' := 120) ?_
        refine g_isub rfl rfl (pc' := 121) ?_
        refine g_istore rfl rfl rfl (pc' := 123) ?_
        refine g_iload rfl rfl rfl (pc' := 125) ?_
        refine g_iload rfl rfl rfl (pc' := 126) ?_
        refine g_ic_eq rfl (pc' := 129) (pt := 139) rfl rfl ⟨fun hc => ?_, fun hc => ?_⟩
        · replace H := H.1 hc
          refine g_iconst rfl rfl rfl (pc' := 140) ?_
          exact g_ireturn rfl (Or.inl rfl) H
        · replace H := H.2 hc
          refine g_iload rfl rfl rfl (pc' := 131) ?_
          refine g_iconst rfl rfl rfl (pc' := 133) ?_
          refine g_iload rfl rfl rfl (pc' := 135) ?_
          refine g_isub rfl rfl (pc' := 136) ?_
          refine g_ic_le rfl (pc' := 139) (pt := 141) rfl rfl ⟨fun hc => ?_, fun hc => ?_⟩
          · replace H := H.1 hc
            refine g_aload (r := some _) rfl rfl rfl (pc' := 142) ?_
            refine g_iload rfl rfl rfl (pc' := 144) ?_
            obtain ⟨n4, hn4, H⟩ := H
            refine g_baload rfl ht3 hn4 (pc' := 145) rfl ?_
            refine g_iconst rfl rfl rfl (pc' := 148) ?_
            refine g_iand rfl rfl (pc' := 149) ?_
            refine g_istore rfl rfl rfl (pc' := 151) ?_
            refine g_iinc (c := (Int32.ofNat 1)) rfl rfl rfl gm_sto_rf3 rfl (pc' := 154) ?_
            refine g_iload rfl rfl rfl (pc' := 156) ?_
            refine g_iconst rfl rfl rfl (pc' := 157) ?_
            refine g_ic_lt rfl (pc' := 160) (pt := 167) rfl rfl ⟨fun hc => ?_, fun hc => ?_⟩
            · replace H := H.1 hc
              refine g_iconst rfl rfl rfl (pc' := 168) ?_
              exact g_ireturn rfl (Or.inl rfl) H
            · replace H := H.2 hc
              refine g_iload rfl rfl rfl (pc' := 162) ?_
              refine g_iload rfl rfl rfl (pc' := 164) ?_
              refine g_ic_le rfl (pc' := 167) (pt := 169) rfl rfl ⟨fun hc => ?_, fun hc => ?_⟩
              · replace H := H.1 hc
                refine g_iconst rfl rfl rfl (pc' := 170) ?_
                refine g_istore rfl rfl rfl (pc' := 172) ?_
                exact g_weak (show gm_Lle [none, some _, some _, some _, some _, some _, none, some _, some _, some _] _ from ⟨rfl, ⟨rfl, ⟨rfl, ⟨rfl, ⟨rfl, ⟨rfl, ⟨rfl, ⟨rfl, trivial⟩⟩⟩⟩⟩⟩⟩⟩) H
              · replace H := H.2 hc
                refine g_iconst rfl rfl rfl (pc' := 168) ?_
                exact g_ireturn rfl (Or.inl rfl) H
          · replace H := H.2 hc
            refine g_iconst rfl rfl rfl (pc' := 140) ?_
            exact g_ireturn rfl (Or.inl rfl) H
      · replace H := H.2 hc
        refine g_iload rfl rfl rfl (pc' := 44) ?_
        refine g_iconst rfl rfl rfl (pc' := 45) ?_
        refine g_iadd rfl rfl (pc' := 46) ?_
        refine g_istore rfl rfl rfl (pc' := 48) ?_
        refine g_iload rfl rfl rfl (pc' := 50) ?_
        refine g_iconst rfl rfl rfl (pc' := 52) ?_
        refine g_iload rfl rfl rfl (pc' := 54) ?_
        refine g_isub rfl rfl (pc' := 55) ?_
        refine g_ic_gt rfl (pc' := 58) (pt := 67) rfl rfl ⟨fun hc => ?_, fun hc => ?_⟩
        · replace H := H.1 hc
          refine g_iconst rfl rfl rfl (pc' := 68) ?_
          exact g_ireturn rfl (Or.inl rfl) H
        · replace H := H.2 hc
          refine g_iload rfl rfl rfl (pc' := 60) ?_
          refine g_iload rfl rfl rfl (pc' := 61) ?_
          refine g_iload rfl rfl rfl (pc' := 63) ?_
          refine g_isub rfl rfl (pc' := 64) ?_
          refine g_ic_le rfl (pc' := 67) (pt := 69) rfl rfl ⟨fun hc => ?_, fun hc => ?_⟩
          · replace H := H.1 hc
            refine g_iconst rfl rfl rfl (pc' := 70) ?_
            refine g_istore rfl rfl rfl (pc' := 72) ?_
            exact g_weak (show gm_Lle [none, some _, some _, some _, some _, some _, none, some _, some _] _ from ⟨rfl, ⟨rfl, ⟨rfl, ⟨rfl, ⟨rfl, ⟨rfl, ⟨rfl, trivial⟩⟩⟩⟩⟩⟩⟩) H
          · replace H := H.2 hc
            refine g_iconst rfl rfl rfl (pc' := 68) ?_
            exact g_ireturn rfl (Or.inl rfl) H
    · replace H := H.2 hc
      refine g_iconst rfl rfl rfl (pc' := 20) ?_
      exact g_ireturn rfl (Or.inl rfl) H
set_option maxRecDepth 20000 in
theorem w_52_72 {a0 : Nat} {r_1 : Option Nat} {x2 : Int32} {r_3 : Option Nat} {x4 : Int32} {x5 : Int32} {x7 : Int32} {x8 : Int32} {h : hh_T} {Q : Option Value ⊕ Nat → hh_T → Prop} (H : (¬ x8 < x7 → (gm_G 52 209 [none, some (va_rf r_1), some (.int x2), some (va_rf r_3), some (.int (x4 + x7)), some (.int (x5 + x7))] [] h Q)) ∧ (x8 < x7 → (∃ a1, r_1 = some a1 ∧ ((hh_tg h a1 = 101 ∨ hh_tg h a1 = 102) ∧ (∃ n2, gm_ix (x4 + x8) n2 (hh_ln h a1) ∧ (∃ a4, r_3 = some a4 ∧ (hh_tg h a4 = 101 ∧ (∃ n5, gm_ix (x5 + x8) n5 (hh_ln h a4) ∧ (∀ h6, h6 = hh_wi h a4 n5 ((hh_i h a1 n2).toInt8.toInt32) → (gm_G 52 72 [none, some (.ref a1), some (.int x2), some (.ref a4), some (.int x4), some (.int x5), none, some (.int x7), some (.int (x8 + (Int32.ofNat 1)))] [] h6 Q)))))))))) : gm_G 52 72 [none, some (va_rf r_1), some (.int x2), some (va_rf r_3), some (.int x4), some (.int x5), none, some (.int x7), some (.int x8)] [] h Q := by
  refine g_iload rfl rfl rfl (pc' := 74) ?_
  refine g_iload rfl rfl rfl (pc' := 76) ?_
  refine g_ic_ge rfl (pc' := 79) (pt := 99) rfl rfl ⟨fun hc => ?_, fun hc => ?_⟩
  · replace H := H.1 hc
    refine g_iload rfl rfl rfl (pc' := 101) ?_
    refine g_iload rfl rfl rfl (pc' := 103) ?_
    refine g_iadd rfl rfl (pc' := 104) ?_
    refine g_istore rfl gm_sto_rf3 rfl (pc' := 106) ?_
    refine g_iload rfl rfl rfl (pc' := 108) ?_
    refine g_iload rfl rfl rfl (pc' := 110) ?_
    refine g_iadd rfl rfl (pc' := 111) ?_
    refine g_istore rfl rfl rfl (pc' := 113) ?_
    refine g_goto rfl (pc' := 209) rfl ?_
    exact g_weak (show gm_Lle [none, some _, some _, some _, some _, some _] _ from ⟨rfl, ⟨rfl, ⟨rfl, ⟨rfl, ⟨rfl, trivial⟩⟩⟩⟩⟩) H
  · replace H := H.2 hc
    refine g_aload (r := _) rfl rfl rfl (pc' := 80) ?_
    refine g_iload rfl rfl rfl (pc' := 82) ?_
    refine g_iload rfl rfl rfl (pc' := 84) ?_
    refine g_iadd rfl rfl (pc' := 85) ?_
    refine g_aload (r := _) rfl rfl rfl (pc' := 86) ?_
    refine g_iload rfl rfl rfl (pc' := 88) ?_
    refine g_iload rfl rfl rfl (pc' := 90) ?_
    refine g_iadd rfl rfl (pc' := 91) ?_
    obtain ⟨a1, rfl, H⟩ := H
    obtain ⟨ht3, H⟩ := H
    obtain ⟨n2, hn2, H⟩ := H
    refine g_baload rfl ht3 hn2 (pc' := 92) rfl ?_
    obtain ⟨a4, rfl, H⟩ := H
    obtain ⟨ht7, H⟩ := H
    obtain ⟨n5, hn5, H⟩ := H
    refine g_bastore rfl ht7 hn5  (pc' := 93) rfl ?_
    replace H := H _ rfl
    refine g_iinc (c := (Int32.ofNat 1)) rfl rfl rfl rfl rfl (pc' := 96) ?_
    refine g_goto rfl (pc' := 72) rfl ?_
    exact g_weak (show gm_Lle [none, some _, some _, some _, some _, some _, none, some _, some _] _ from ⟨rfl, ⟨rfl, ⟨rfl, ⟨rfl, ⟨rfl, ⟨rfl, ⟨rfl, trivial⟩⟩⟩⟩⟩⟩⟩) H
set_option maxRecDepth 20000 in
theorem w_52_172 {a0 : Nat} {r_1 : Option Nat} {x2 : Int32} {r_3 : Option Nat} {x4 : Int32} {x5 : Int32} {x7 : Int32} {x8 : Int32} {x9 : Int32} {h : hh_T} {Q : Option Value ⊕ Nat → hh_T → Prop} (H : (¬ x9 < x7 → (gm_G 52 209 [none, some (va_rf r_1), some (.int x2), some (va_rf r_3), some (.int x4), some (.int (x5 + x7))] [] h Q)) ∧ (x9 < x7 → (∃ a1, r_3 = some a1 ∧ ((hh_tg h a1 = 101 ∨ hh_tg h a1 = 102) ∧ (∃ n2, gm_ix ((x5 + x9) - x8) n2 (hh_ln h a1) ∧ (hh_tg h a1 = 101 ∧ (∃ n4, gm_ix (x5 + x9) n4 (hh_ln h a1) ∧ (∀ h5, h5 = hh_wi h a1 n4 ((hh_i h a1 n2).toInt8.toInt32) → (gm_G 52 172 [none, some (va_rf r_1), some (.int x2), some (.ref a1), some (.int x4), some (.int x5), none, some (.int x7), some (.int x8), some (.int (x9 + (Int32.ofNat 1)))] [] h5 Q))))))))) : gm_G 52 172 [none, some (va_rf r_1), some (.int x2), some (va_rf r_3), some (.int x4), some (.int x5), none, some (.int x7), some (.int x8), some (.int x9)] [] h Q := by
  refine g_iload rfl rfl rfl (pc' := 174) ?_
  refine g_iload rfl rfl rfl (pc' := 176) ?_
  refine g_ic_ge rfl (pc' := 179) (pt := 202) rfl rfl ⟨fun hc => ?_, fun hc => ?_⟩
  · replace H := H.1 hc
    refine g_iload rfl rfl rfl (pc' := 204) ?_
    refine g_iload rfl rfl rfl (pc' := 206) ?_
    refine g_iadd rfl rfl (pc' := 207) ?_
    refine g_istore rfl rfl rfl (pc' := 209) ?_
    exact g_weak (show gm_Lle [none, some _, some _, some _, some _, some _] _ from ⟨rfl, ⟨rfl, ⟨rfl, ⟨rfl, ⟨rfl, trivial⟩⟩⟩⟩⟩) H
  · replace H := H.2 hc
    refine g_aload (r := _) rfl rfl rfl (pc' := 180) ?_
    refine g_iload rfl rfl rfl (pc' := 182) ?_
    refine g_iload rfl rfl rfl (pc' := 184) ?_
    refine g_iadd rfl rfl (pc' := 185) ?_
    refine g_aload (r := _) rfl rfl rfl (pc' := 186) ?_
    refine g_iload rfl rfl rfl (pc' := 188) ?_
    refine g_iload rfl rfl rfl (pc' := 190) ?_
    refine g_iadd rfl rfl (pc' := 191) ?_
    refine g_iload rfl rfl rfl (pc' := 193) ?_
    refine g_isub rfl rfl (pc' := 194) ?_
    obtain ⟨a1, rfl, H⟩ := H
    obtain ⟨ht3, H⟩ := H
    obtain ⟨n2, hn2, H⟩ := H
    refine g_baload rfl ht3 hn2 (pc' := 195) rfl ?_
    obtain ⟨ht6, H⟩ := H
    obtain ⟨n4, hn4, H⟩ := H
    refine g_bastore rfl ht6 hn4  (pc' := 196) rfl ?_
    replace H := H _ rfl
    refine g_iinc (c := (Int32.ofNat 1)) rfl rfl rfl rfl rfl (pc' := 199) ?_
    refine g_goto rfl (pc' := 172) rfl ?_
    exact g_weak (show gm_Lle [none, some _, some _, some _, some _, some _, none, some _, some _, some _] _ from ⟨rfl, ⟨rfl, ⟨rfl, ⟨rfl, ⟨rfl, ⟨rfl, ⟨rfl, ⟨rfl, trivial⟩⟩⟩⟩⟩⟩⟩⟩) H
set_option maxRecDepth 20000 in
theorem w_52_209 {a0 : Nat} {r_1 : Option Nat} {x2 : Int32} {r_3 : Option Nat} {x4 : Int32} {x5 : Int32} {h : hh_T} {Q : Option Value ⊕ Nat → hh_T → Prop} (H : gm_G 52 6 [none, some (va_rf r_1), some (.int x2), some (va_rf r_3), some (.int x4), some (.int x5)] [] h Q) : gm_G 52 209 [none, some (va_rf r_1), some (.int x2), some (va_rf r_3), some (.int x4), some (.int x5)] [] h Q := by
  refine g_goto rfl (pc' := 6) rfl ?_
  exact g_weak (show gm_Lle [none, some _, some _, some _, some _, some _] _ from ⟨rfl, ⟨rfl, ⟨rfl, ⟨rfl, ⟨rfl, trivial⟩⟩⟩⟩⟩) H
set_option maxRecDepth 20000 in
theorem w_53_0 {a0 : Nat} {r_1 : Option Nat} {x2 : Int32} {h : hh_T} {Q : Option Value ⊕ Nat → hh_T → Prop} (H : gm_sub (hh_tg h a0) 9 = true ∧ (∀ h2, h2 = hh_wi h a0 1 (Int32.ofNat 0) → (gm_G 53 9 [some (.ref a0), some (va_rf r_1), some (.int x2), some (.int (x2 - (Int32.ofNat 1)))] [] h2 Q))) : gm_G 53 0 [some (.ref a0), some (va_rf r_1), some (.int x2)] [] h Q := by
  refine g_aload (r := some _) rfl rfl rfl (pc' := 1) ?_
  refine g_iconst rfl rfl rfl (pc' := 2) ?_
  obtain ⟨ht1, H⟩ := H
  refine g_putI rfl rfl rfl rfl ht1  (pc' := 5) rfl ?_
  replace H := H _ rfl
  refine g_iload rfl rfl rfl (pc' := 6) ?_
  refine g_iconst rfl rfl rfl (pc' := 7) ?_
  refine g_isub rfl rfl (pc' := 8) ?_
  refine g_istore rfl rfl rfl (pc' := 9) ?_
  exact g_weak (show gm_Lle [some _, some _, some _, some _] _ from ⟨rfl, ⟨rfl, ⟨rfl, ⟨rfl, trivial⟩⟩⟩⟩) H
set_option maxRecDepth 20000 in
theorem w_53_9 {a0 : Nat} {r_1 : Option Nat} {x2 : Int32} {x3 : Int32} {h : hh_T} {Q : Option Value ⊕ Nat → hh_T → Prop} (H : (x3 < Int32.ofNat 0 → (Q (.inl none) h)) ∧ (¬ x3 < Int32.ofNat 0 → (gm_G 53 16 [some (.ref a0), some (va_rf r_1), some (.int x2), some (.int x3), some (.int (Int32.ofNat 0))] [] h Q))) : gm_G 53 9 [some (.ref a0), some (va_rf r_1), some (.int x2), some (.int x3)] [] h Q := by
  refine g_iload rfl rfl rfl (pc' := 10) ?_
  refine g_if_lt rfl (pc' := 13) (pt := 74) rfl rfl ⟨fun hc => ?_, fun hc => ?_⟩
  · replace H := H.1 hc
    exact g_return rfl H
  · replace H := H.2 hc
    refine g_iconst rfl rfl rfl (pc' := 14) ?_
    refine g_istore rfl rfl rfl (pc' := 16) ?_
    exact g_weak (show gm_Lle [some _, some _, some _, some _, some _] _ from ⟨rfl, ⟨rfl, ⟨rfl, ⟨rfl, ⟨rfl, trivial⟩⟩⟩⟩⟩) H
set_option maxRecDepth 20000 in
theorem w_53_16 {a0 : Nat} {r_1 : Option Nat} {x2 : Int32} {x3 : Int32} {x4 : Int32} {h : hh_T} {Q : Option Value ⊕ Nat → hh_T → Prop} (H : (¬ (x2 + x4) < (Int32.ofNat 32) → (gm_G 53 46 [some (.ref a0), some (va_rf r_1), some (.int x2), some (.int x3), some (.int x4)] [] h Q)) ∧ ((x2 + x4) < (Int32.ofNat 32) → (∃ a1, r_1 = some a1 ∧ ((hh_tg h a1 = 101 ∨ hh_tg h a1 = 102) ∧ (∃ n2, gm_ix (x3 + x4) n2 (hh_ln h a1) ∧ (∃ n4, gm_ix (x2 + x4) n4 (hh_ln h a1) ∧ ((¬ (hh_i h a1 n2) = (hh_i h a1 n4) → (gm_G 53 46 [some (.ref a0), some (.ref a1), some (.int x2), some (.int x3), some (.int x4)] [] h Q)) ∧ ((hh_i h a1 n2) = (hh_i h a1 n4) → (gm_G 53 16 [some (.ref a0), some (.ref a1), some (.int x2), some (.int x3), some (.int (x4 + (Int32.ofNat 1)))] [] h Q))))))))) : gm_G 53 16 [some (.ref a0), some (va_rf r_1), some (.int x2), some (.int x3), some (.int x4)] [] h Q := by
  refine g_iload rfl rfl rfl (pc' := 17) ?_
  refine g_iload rfl rfl rfl (pc' := 19) ?_
  refine g_iadd rfl rfl (pc' := 20) ?_
  refine g_iconst rfl rfl rfl (pc' := 22) ?_
  refine g_ic_ge rfl (pc' := 25) (pt := 46) rfl rfl ⟨fun hc => ?_, fun hc => ?_⟩
  · replace H := H.1 hc
    exact g_weak (show gm_Lle [some _, some _, some _, some _, some _] _ from ⟨rfl, ⟨rfl, ⟨rfl, ⟨rfl, ⟨rfl, trivial⟩⟩⟩⟩⟩) H
  · replace H := H.2 hc
    refine g_aload (r := _) rfl rfl rfl (pc' := 26) ?_
    refine g_iload rfl rfl rfl (pc' := 27) ?_
    refine g_iload rfl rfl rfl (pc' := 29) ?_
    refine g_iadd rfl rfl (pc' := 30) ?_
    obtain ⟨a1, rfl, H⟩ := H
    obtain ⟨ht3, H⟩ := H
    obtain ⟨n2, hn2, H⟩ := H
    refine g_baload rfl ht3 hn2 (pc' := 31) rfl ?_
    refine g_aload (r := some _) rfl rfl rfl (pc' := 32) ?_
    refine g_iload rfl rfl rfl (pc' := 33) ?_
    refine g_iload rfl rfl rfl (pc' := 35) ?_
    refine g_iadd rfl rfl (pc' := 36) ?_
    obtain ⟨n4, hn4, H⟩ := H
    refine g_baload rfl ht3 hn4 (pc' := 37) rfl ?_
    refine g_ic_ne rfl (pc' := 40) (pt := 46) rfl rfl ⟨fun hc => ?_, fun hc => ?_⟩
    · replace H := H.1 hc
      exact g_weak (show gm_Lle [some _, some _, some _, some _, some _] _ from ⟨rfl, ⟨rfl, ⟨rfl, ⟨rfl, ⟨rfl, trivial⟩⟩⟩⟩⟩) H
    · replace H := H.2 hc
      refine g_iinc (c := (Int32.ofNat 1)) rfl rfl rfl rfl rfl (pc' := 43) ?_
      refine g_goto rfl (pc' := 16) rfl ?_
      exact g_weak (show gm_Lle [some _, some _, some _, some _, some _] _ from ⟨rfl, ⟨rfl, ⟨rfl, ⟨rfl, ⟨rfl, trivial⟩⟩⟩⟩⟩) H
set_option maxRecDepth 20000 in
theorem w_53_46 {a0 : Nat} {r_1 : Option Nat} {x2 : Int32} {x3 : Int32} {x4 : Int32} {h : hh_T} {Q : Option Value ⊕ Nat → hh_T → Prop} (H : gm_sub (hh_tg h a0) 9 = true ∧ ((¬ (hh_i h a0 1) < x4 → (gm_G 53 68 [some (.ref a0), some (va_rf r_1), some (.int x2), some (.int x3)] [] h Q)) ∧ ((hh_i h a0 1) < x4 → (∀ h2, h2 = hh_wi h a0 1 x4 → (∀ h3, h3 = hh_wi h2 a0 0 (x2 - x3) → (gm_G 53 68 [some (.ref a0), some (va_rf r_1), some (.int x2), some (.int x3)] [] h3 Q)))))) : gm_G 53 46 [some (.ref a0), some (va_rf r_1), some (.int x2), some (.int x3), some (.int x4)] [] h Q := by
  refine g_iload rfl rfl rfl (pc' := 48) ?_
  refine g_aload (r := some _) rfl rfl rfl (pc' := 49) ?_
  obtain ⟨ht1, H⟩ := H
  refine g_getI rfl rfl rfl rfl ht1 (pc' := 52) rfl ?_
  refine g_ic_le rfl (pc' := 55) (pt := 68) rfl rfl ⟨fun hc => ?_, fun hc => ?_⟩
  · replace H := H.1 hc
    exact g_weak (show gm_Lle [some _, some _, some _, some _] _ from ⟨rfl, ⟨rfl, ⟨rfl, ⟨rfl, trivial⟩⟩⟩⟩) H
  · replace H := H.2 hc
    refine g_aload (r := some _) rfl rfl rfl (pc' := 56) ?_
    refine g_iload rfl rfl rfl (pc' := 58) ?_
    refine g_putI rfl rfl rfl rfl ht1  (pc' := 61) rfl ?_
    replace H := H _ rfl
    refine g_aload (r := some _) rfl rfl rfl (pc' := 62) ?_
    refine g_iload rfl rfl rfl (pc' := 63) ?_
    refine g_iload rfl rfl rfl (pc' := 64) ?_
    refine g_isub rfl rfl (pc' := 65) ?_
    refine g_putI rfl rfl rfl rfl ht1  (pc' := 68) rfl ?_
    replace H := H _ rfl
    exact g_weak (show gm_Lle [some _, some _, some _, some _] _ from ⟨rfl, ⟨rfl, ⟨rfl, ⟨rfl, trivial⟩⟩⟩⟩) H
set_option maxRecDepth 20000 in
theorem w_53_68 {a0 : Nat} {r_1 : Option Nat} {x2 : Int32} {x3 : Int32} {h : hh_T} {Q : Option Value ⊕ Nat → hh_T → Prop} (H : gm_G 53 9 [some (.ref a0), some (va_rf r_1), some (.int x2), some (.int (x3 + (Int32.ofInt (-1))))] [] h Q) : gm_G 53 68 [some (.ref a0), some (va_rf r_1), some (.int x2), some (.int x3)] [] h Q := by
  refine g_iinc (c := (Int32.ofInt (-1))) rfl rfl rfl rfl rfl (pc' := 71) ?_
  refine g_goto rfl (pc' := 9) rfl ?_
  exact g_weak (show gm_Lle [some _, some _, some _, some _] _ from ⟨rfl, ⟨rfl, ⟨rfl, ⟨rfl, trivial⟩⟩⟩⟩) H
set_option maxRecDepth 20000 in
theorem w_54_0 {a0 : Nat}  {h : hh_T} {Q : Option Value ⊕ Nat → hh_T → Prop} (H : ∀ a1 h2, a1 = hh_sz h → h2 = hh_al h 231 8 8 → (gm_sub (hh_tg h2 a0) 10 = true ∧ (∀ h4, h4 = hh_wr h2 a0 0 (some a1) → (Q (.inl none) h4)))) : gm_G 54 0 [some (.ref a0)] [] h Q := by
  refine g_aload (r := some _) rfl rfl rfl (pc' := 1) ?_
  refine g_objinit rfl (Nat.le_of_ble_eq_true rfl) (pc' := 4) rfl ?_
  refine g_aload (r := some _) rfl rfl rfl (pc' := 5) ?_
  refine g_iconst rfl rfl rfl (pc' := 7) ?_
  refine g_anewarray rfl (n := 8) rfl (by decide) (pc' := 10) rfl ?_
  replace H := H _ _ rfl rfl
  obtain ⟨ht3, H⟩ := H
  refine g_putR (x := some _) rfl rfl rfl rfl ht3  (pc' := 13) rfl ?_
  replace H := H _ rfl
  exact g_return rfl H
set_option maxRecDepth 20000 in
theorem w_55_0 {a0 : Nat} {r_1 : Option Nat} {h : hh_T} {Q : Option Value ⊕ Nat → hh_T → Prop} (H : ∃ a1, r_1 = some a1 ∧ (gm_sub (hh_tg h a1) 31 = true ∧ (gm_sub (hh_tg h a0) 10 = true ∧ (∀ r4, r4 = hh_r h a0 0 → (∃ a5, r4 = some a5 ∧ ((hh_tg h a5 = 104 ∨ 200 ≤ hh_tg h a5) ∧ (∃ n6, gm_ix (((hh_j h a1 3) &&& (Int64.ofNat 7)).toInt32) n6 (hh_ln h a5) ∧ (∀ r8, r8 = hh_r h a5 n6 → (∀ h9, h9 = hh_wr h a1 9 r8 → (∀ r10, r10 = hh_r h9 a0 0 → (∃ a11, r10 = some a11 ∧ (200 ≤ hh_tg h9 a11 ∧ (gm_as (hh_tg h9 a11) (hh_tg h9 a1) = true) ∧ (∃ n12, gm_ix (((hh_j h a1 3) &&& (Int64.ofNat 7)).toInt32) n12 (hh_ln h9 a11) ∧ (∀ h13, h13 = hh_wr h9 a11 n12 (some a1) → (Q (.inl none) h13))))))))))))))) : gm_G 55 0 [some (.ref a0), some (va_rf r_1)] [] h Q := by
  refine g_aload (r := _) rfl rfl rfl (pc' := 1) ?_
  obtain ⟨a1, rfl, H⟩ := H
  obtain ⟨ht2, H⟩ := H
  refine g_getJ rfl rfl rfl rfl ht2 (pc' := 4) rfl ?_
  refine g_lconst rfl rfl rfl (pc' := 7) ?_
  refine g_land rfl rfl (pc' := 8) ?_
  refine g_l2i rfl rfl (pc' := 9) ?_
  refine g_istore rfl rfl rfl (pc' := 10) ?_
  refine g_aload (r := some _) rfl rfl rfl (pc' := 11) ?_
  refine g_aload (r := some _) rfl rfl rfl (pc' := 12) ?_
  obtain ⟨ht3, H⟩ := H
  refine g_getRv rfl rfl rfl rfl ht3 (pc' := 15) rfl (fun r4 hr4 => ?_)
  replace H := H r4 hr4
  refine g_iload rfl rfl rfl (pc' := 16) ?_
  obtain ⟨a5, rfl, H⟩ := H
  obtain ⟨ht7, H⟩ := H
  obtain ⟨n6, hn6, H⟩ := H
  refine g_aaloadv rfl ht7 hn6 (pc' := 17) rfl (fun r8 hr8 => ?_)
  replace H := H r8 hr8
  refine g_putR rfl rfl rfl rfl ht2  (pc' := 20) rfl ?_
  replace H := H _ rfl
  refine g_aload (r := some _) rfl rfl rfl (pc' := 21) ?_
  refine g_getRv rfl rfl rfl rfl ht3 (pc' := 24) rfl (fun r10 hr10 => ?_)
  replace H := H r10 hr10
  refine g_iload rfl rfl rfl (pc' := 25) ?_
  refine g_aload (r := some _) rfl rfl rfl (pc' := 26) ?_
  obtain ⟨a11, rfl, H⟩ := H
  obtain ⟨Ha, Hb, H⟩ := H
  obtain ⟨n12, hn12, H⟩ := H
  refine g_aastore (r := some _) rfl Ha (fun b hb => by cases hb; exact Hb) hn12 (pc' := 27) rfl ?_
  replace H := H _ rfl
  exact g_return rfl H
set_option maxRecDepth 20000 in
theorem w_56_0  {r_0 : Option Nat} {r_1 : Option Nat} {x2 : Int32} {h : hh_T} {Q : Option Value ⊕ Nat → hh_T → Prop} (H : gm_G 56 2 [some (va_rf r_0), some (va_rf r_1), some (.int x2), some (.int (Int32.ofNat 0))] [] h Q) : gm_G 56 0 [some (va_rf r_0), some (va_rf r_1), some (.int x2)] [] h Q := by
  refine g_iconst rfl rfl rfl (pc' := 1) ?_
  refine g_istore rfl rfl rfl (pc' := 2) ?_
  exact g_weak (show gm_Lle [some _, some _, some _, some _] _ from ⟨rfl, ⟨rfl, ⟨rfl, ⟨rfl, trivial⟩⟩⟩⟩) H
set_option maxRecDepth 20000 in
theorem w_56_2  {r_0 : Option Nat} {r_1 : Option Nat} {x2 : Int32} {x3 : Int32} {h : hh_T} {Q : Option Value ⊕ Nat → hh_T → Prop} (H : (¬ x3 < x2 → (Q (.inl (some (.int (Int32.ofNat 1)))) h)) ∧ (x3 < x2 → (∃ a1, r_0 = some a1 ∧ ((hh_tg h a1 = 101 ∨ hh_tg h a1 = 102) ∧ (∃ n2, gm_ix x3 n2 (hh_ln h a1) ∧ (∃ a4, r_1 = some a4 ∧ ((hh_tg h a4 = 101 ∨ hh_tg h a4 = 102) ∧ (∃ n5, gm_ix x3 n5 (hh_ln h a4) ∧ (((hh_i h a1 n2) = (hh_i h a4 n5) → (gm_G 56 2 [some (.ref a1), some (.ref a4), some (.int x2), some (.int (x3 + (Int32.ofNat 1)))] [] h Q)) ∧ (¬ (hh_i h a1 n2) = (hh_i h a4 n5) → (Q (.inl (some (.int (Int32.ofNat 0)))) h))))))))))) : gm_G 56 2 [some (va_rf r_0), some (va_rf r_1), some (.int x2), some (.int x3)] [] h Q := by
  refine g_iload rfl rfl rfl (pc' := 3) ?_
  refine g_iload rfl rfl rfl (pc' := 4) ?_
  refine g_ic_ge rfl (pc' := 7) (pt := 24) rfl rfl ⟨fun hc => ?_, fun hc => ?_⟩
  · replace H := H.1 hc
    refine g_iconst rfl rfl rfl (pc' := 25) ?_
    exact g_ireturn rfl (Or.inr (by decide)) H
  · replace H := H.2 hc
    refine g_aload (r := _) rfl rfl rfl (pc' := 8) ?_
    refine g_iload rfl rfl rfl (pc' := 9) ?_
    obtain ⟨a1, rfl, H⟩ := H
    obtain ⟨ht3, H⟩ := H
    obtain ⟨n2, hn2, H⟩ := H
    refine g_baload rfl ht3 hn2 (pc' := 10) rfl ?_
    refine g_aload (r := _) rfl rfl rfl (pc' := 11) ?_
    refine g_iload rfl rfl rfl (pc' := 12) ?_
    obtain ⟨a4, rfl, H⟩ := H
    obtain ⟨ht6, H⟩ := H
    obtain ⟨n5, hn5, H⟩ := H
    refine g_baload rfl ht6 hn5 (pc' := 13) rfl ?_
    refine g_ic_eq rfl (pc' := 16) (pt := 18) rfl rfl ⟨fun hc => ?_, fun hc => ?_⟩
    · replace H := H.1 hc
      refine g_iinc (c := (Int32.ofNat 1)) rfl rfl rfl rfl rfl (pc' := 21) ?_
      refine g_goto rfl (pc' := 2) rfl ?_
      exact g_weak (show gm_Lle [some _, some _, some _, some _] _ from ⟨rfl, ⟨rfl, ⟨rfl, ⟨rfl, trivial⟩⟩⟩⟩) H
    · replace H := H.2 hc
      refine g_iconst rfl rfl rfl (pc' := 17) ?_
      exact g_ireturn rfl (Or.inr (by decide)) H
set_option maxRecDepth 20000 in
theorem w_57_0 {a0 : Nat} {r_1 : Option Nat} {h : hh_T} {Q : Option Value ⊕ Nat → hh_T → Prop} (H : ∃ a1, r_1 = some a1 ∧ (gm_sub (hh_tg h a1) 31 = true ∧ (gm_sub (hh_tg h a0) 10 = true ∧ (∀ r4, r4 = hh_r h a0 0 → (∃ a5, r4 = some a5 ∧ ((hh_tg h a5 = 104 ∨ 200 ≤ hh_tg h a5) ∧ (∃ n6, gm_ix (((hh_j h a1 3) &&& (Int64.ofNat 7)).toInt32) n6 (hh_ln h a5) ∧ (∀ r8, r8 = hh_r h a5 n6 → ((¬ r8 = some a1 → (∀ r9, r9 = hh_r h a0 0 → (∃ a10, r9 = some a10 ∧ ((hh_tg h a10 = 104 ∨ 200 ≤ hh_tg h a10) ∧ (∃ n11, gm_ix (((hh_j h a1 3) &&& (Int64.ofNat 7)).toInt32) n11 (hh_ln h a10) ∧ (∀ r13, r13 = hh_r h a10 n11 → (gm_G 57 38 [none, some (.ref a1), none, some (va_rf r13)] [] h Q))))))) ∧ (r8 = some a1 → (∀ r14, r14 = hh_r h a0 0 → (∀ r15, r15 = hh_r h a1 9 → (∃ a16, r14 = some a16 ∧ (200 ≤ hh_tg h a16 ∧ (∀ b, r15 = some b → gm_as (hh_tg h a16) (hh_tg h b) = true) ∧ (∃ n17, gm_ix (((hh_j h a1 3) &&& (Int64.ofNat 7)).toInt32) n17 (hh_ln h a16) ∧ (∀ h18, h18 = hh_wr h a16 n17 r15 → (Q (.inl none) h18))))))))))))))))) : gm_G 57 0 [some (.ref a0), some (va_rf r_1)] [] h Q := by
  refine g_aload (r := _) rfl rfl rfl (pc' := 1) ?_
  obtain ⟨a1, rfl, H⟩ := H
  obtain ⟨ht2, H⟩ := H
  refine g_getJ rfl rfl rfl rfl ht2 (pc' := 4) rfl ?_
  refine g_lconst rfl rfl rfl (pc' := 7) ?_
  refine g_land rfl rfl (pc' := 8) ?_
  refine g_l2i rfl rfl (pc' := 9) ?_
  refine g_istore rfl rfl rfl (pc' := 10) ?_
  refine g_aload (r := some _) rfl rfl rfl (pc' := 11) ?_
  obtain ⟨ht3, H⟩ := H
  refine g_getRv rfl rfl rfl rfl ht3 (pc' := 14) rfl (fun r4 hr4 => ?_)
  replace H := H r4 hr4
  refine g_iload rfl rfl rfl (pc' := 15) ?_
  obtain ⟨a5, rfl, H⟩ := H
  obtain ⟨ht7, H⟩ := H
  obtain ⟨n6, hn6, H⟩ := H
  refine g_aaloadv rfl ht7 hn6 (pc' := 16) rfl (fun r8 hr8 => ?_)
  replace H := H r8 hr8
  refine g_aload (r := some _) rfl rfl rfl (pc' := 17) ?_
  refine g_ac_ne (r1 := some _) (r2 := _) rfl (pc' := 20) (pt := 31) rfl rfl ⟨fun hc => ?_, fun hc => ?_⟩
  · replace H := H.1 hc
    refine g_aload (r := some _) rfl rfl rfl (pc' := 32) ?_
    refine g_getRv rfl rfl rfl rfl ht3 (pc' := 35) rfl (fun r9 hr9 => ?_)
    replace H := H r9 hr9
    refine g_iload rfl rfl rfl (pc' := 36) ?_
    obtain ⟨a10, rfl, H⟩ := H
    obtain ⟨ht12, H⟩ := H
    obtain ⟨n11, hn11, H⟩ := H
    refine g_aaloadv rfl ht12 hn11 (pc' := 37) rfl (fun r13 hr13 => ?_)
    replace H := H r13 hr13
    refine g_astore (r := _) rfl rfl rfl (pc' := 38) ?_
    exact g_weak (show gm_Lle [none, some _, none, some _] _ from ⟨rfl, ⟨rfl, trivial⟩⟩) H
  · replace H := H.2 hc
    refine g_aload (r := some _) rfl rfl rfl (pc' := 21) ?_
    refine g_getRv rfl rfl rfl rfl ht3 (pc' := 24) rfl (fun r14 hr14 => ?_)
    replace H := H r14 hr14
    refine g_iload rfl rfl rfl (pc' := 25) ?_
    refine g_aload (r := some _) rfl rfl rfl (pc' := 26) ?_
    refine g_getRv rfl rfl rfl rfl ht2 (pc' := 29) rfl (fun r15 hr15 => ?_)
    replace H := H r15 hr15
    obtain ⟨a16, rfl, H⟩ := H
    obtain ⟨Ha, Hb, H⟩ := H
    obtain ⟨n17, hn17, H⟩ := H
    refine g_aastore (r := _) rfl Ha Hb hn17 (pc' := 30) rfl ?_
    replace H := H _ rfl
    exact g_return rfl H
set_option maxRecDepth 20000 in
theorem w_57_38 {a0 : Nat} {r_1 : Option Nat} {r_3 : Option Nat} {h : hh_T} {Q : Option Value ⊕ Nat → hh_T → Prop} (H : ∃ a1, r_3 = some a1 ∧ (gm_sub (hh_tg h a1) 31 = true ∧ (∀ r3, r3 = hh_r h a1 9 → ((r3 = r_1 → (∃ a4, r_1 = some a4 ∧ (gm_sub (hh_tg h a4) 31 = true ∧ (∀ r6, r6 = hh_r h a4 9 → (∀ h7, h7 = hh_wr h a1 9 r6 → (Q (.inl none) h7)))))) ∧ (¬ r3 = r_1 → (∀ r8, r8 = hh_r h a1 9 → (gm_G 57 38 [none, some (va_rf r_1), none, some (va_rf r8)] [] h Q))))))) : gm_G 57 38 [none, some (va_rf r_1), none, some (va_rf r_3)] [] h Q := by
  refine g_aload (r := _) rfl rfl rfl (pc' := 39) ?_
  obtain ⟨a1, rfl, H⟩ := H
  obtain ⟨ht2, H⟩ := H
  refine g_getRv rfl rfl rfl rfl ht2 (pc' := 42) rfl (fun r3 hr3 => ?_)
  replace H := H r3 hr3
  refine g_aload (r := _) rfl rfl rfl (pc' := 43) ?_
  refine g_ac_eq (r1 := _) (r2 := _) rfl (pc' := 46) (pt := 54) rfl rfl ⟨fun hc => ?_, fun hc => ?_⟩
  · replace H := H.1 hc
    refine g_aload (r := some _) rfl rfl rfl (pc' := 55) ?_
    refine g_aload (r := _) rfl rfl rfl (pc' := 56) ?_
    obtain ⟨a4, rfl, H⟩ := H
    obtain ⟨ht5, H⟩ := H
    refine g_getRv rfl rfl rfl rfl ht5 (pc' := 59) rfl (fun r6 hr6 => ?_)
    replace H := H r6 hr6
    refine g_putR rfl rfl rfl rfl ht2  (pc' := 62) rfl ?_
    replace H := H _ rfl
    exact g_return rfl H
  · replace H := H.2 hc
    refine g_aload (r := some _) rfl rfl rfl (pc' := 47) ?_
    refine g_getRv rfl rfl rfl rfl ht2 (pc' := 50) rfl (fun r8 hr8 => ?_)
    replace H := H r8 hr8
    refine g_astore (r := _) rfl rfl rfl (pc' := 51) ?_
    refine g_goto rfl (pc' := 38) rfl ?_
    exact g_weak (show gm_Lle [none, some _, none, some _] _ from ⟨rfl, ⟨rfl, trivial⟩⟩) H
set_option maxRecDepth 20000 in
theorem w_58_0 {a0 : Nat}  {h : hh_T} {Q : Option Value ⊕ Nat → hh_T → Prop} (H : ∀ a1 h2, a1 = hh_sz h → h2 = hh_al h 231 5 5 → (gm_sub (hh_tg h2 a0) 11 = true ∧ (∀ h4, h4 = hh_wr h2 a0 0 (some a1) → (∀ a5 h6, a5 = hh_sz h4 → h6 = hh_al h4 231 5 5 → (gm_sub (hh_tg h6 a0) 11 = true ∧ (∀ h8, h8 = hh_wr h6 a0 1 (some a5) → (gm_G 58 20 [some (.ref a0)] [] h8 Q))))))) : gm_G 58 0 [some (.ref a0)] [] h Q := by
  refine g_aload (r := some _) rfl rfl rfl (pc' := 1) ?_
  refine g_objinit rfl (Nat.le_of_ble_eq_true rfl) (pc' := 4) rfl ?_
  refine g_aload (r := some _) rfl rfl rfl (pc' := 5) ?_
  refine g_iconst rfl rfl rfl (pc' := 6) ?_
  refine g_anewarray rfl (n := 5) rfl (by decide) (pc' := 9) rfl ?_
  replace H := H _ _ rfl rfl
  obtain ⟨ht3, H⟩ := H
  refine g_putR (x := some _) rfl rfl rfl rfl ht3  (pc' := 12) rfl ?_
  replace H := H _ rfl
  refine g_aload (r := some _) rfl rfl rfl (pc' := 13) ?_
  refine g_iconst rfl rfl rfl (pc' := 14) ?_
  refine g_anewarray rfl (n := 5) rfl (by decide) (pc' := 17) rfl ?_
  replace H := H _ _ rfl rfl
  obtain ⟨ht7, H⟩ := H
  refine g_putR (x := some _) rfl rfl rfl rfl ht7  (pc' := 20) rfl ?_
  replace H := H _ rfl
  exact g_weak (show gm_Lle [some _] _ from ⟨rfl, trivial⟩) H
set_option maxRecDepth 20000 in
theorem w_58_20 {a0 : Nat}  {h : hh_T} {Q : Option Value ⊕ Nat → hh_T → Prop} (H : ∀ a1 h2, a1 = hh_sz h → h2 = hh_al h 100 5 5 → (gm_sub (hh_tg h2 a0) 11 = true ∧ (∀ h4, h4 = hh_wr h2 a0 2 (some a1) → (∀ a5 h6, a5 = hh_sz h4 → h6 = hh_al h4 101 192 192 → (gm_sub (hh_tg h6 a0) 11 = true ∧ (∀ h8, h8 = hh_wr h6 a0 3 (some a5) → (∀ a9 h10, a9 = hh_sz h8 → h10 = hh_al h8 102 6 6 → (gm_sub (hh_tg h10 a0) 11 = true ∧ (∀ h12, h12 = hh_wr h10 a0 4 (some a9) → (gm_G 58 44 [] [] h12 Q)))))))))) : gm_G 58 20 [some (.ref a0)] [] h Q := by
  refine g_aload (r := some _) rfl rfl rfl (pc' := 21) ?_
  refine g_iconst rfl rfl rfl (pc' := 22) ?_
  refine g_newarray rfl (u := 100) (n := 5) rfl (by decide) rfl (by decide) (pc' := 24) rfl ?_
  replace H := H _ _ rfl rfl
  obtain ⟨ht3, H⟩ := H
  refine g_putR (x := some _) rfl rfl rfl rfl ht3  (pc' := 27) rfl ?_
  replace H := H _ rfl
  refine g_aload (r := some _) rfl rfl rfl (pc' := 28) ?_
  refine g_iconst rfl rfl rfl (pc' := 31) ?_
  refine g_newarray rfl (u := 101) (n := 192) rfl (by decide) rfl (by decide) (pc' := 33) rfl ?_
  replace H := H _ _ rfl rfl
  obtain ⟨ht7, H⟩ := H
  refine g_putR (x := some _) rfl rfl rfl rfl ht7  (pc' := 36) rfl ?_
  replace H := H _ rfl
  refine g_aload (r := some _) rfl rfl rfl (pc' := 37) ?_
  refine g_iconst rfl rfl rfl (pc' := 39) ?_
  refine g_newarray rfl (u := 102) (n := 6) rfl (by decide) rfl (by decide) (pc' := 41) rfl ?_
  replace H := H _ _ rfl rfl
  obtain ⟨ht11, H⟩ := H
  refine g_putR (x := some _) rfl rfl rfl rfl ht11  (pc' := 44) rfl ?_
  replace H := H _ rfl
  exact g_weak (show gm_Lle [] _ from trivial) H
set_option maxRecDepth 20000 in
theorem w_58_44 {a0 : Nat}  {h : hh_T} {Q : Option Value ⊕ Nat → hh_T → Prop} (H : Q (.inl none) h) : gm_G 58 44 [] [] h Q := by
  exact g_return rfl H
set_option maxRecDepth 20000 in
theorem w_59_0 {a0 : Nat} {r_1 : Option Nat} {x2 : Int32} {h : hh_T} {Q : Option Value ⊕ Nat → hh_T → Prop} (H : gm_sub (hh_tg h a0) 11 = true ∧ (∀ r2, r2 = hh_r h a0 1 → (∃ a3, r2 = some a3 ∧ ((hh_tg h a3 = 104 ∨ 200 ≤ hh_tg h a3) ∧ (∃ n4, gm_ix x2 n4 (hh_ln h a3) ∧ (∀ r6, r6 = hh_r h a3 n4 → (∃ a7, r_1 = some a7 ∧ (gm_sub (hh_tg h a7) 31 = true ∧ (∀ h9, h9 = hh_wr h a7 12 r6 → (∀ r10, r10 = hh_r h9 a7 12 → ((∀ a11, r10 = some a11 → (∀ r12, r12 = hh_r h9 a7 12 → (∃ a13, r12 = some a13 ∧ (gm_sub (hh_tg h9 a13) 31 = true ∧ (∀ h15, h15 = hh_wr h9 a13 13 (some a7) → (gm_G 59 35 [some (.ref a0), some (.ref a7), some (.int x2)] [] h15 Q)))))) ∧ (r10 = none → (∀ r16, r16 = hh_r h9 a0 0 → (∃ a17, r16 = some a17 ∧ (200 ≤ hh_tg h9 a17 ∧ (gm_as (hh_tg h9 a17) (hh_tg h9 a7) = true) ∧ (∃ n18, gm_ix x2 n18 (hh_ln h9 a17) ∧ (∀ h19, h19 = hh_wr h9 a17 n18 (some a7) → (gm_G 59 35 [some (.ref a0), some (.ref a7), some (.int x2)] [] h19 Q)))))))))))))))))) : gm_G 59 0 [some (.ref a0), some (va_rf r_1), some (.int x2)] [] h Q := by
  refine g_aload (r := _) rfl rfl rfl (pc' := 1) ?_
  refine g_aload (r := some _) rfl rfl rfl (pc' := 2) ?_
  obtain ⟨ht1, H⟩ := H
  refine g_getRv rfl rfl rfl rfl ht1 (pc' := 5) rfl (fun r2 hr2 => ?_)
  replace H := H r2 hr2
  refine g_iload rfl rfl rfl (pc' := 6) ?_
  obtain ⟨a3, rfl, H⟩ := H
  obtain ⟨ht5, H⟩ := H
  obtain ⟨n4, hn4, H⟩ := H
  refine g_aaloadv rfl ht5 hn4 (pc' := 7) rfl (fun r6 hr6 => ?_)
  replace H := H r6 hr6
  obtain ⟨a7, rfl, H⟩ := H
  obtain ⟨ht8, H⟩ := H
  refine g_putR rfl rfl rfl rfl ht8  (pc' := 10) rfl ?_
  replace H := H _ rfl
  refine g_aload (r := some _) rfl rfl rfl (pc' := 11) ?_
  refine g_getRv rfl rfl rfl rfl ht8 (pc' := 14) rfl (fun r10 hr10 => ?_)
  replace H := H r10 hr10
  refine g_ifnonnull rfl (pc' := 17) (pt := 27) rfl rfl ⟨fun a11 hc => ?_, fun hc => ?_⟩
  · replace H := H.1 a11 hc
    subst hc
    refine g_aload (r := some _) rfl rfl rfl (pc' := 28) ?_
    refine g_getRv rfl rfl rfl rfl ht8 (pc' := 31) rfl (fun r12 hr12 => ?_)
    replace H := H r12 hr12
    refine g_aload (r := some _) rfl rfl rfl (pc' := 32) ?_
    obtain ⟨a13, rfl, H⟩ := H
    obtain ⟨ht14, H⟩ := H
    refine g_putR (x := some _) rfl rfl rfl rfl ht14  (pc' := 35) rfl ?_
    replace H := H _ rfl
    exact g_weak (show gm_Lle [some _, some _, some _] _ from ⟨rfl, ⟨rfl, ⟨rfl, trivial⟩⟩⟩) H
  · replace H := H.2 hc
    subst hc
    refine g_aload (r := some _) rfl rfl rfl (pc' := 18) ?_
    refine g_getRv rfl rfl rfl rfl ht1 (pc' := 21) rfl (fun r16 hr16 => ?_)
    replace H := H r16 hr16
    refine g_iload rfl rfl rfl (pc' := 22) ?_
    refine g_aload (r := some _) rfl rfl rfl (pc' := 23) ?_
    obtain ⟨a17, rfl, H⟩ := H
    obtain ⟨Ha, Hb, H⟩ := H
    obtain ⟨n18, hn18, H⟩ := H
    refine g_aastore (r := some _) rfl Ha (fun b hb => by cases hb; exact Hb) hn18 (pc' := 24) rfl ?_
    replace H := H _ rfl
    refine g_goto rfl (pc' := 35) rfl ?_
    exact g_weak (show gm_Lle [some _, some _, some _] _ from ⟨rfl, ⟨rfl, ⟨rfl, trivial⟩⟩⟩) H
set_option maxRecDepth 20000 in
theorem w_59_35 {a0 : Nat} {r_1 : Option Nat} {x2 : Int32} {h : hh_T} {Q : Option Value ⊕ Nat → hh_T → Prop} (H : gm_sub (hh_tg h a0) 11 = true ∧ (∀ r2, r2 = hh_r h a0 1 → (∃ a3, r2 = some a3 ∧ (200 ≤ hh_tg h a3 ∧ (∀ b, r_1 = some b → gm_as (hh_tg h a3) (hh_tg h b) = true) ∧ (∃ n4, gm_ix x2 n4 (hh_ln h a3) ∧ (∀ h5, h5 = hh_wr h a3 n4 r_1 → (∃ a6, r_1 = some a6 ∧ (gm_sub (hh_tg h5 a6) 31 = true ∧ (∀ h8, h8 = hh_wi h5 a6 10 x2 → (∀ r9, r9 = hh_r h8 a0 2 → (∃ a10, r9 = some a10 ∧ ((hh_tg h8 a10 = 100 ∨ hh_tg h8 a10 = 105) ∧ (∃ n11, gm_ix x2 n11 (hh_ln h8 a10) ∧ (hh_tg h8 a10 = 100 ∧ (∃ n13, gm_ix x2 n13 (hh_ln h8 a10) ∧ (∀ h14, h14 = hh_wi h8 a10 n13 ((hh_i h8 a10 n11) + (Int32.ofNat 1)) → (Q (.inl none) h14))))))))))))))))) : gm_G 59 35 [some (.ref a0), some (va_rf r_1), some (.int x2)] [] h Q := by
  refine g_aload (r := some _) rfl rfl rfl (pc' := 36) ?_
  obtain ⟨ht1, H⟩ := H
  refine g_getRv rfl rfl rfl rfl ht1 (pc' := 39) rfl (fun r2 hr2 => ?_)
  replace H := H r2 hr2
  refine g_iload rfl rfl rfl (pc' := 40) ?_
  refine g_aload (r := _) rfl rfl rfl (pc' := 41) ?_
  obtain ⟨a3, rfl, H⟩ := H
  obtain ⟨Ha, Hb, H⟩ := H
  obtain ⟨n4, hn4, H⟩ := H
  refine g_aastore (r := _) rfl Ha Hb hn4 (pc' := 42) rfl ?_
  replace H := H _ rfl
  refine g_aload (r := _) rfl rfl rfl (pc' := 43) ?_
  refine g_iload rfl rfl rfl (pc' := 44) ?_
  obtain ⟨a6, rfl, H⟩ := H
  obtain ⟨ht7, H⟩ := H
  refine g_putI rfl rfl rfl rfl ht7  (pc' := 47) rfl ?_
  replace H := H _ rfl
  refine g_aload (r := some _) rfl rfl rfl (pc' := 48) ?_
  refine g_getRv rfl rfl rfl rfl ht1 (pc' := 51) rfl (fun r9 hr9 => ?_)
  replace H := H r9 hr9
  refine g_iload rfl rfl rfl (pc' := 52) ?_
  obtain ⟨a10, rfl, H⟩ := H
  refine g_dup2_a rfl (pc' := 53) rfl ?_
  obtain ⟨ht12, H⟩ := H
  obtain ⟨n11, hn11, H⟩ := H
  refine g_iaload rfl ht12 hn11 (pc' := 54) rfl ?_
  refine g_iconst rfl rfl rfl (pc' := 55) ?_
  refine g_iadd rfl rfl (pc' := 56) ?_
  obtain ⟨ht15, H⟩ := H
  obtain ⟨n13, hn13, H⟩ := H
  refine g_iastore rfl ht15 hn13  (pc' := 57) rfl ?_
  replace H := H _ rfl
  exact g_return rfl H
set_option maxRecDepth 20000 in
theorem w_60_0 {a0 : Nat} {r_1 : Option Nat} {h : hh_T} {Q : Option Value ⊕ Nat → hh_T → Prop} (H : ∃ a1, r_1 = some a1 ∧ (gm_sub (hh_tg h a1) 31 = true ∧ (((hh_i h a1 10) = (Int32.ofNat 1) → (gm_G 60 16 [] [] h Q)) ∧ (¬ (hh_i h a1 10) = (Int32.ofNat 1) → ((¬ (hh_i h a1 10) = (Int32.ofNat 2) → (Q (.inl (some (.int (Int32.ofNat 0)))) h)) ∧ ((hh_i h a1 10) = (Int32.ofNat 2) → (gm_G 60 16 [] [] h Q))))))) : gm_G 60 0 [some (.ref a0), some (va_rf r_1)] [] h Q := by
  refine g_aload (r := _) rfl rfl rfl (pc' := 1) ?_
  obtain ⟨a1, rfl, H⟩ := H
  obtain ⟨ht2, H⟩ := H
  refine g_getI rfl rfl rfl rfl ht2 (pc' := 4) rfl ?_
  refine g_iconst rfl rfl rfl (pc' := 5) ?_
  refine g_ic_eq rfl (pc' := 8) (pt := 16) rfl rfl ⟨fun hc => ?_, fun hc => ?_⟩
  · replace H := H.1 hc
    exact g_weak (show gm_Lle [] _ from trivial) H
  · replace H := H.2 hc
    refine g_aload (r := some _) rfl rfl rfl (pc' := 9) ?_
    refine g_getI rfl rfl rfl rfl ht2 (pc' := 12) rfl ?_
    refine g_iconst rfl rfl rfl (pc' := 13) ?_
    refine g_ic_ne rfl (pc' := 16) (pt := 20) rfl rfl ⟨fun hc => ?_, fun hc => ?_⟩
    · replace H := H.1 hc
      refine g_iconst rfl rfl rfl (pc' := 21) ?_
      exact g_ireturn rfl (Or.inr (by decide)) H
    · replace H := H.2 hc
      exact g_weak (show gm_Lle [] _ from trivial) H
set_option maxRecDepth 20000 in
theorem w_60_16 {a0 : Nat}  {h : hh_T} {Q : Option Value ⊕ Nat → hh_T → Prop} (H : Q (.inl (some (.int (Int32.ofNat 1)))) h) : gm_G 60 16 [] [] h Q := by
  refine g_iconst rfl rfl rfl (pc' := 17) ?_
  refine g_goto rfl (pc' := 21) rfl ?_
  exact g_ireturn rfl (Or.inr (by decide)) H
set_option maxRecDepth 20000 in
theorem w_61_0 {a0 : Nat} {x1 : Int32} {h : hh_T} {Q : Option Value ⊕ Nat → hh_T → Prop} (H : gm_sub (hh_tg h a0) 11 = true ∧ (∀ r2, r2 = hh_r h a0 2 → (∃ a3, r2 = some a3 ∧ ((hh_tg h a3 = 100 ∨ hh_tg h a3 = 105) ∧ (∃ n4, gm_ix x1 n4 (hh_ln h a3) ∧ (Q (.inl (some (.int (hh_i h a3 n4)))) h)))))) : gm_G 61 0 [some (.ref a0), some (.int x1)] [] h Q := by
  refine g_aload (r := some _) rfl rfl rfl (pc' := 1) ?_
  obtain ⟨ht1, H⟩ := H
  refine g_getRv rfl rfl rfl rfl ht1 (pc' := 4) rfl (fun r2 hr2 => ?_)
  replace H := H r2 hr2
  refine g_iload rfl rfl rfl (pc' := 5) ?_
  obtain ⟨a3, rfl, H⟩ := H
  obtain ⟨ht5, H⟩ := H
  obtain ⟨n4, hn4, H⟩ := H
  refine g_iaload rfl ht5 hn4 (pc' := 6) rfl ?_
  exact g_ireturn rfl (Or.inl rfl) H
set_option maxRecDepth 20000 in
theorem w_62_0 {a0 : Nat} {x1 : Int32} {h : hh_T} {Q : Option Value ⊕ Nat → hh_T → Prop} (H : ∃ n5, x1.toNatClampNeg = n5 ∧ (0 ≤ x1 ∧ x1 ≤ 100000) ∧ (∀ a1 h2, a1 = hh_sz h → h2 = hh_al h 101 n5 n5 → (gm_sub (hh_tg h2 a0) 12 = true ∧ (∀ h4, h4 = hh_wr h2 a0 0 (some a1) → (Q (.inl none) h4))))) : gm_G 62 0 [some (.ref a0), some (.int x1)] [] h Q := by
  refine g_aload (r := some _) rfl rfl rfl (pc' := 1) ?_
  refine g_objinit rfl (Nat.le_of_ble_eq_true rfl) (pc' := 4) rfl ?_
  refine g_aload (r := some _) rfl rfl rfl (pc' := 5) ?_
  refine g_iload rfl rfl rfl (pc' := 6) ?_
  obtain ⟨n5, Hn, Hr, H⟩ := H
  refine g_newarray rfl (u := 101) (n := n5) rfl (by decide) Hn Hr (pc' := 8) rfl ?_
  replace H := H _ _ rfl rfl
  obtain ⟨ht3, H⟩ := H
  refine g_putR (x := some _) rfl rfl rfl rfl ht3  (pc' := 11) rfl ?_
  replace H := H _ rfl
  exact g_return rfl H
set_option maxRecDepth 20000 in
theorem w_63_0 {a0 : Nat} {x1 : Int32} {h : hh_T} {Q : Option Value ⊕ Nat → hh_T → Prop} (H : gm_sub (hh_tg h a0) 12 = true ∧ (∀ r2, r2 = hh_r h a0 0 → (∃ a3, r2 = some a3 ∧ ((hh_tg h a3 = 101 ∨ hh_tg h a3 = 102) ∧ (∃ n4, gm_ix x1 n4 (hh_ln h a3) ∧ (Q (.inl (some (.int ((hh_i h a3 n4) &&& (Int32.ofNat 255))))) h)))))) : gm_G 63 0 [some (.ref a0), some (.int x1)] [] h Q := by
  refine g_aload (r := some _) rfl rfl rfl (pc' := 1) ?_
  obtain ⟨ht1, H⟩ := H
  refine g_getRv rfl rfl rfl rfl ht1 (pc' := 4) rfl (fun r2 hr2 => ?_)
  replace H := H r2 hr2
  refine g_iload rfl rfl rfl (pc' := 5) ?_
  obtain ⟨a3, rfl, H⟩ := H
  obtain ⟨ht5, H⟩ := H
  obtain ⟨n4, hn4, H⟩ := H
  refine g_baload rfl ht5 hn4 (pc' := 6) rfl ?_
  refine g_iconst rfl rfl rfl (pc' := 9) ?_
  refine g_iand rfl rfl (pc' := 10) ?_
  exact g_ireturn rfl (Or.inl rfl) H
set_option maxRecDepth 20000 in
theorem w_64_0 {a0 : Nat} {r_1 : Option Nat} {h : hh_T} {Q : Option Value ⊕ Nat → hh_T → Prop} (H : gm_sub (hh_tg h a0) 12 = true ∧ (∃ a2, r_1 = some a2 ∧ (gm_sub (hh_tg h a2) 12 = true ∧ (((hh_i h a0 1) = (hh_i h a2 1) → (gm_G 64 15 [some (.ref a0), some (.ref a2), some (.int (Int32.ofNat 0))] [] h Q)) ∧ (¬ (hh_i h a0 1) = (hh_i h a2 1) → (Q (.inl (some (.int (Int32.ofNat 0)))) h)))))) : gm_G 64 0 [some (.ref a0), some (va_rf r_1)] [] h Q := by
  refine g_aload (r := some _) rfl rfl rfl (pc' := 1) ?_
  obtain ⟨ht1, H⟩ := H
  refine g_getI rfl rfl rfl rfl ht1 (pc' := 4) rfl ?_
  refine g_aload (r := _) rfl rfl rfl (pc' := 5) ?_
  obtain ⟨a2, rfl, H⟩ := H
  obtain ⟨ht3, H⟩ := H
  refine g_getI rfl rfl rfl rfl ht3 (pc' := 8) rfl ?_
  refine g_ic_eq rfl (pc' := 11) (pt := 13) rfl rfl ⟨fun hc => ?_, fun hc => ?_⟩
  · replace H := H.1 hc
    refine g_iconst rfl rfl rfl (pc' := 14) ?_
    refine g_istore rfl rfl rfl (pc' := 15) ?_
    exact g_weak (show gm_Lle [some _, some _, some _] _ from ⟨rfl, ⟨rfl, ⟨rfl, trivial⟩⟩⟩) H
  · replace H := H.2 hc
    refine g_iconst rfl rfl rfl (pc' := 12) ?_
    exact g_ireturn rfl (Or.inr (by decide)) H
set_option maxRecDepth 20000 in
theorem w_64_15 {a0 : Nat} {r_1 : Option Nat} {x2 : Int32} {h : hh_T} {Q : Option Value ⊕ Nat → hh_T → Prop} (H : gm_sub (hh_tg h a0) 12 = true ∧ ((¬ x2 < (hh_i h a0 1) → (Q (.inl (some (.int (Int32.ofNat 1)))) h)) ∧ (x2 < (hh_i h a0 1) → (∀ r2, r2 = hh_r h a0 0 → (∃ a3, r2 = some a3 ∧ ((hh_tg h a3 = 101 ∨ hh_tg h a3 = 102) ∧ (∃ n4, gm_ix x2 n4 (hh_ln h a3) ∧ (∃ a6, r_1 = some a6 ∧ (gm_sub (hh_tg h a6) 12 = true ∧ (∀ r8, r8 = hh_r h a6 0 → (∃ a9, r8 = some a9 ∧ ((hh_tg h a9 = 101 ∨ hh_tg h a9 = 102) ∧ (∃ n10, gm_ix x2 n10 (hh_ln h a9) ∧ (((hh_i h a3 n4) = (hh_i h a9 n10) → (gm_G 64 15 [some (.ref a0), some (.ref a6), some (.int (x2 + (Int32.ofNat 1)))] [] h Q)) ∧ (¬ (hh_i h a3 n4) = (hh_i h a9 n10) → (Q (.inl (some (.int (Int32.ofNat 0)))) h)))))))))))))))) : gm_G 64 15 [some (.ref a0), some (va_rf r_1), some (.int x2)] [] h Q := by
  refine g_iload rfl rfl rfl (pc' := 16) ?_
  refine g_aload (r := some _) rfl rfl rfl (pc' := 17) ?_
  obtain ⟨ht1, H⟩ := H
  refine g_getI rfl rfl rfl rfl ht1 (pc' := 20) rfl ?_
  refine g_ic_ge rfl (pc' := 23) (pt := 46) rfl rfl ⟨fun hc => ?_, fun hc => ?_⟩
  · replace H := H.1 hc
    refine g_iconst rfl rfl rfl (pc' := 47) ?_
    exact g_ireturn rfl (Or.inr (by decide)) H
  · replace H := H.2 hc
    refine g_aload (r := some _) rfl rfl rfl (pc' := 24) ?_
    refine g_getRv rfl rfl rfl rfl ht1 (pc' := 27) rfl (fun r2 hr2 => ?_)
    replace H := H r2 hr2
    refine g_iload rfl rfl rfl (pc' := 28) ?_
    obtain ⟨a3, rfl, H⟩ := H
    obtain ⟨ht5, H⟩ := H
    obtain ⟨n4, hn4, H⟩ := H
    refine g_baload rfl ht5 hn4 (pc' := 29) rfl ?_
    refine g_aload (r := _) rfl rfl rfl (pc' := 30) ?_
    obtain ⟨a6, rfl, H⟩ := H
    obtain ⟨ht7, H⟩ := H
    refine g_getRv rfl rfl rfl rfl ht7 (pc' := 33) rfl (fun r8 hr8 => ?_)
    replace H := H r8 hr8
    refine g_iload rfl rfl rfl (pc' := 34) ?_
    obtain ⟨a9, rfl, H⟩ := H
    obtain ⟨ht11, H⟩ := H
    obtain ⟨n10, hn10, H⟩ := H
    refine g_baload rfl ht11 hn10 (pc' := 35) rfl ?_
    refine g_ic_eq rfl (pc' := 38) (pt := 40) rfl rfl ⟨fun hc => ?_, fun hc => ?_⟩
    · replace H := H.1 hc
      refine g_iinc (c := (Int32.ofNat 1)) rfl rfl rfl rfl rfl (pc' := 43) ?_
      refine g_goto rfl (pc' := 15) rfl ?_
      exact g_weak (show gm_Lle [some _, some _, some _] _ from ⟨rfl, ⟨rfl, ⟨rfl, trivial⟩⟩⟩) H
    · replace H := H.2 hc
      refine g_iconst rfl rfl rfl (pc' := 39) ?_
      exact g_ireturn rfl (Or.inr (by decide)) H
set_option maxRecDepth 20000 in
theorem w_65_0 {a0 : Nat} {r_1 : Option Nat} {h : hh_T} {Q : Option Value ⊕ Nat → hh_T → Prop} (H : ∃ a1, r_1 = some a1 ∧ (gm_sub (hh_tg h a1) 12 = true ∧ (gm_sub (hh_tg h a0) 12 = true ∧ (∀ h4, h4 = hh_wi h a0 1 (hh_i h a1 1) → (gm_G 65 10 [some (.ref a0), some (.ref a1), some (.int (Int32.ofNat 0))] [] h4 Q))))) : gm_G 65 0 [some (.ref a0), some (va_rf r_1)] [] h Q := by
  refine g_aload (r := some _) rfl rfl rfl (pc' := 1) ?_
  refine g_aload (r := _) rfl rfl rfl (pc' := 2) ?_
  obtain ⟨a1, rfl, H⟩ := H
  obtain ⟨ht2, H⟩ := H
  refine g_getI rfl rfl rfl rfl ht2 (pc' := 5) rfl ?_
  obtain ⟨ht3, H⟩ := H
  refine g_putI rfl rfl rfl rfl ht3  (pc' := 8) rfl ?_
  replace H := H _ rfl
  refine g_iconst rfl rfl rfl (pc' := 9) ?_
  refine g_istore rfl rfl rfl (pc' := 10) ?_
  exact g_weak (show gm_Lle [some _, some _, some _] _ from ⟨rfl, ⟨rfl, ⟨rfl, trivial⟩⟩⟩) H
set_option maxRecDepth 20000 in
theorem w_65_10 {a0 : Nat} {r_1 : Option Nat} {x2 : Int32} {h : hh_T} {Q : Option Value ⊕ Nat → hh_T → Prop} (H : gm_sub (hh_tg h a0) 12 = true ∧ ((¬ x2 < (hh_i h a0 1) → (Q (.inl none) h)) ∧ (x2 < (hh_i h a0 1) → (∀ r2, r2 = hh_r h a0 0 → (∃ a3, r_1 = some a3 ∧ (gm_sub (hh_tg h a3) 12 = true ∧ (∀ r5, r5 = hh_r h a3 0 → (∃ a6, r5 = some a6 ∧ ((hh_tg h a6 = 101 ∨ hh_tg h a6 = 102) ∧ (∃ n7, gm_ix x2 n7 (hh_ln h a6) ∧ (∃ a9, r2 = some a9 ∧ (hh_tg h a9 = 101 ∧ (∃ n10, gm_ix x2 n10 (hh_ln h a9) ∧ (∀ h11, h11 = hh_wi h a9 n10 ((hh_i h a6 n7).toInt8.toInt32) → (gm_G 65 10 [some (.ref a0), some (.ref a3), some (.int (x2 + (Int32.ofNat 1)))] [] h11 Q))))))))))))))) : gm_G 65 10 [some (.ref a0), some (va_rf r_1), some (.int x2)] [] h Q := by
  refine g_iload rfl rfl rfl (pc' := 11) ?_
  refine g_aload (r := some _) rfl rfl rfl (pc' := 12) ?_
  obtain ⟨ht1, H⟩ := H
  refine g_getI rfl rfl rfl rfl ht1 (pc' := 15) rfl ?_
  refine g_ic_ge rfl (pc' := 18) (pt := 36) rfl rfl ⟨fun hc => ?_, fun hc => ?_⟩
  · replace H := H.1 hc
    exact g_return rfl H
  · replace H := H.2 hc
    refine g_aload (r := some _) rfl rfl rfl (pc' := 19) ?_
    refine g_getRv rfl rfl rfl rfl ht1 (pc' := 22) rfl (fun r2 hr2 => ?_)
    replace H := H r2 hr2
    refine g_iload rfl rfl rfl (pc' := 23) ?_
    refine g_aload (r := _) rfl rfl rfl (pc' := 24) ?_
    obtain ⟨a3, rfl, H⟩ := H
    obtain ⟨ht4, H⟩ := H
    refine g_getRv rfl rfl rfl rfl ht4 (pc' := 27) rfl (fun r5 hr5 => ?_)
    replace H := H r5 hr5
    refine g_iload rfl rfl rfl (pc' := 28) ?_
    obtain ⟨a6, rfl, H⟩ := H
    obtain ⟨ht8, H⟩ := H
    obtain ⟨n7, hn7, H⟩ := H
    refine g_baload rfl ht8 hn7 (pc' := 29) rfl ?_
    obtain ⟨a9, rfl, H⟩ := H
    obtain ⟨ht12, H⟩ := H
    obtain ⟨n10, hn10, H⟩ := H
    refine g_bastore rfl ht12 hn10  (pc' := 30) rfl ?_
    replace H := H _ rfl
    refine g_iinc (c := (Int32.ofNat 1)) rfl rfl rfl rfl rfl (pc' := 33) ?_
    refine g_goto rfl (pc' := 10) rfl ?_
    exact g_weak (show gm_Lle [some _, some _, some _] _ from ⟨rfl, ⟨rfl, ⟨rfl, trivial⟩⟩⟩) H
set_option maxRecDepth 20000 in
theorem w_66_0 {a0 : Nat}  {h : hh_T} {Q : Option Value ⊕ Nat → hh_T → Prop} (H : ∀ a1 h2, a1 = hh_sz h → h2 = hh_al h 230 8 8 → (gm_sub (hh_tg h2 a0) 13 = true ∧ (∀ h4, h4 = hh_wr h2 a0 0 (some a1) → (Q (.inl none) h4)))) : gm_G 66 0 [some (.ref a0)] [] h Q := by
  refine g_aload (r := some _) rfl rfl rfl (pc' := 1) ?_
  refine g_objinit rfl (Nat.le_of_ble_eq_true rfl) (pc' := 4) rfl ?_
  refine g_aload (r := some _) rfl rfl rfl (pc' := 5) ?_
  refine g_iconst rfl rfl rfl (pc' := 7) ?_
  refine g_anewarray rfl (n := 8) rfl (by decide) (pc' := 10) rfl ?_
  replace H := H _ _ rfl rfl
  obtain ⟨ht3, H⟩ := H
  refine g_putR (x := some _) rfl rfl rfl rfl ht3  (pc' := 13) rfl ?_
  replace H := H _ rfl
  exact g_return rfl H
set_option maxRecDepth 20000 in
theorem w_67_0 {a0 : Nat} {x1 : Int32} {h : hh_T} {Q : Option Value ⊕ Nat → hh_T → Prop} (H : gm_G 67 4 [some (.ref a0), some (.int x1), some (.int (Int32.ofNat 0)), some (.int (Int32.ofNat 0))] [] h Q) : gm_G 67 0 [some (.ref a0), some (.int x1)] [] h Q := by
  refine g_iconst rfl rfl rfl (pc' := 1) ?_
  refine g_istore rfl rfl rfl (pc' := 2) ?_
  refine g_iconst rfl rfl rfl (pc' := 3) ?_
  refine g_istore rfl rfl rfl (pc' := 4) ?_
  exact g_weak (show gm_Lle [some _, some _, some _, some _] _ from ⟨rfl, ⟨rfl, ⟨rfl, ⟨rfl, trivial⟩⟩⟩⟩) H
set_option maxRecDepth 20000 in
theorem w_67_4 {a0 : Nat} {x1 : Int32} {x2 : Int32} {x3 : Int32} {h : hh_T} {Q : Option Value ⊕ Nat → hh_T → Prop} (H : gm_sub (hh_tg h a0) 13 = true ∧ ((¬ x3 < (hh_i h a0 1) → (Q (.inl (some (.int x2))) h)) ∧ (x3 < (hh_i h a0 1) → ((x1 = Int32.ofNat 0 → (∀ r2, r2 = hh_r h a0 0 → (∃ a3, r2 = some a3 ∧ ((hh_tg h a3 = 104 ∨ 200 ≤ hh_tg h a3) ∧ (∃ n4, gm_ix x3 n4 (hh_ln h a3) ∧ (∀ r6, r6 = hh_r h a3 n4 → (∃ a7, r6 = some a7 ∧ (gm_sub (hh_tg h a7) 30 = true ∧ (gm_G 67 38 [some (.ref a0), some (.int x1), none, some (.int x3)] [.int (hh_i h a7 1), .int x2] h Q))))))))) ∧ (¬ x1 = Int32.ofNat 0 → (∀ r9, r9 = hh_r h a0 0 → (∃ a10, r9 = some a10 ∧ ((hh_tg h a10 = 104 ∨ 200 ≤ hh_tg h a10) ∧ (∃ n11, gm_ix x3 n11 (hh_ln h a10) ∧ (∀ r13, r13 = hh_r h a10 n11 → (∃ a14, r13 = some a14 ∧ (gm_sub (hh_tg h a14) 30 = true ∧ (gm_G 67 38 [some (.ref a0), some (.int x1), none, some (.int x3)] [.int (hh_i h a14 2), .int x2] h Q))))))))))))) : gm_G 67 4 [some (.ref a0), some (.int x1), some (.int x2), some (.int x3)] [] h Q := by
  refine g_iload rfl rfl rfl (pc' := 5) ?_
  refine g_aload (r := some _) rfl rfl rfl (pc' := 6) ?_
  obtain ⟨ht1, H⟩ := H
  refine g_getI rfl rfl rfl rfl ht1 (pc' := 9) rfl ?_
  refine g_ic_ge rfl (pc' := 12) (pt := 46) rfl rfl ⟨fun hc => ?_, fun hc => ?_⟩
  · replace H := H.1 hc
    refine g_iload rfl rfl rfl (pc' := 47) ?_
    exact g_ireturn rfl (Or.inl rfl) H
  · replace H := H.2 hc
    refine g_iload rfl rfl rfl (pc' := 13) ?_
    refine g_iload rfl rfl rfl (pc' := 14) ?_
    refine g_if_eq rfl (pc' := 17) (pt := 29) rfl rfl ⟨fun hc => ?_, fun hc => ?_⟩
    · replace H := H.1 hc
      refine g_aload (r := some _) rfl rfl rfl (pc' := 30) ?_
      refine g_getRv rfl rfl rfl rfl ht1 (pc' := 33) rfl (fun r2 hr2 => ?_)
      replace H := H r2 hr2
      refine g_iload rfl rfl rfl (pc' := 34) ?_
      obtain ⟨a3, rfl, H⟩ := H
      obtain ⟨ht5, H⟩ := H
      obtain ⟨n4, hn4, H⟩ := H
      refine g_aaloadv rfl ht5 hn4 (pc' := 35) rfl (fun r6 hr6 => ?_)
      replace H := H r6 hr6
      obtain ⟨a7, rfl, H⟩ := H
      obtain ⟨ht8, H⟩ := H
      refine g_getI rfl rfl rfl rfl ht8 (pc' := 38) rfl ?_
      exact g_weak (show gm_Lle [some _, some _, none, some _] _ from ⟨rfl, ⟨rfl, ⟨rfl, trivial⟩⟩⟩) H
    · replace H := H.2 hc
      refine g_aload (r := some _) rfl rfl rfl (pc' := 18) ?_
      refine g_getRv rfl rfl rfl rfl ht1 (pc' := 21) rfl (fun r9 hr9 => ?_)
      replace H := H r9 hr9
      refine g_iload rfl rfl rfl (pc' := 22) ?_
      obtain ⟨a10, rfl, H⟩ := H
      obtain ⟨ht12, H⟩ := H
      obtain ⟨n11, hn11, H⟩ := H
      refine g_aaloadv rfl ht12 hn11 (pc' := 23) rfl (fun r13 hr13 => ?_)
      replace H := H r13 hr13
      obtain ⟨a14, rfl, H⟩ := H
      obtain ⟨ht15, H⟩ := H
      refine g_getI rfl rfl rfl rfl ht15 (pc' := 26) rfl ?_
      refine g_goto rfl (pc' := 38) rfl ?_
      exact g_weak (show gm_Lle [some _, some _, none, some _] _ from ⟨rfl, ⟨rfl, ⟨rfl, trivial⟩⟩⟩) H
set_option maxRecDepth 20000 in
theorem w_67_38 {a0 : Nat} {x1 : Int32} {x3 : Int32} {y0 : Int32} {y1 : Int32} {h : hh_T} {Q : Option Value ⊕ Nat → hh_T → Prop} (H : gm_G 67 4 [some (.ref a0), some (.int x1), some (.int (y1 + y0)), some (.int (x3 + (Int32.ofNat 1)))] [] h Q) : gm_G 67 38 [some (.ref a0), some (.int x1), none, some (.int x3)] [.int y0, .int y1] h Q := by
  refine g_iadd rfl rfl (pc' := 39) ?_
  refine g_istore rfl rfl rfl (pc' := 40) ?_
  refine g_iinc (c := (Int32.ofNat 1)) rfl rfl rfl rfl rfl (pc' := 43) ?_
  refine g_goto rfl (pc' := 4) rfl ?_
  exact g_weak (show gm_Lle [some _, some _, some _, some _] _ from ⟨rfl, ⟨rfl, ⟨rfl, ⟨rfl, trivial⟩⟩⟩⟩) H
set_option maxRecDepth 20000 in
theorem w_68_0 {a0 : Nat}  {h : hh_T} {Q : Option Value ⊕ Nat → hh_T → Prop} (H : gm_sub (hh_tg h a0) 13 = true ∧ (∀ h2, h2 = hh_wi h a0 1 (Int32.ofNat 0) → (Q (.inl none) h2))) : gm_G 68 0 [some (.ref a0)] [] h Q := by
  refine g_aload (r := some _) rfl rfl rfl (pc' := 1) ?_
  refine g_iconst rfl rfl rfl (pc' := 2) ?_
  obtain ⟨ht1, H⟩ := H
  refine g_putI rfl rfl rfl rfl ht1  (pc' := 5) rfl ?_
  replace H := H _ rfl
  exact g_return rfl H
set_option maxRecDepth 20000 in
theorem w_69_0 {a0 : Nat}  {h : hh_T} {Q : Option Value ⊕ Nat → hh_T → Prop} (H : gm_G 69 2 [some (.ref a0), some (.int (Int32.ofNat 0))] [] h Q) : gm_G 69 0 [some (.ref a0)] [] h Q := by
  refine g_iconst rfl rfl rfl (pc' := 1) ?_
  refine g_istore rfl rfl rfl (pc' := 2) ?_
  exact g_weak (show gm_Lle [some _, some _] _ from ⟨rfl, ⟨rfl, trivial⟩⟩) H
set_option maxRecDepth 20000 in
theorem w_69_2 {a0 : Nat} {x1 : Int32} {h : hh_T} {Q : Option Value ⊕ Nat → hh_T → Prop} (H : gm_sub (hh_tg h a0) 13 = true ∧ ((¬ x1 < (hh_i h a0 1) → (Q (.inl none) h)) ∧ (x1 < (hh_i h a0 1) → (∀ r2, r2 = hh_r h a0 0 → (∃ a3, r2 = some a3 ∧ ((hh_tg h a3 = 104 ∨ 200 ≤ hh_tg h a3) ∧ (∃ n4, gm_ix x1 n4 (hh_ln h a3) ∧ (∀ r6, r6 = hh_r h a3 n4 → (∃ a7, r6 = some a7 ∧ (gm_sub (hh_tg h a7) 30 = true ∧ (∀ h9, h9 = hh_wi h a7 1 (hh_i h a7 2) → (gm_G 69 2 [some (.ref a0), some (.int (x1 + (Int32.ofNat 1)))] [] h9 Q)))))))))))) : gm_G 69 2 [some (.ref a0), some (.int x1)] [] h Q := by
  refine g_iload rfl rfl rfl (pc' := 3) ?_
  refine g_aload (r := some _) rfl rfl rfl (pc' := 4) ?_
  obtain ⟨ht1, H⟩ := H
  refine g_getI rfl rfl rfl rfl ht1 (pc' := 7) rfl ?_
  refine g_ic_ge rfl (pc' := 10) (pt := 31) rfl rfl ⟨fun hc => ?_, fun hc => ?_⟩
  · replace H := H.1 hc
    exact g_return rfl H
  · replace H := H.2 hc
    refine g_aload (r := some _) rfl rfl rfl (pc' := 11) ?_
    refine g_getRv rfl rfl rfl rfl ht1 (pc' := 14) rfl (fun r2 hr2 => ?_)
    replace H := H r2 hr2
    refine g_iload rfl rfl rfl (pc' := 15) ?_
    obtain ⟨a3, rfl, H⟩ := H
    obtain ⟨ht5, H⟩ := H
    obtain ⟨n4, hn4, H⟩ := H
    refine g_aaloadv rfl ht5 hn4 (pc' := 16) rfl (fun r6 hr6 => ?_)
    replace H := H r6 hr6
    refine g_astore (r := _) rfl rfl rfl (pc' := 17) ?_
    refine g_aload (r := _) rfl rfl rfl (pc' := 18) ?_
    refine g_aload (r := _) rfl rfl rfl (pc' := 19) ?_
    obtain ⟨a7, rfl, H⟩ := H
    obtain ⟨ht8, H⟩ := H
    refine g_getI rfl rfl rfl rfl ht8 (pc' := 22) rfl ?_
    refine g_putI rfl rfl rfl rfl ht8  (pc' := 25) rfl ?_
    replace H := H _ rfl
    refine g_iinc (c := (Int32.ofNat 1)) rfl rfl rfl rfl rfl (pc' := 28) ?_
    refine g_goto rfl (pc' := 2) rfl ?_
    exact g_weak (show gm_Lle [some _, some _] _ from ⟨rfl, ⟨rfl, trivial⟩⟩) H
set_option maxRecDepth 20000 in
theorem w_70_0 {a0 : Nat}  {h : hh_T} {Q : Option Value ⊕ Nat → hh_T → Prop} (H : ∀ a1 h2, a1 = hh_sz h → h2 = hh_al h 242 8 8 → (gm_sub (hh_tg h2 a0) 14 = true ∧ (∀ h4, h4 = hh_wr h2 a0 0 (some a1) → (Q (.inl none) h4)))) : gm_G 70 0 [some (.ref a0)] [] h Q := by
  refine g_aload (r := some _) rfl rfl rfl (pc' := 1) ?_
  refine g_objinit rfl (Nat.le_of_ble_eq_true rfl) (pc' := 4) rfl ?_
  refine g_aload (r := some _) rfl rfl rfl (pc' := 5) ?_
  refine g_iconst rfl rfl rfl (pc' := 7) ?_
  refine g_anewarray rfl (n := 8) rfl (by decide) (pc' := 10) rfl ?_
  replace H := H _ _ rfl rfl
  obtain ⟨ht3, H⟩ := H
  refine g_putR (x := some _) rfl rfl rfl rfl ht3  (pc' := 13) rfl ?_
  replace H := H _ rfl
  exact g_return rfl H
set_option maxRecDepth 20000 in
theorem w_71_0 {a0 : Nat}  {h : hh_T} {Q : Option Value ⊕ Nat → hh_T → Prop} (H : gm_G 71 2 [some (.ref a0), some (.int (Int32.ofNat 0))] [] h Q) : gm_G 71 0 [some (.ref a0)] [] h Q := by
  refine g_iconst rfl rfl rfl (pc' := 1) ?_
  refine g_istore rfl rfl rfl (pc' := 2) ?_
  exact g_weak (show gm_Lle [some _, some _] _ from ⟨rfl, ⟨rfl, trivial⟩⟩) H
set_option maxRecDepth 20000 in
theorem w_71_2 {a0 : Nat} {x1 : Int32} {h : hh_T} {Q : Option Value ⊕ Nat → hh_T → Prop} (H : (¬ x1 < (Int32.ofNat 8) → (Q (.inl none) h)) ∧ (x1 < (Int32.ofNat 8) → (gm_sub (hh_tg h a0) 14 = true ∧ (∀ r2, r2 = hh_r h a0 0 → (∃ a3, r2 = some a3 ∧ (200 ≤ hh_tg h a3 ∧ (True) ∧ (∃ n4, gm_ix x1 n4 (hh_ln h a3) ∧ (∀ h5, h5 = hh_wr h a3 n4 none → (gm_G 71 2 [some (.ref a0), some (.int (x1 + (Int32.ofNat 1)))] [] h5 Q))))))))) : gm_G 71 2 [some (.ref a0), some (.int x1)] [] h Q := by
  refine g_iload rfl rfl rfl (pc' := 3) ?_
  refine g_iconst rfl rfl rfl (pc' := 5) ?_
  refine g_ic_ge rfl (pc' := 8) (pt := 21) rfl rfl ⟨fun hc => ?_, fun hc => ?_⟩
  · replace H := H.1 hc
    exact g_return rfl H
  · replace H := H.2 hc
    refine g_aload (r := some _) rfl rfl rfl (pc' := 9) ?_
    obtain ⟨ht1, H⟩ := H
    refine g_getRv rfl rfl rfl rfl ht1 (pc' := 12) rfl (fun r2 hr2 => ?_)
    replace H := H r2 hr2
    refine g_iload rfl rfl rfl (pc' := 13) ?_
    refine g_null rfl rfl (pc' := 14) ?_
    obtain ⟨a3, rfl, H⟩ := H
    obtain ⟨Ha, Hb, H⟩ := H
    obtain ⟨n4, hn4, H⟩ := H
    refine g_aastore (r := _) rfl Ha (fun b hb => by cases hb) hn4 (pc' := 15) rfl ?_
    replace H := H _ rfl
    refine g_iinc (c := (Int32.ofNat 1)) rfl rfl rfl rfl rfl (pc' := 18) ?_
    refine g_goto rfl (pc' := 2) rfl ?_
    exact g_weak (show gm_Lle [some _, some _] _ from ⟨rfl, ⟨rfl, trivial⟩⟩) H
set_option maxRecDepth 20000 in
theorem w_72_0 {a0 : Nat}  {h : hh_T} {Q : Option Value ⊕ Nat → hh_T → Prop} (H : gm_G 72 2 [some (.ref a0), some (.int (Int32.ofNat 0))] [] h Q) : gm_G 72 0 [some (.ref a0)] [] h Q := by
  refine g_iconst rfl rfl rfl (pc' := 1) ?_
  refine g_istore rfl rfl rfl (pc' := 2) ?_
  exact g_weak (show gm_Lle [some _, some _] _ from ⟨rfl, ⟨rfl, trivial⟩⟩) H
set_option maxRecDepth 20000 in
theorem w_72_2 {a0 : Nat} {x1 : Int32} {h : hh_T} {Q : Option Value ⊕ Nat → hh_T → Prop} (H : (¬ x1 < (Int32.ofNat 8) → (Q (.inl (some (.int (Int32.ofInt (-1))))) h)) ∧ (x1 < (Int32.ofNat 8) → (gm_sub (hh_tg h a0) 14 = true ∧ (∀ r2, r2 = hh_r h a0 0 → (∃ a3, r2 = some a3 ∧ ((hh_tg h a3 = 104 ∨ 200 ≤ hh_tg h a3) ∧ (∃ n4, gm_ix x1 n4 (hh_ln h a3) ∧ (∀ r6, r6 = hh_r h a3 n4 → ((∀ a7, r6 = some a7 → (gm_G 72 2 [some (.ref a0), some (.int (x1 + (Int32.ofNat 1)))] [] h Q)) ∧ (r6 = none → (Q (.inl (some (.int x1))) h))))))))))) : gm_G 72 2 [some (.ref a0), some (.int x1)] [] h Q := by
  refine g_iload rfl rfl rfl (pc' := 3) ?_
  refine g_iconst rfl rfl rfl (pc' := 5) ?_
  refine g_ic_ge rfl (pc' := 8) (pt := 25) rfl rfl ⟨fun hc => ?_, fun hc => ?_⟩
  · replace H := H.1 hc
    refine g_iconst rfl rfl rfl (pc' := 26) ?_
    exact g_ireturn rfl (Or.inl rfl) H
  · replace H := H.2 hc
    refine g_aload (r := some _) rfl rfl rfl (pc' := 9) ?_
    obtain ⟨ht1, H⟩ := H
    refine g_getRv rfl rfl rfl rfl ht1 (pc' := 12) rfl (fun r2 hr2 => ?_)
    replace H := H r2 hr2
    refine g_iload rfl rfl rfl (pc' := 13) ?_
    obtain ⟨a3, rfl, H⟩ := H
    obtain ⟨ht5, H⟩ := H
    obtain ⟨n4, hn4, H⟩ := H
    refine g_aaloadv rfl ht5 hn4 (pc' := 14) rfl (fun r6 hr6 => ?_)
    replace H := H r6 hr6
    refine g_ifnonnull rfl (pc' := 17) (pt := 19) rfl rfl ⟨fun a7 hc => ?_, fun hc => ?_⟩
    · replace H := H.1 a7 hc
      subst hc
      refine g_iinc (c := (Int32.ofNat 1)) rfl rfl rfl rfl rfl (pc' := 22) ?_
      refine g_goto rfl (pc' := 2) rfl ?_
      exact g_weak (show gm_Lle [some _, some _] _ from ⟨rfl, ⟨rfl, trivial⟩⟩) H
    · replace H := H.2 hc
      subst hc
      refine g_iload rfl rfl rfl (pc' := 18) ?_
      exact g_ireturn rfl (Or.inl rfl) H
set_option maxRecDepth 20000 in
theorem w_73_0 {a0 : Nat} {x1 : Int32} {h : hh_T} {Q : Option Value ⊕ Nat → hh_T → Prop} (H : gm_sub (hh_tg h a0) 14 = true ∧ (∀ r2, r2 = hh_r h a0 0 → (∃ a3, r2 = some a3 ∧ ((hh_tg h a3 = 104 ∨ 200 ≤ hh_tg h a3) ∧ (∃ n4, gm_ix x1 n4 (hh_ln h a3) ∧ (∀ r6, r6 = hh_r h a3 n4 → (Q (.inl (some (va_rf r6))) h))))))) : gm_G 73 0 [some (.ref a0), some (.int x1)] [] h Q := by
  refine g_aload (r := some _) rfl rfl rfl (pc' := 1) ?_
  obtain ⟨ht1, H⟩ := H
  refine g_getRv rfl rfl rfl rfl ht1 (pc' := 4) rfl (fun r2 hr2 => ?_)
  replace H := H r2 hr2
  refine g_iload rfl rfl rfl (pc' := 5) ?_
  obtain ⟨a3, rfl, H⟩ := H
  obtain ⟨ht5, H⟩ := H
  obtain ⟨n4, hn4, H⟩ := H
  refine g_aaloadv rfl ht5 hn4 (pc' := 6) rfl (fun r6 hr6 => ?_)
  replace H := H r6 hr6
  exact g_areturn (r := _) rfl H
set_option maxRecDepth 20000 in
theorem w_74_0 {a0 : Nat} {x1 : Int32} {x2 : Int32} {h : hh_T} {Q : Option Value ⊕ Nat → hh_T → Prop} (H : gm_G 74 2 [some (.ref a0), some (.int x1), some (.int x2), some (.int (Int32.ofNat 0))] [] h Q) : gm_G 74 0 [some (.ref a0), some (.int x1), some (.int x2)] [] h Q := by
  refine g_iconst rfl rfl rfl (pc' := 1) ?_
  refine g_istore rfl rfl rfl (pc' := 2) ?_
  exact g_weak (show gm_Lle [some _, some _, some _, some _] _ from ⟨rfl, ⟨rfl, ⟨rfl, ⟨rfl, trivial⟩⟩⟩⟩) H
set_option maxRecDepth 20000 in
theorem w_74_2 {a0 : Nat} {x1 : Int32} {x2 : Int32} {x3 : Int32} {h : hh_T} {Q : Option Value ⊕ Nat → hh_T → Prop} (H : (¬ x3 < (Int32.ofNat 8) → (Q (.inl (some (.int (Int32.ofNat 0)))) h)) ∧ (x3 < (Int32.ofNat 8) → (gm_sub (hh_tg h a0) 14 = true ∧ (∀ r2, r2 = hh_r h a0 0 → (∃ a3, r2 = some a3 ∧ ((hh_tg h a3 = 104 ∨ 200 ≤ hh_tg h a3) ∧ (∃ n4, gm_ix x3 n4 (hh_ln h a3) ∧ (∀ r6, r6 = hh_r h a3 n4 → ((r6 = none → (gm_G 74 60 [some (.ref a0), some (.int x1), some (.int x2), some (.int x3)] [] h Q)) ∧ (∀ a7, r6 = some a7 → (∀ r8, r8 = hh_r h a0 0 → (∃ a9, r8 = some a9 ∧ ((hh_tg h a9 = 104 ∨ 200 ≤ hh_tg h a9) ∧ (∃ n10, gm_ix x3 n10 (hh_ln h a9) ∧ (∀ r12, r12 = hh_r h a9 n10 → (∃ a13, r12 = some a13 ∧ (gm_sub (hh_tg h a13) 42 = true ∧ ((¬ (hh_i h a13 0) = x1 → (gm_G 74 60 [some (.ref a0), some (.int x1), some (.int x2), some (.int x3)] [] h Q)) ∧ ((hh_i h a13 0) = x1 → (∀ r15, r15 = hh_r h a0 0 → (∃ a16, r15 = some a16 ∧ ((hh_tg h a16 = 104 ∨ 200 ≤ hh_tg h a16) ∧ (∃ n17, gm_ix x3 n17 (hh_ln h a16) ∧ (∀ r19, r19 = hh_r h a16 n17 → (∃ a20, r19 = some a20 ∧ (gm_sub (hh_tg h a20) 42 = true ∧ ((¬ (hh_i h a20 1) = x2 → (gm_G 74 60 [some (.ref a0), some (.int x1), some (.int x2), some (.int x3)] [] h Q)) ∧ ((hh_i h a20 1) = x2 → (∀ r22, r22 = hh_r h a0 0 → (∃ a23, r22 = some a23 ∧ ((hh_tg h a23 = 104 ∨ 200 ≤ hh_tg h a23) ∧ (∃ n24, gm_ix x3 n24 (hh_ln h a23) ∧ (∀ r26, r26 = hh_r h a23 n24 → (∃ a27, r26 = some a27 ∧ (gm_sub (hh_tg h a27) 42 = true ∧ ((((hh_i h a27 2) &&& (Int32.ofNat 64)) = Int32.ofNat 0 → (gm_G 74 60 [some (.ref a0), some (.int x1), some (.int x2), some (.int x3)] [] h Q)) ∧ (¬ ((hh_i h a27 2) &&& (Int32.ofNat 64)) = Int32.ofNat 0 → (Q (.inl (some (.int (Int32.ofNat 1)))) h)))))))))))))))))))))))))))))))))))))) : gm_G 74 2 [some (.ref a0), some (.int x1), some (.int x2), some (.int x3)] [] h Q := by
  refine g_iload rfl rfl rfl (pc' := 3) ?_
  refine g_iconst rfl rfl rfl (pc' := 5) ?_
  refine g_ic_ge rfl (pc' := 8) (pt := 66) rfl rfl ⟨fun hc => ?_, fun hc => ?_⟩
  · replace H := H.1 hc
    refine g_iconst rfl rfl rfl (pc' := 67) ?_
    exact g_ireturn rfl (Or.inr (by decide)) H
  · replace H := H.2 hc
    refine g_aload (r := some _) rfl rfl rfl (pc' := 9) ?_
    obtain ⟨ht1, H⟩ := H
    refine g_getRv rfl rfl rfl rfl ht1 (pc' := 12) rfl (fun r2 hr2 => ?_)
    replace H := H r2 hr2
    refine g_iload rfl rfl rfl (pc' := 13) ?_
    obtain ⟨a3, rfl, H⟩ := H
    obtain ⟨ht5, H⟩ := H
    obtain ⟨n4, hn4, H⟩ := H
    refine g_aaloadv rfl ht5 hn4 (pc' := 14) rfl (fun r6 hr6 => ?_)
    replace H := H r6 hr6
    refine g_ifnull rfl (pc' := 17) (pt := 60) rfl rfl ⟨fun hc => ?_, fun a7 hc => ?_⟩
    · replace H := H.1 hc
      subst hc
      exact g_weak (show gm_Lle [some _, some _, some _, some _] _ from ⟨rfl, ⟨rfl, ⟨rfl, ⟨rfl, trivial⟩⟩⟩⟩) H
    · replace H := H.2 a7 hc
      subst hc
      refine g_aload (r := some _) rfl rfl rfl (pc' := 18) ?_
      refine g_getRv rfl rfl rfl rfl ht1 (pc' := 21) rfl (fun r8 hr8 => ?_)
      replace H := H r8 hr8
      refine g_iload rfl rfl rfl (pc' := 22) ?_
      obtain ⟨a9, rfl, H⟩ := H
      obtain ⟨ht11, H⟩ := H
      obtain ⟨n10, hn10, H⟩ := H
      refine g_aaloadv rfl ht11 hn10 (pc' := 23) rfl (fun r12 hr12 => ?_)
      replace H := H r12 hr12
      obtain ⟨a13, rfl, H⟩ := H
      obtain ⟨ht14, H⟩ := H
      refine g_getI rfl rfl rfl rfl ht14 (pc' := 26) rfl ?_
      refine g_iload rfl rfl rfl (pc' := 27) ?_
      refine g_ic_ne rfl (pc' := 30) (pt := 60) rfl rfl ⟨fun hc => ?_, fun hc => ?_⟩
      · replace H := H.1 hc
        exact g_weak (show gm_Lle [some _, some _, some _, some _] _ from ⟨rfl, ⟨rfl, ⟨rfl, ⟨rfl, trivial⟩⟩⟩⟩) H
      · replace H := H.2 hc
        refine g_aload (r := some _) rfl rfl rfl (pc' := 31) ?_
        refine g_getRv rfl rfl rfl rfl ht1 (pc' := 34) rfl (fun r15 hr15 => ?_)
        replace H := H r15 hr15
        refine g_iload rfl rfl rfl (pc' := 35) ?_
        obtain ⟨a16, rfl, H⟩ := H
        obtain ⟨ht18, H⟩ := H
        obtain ⟨n17, hn17, H⟩ := H
        refine g_aaloadv rfl ht18 hn17 (pc' := 36) rfl (fun r19 hr19 => ?_)
        replace H := H r19 hr19
        obtain ⟨a20, rfl, H⟩ := H
        obtain ⟨ht21, H⟩ := H
        refine g_getI rfl rfl rfl rfl ht21 (pc' := 39) rfl ?_
        refine g_iload rfl rfl rfl (pc' := 40) ?_
        refine g_ic_ne rfl (pc' := 43) (pt := 60) rfl rfl ⟨fun hc => ?_, fun hc => ?_⟩
        · replace H := H.1 hc
          exact g_weak (show gm_Lle [some _, some _, some _, some _] _ from ⟨rfl, ⟨rfl, ⟨rfl, ⟨rfl, trivial⟩⟩⟩⟩) H
        · replace H := H.2 hc
          refine g_aload (r := some _) rfl rfl rfl (pc' := 44) ?_
          refine g_getRv rfl rfl rfl rfl ht1 (pc' := 47) rfl (fun r22 hr22 => ?_)
          replace H := H r22 hr22
          refine g_iload rfl rfl rfl (pc' := 48) ?_
          obtain ⟨a23, rfl, H⟩ := H
          obtain ⟨ht25, H⟩ := H
          obtain ⟨n24, hn24, H⟩ := H
          refine g_aaloadv rfl ht25 hn24 (pc' := 49) rfl (fun r26 hr26 => ?_)
          replace H := H r26 hr26
          obtain ⟨a27, rfl, H⟩ := H
          obtain ⟨ht28, H⟩ := H
          refine g_getI rfl rfl rfl rfl ht28 (pc' := 52) rfl ?_
          refine g_iconst rfl rfl rfl (pc' := 54) ?_
          refine g_iand rfl rfl (pc' := 55) ?_
          refine g_if_eq rfl (pc' := 58) (pt := 60) rfl rfl ⟨fun hc => ?_, fun hc => ?_⟩
          · replace H := H.1 hc
            exact g_weak (show gm_Lle [some _, some _, some _, some _] _ from ⟨rfl, ⟨rfl, ⟨rfl, ⟨rfl, trivial⟩⟩⟩⟩) H
          · replace H := H.2 hc
            refine g_iconst rfl rfl rfl (pc' := 59) ?_
            exact g_ireturn rfl (Or.inr (by decide)) H
set_option maxRecDepth 20000 in
theorem w_74_60 {a0 : Nat} {x1 : Int32} {x2 : Int32} {x3 : Int32} {h : hh_T} {Q : Option Value ⊕ Nat → hh_T → Prop} (H : gm_G 74 2 [some (.ref a0), some (.int x1), some (.int x2), some (.int (x3 + (Int32.ofNat 1)))] [] h Q) : gm_G 74 60 [some (.ref a0), some (.int x1), some (.int x2), some (.int x3)] [] h Q := by
  refine g_iinc (c := (Int32.ofNat 1)) rfl rfl rfl rfl rfl (pc' := 63) ?_
  refine g_goto rfl (pc' := 2) rfl ?_
  exact g_weak (show gm_Lle [some _, some _, some _, some _] _ from ⟨rfl, ⟨rfl, ⟨rfl, ⟨rfl, trivial⟩⟩⟩⟩) H
set_option maxRecDepth 20000 in
theorem w_75_0 {a0 : Nat} {x1 : Int32} {h : hh_T} {Q : Option Value ⊕ Nat → hh_T → Prop} (H : gm_G 75 2 [some (.ref a0), some (.int x1), some (.int (Int32.ofNat 0))] [] h Q) : gm_G 75 0 [some (.ref a0), some (.int x1)] [] h Q := by
  refine g_iconst rfl rfl rfl (pc' := 1) ?_
  refine g_istore rfl rfl rfl (pc' := 2) ?_
  exact g_weak (show gm_Lle [some _, some _, some _] _ from ⟨rfl, ⟨rfl, ⟨rfl, trivial⟩⟩⟩) H
set_option maxRecDepth 20000 in
theorem w_75_2 {a0 : Nat} {x1 : Int32} {x2 : Int32} {h : hh_T} {Q : Option Value ⊕ Nat → hh_T → Prop} (H : (¬ x2 < (Int32.ofNat 8) → (Q (.inl (some (.int (Int32.ofNat 0)))) h)) ∧ (x2 < (Int32.ofNat 8) → (gm_sub (hh_tg h a0) 14 = true ∧ (∀ r2, r2 = hh_r h a0 0 → (∃ a3, r2 = some a3 ∧ ((hh_tg h a3 = 104 ∨ 200 ≤ hh_tg h a3) ∧ (∃ n4, gm_ix x2 n4 (hh_ln h a3) ∧ (∀ r6, r6 = hh_r h a3 n4 → ((r6 = none → (gm_G 75 32 [some (.ref a0), some (.int x1), some (.int x2)] [] h Q)) ∧ (∀ a7, r6 = some a7 → (∀ r8, r8 = hh_r h a0 0 → (∃ a9, r8 = some a9 ∧ ((hh_tg h a9 = 104 ∨ 200 ≤ hh_tg h a9) ∧ (∃ n10, gm_ix x2 n10 (hh_ln h a9) ∧ (∀ r12, r12 = hh_r h a9 n10 → (∃ a13, r12 = some a13 ∧ (gm_sub (hh_tg h a13) 42 = true ∧ ((¬ (hh_i h a13 0) = x1 → (gm_G 75 32 [some (.ref a0), some (.int x1), some (.int x2)] [] h Q)) ∧ ((hh_i h a13 0) = x1 → (Q (.inl (some (.int (Int32.ofNat 1)))) h)))))))))))))))))))) : gm_G 75 2 [some (.ref a0), some (.int x1), some (.int x2)] [] h Q := by
  refine g_iload rfl rfl rfl (pc' := 3) ?_
  refine g_iconst rfl rfl rfl (pc' := 5) ?_
  refine g_ic_ge rfl (pc' := 8) (pt := 38) rfl rfl ⟨fun hc => ?_, fun hc => ?_⟩
  · replace H := H.1 hc
    refine g_iconst rfl rfl rfl (pc' := 39) ?_
    exact g_ireturn rfl (Or.inr (by decide)) H
  · replace H := H.2 hc
    refine g_aload (r := some _) rfl rfl rfl (pc' := 9) ?_
    obtain ⟨ht1, H⟩ := H
    refine g_getRv rfl rfl rfl rfl ht1 (pc' := 12) rfl (fun r2 hr2 => ?_)
    replace H := H r2 hr2
    refine g_iload rfl rfl rfl (pc' := 13) ?_
    obtain ⟨a3, rfl, H⟩ := H
    obtain ⟨ht5, H⟩ := H
    obtain ⟨n4, hn4, H⟩ := H
    refine g_aaloadv rfl ht5 hn4 (pc' := 14) rfl (fun r6 hr6 => ?_)
    replace H := H r6 hr6
    refine g_ifnull rfl (pc' := 17) (pt := 32) rfl rfl ⟨fun hc => ?_, fun a7 hc => ?_⟩
    · replace H := H.1 hc
      subst hc
      exact g_weak (show gm_Lle [some _, some _, some _] _ from ⟨rfl, ⟨rfl, ⟨rfl, trivial⟩⟩⟩) H
    · replace H := H.2 a7 hc
      subst hc
      refine g_aload (r := some _) rfl rfl rfl (pc' := 18) ?_
      refine g_getRv rfl rfl rfl rfl ht1 (pc' := 21) rfl (fun r8 hr8 => ?_)
      replace H := H r8 hr8
      refine g_iload rfl rfl rfl (pc' := 22) ?_
      obtain ⟨a9, rfl, H⟩ := H
      obtain ⟨ht11, H⟩ := H
      obtain ⟨n10, hn10, H⟩ := H
      refine g_aaloadv rfl ht11 hn10 (pc' := 23) rfl (fun r12 hr12 => ?_)
      replace H := H r12 hr12
      obtain ⟨a13, rfl, H⟩ := H
      obtain ⟨ht14, H⟩ := H
      refine g_getI rfl rfl rfl rfl ht14 (pc' := 26) rfl ?_
      refine g_iload rfl rfl rfl (pc' := 27) ?_
      refine g_ic_ne rfl (pc' := 30) (pt := 32) rfl rfl ⟨fun hc => ?_, fun hc => ?_⟩
      · replace H := H.1 hc
        exact g_weak (show gm_Lle [some _, some _, some _] _ from ⟨rfl, ⟨rfl, ⟨rfl, trivial⟩⟩⟩) H
      · replace H := H.2 hc
        refine g_iconst rfl rfl rfl (pc' := 31) ?_
        exact g_ireturn rfl (Or.inr (by decide)) H
set_option maxRecDepth 20000 in
theorem w_75_32 {a0 : Nat} {x1 : Int32} {x2 : Int32} {h : hh_T} {Q : Option Value ⊕ Nat → hh_T → Prop} (H : gm_G 75 2 [some (.ref a0), some (.int x1), some (.int (x2 + (Int32.ofNat 1)))] [] h Q) : gm_G 75 32 [some (.ref a0), some (.int x1), some (.int x2)] [] h Q := by
  refine g_iinc (c := (Int32.ofNat 1)) rfl rfl rfl rfl rfl (pc' := 35) ?_
  refine g_goto rfl (pc' := 2) rfl ?_
  exact g_weak (show gm_Lle [some _, some _, some _] _ from ⟨rfl, ⟨rfl, ⟨rfl, trivial⟩⟩⟩) H
set_option maxRecDepth 20000 in
theorem w_76_0 {a0 : Nat} {x1 : Int32} {r_2 : Option Nat} {h : hh_T} {Q : Option Value ⊕ Nat → hh_T → Prop} (H : gm_sub (hh_tg h a0) 14 = true ∧ (∀ r2, r2 = hh_r h a0 0 → (∃ a3, r2 = some a3 ∧ ((hh_tg h a3 = 104 ∨ 200 ≤ hh_tg h a3) ∧ (∃ n4, gm_ix x1 n4 (hh_ln h a3) ∧ (∀ r6, r6 = hh_r h a3 n4 → ((r6 = none → (Q (.inl (some (.int (Int32.ofNat 0)))) h)) ∧ (∀ a7, r6 = some a7 → ((some a7 = r_2 → (Q (.inl (some (.int (Int32.ofNat 0)))) h)) ∧ (¬ some a7 = r_2 → (gm_sub (hh_tg h a7) 42 = true ∧ (∃ a9, r_2 = some a9 ∧ (gm_sub (hh_tg h a9) 42 = true ∧ ((¬ (hh_i h a7 0) = (hh_i h a9 0) → (Q (.inl (some (.int (Int32.ofNat 0)))) h)) ∧ ((hh_i h a7 0) = (hh_i h a9 0) → ((¬ (hh_i h a7 1) = (hh_i h a9 1) → (Q (.inl (some (.int (Int32.ofNat 0)))) h)) ∧ ((hh_i h a7 1) = (hh_i h a9 1) → (Q (.inl (some (.int (Int32.ofNat 1)))) h)))))))))))))))))) : gm_G 76 0 [some (.ref a0), some (.int x1), some (va_rf r_2)] [] h Q := by
  refine g_aload (r := some _) rfl rfl rfl (pc' := 1) ?_
  obtain ⟨ht1, H⟩ := H
  refine g_getRv rfl rfl rfl rfl ht1 (pc' := 4) rfl (fun r2 hr2 => ?_)
  replace H := H r2 hr2
  refine g_iload rfl rfl rfl (pc' := 5) ?_
  obtain ⟨a3, rfl, H⟩ := H
  obtain ⟨ht5, H⟩ := H
  obtain ⟨n4, hn4, H⟩ := H
  refine g_aaloadv rfl ht5 hn4 (pc' := 6) rfl (fun r6 hr6 => ?_)
  replace H := H r6 hr6
  refine g_astore (r := _) rfl gm_sto_rf2 rfl (pc' := 7) ?_
  refine g_aload (r := _) rfl rfl rfl (pc' := 8) ?_
  refine g_ifnull rfl (pc' := 11) (pt := 42) rfl rfl ⟨fun hc => ?_, fun a7 hc => ?_⟩
  · replace H := H.1 hc
    subst hc
    refine g_iconst rfl rfl rfl (pc' := 43) ?_
    exact g_ireturn rfl (Or.inr (by decide)) H
  · replace H := H.2 a7 hc
    subst hc
    refine g_aload (r := some _) rfl rfl rfl (pc' := 12) ?_
    refine g_aload (r := _) rfl rfl rfl (pc' := 13) ?_
    refine g_ac_eq (r1 := _) (r2 := some _) rfl (pc' := 16) (pt := 42) rfl rfl ⟨fun hc => ?_, fun hc => ?_⟩
    · replace H := H.1 hc
      refine g_iconst rfl rfl rfl (pc' := 43) ?_
      exact g_ireturn rfl (Or.inr (by decide)) H
    · replace H := H.2 hc
      refine g_aload (r := some _) rfl rfl rfl (pc' := 17) ?_
      obtain ⟨ht8, H⟩ := H
      refine g_getI rfl rfl rfl rfl ht8 (pc' := 20) rfl ?_
      refine g_aload (r := _) rfl rfl rfl (pc' := 21) ?_
      obtain ⟨a9, rfl, H⟩ := H
      obtain ⟨ht10, H⟩ := H
      refine g_getI rfl rfl rfl rfl ht10 (pc' := 24) rfl ?_
      refine g_ic_ne rfl (pc' := 27) (pt := 42) rfl rfl ⟨fun hc => ?_, fun hc => ?_⟩
      · replace H := H.1 hc
        refine g_iconst rfl rfl rfl (pc' := 43) ?_
        exact g_ireturn rfl (Or.inr (by decide)) H
      · replace H := H.2 hc
        refine g_aload (r := some _) rfl rfl rfl (pc' := 28) ?_
        refine g_getI rfl rfl rfl rfl ht8 (pc' := 31) rfl ?_
        refine g_aload (r := some _) rfl rfl rfl (pc' := 32) ?_
        refine g_getI rfl rfl rfl rfl ht10 (pc' := 35) rfl ?_
        refine g_ic_ne rfl (pc' := 38) (pt := 42) rfl rfl ⟨fun hc => ?_, fun hc => ?_⟩
        · replace H := H.1 hc
          refine g_iconst rfl rfl rfl (pc' := 43) ?_
          exact g_ireturn rfl (Or.inr (by decide)) H
        · replace H := H.2 hc
          refine g_iconst rfl rfl rfl (pc' := 39) ?_
          refine g_goto rfl (pc' := 43) rfl ?_
          exact g_ireturn rfl (Or.inr (by decide)) H
set_option maxRecDepth 20000 in
theorem w_77_0 {a0 : Nat} {x1 : Int32} {x2 : Int32} {h : hh_T} {Q : Option Value ⊕ Nat → hh_T → Prop} (H : gm_G 77 2 [some (.ref a0), some (.int x1), some (.int x2), some (.int (Int32.ofNat 0))] [] h Q) : gm_G 77 0 [some (.ref a0), some (.int x1), some (.int x2)] [] h Q := by
  refine g_iconst rfl rfl rfl (pc' := 1) ?_
  refine g_istore rfl rfl rfl (pc' := 2) ?_
  exact g_weak (show gm_Lle [some _, some _, some _, some _] _ from ⟨rfl, ⟨rfl, ⟨rfl, ⟨rfl, trivial⟩⟩⟩⟩) H
set_option maxRecDepth 20000 in
theorem w_77_2 {a0 : Nat} {x1 : Int32} {x2 : Int32} {x3 : Int32} {h : hh_T} {Q : Option Value ⊕ Nat → hh_T → Prop} (H : (¬ x3 < (Int32.ofNat 8) → (Q (.inl (some (.int (Int32.ofNat 0)))) h)) ∧ (x3 < (Int32.ofNat 8) → (gm_sub (hh_tg h a0) 14 = true ∧ (∀ r2, r2 = hh_r h a0 0 → (∃ a3, r2 = some a3 ∧ ((hh_tg h a3 = 104 ∨ 200 ≤ hh_tg h a3) ∧ (∃ n4, gm_ix x3 n4 (hh_ln h a3) ∧ (∀ r6, r6 = hh_r h a3 n4 → ((r6 = none → (gm_G 77 45 [some (.ref a0), some (.int x1), some (.int x2), some (.int x3)] [] h Q)) ∧ (∀ a7, r6 = some a7 → (∀ r8, r8 = hh_r h a0 0 → (∃ a9, r8 = some a9 ∧ ((hh_tg h a9 = 104 ∨ 200 ≤ hh_tg h a9) ∧ (∃ n10, gm_ix x3 n10 (hh_ln h a9) ∧ (∀ r12, r12 = hh_r h a9 n10 → (∃ a13, r12 = some a13 ∧ (gm_sub (hh_tg h a13) 42 = true ∧ ((¬ (hh_i h a13 0) = x1 → (gm_G 77 45 [some (.ref a0), some (.int x1), some (.int x2), some (.int x3)] [] h Q)) ∧ ((hh_i h a13 0) = x1 → (∀ r15, r15 = hh_r h a0 0 → (∃ a16, r15 = some a16 ∧ ((hh_tg h a16 = 104 ∨ 200 ≤ hh_tg h a16) ∧ (∃ n17, gm_ix x3 n17 (hh_ln h a16) ∧ (∀ r19, r19 = hh_r h a16 n17 → (∃ a20, r19 = some a20 ∧ (gm_sub (hh_tg h a20) 42 = true ∧ ((¬ (hh_i h a20 1) = x2 → (gm_G 77 45 [some (.ref a0), some (.int x1), some (.int x2), some (.int x3)] [] h Q)) ∧ ((hh_i h a20 1) = x2 → (Q (.inl (some (.int (Int32.ofNat 1)))) h))))))))))))))))))))))))))))) : gm_G 77 2 [some (.ref a0), some (.int x1), some (.int x2), some (.int x3)] [] h Q := by
  refine g_iload rfl rfl rfl (pc' := 3) ?_
  refine g_iconst rfl rfl rfl (pc' := 5) ?_
  refine g_ic_ge rfl (pc' := 8) (pt := 51) rfl rfl ⟨fun hc => ?_, fun hc => ?_⟩
  · replace H := H.1 hc
    refine g_iconst rfl rfl rfl (pc' := 52) ?_
    exact g_ireturn rfl (Or.inr (by decide)) H
  · replace H := H.2 hc
    refine g_aload (r := some _) rfl rfl rfl (pc' := 9) ?_
    obtain ⟨ht1, H⟩ := H
    refine g_getRv rfl rfl rfl rfl ht1 (pc' := 12) rfl (fun r2 hr2 => ?_)
    replace H := H r2 hr2
    refine g_iload rfl rfl rfl (pc' := 13) ?_
    obtain ⟨a3, rfl, H⟩ := H
    obtain ⟨ht5, H⟩ := H
    obtain ⟨n4, hn4, H⟩ := H
    refine g_aaloadv rfl ht5 hn4 (pc' := 14) rfl (fun r6 hr6 => ?_)
    replace H := H r6 hr6
    refine g_ifnull rfl (pc' := 17) (pt := 45) rfl rfl ⟨fun hc => ?_, fun a7 hc => ?_⟩
    · replace H := H.1 hc
      subst hc
      exact g_weak (show gm_Lle [some _, some _, some _, some _] _ from ⟨rfl, ⟨rfl, ⟨rfl, ⟨rfl, trivial⟩⟩⟩⟩) H
    · replace H := H.2 a7 hc
      subst hc
      refine g_aload (r := some _) rfl rfl rfl (pc' := 18) ?_
      refine g_getRv rfl rfl rfl rfl ht1 (pc' := 21) rfl (fun r8 hr8 => ?_)
      replace H := H r8 hr8
      refine g_iload rfl rfl rfl (pc' := 22) ?_
      obtain ⟨a9, rfl, H⟩ := H
      obtain ⟨ht11, H⟩ := H
      obtain ⟨n10, hn10, H⟩ := H
      refine g_aaloadv rfl ht11 hn10 (pc' := 23) rfl (fun r12 hr12 => ?_)
      replace H := H r12 hr12
      obtain ⟨a13, rfl, H⟩ := H
      obtain ⟨ht14, H⟩ := H
      refine g_getI rfl rfl rfl rfl ht14 (pc' := 26) rfl ?_
      refine g_iload rfl rfl rfl (pc' := 27) ?_
      refine g_ic_ne rfl (pc' := 30) (pt := 45) rfl rfl ⟨fun hc => ?_, fun hc => ?_⟩
      · replace H := H.1 hc
        exact g_weak (show gm_Lle [some _, some _, some _, some _] _ from ⟨rfl, ⟨rfl, ⟨rfl, ⟨rfl, trivial⟩⟩⟩⟩) H
      · replace H := H.2 hc
        refine g_aload (r := some _) rfl rfl rfl (pc' := 31) ?_
        refine g_getRv rfl rfl rfl rfl ht1 (pc' := 34) rfl (fun r15 hr15 => ?_)
        replace H := H r15 hr15
        refine g_iload rfl rfl rfl (pc' := 35) ?_
        obtain ⟨a16, rfl, H⟩ := H
        obtain ⟨ht18, H⟩ := H
        obtain ⟨n17, hn17, H⟩ := H
        refine g_aaloadv rfl ht18 hn17 (pc' := 36) rfl (fun r19 hr19 => ?_)
        replace H := H r19 hr19
        obtain ⟨a20, rfl, H⟩ := H
        obtain ⟨ht21, H⟩ := H
        refine g_getI rfl rfl rfl rfl ht21 (pc' := 39) rfl ?_
        refine g_iload rfl rfl rfl (pc' := 40) ?_
        refine g_ic_ne rfl (pc' := 43) (pt := 45) rfl rfl ⟨fun hc => ?_, fun hc => ?_⟩
        · replace H := H.1 hc
          exact g_weak (show gm_Lle [some _, some _, some _, some _] _ from ⟨rfl, ⟨rfl, ⟨rfl, ⟨rfl, trivial⟩⟩⟩⟩) H
        · replace H := H.2 hc
          refine g_iconst rfl rfl rfl (pc' := 44) ?_
          exact g_ireturn rfl (Or.inr (by decide)) H
set_option maxRecDepth 20000 in
theorem w_77_45 {a0 : Nat} {x1 : Int32} {x2 : Int32} {x3 : Int32} {h : hh_T} {Q : Option Value ⊕ Nat → hh_T → Prop} (H : gm_G 77 2 [some (.ref a0), some (.int x1), some (.int x2), some (.int (x3 + (Int32.ofNat 1)))] [] h Q) : gm_G 77 45 [some (.ref a0), some (.int x1), some (.int x2), some (.int x3)] [] h Q := by
  refine g_iinc (c := (Int32.ofNat 1)) rfl rfl rfl rfl rfl (pc' := 48) ?_
  refine g_goto rfl (pc' := 2) rfl ?_
  exact g_weak (show gm_Lle [some _, some _, some _, some _] _ from ⟨rfl, ⟨rfl, ⟨rfl, ⟨rfl, trivial⟩⟩⟩⟩) H
set_option maxRecDepth 20000 in
theorem w_78_0 {a0 : Nat} {x1 : Int32} {x2 : Int32} {x3 : Int32} {x4 : Int32} {h : hh_T} {Q : Option Value ⊕ Nat → hh_T → Prop} (H : gm_G 78 6 [some (.ref a0), some (.int x1), some (.int x2), some (.int x3), some (.int x4), some (.int (Int32.ofNat 0)), some (.int (Int32.ofNat 0))] [] h Q) : gm_G 78 0 [some (.ref a0), some (.int x1), some (.int x2), some (.int x3), some (.int x4)] [] h Q := by
  refine g_iconst rfl rfl rfl (pc' := 1) ?_
  refine g_istore rfl rfl rfl (pc' := 3) ?_
  refine g_iconst rfl rfl rfl (pc' := 4) ?_
  refine g_istore rfl rfl rfl (pc' := 6) ?_
  exact g_weak (show gm_Lle [some _, some _, some _, some _, some _, some _, some _] _ from ⟨rfl, ⟨rfl, ⟨rfl, ⟨rfl, ⟨rfl, ⟨rfl, ⟨rfl, trivial⟩⟩⟩⟩⟩⟩⟩) H
set_option maxRecDepth 20000 in
theorem w_78_6 {a0 : Nat} {x1 : Int32} {x2 : Int32} {x3 : Int32} {x4 : Int32} {x5 : Int32} {x6 : Int32} {h : hh_T} {Q : Option Value ⊕ Nat → hh_T → Prop} (H : (¬ x6 < (Int32.ofNat 8) → ((x5 = 0 ∨ x5 = 1) ∧ Q (.inl (some (.int x5))) h)) ∧ (x6 < (Int32.ofNat 8) → (gm_sub (hh_tg h a0) 14 = true ∧ (∀ r2, r2 = hh_r h a0 0 → (∃ a3, r2 = some a3 ∧ ((hh_tg h a3 = 104 ∨ 200 ≤ hh_tg h a3) ∧ (∃ n4, gm_ix x6 n4 (hh_ln h a3) ∧ (∀ r6, r6 = hh_r h a3 n4 → ((r6 = none → (gm_G 78 96 [some (.ref a0), some (.int x1), some (.int x2), some (.int x3), some (.int x4), some (.int x5), some (.int x6)] [] h Q)) ∧ (∀ a7, r6 = some a7 → (gm_sub (hh_tg h a7) 42 = true ∧ ((¬ (hh_i h a7 0) = x1 → (gm_G 78 96 [some (.ref a0), some (.int x1), some (.int x2), some (.int x3), some (.int x4), some (.int x5), some (.int x6)] [] h Q)) ∧ ((hh_i h a7 0) = x1 → ((¬ (hh_i h a7 1) = x2 → (gm_G 78 96 [some (.ref a0), some (.int x1), some (.int x2), some (.int x3), some (.int x4), some (.int x5), some (.int x6)] [] h Q)) ∧ ((hh_i h a7 1) = x2 → (((hh_i h a7 4) = Int32.ofNat 0 → (gm_G 78 96 [some (.ref a0), some (.int x1), some (.int x2), some (.int x3), some (.int x4), some (.int x5), some (.int x6)] [] h Q)) ∧ (¬ (hh_i h a7 4) = Int32.ofNat 0 → ((¬ x3 = Int32.ofNat 0 → (gm_G 78 69 [some (.ref a0), some (.int x1), some (.int x2), some (.int x3), some (.int x4), none, some (.int x6), some (.ref a7)] [] h Q)) ∧ (x3 = Int32.ofNat 0 → ((¬ (hh_i h a7 4) = (Int32.ofNat 1) → (gm_G 78 69 [some (.ref a0), some (.int x1), some (.int x2), some (.int x3), some (.int x4), none, some (.int x6), some (.ref a7)] [] h Q)) ∧ ((hh_i h a7 4) = (Int32.ofNat 1) → (gm_G 78 96 [some (.ref a0), some (.int x1), some (.int x2), some (.int x3), some (.int x4), some (.int x5), some (.int x6)] [] h Q)))))))))))))))))))))) : gm_G 78 6 [some (.ref a0), some (.int x1), some (.int x2), some (.int x3), some (.int x4), some (.int x5), some (.int x6)] [] h Q := by
  refine g_iload rfl rfl rfl (pc' := 8) ?_
  refine g_iconst rfl rfl rfl (pc' := 10) ?_
  refine g_ic_ge rfl (pc' := 13) (pt := 102) rfl rfl ⟨fun hc => ?_, fun hc => ?_⟩
  · replace H := H.1 hc
    refine g_iload rfl rfl rfl (pc' := 104) ?_
    exact g_ireturn rfl (Or.inr H.1) H.2
  · replace H := H.2 hc
    refine g_aload (r := some _) rfl rfl rfl (pc' := 14) ?_
    obtain ⟨ht1, H⟩ := H
    refine g_getRv rfl rfl rfl rfl ht1 (pc' := 17) rfl (fun r2 hr2 => ?_)
    replace H := H r2 hr2
    refine g_iload rfl rfl rfl (pc' := 19) ?_
    obtain ⟨a3, rfl, H⟩ := H
    obtain ⟨ht5, H⟩ := H
    obtain ⟨n4, hn4, H⟩ := H
    refine g_aaloadv rfl ht5 hn4 (pc' := 20) rfl (fun r6 hr6 => ?_)
    replace H := H r6 hr6
    refine g_astore (r := _) rfl rfl rfl (pc' := 22) ?_
    refine g_aload (r := _) rfl rfl rfl (pc' := 24) ?_
    refine g_ifnull rfl (pc' := 27) (pt := 96) rfl rfl ⟨fun hc => ?_, fun a7 hc => ?_⟩
    · replace H := H.1 hc
      subst hc
      exact g_weak (show gm_Lle [some _, some _, some _, some _, some _, some _, some _] _ from ⟨rfl, ⟨rfl, ⟨rfl, ⟨rfl, ⟨rfl, ⟨rfl, ⟨rfl, trivial⟩⟩⟩⟩⟩⟩⟩) H
    · replace H := H.2 a7 hc
      subst hc
      refine g_aload (r := some _) rfl rfl rfl (pc' := 29) ?_
      obtain ⟨ht8, H⟩ := H
      refine g_getI rfl rfl rfl rfl ht8 (pc' := 32) rfl ?_
      refine g_iload rfl rfl rfl (pc' := 33) ?_
      refine g_ic_ne rfl (pc' := 36) (pt := 96) rfl rfl ⟨fun hc => ?_, fun hc => ?_⟩
      · replace H := H.1 hc
        exact g_weak (show gm_Lle [some _, some _, some _, some _, some _, some _, some _] _ from ⟨rfl, ⟨rfl, ⟨rfl, ⟨rfl, ⟨rfl, ⟨rfl, ⟨rfl, trivial⟩⟩⟩⟩⟩⟩⟩) H
      · replace H := H.2 hc
        refine g_aload (r := some _) rfl rfl rfl (pc' := 38) ?_
        refine g_getI rfl rfl rfl rfl ht8 (pc' := 41) rfl ?_
        refine g_iload rfl rfl rfl (pc' := 42) ?_
        refine g_ic_ne rfl (pc' := 45) (pt := 96) rfl rfl ⟨fun hc => ?_, fun hc => ?_⟩
        · replace H := H.1 hc
          exact g_weak (show gm_Lle [some _, some _, some _, some _, some _, some _, some _] _ from ⟨rfl, ⟨rfl, ⟨rfl, ⟨rfl, ⟨rfl, ⟨rfl, ⟨rfl, trivial⟩⟩⟩⟩⟩⟩⟩) H
        · replace H := H.2 hc
          refine g_aload (r := some _) rfl rfl rfl (pc' := 47) ?_
          refine g_getI rfl rfl rfl rfl ht8 (pc' := 50) rfl ?_
          refine g_if_eq rfl (pc' := 53) (pt := 96) rfl rfl ⟨fun hc => ?_, fun hc => ?_⟩
          · replace H := H.1 hc
            exact g_weak (show gm_Lle [some _, some _, some _, some _, some _, some _, some _] _ from ⟨rfl, ⟨rfl, ⟨rfl, ⟨rfl, ⟨rfl, ⟨rfl, ⟨rfl, trivial⟩⟩⟩⟩⟩⟩⟩) H
          · replace H := H.2 hc
            refine g_iload rfl rfl rfl (pc' := 54) ?_
            refine g_if_ne rfl (pc' := 57) (pt := 69) rfl rfl ⟨fun hc => ?_, fun hc => ?_⟩
            · replace H := H.1 hc
              exact g_weak (show gm_Lle [some _, some _, some _, some _, some _, none, some _, some _] _ from ⟨rfl, ⟨rfl, ⟨rfl, ⟨rfl, ⟨rfl, ⟨rfl, ⟨rfl, trivial⟩⟩⟩⟩⟩⟩⟩) H
            · replace H := H.2 hc
              refine g_aload (r := some _) rfl rfl rfl (pc' := 59) ?_
              refine g_getI rfl rfl rfl rfl ht8 (pc' := 62) rfl ?_
              refine g_iconst rfl rfl rfl (pc' := 63) ?_
              refine g_ic_ne rfl (pc' := 66) (pt := 69) rfl rfl ⟨fun hc => ?_, fun hc => ?_⟩
              · replace H := H.1 hc
                exact g_weak (show gm_Lle [some _, some _, some _, some _, some _, none, some _, some _] _ from ⟨rfl, ⟨rfl, ⟨rfl, ⟨rfl, ⟨rfl, ⟨rfl, ⟨rfl, trivial⟩⟩⟩⟩⟩⟩⟩) H
              · replace H := H.2 hc
                refine g_goto rfl (pc' := 96) rfl ?_
                exact g_weak (show gm_Lle [some _, some _, some _, some _, some _, some _, some _] _ from ⟨rfl, ⟨rfl, ⟨rfl, ⟨rfl, ⟨rfl, ⟨rfl, ⟨rfl, trivial⟩⟩⟩⟩⟩⟩⟩) H
set_option maxRecDepth 20000 in
theorem w_78_69 {a0 : Nat} {x1 : Int32} {x2 : Int32} {x3 : Int32} {x4 : Int32} {x6 : Int32} {r_7 : Option Nat} {h : hh_T} {Q : Option Value ⊕ Nat → hh_T → Prop} (H : ∃ a1, r_7 = some a1 ∧ (gm_sub (hh_tg h a1) 42 = true ∧ ((¬ (hh_i h a1 6) = Int32.ofNat 0 → (gm_G 78 96 [some (.ref a0), some (.int x1), some (.int x2), some (.int x3), some (.int x4), some (.int (Int32.ofNat 1)), some (.int x6)] [] h Q)) ∧ ((hh_i h a1 6) = Int32.ofNat 0 → (∀ h3, h3 = hh_wi h a1 6 (Int32.ofNat 1) → (∀ h4, h4 = hh_wi h3 a1 5 (x4 + (Int32.ofNat 10)) → (gm_G 78 96 [some (.ref a0), some (.int x1), some (.int x2), some (.int x3), some (.int x4), some (.int (Int32.ofNat 1)), some (.int x6)] [] h4 Q))))))) : gm_G 78 69 [some (.ref a0), some (.int x1), some (.int x2), some (.int x3), some (.int x4), none, some (.int x6), some (va_rf r_7)] [] h Q := by
  refine g_iconst rfl rfl rfl (pc' := 70) ?_
  refine g_istore rfl rfl rfl (pc' := 72) ?_
  refine g_aload (r := _) rfl rfl rfl (pc' := 74) ?_
  obtain ⟨a1, rfl, H⟩ := H
  obtain ⟨ht2, H⟩ := H
  refine g_getZ rfl rfl rfl rfl ht2 (pc' := 77) rfl ?_
  refine g_if_ne rfl (pc' := 80) (pt := 96) rfl rfl ⟨fun hc => ?_, fun hc => ?_⟩
  · replace H := H.1 hc
    exact g_weak (show gm_Lle [some _, some _, some _, some _, some _, some _, some _] _ from ⟨rfl, ⟨rfl, ⟨rfl, ⟨rfl, ⟨rfl, ⟨rfl, ⟨rfl, trivial⟩⟩⟩⟩⟩⟩⟩) H
  · replace H := H.2 hc
    refine g_aload (r := some _) rfl rfl rfl (pc' := 82) ?_
    refine g_iconst rfl rfl rfl (pc' := 83) ?_
    refine g_putZ rfl rfl rfl rfl ht2 (by decide) (pc' := 86) rfl ?_
    replace H := H _ rfl
    refine g_aload (r := some _) rfl rfl rfl (pc' := 88) ?_
    refine g_iload rfl rfl rfl (pc' := 90) ?_
    refine g_iconst rfl rfl rfl (pc' := 92) ?_
    refine g_iadd rfl rfl (pc' := 93) ?_
    refine g_putI rfl rfl rfl rfl ht2  (pc' := 96) rfl ?_
    replace H := H _ rfl
    exact g_weak (show gm_Lle [some _, some _, some _, some _, some _, some _, some _] _ from ⟨rfl, ⟨rfl, ⟨rfl, ⟨rfl, ⟨rfl, ⟨rfl, ⟨rfl, trivial⟩⟩⟩⟩⟩⟩⟩) H
set_option maxRecDepth 20000 in
theorem w_78_96 {a0 : Nat} {x1 : Int32} {x2 : Int32} {x3 : Int32} {x4 : Int32} {x5 : Int32} {x6 : Int32} {h : hh_T} {Q : Option Value ⊕ Nat → hh_T → Prop} (H : gm_G 78 6 [some (.ref a0), some (.int x1), some (.int x2), some (.int x3), some (.int x4), some (.int x5), some (.int (x6 + (Int32.ofNat 1)))] [] h Q) : gm_G 78 96 [some (.ref a0), some (.int x1), some (.int x2), some (.int x3), some (.int x4), some (.int x5), some (.int x6)] [] h Q := by
  refine g_iinc (c := (Int32.ofNat 1)) rfl rfl rfl rfl rfl (pc' := 99) ?_
  refine g_goto rfl (pc' := 6) rfl ?_
  exact g_weak (show gm_Lle [some _, some _, some _, some _, some _, some _, some _] _ from ⟨rfl, ⟨rfl, ⟨rfl, ⟨rfl, ⟨rfl, ⟨rfl, ⟨rfl, trivial⟩⟩⟩⟩⟩⟩⟩) H
set_option maxRecDepth 20000 in
theorem w_79_0 {a0 : Nat} {x1 : Int32} {h : hh_T} {Q : Option Value ⊕ Nat → hh_T → Prop} (H : gm_G 79 2 [some (.ref a0), some (.int x1), some (.int (Int32.ofNat 0))] [] h Q) : gm_G 79 0 [some (.ref a0), some (.int x1)] [] h Q := by
  refine g_iconst rfl rfl rfl (pc' := 1) ?_
  refine g_istore rfl rfl rfl (pc' := 2) ?_
  exact g_weak (show gm_Lle [some _, some _, some _] _ from ⟨rfl, ⟨rfl, ⟨rfl, trivial⟩⟩⟩) H
set_option maxRecDepth 20000 in
theorem w_79_2 {a0 : Nat} {x1 : Int32} {x2 : Int32} {h : hh_T} {Q : Option Value ⊕ Nat → hh_T → Prop} (H : (¬ x2 < (Int32.ofNat 8) → (Q (.inl none) h)) ∧ (x2 < (Int32.ofNat 8) → (gm_sub (hh_tg h a0) 14 = true ∧ (∀ r2, r2 = hh_r h a0 0 → (∃ a3, r2 = some a3 ∧ ((hh_tg h a3 = 104 ∨ 200 ≤ hh_tg h a3) ∧ (∃ n4, gm_ix x2 n4 (hh_ln h a3) ∧ (∀ r6, r6 = hh_r h a3 n4 → ((r6 = none → (gm_G 79 44 [some (.ref a0), some (.int x1), some (.int x2)] [] h Q)) ∧ (∀ a7, r6 = some a7 → (gm_sub (hh_tg h a7) 42 = true ∧ (((hh_i h a7 6) = Int32.ofNat 0 → (gm_G 79 44 [some (.ref a0), some (.int x1), some (.int x2)] [] h Q)) ∧ (¬ (hh_i h a7 6) = Int32.ofNat 0 → ((x1 < (hh_i h a7 5) → (gm_G 79 44 [some (.ref a0), some (.int x1), some (.int x2)] [] h Q)) ∧ (¬ x1 < (hh_i h a7 5) → (∀ h9, h9 = hh_wi h a7 6 (Int32.ofNat 0) → (∀ h10, h10 = hh_wi h9 a7 4 (Int32.ofNat 0) → (gm_G 79 44 [some (.ref a0), some (.int x1), some (.int x2)] [] h10 Q)))))))))))))))))) : gm_G 79 2 [some (.ref a0), some (.int x1), some (.int x2)] [] h Q := by
  refine g_iload rfl rfl rfl (pc' := 3) ?_
  refine g_iconst rfl rfl rfl (pc' := 5) ?_
  refine g_ic_ge rfl (pc' := 8) (pt := 50) rfl rfl ⟨fun hc => ?_, fun hc => ?_⟩
  · replace H := H.1 hc
    exact g_return rfl H
  · replace H := H.2 hc
    refine g_aload (r := some _) rfl rfl rfl (pc' := 9) ?_
    obtain ⟨ht1, H⟩ := H
    refine g_getRv rfl rfl rfl rfl ht1 (pc' := 12) rfl (fun r2 hr2 => ?_)
    replace H := H r2 hr2
    refine g_iload rfl rfl rfl (pc' := 13) ?_
    obtain ⟨a3, rfl, H⟩ := H
    obtain ⟨ht5, H⟩ := H
    obtain ⟨n4, hn4, H⟩ := H
    refine g_aaloadv rfl ht5 hn4 (pc' := 14) rfl (fun r6 hr6 => ?_)
    replace H := H r6 hr6
    refine g_astore (r := _) rfl rfl rfl (pc' := 15) ?_
    refine g_aload (r := _) rfl rfl rfl (pc' := 16) ?_
    refine g_ifnull rfl (pc' := 19) (pt := 44) rfl rfl ⟨fun hc => ?_, fun a7 hc => ?_⟩
    · replace H := H.1 hc
      subst hc
      exact g_weak (show gm_Lle [some _, some _, some _] _ from ⟨rfl, ⟨rfl, ⟨rfl, trivial⟩⟩⟩) H
    · replace H := H.2 a7 hc
      subst hc
      refine g_aload (r := some _) rfl rfl rfl (pc' := 20) ?_
      obtain ⟨ht8, H⟩ := H
      refine g_getZ rfl rfl rfl rfl ht8 (pc' := 23) rfl ?_
      refine g_if_eq rfl (pc' := 26) (pt := 44) rfl rfl ⟨fun hc => ?_, fun hc => ?_⟩
      · replace H := H.1 hc
        exact g_weak (show gm_Lle [some _, some _, some _] _ from ⟨rfl, ⟨rfl, ⟨rfl, trivial⟩⟩⟩) H
      · replace H := H.2 hc
        refine g_iload rfl rfl rfl (pc' := 27) ?_
        refine g_aload (r := some _) rfl rfl rfl (pc' := 28) ?_
        refine g_getI rfl rfl rfl rfl ht8 (pc' := 31) rfl ?_
        refine g_ic_lt rfl (pc' := 34) (pt := 44) rfl rfl ⟨fun hc => ?_, fun hc => ?_⟩
        · replace H := H.1 hc
          exact g_weak (show gm_Lle [some _, some _, some _] _ from ⟨rfl, ⟨rfl, ⟨rfl, trivial⟩⟩⟩) H
        · replace H := H.2 hc
          refine g_aload (r := some _) rfl rfl rfl (pc' := 35) ?_
          refine g_iconst rfl rfl rfl (pc' := 36) ?_
          refine g_putZ rfl rfl rfl rfl ht8 (by decide) (pc' := 39) rfl ?_
          replace H := H _ rfl
          refine g_aload (r := some _) rfl rfl rfl (pc' := 40) ?_
          refine g_iconst rfl rfl rfl (pc' := 41) ?_
          refine g_putI rfl rfl rfl rfl ht8  (pc' := 44) rfl ?_
          replace H := H _ rfl
          exact g_weak (show gm_Lle [some _, some _, some _] _ from ⟨rfl, ⟨rfl, ⟨rfl, trivial⟩⟩⟩) H
set_option maxRecDepth 20000 in
theorem w_79_44 {a0 : Nat} {x1 : Int32} {x2 : Int32} {h : hh_T} {Q : Option Value ⊕ Nat → hh_T → Prop} (H : gm_G 79 2 [some (.ref a0), some (.int x1), some (.int (x2 + (Int32.ofNat 1)))] [] h Q) : gm_G 79 44 [some (.ref a0), some (.int x1), some (.int x2)] [] h Q := by
  refine g_iinc (c := (Int32.ofNat 1)) rfl rfl rfl rfl rfl (pc' := 47) ?_
  refine g_goto rfl (pc' := 2) rfl ?_
  exact g_weak (show gm_Lle [some _, some _, some _] _ from ⟨rfl, ⟨rfl, ⟨rfl, trivial⟩⟩⟩) H
set_option maxRecDepth 20000 in
theorem w_80_0 {a0 : Nat} {r_1 : Option Nat} {h : hh_T} {Q : Option Value ⊕ Nat → hh_T → Prop} (H : gm_sub (hh_tg h a0) 15 = true ∧ (∀ h2, h2 = hh_wr h a0 1 r_1 → (∀ a3 h4, a3 = hh_sz h2 → h4 = hh_al h2 247 4 4 → (gm_sub (hh_tg h4 a0) 15 = true ∧ (∀ h6, h6 = hh_wr h4 a0 0 (some a3) → (Q (.inl none) h6)))))) : gm_G 80 0 [some (.ref a0), some (va_rf r_1)] [] h Q := by
  refine g_aload (r := some _) rfl rfl rfl (pc' := 1) ?_
  refine g_aload (r := _) rfl rfl rfl (pc' := 2) ?_
  obtain ⟨ht1, H⟩ := H
  refine g_putR rfl rfl rfl rfl ht1  (pc' := 5) rfl ?_
  replace H := H _ rfl
  refine g_aload (r := some _) rfl rfl rfl (pc' := 6) ?_
  refine g_objinit rfl (Nat.le_of_ble_eq_true rfl) (pc' := 9) rfl ?_
  refine g_aload (r := some _) rfl rfl rfl (pc' := 10) ?_
  refine g_iconst rfl rfl rfl (pc' := 11) ?_
  refine g_anewarray rfl (n := 4) rfl (by decide) (pc' := 14) rfl ?_
  replace H := H _ _ rfl rfl
  obtain ⟨ht5, H⟩ := H
  refine g_putR (x := some _) rfl rfl rfl rfl ht5  (pc' := 17) rfl ?_
  replace H := H _ rfl
  exact g_return rfl H
set_option maxRecDepth 20000 in
theorem w_81_0 {a0 : Nat}  {h : hh_T} {Q : Option Value ⊕ Nat → hh_T → Prop} (H : gm_G 81 2 [some (.ref a0), some (.int (Int32.ofNat 0))] [] h Q) : gm_G 81 0 [some (.ref a0)] [] h Q := by
  refine g_iconst rfl rfl rfl (pc' := 1) ?_
  refine g_istore rfl rfl rfl (pc' := 2) ?_
  exact g_weak (show gm_Lle [some _, some _] _ from ⟨rfl, ⟨rfl, trivial⟩⟩) H
set_option maxRecDepth 20000 in
theorem w_81_2 {a0 : Nat} {x1 : Int32} {h : hh_T} {Q : Option Value ⊕ Nat → hh_T → Prop} (H : (¬ x1 < (Int32.ofNat 4) → (Q (.inl none) h)) ∧ (x1 < (Int32.ofNat 4) → (gm_sub (hh_tg h a0) 15 = true ∧ (∀ r2, r2 = hh_r h a0 0 → (∃ a3, r2 = some a3 ∧ (200 ≤ hh_tg h a3 ∧ (True) ∧ (∃ n4, gm_ix x1 n4 (hh_ln h a3) ∧ (∀ h5, h5 = hh_wr h a3 n4 none → (gm_G 81 2 [some (.ref a0), some (.int (x1 + (Int32.ofNat 1)))] [] h5 Q))))))))) : gm_G 81 2 [some (.ref a0), some (.int x1)] [] h Q := by
  refine g_iload rfl rfl rfl (pc' := 3) ?_
  refine g_iconst rfl rfl rfl (pc' := 4) ?_
  refine g_ic_ge rfl (pc' := 7) (pt := 20) rfl rfl ⟨fun hc => ?_, fun hc => ?_⟩
  · replace H := H.1 hc
    exact g_return rfl H
  · replace H := H.2 hc
    refine g_aload (r := some _) rfl rfl rfl (pc' := 8) ?_
    obtain ⟨ht1, H⟩ := H
    refine g_getRv rfl rfl rfl rfl ht1 (pc' := 11) rfl (fun r2 hr2 => ?_)
    replace H := H r2 hr2
    refine g_iload rfl rfl rfl (pc' := 12) ?_
    refine g_null rfl rfl (pc' := 13) ?_
    obtain ⟨a3, rfl, H⟩ := H
    obtain ⟨Ha, Hb, H⟩ := H
    obtain ⟨n4, hn4, H⟩ := H
    refine g_aastore (r := _) rfl Ha (fun b hb => by cases hb) hn4 (pc' := 14) rfl ?_
    replace H := H _ rfl
    refine g_iinc (c := (Int32.ofNat 1)) rfl rfl rfl rfl rfl (pc' := 17) ?_
    refine g_goto rfl (pc' := 2) rfl ?_
    exact g_weak (show gm_Lle [some _, some _] _ from ⟨rfl, ⟨rfl, trivial⟩⟩) H
set_option maxRecDepth 20000 in
theorem w_82_0 {a0 : Nat} {x1 : Int32} {x2 : Int32} {h : hh_T} {Q : Option Value ⊕ Nat → hh_T → Prop} (H : gm_G 82 2 [some (.ref a0), some (.int x1), some (.int x2), some (.int (Int32.ofNat 0))] [] h Q) : gm_G 82 0 [some (.ref a0), some (.int x1), some (.int x2)] [] h Q := by
  refine g_iconst rfl rfl rfl (pc' := 1) ?_
  refine g_istore rfl rfl rfl (pc' := 2) ?_
  exact g_weak (show gm_Lle [some _, some _, some _, some _] _ from ⟨rfl, ⟨rfl, ⟨rfl, ⟨rfl, trivial⟩⟩⟩⟩) H
set_option maxRecDepth 20000 in
theorem w_82_2 {a0 : Nat} {x1 : Int32} {x2 : Int32} {x3 : Int32} {h : hh_T} {Q : Option Value ⊕ Nat → hh_T → Prop} (H : (¬ x3 < (Int32.ofNat 4) → (Q (.inl none) h)) ∧ (x3 < (Int32.ofNat 4) → (gm_sub (hh_tg h a0) 15 = true ∧ (∀ r2, r2 = hh_r h a0 0 → (∃ a3, r2 = some a3 ∧ ((hh_tg h a3 = 104 ∨ 200 ≤ hh_tg h a3) ∧ (∃ n4, gm_ix x3 n4 (hh_ln h a3) ∧ (∀ r6, r6 = hh_r h a3 n4 → ((r6 = none → (gm_G 82 53 [some (.ref a0), some (.int x1), some (.int x2), some (.int x3)] [] h Q)) ∧ (∀ a7, r6 = some a7 → (∀ r8, r8 = hh_r h a0 0 → (∃ a9, r8 = some a9 ∧ ((hh_tg h a9 = 104 ∨ 200 ≤ hh_tg h a9) ∧ (∃ n10, gm_ix x3 n10 (hh_ln h a9) ∧ (∀ r12, r12 = hh_r h a9 n10 → (∃ a13, r12 = some a13 ∧ (gm_sub (hh_tg h a13) 47 = true ∧ ((¬ (hh_i h a13 0) = x1 → (gm_G 82 53 [some (.ref a0), some (.int x1), some (.int x2), some (.int x3)] [] h Q)) ∧ ((hh_i h a13 0) = x1 → ((x2 < Int32.ofNat 0 → (gm_G 82 46 [some (.ref a0), some (.int x1), some (.int x2), some (.int x3)] [] h Q)) ∧ (¬ x2 < Int32.ofNat 0 → (∀ r15, r15 = hh_r h a0 0 → (∃ a16, r15 = some a16 ∧ ((hh_tg h a16 = 104 ∨ 200 ≤ hh_tg h a16) ∧ (∃ n17, gm_ix x3 n17 (hh_ln h a16) ∧ (∀ r19, r19 = hh_r h a16 n17 → (∃ a20, r19 = some a20 ∧ (gm_sub (hh_tg h a20) 47 = true ∧ ((¬ (hh_i h a20 1) = x2 → (gm_G 82 53 [some (.ref a0), some (.int x1), some (.int x2), some (.int x3)] [] h Q)) ∧ ((hh_i h a20 1) = x2 → (gm_G 82 46 [some (.ref a0), some (.int x1), some (.int x2), some (.int x3)] [] h Q))))))))))))))))))))))))))))))) : gm_G 82 2 [some (.ref a0), some (.int x1), some (.int x2), some (.int x3)] [] h Q := by
  refine g_iload rfl rfl rfl (pc' := 3) ?_
  refine g_iconst rfl rfl rfl (pc' := 4) ?_
  refine g_ic_ge rfl (pc' := 7) (pt := 59) rfl rfl ⟨fun hc => ?_, fun hc => ?_⟩
  · replace H := H.1 hc
    exact g_return rfl H
  · replace H := H.2 hc
    refine g_aload (r := some _) rfl rfl rfl (pc' := 8) ?_
    obtain ⟨ht1, H⟩ := H
    refine g_getRv rfl rfl rfl rfl ht1 (pc' := 11) rfl (fun r2 hr2 => ?_)
    replace H := H r2 hr2
    refine g_iload rfl rfl rfl (pc' := 12) ?_
    obtain ⟨a3, rfl, H⟩ := H
    obtain ⟨ht5, H⟩ := H
    obtain ⟨n4, hn4, H⟩ := H
    refine g_aaloadv rfl ht5 hn4 (pc' := 13) rfl (fun r6 hr6 => ?_)
    replace H := H r6 hr6
    refine g_ifnull rfl (pc' := 16) (pt := 53) rfl rfl ⟨fun hc => ?_, fun a7 hc => ?_⟩
    · replace H := H.1 hc
      subst hc
      exact g_weak (show gm_Lle [some _, some _, some _, some _] _ from ⟨rfl, ⟨rfl, ⟨rfl, ⟨rfl, trivial⟩⟩⟩⟩) H
    · replace H := H.2 a7 hc
      subst hc
      refine g_aload (r := some _) rfl rfl rfl (pc' := 17) ?_
      refine g_getRv rfl rfl rfl rfl ht1 (pc' := 20) rfl (fun r8 hr8 => ?_)
      replace H := H r8 hr8
      refine g_iload rfl rfl rfl (pc' := 21) ?_
      obtain ⟨a9, rfl, H⟩ := H
      obtain ⟨ht11, H⟩ := H
      obtain ⟨n10, hn10, H⟩ := H
      refine g_aaloadv rfl ht11 hn10 (pc' := 22) rfl (fun r12 hr12 => ?_)
      replace H := H r12 hr12
      obtain ⟨a13, rfl, H⟩ := H
      obtain ⟨ht14, H⟩ := H
      refine g_getI rfl rfl rfl rfl ht14 (pc' := 25) rfl ?_
      refine g_iload rfl rfl rfl (pc' := 26) ?_
      refine g_ic_ne rfl (pc' := 29) (pt := 53) rfl rfl ⟨fun hc => ?_, fun hc => ?_⟩
      · replace H := H.1 hc
        exact g_weak (show gm_Lle [some _, some _, some _, some _] _ from ⟨rfl, ⟨rfl, ⟨rfl, ⟨rfl, trivial⟩⟩⟩⟩) H
      · replace H := H.2 hc
        refine g_iload rfl rfl rfl (pc' := 30) ?_
        refine g_if_lt rfl (pc' := 33) (pt := 46) rfl rfl ⟨fun hc => ?_, fun hc => ?_⟩
        · replace H := H.1 hc
          exact g_weak (show gm_Lle [some _, some _, some _, some _] _ from ⟨rfl, ⟨rfl, ⟨rfl, ⟨rfl, trivial⟩⟩⟩⟩) H
        · replace H := H.2 hc
          refine g_aload (r := some _) rfl rfl rfl (pc' := 34) ?_
          refine g_getRv rfl rfl rfl rfl ht1 (pc' := 37) rfl (fun r15 hr15 => ?_)
          replace H := H r15 hr15
          refine g_iload rfl rfl rfl (pc' := 38) ?_
          obtain ⟨a16, rfl, H⟩ := H
          obtain ⟨ht18, H⟩ := H
          obtain ⟨n17, hn17, H⟩ := H
          refine g_aaloadv rfl ht18 hn17 (pc' := 39) rfl (fun r19 hr19 => ?_)
          replace H := H r19 hr19
          obtain ⟨a20, rfl, H⟩ := H
          obtain ⟨ht21, H⟩ := H
          refine g_getI rfl rfl rfl rfl ht21 (pc' := 42) rfl ?_
          refine g_iload rfl rfl rfl (pc' := 43) ?_
          refine g_ic_ne rfl (pc' := 46) (pt := 53) rfl rfl ⟨fun hc => ?_, fun hc => ?_⟩
          · replace H := H.1 hc
            exact g_weak (show gm_Lle [some _, some _, some _, some _] _ from ⟨rfl, ⟨rfl, ⟨rfl, ⟨rfl, trivial⟩⟩⟩⟩) H
          · replace H := H.2 hc
            exact g_weak (show gm_Lle [some _, some _, some _, some _] _ from ⟨rfl, ⟨rfl, ⟨rfl, ⟨rfl, trivial⟩⟩⟩⟩) H
set_option maxRecDepth 20000 in
theorem w_82_46 {a0 : Nat} {x1 : Int32} {x2 : Int32} {x3 : Int32} {h : hh_T} {Q : Option Value ⊕ Nat → hh_T → Prop} (H : gm_sub (hh_tg h a0) 15 = true ∧ (∀ r2, r2 = hh_r h a0 0 → (∃ a3, r2 = some a3 ∧ (200 ≤ hh_tg h a3 ∧ (True) ∧ (∃ n4, gm_ix x3 n4 (hh_ln h a3) ∧ (∀ h5, h5 = hh_wr h a3 n4 none → (gm_G 82 53 [some (.ref a0), some (.int x1), some (.int x2), some (.int x3)] [] h5 Q))))))) : gm_G 82 46 [some (.ref a0), some (.int x1), some (.int x2), some (.int x3)] [] h Q := by
  refine g_aload (r := some _) rfl rfl rfl (pc' := 47) ?_
  obtain ⟨ht1, H⟩ := H
  refine g_getRv rfl rfl rfl rfl ht1 (pc' := 50) rfl (fun r2 hr2 => ?_)
  replace H := H r2 hr2
  refine g_iload rfl rfl rfl (pc' := 51) ?_
  refine g_null rfl rfl (pc' := 52) ?_
  obtain ⟨a3, rfl, H⟩ := H
  obtain ⟨Ha, Hb, H⟩ := H
  obtain ⟨n4, hn4, H⟩ := H
  refine g_aastore (r := _) rfl Ha (fun b hb => by cases hb) hn4 (pc' := 53) rfl ?_
  replace H := H _ rfl
  exact g_weak (show gm_Lle [some _, some _, some _, some _] _ from ⟨rfl, ⟨rfl, ⟨rfl, ⟨rfl, trivial⟩⟩⟩⟩) H
set_option maxRecDepth 20000 in
theorem w_82_53 {a0 : Nat} {x1 : Int32} {x2 : Int32} {x3 : Int32} {h : hh_T} {Q : Option Value ⊕ Nat → hh_T → Prop} (H : gm_G 82 2 [some (.ref a0), some (.int x1), some (.int x2), some (.int (x3 + (Int32.ofNat 1)))] [] h Q) : gm_G 82 53 [some (.ref a0), some (.int x1), some (.int x2), some (.int x3)] [] h Q := by
  refine g_iinc (c := (Int32.ofNat 1)) rfl rfl rfl rfl rfl (pc' := 56) ?_
  refine g_goto rfl (pc' := 2) rfl ?_
  exact g_weak (show gm_Lle [some _, some _, some _, some _] _ from ⟨rfl, ⟨rfl, ⟨rfl, ⟨rfl, trivial⟩⟩⟩⟩) H
set_option maxRecDepth 20000 in
theorem w_83_0 {a0 : Nat}  {h : hh_T} {Q : Option Value ⊕ Nat → hh_T → Prop} (H : gm_sub (hh_tg h a0) 16 = true ∧ (∀ r2, r2 = hh_r h a0 0 → (∃ a3, r2 = some a3 ∧ (gm_sub (hh_tg h a3) 12 = true ∧ (∀ h5, h5 = hh_wi h a3 1 (Int32.ofNat 0) → (∀ h6, h6 = hh_wi h5 a0 2 (Int32.ofNat 0) → (Q (.inl none) h6))))))) : gm_G 83 0 [some (.ref a0)] [] h Q := by
  refine g_aload (r := some _) rfl rfl rfl (pc' := 1) ?_
  obtain ⟨ht1, H⟩ := H
  refine g_getRv rfl rfl rfl rfl ht1 (pc' := 4) rfl (fun r2 hr2 => ?_)
  replace H := H r2 hr2
  refine g_iconst rfl rfl rfl (pc' := 5) ?_
  obtain ⟨a3, rfl, H⟩ := H
  obtain ⟨ht4, H⟩ := H
  refine g_putI rfl rfl rfl rfl ht4  (pc' := 8) rfl ?_
  replace H := H _ rfl
  refine g_aload (r := some _) rfl rfl rfl (pc' := 9) ?_
  refine g_iconst rfl rfl rfl (pc' := 10) ?_
  refine g_putI rfl rfl rfl rfl ht1  (pc' := 13) rfl ?_
  replace H := H _ rfl
  exact g_return rfl H
set_option maxRecDepth 20000 in
theorem w_84_0 {a0 : Nat}  {h : hh_T} {Q : Option Value ⊕ Nat → hh_T → Prop} (H : gm_G 84 2 [some (.ref a0), some (.int (Int32.ofNat 0))] [] h Q) : gm_G 84 0 [some (.ref a0)] [] h Q := by
  refine g_iconst rfl rfl rfl (pc' := 1) ?_
  refine g_istore rfl rfl rfl (pc' := 2) ?_
  exact g_weak (show gm_Lle [some _, some _] _ from ⟨rfl, ⟨rfl, trivial⟩⟩) H
set_option maxRecDepth 20000 in
theorem w_84_2 {a0 : Nat} {x1 : Int32} {h : hh_T} {Q : Option Value ⊕ Nat → hh_T → Prop} (H : (¬ x1 < (Int32.ofNat 4) → (gm_sub (hh_tg h a0) 17 = true ∧ (∀ h2, h2 = hh_wi h a0 5 (Int32.ofNat 0) → (Q (.inl none) h2)))) ∧ (x1 < (Int32.ofNat 4) → (gm_sub (hh_tg h a0) 17 = true ∧ (∀ r4, r4 = hh_r h a0 2 → (∃ a5, r4 = some a5 ∧ (hh_tg h a5 = 102 ∧ (∃ n6, gm_ix x1 n6 (hh_ln h a5) ∧ (∀ h7, h7 = hh_wi h a5 n6 (Int32.ofNat 0) → (gm_G 84 2 [some (.ref a0), some (.int (x1 + (Int32.ofNat 1)))] [] h7 Q))))))))) : gm_G 84 2 [some (.ref a0), some (.int x1)] [] h Q := by
  refine g_iload rfl rfl rfl (pc' := 3) ?_
  refine g_iconst rfl rfl rfl (pc' := 4) ?_
  refine g_ic_ge rfl (pc' := 7) (pt := 20) rfl rfl ⟨fun hc => ?_, fun hc => ?_⟩
  · replace H := H.1 hc
    refine g_aload (r := some _) rfl rfl rfl (pc' := 21) ?_
    refine g_iconst rfl rfl rfl (pc' := 22) ?_
    obtain ⟨ht1, H⟩ := H
    refine g_putI rfl rfl rfl rfl ht1  (pc' := 25) rfl ?_
    replace H := H _ rfl
    exact g_return rfl H
  · replace H := H.2 hc
    refine g_aload (r := some _) rfl rfl rfl (pc' := 8) ?_
    obtain ⟨ht3, H⟩ := H
    refine g_getRv rfl rfl rfl rfl ht3 (pc' := 11) rfl (fun r4 hr4 => ?_)
    replace H := H r4 hr4
    refine g_iload rfl rfl rfl (pc' := 12) ?_
    refine g_iconst rfl rfl rfl (pc' := 13) ?_
    obtain ⟨a5, rfl, H⟩ := H
    obtain ⟨ht8, H⟩ := H
    obtain ⟨n6, hn6, H⟩ := H
    refine g_zastore rfl ht8 hn6 (by decide) (pc' := 14) rfl ?_
    replace H := H _ rfl
    refine g_iinc (c := (Int32.ofNat 1)) rfl rfl rfl rfl rfl (pc' := 17) ?_
    refine g_goto rfl (pc' := 2) rfl ?_
    exact g_weak (show gm_Lle [some _, some _] _ from ⟨rfl, ⟨rfl, trivial⟩⟩) H
set_option maxRecDepth 20000 in
theorem w_85_0 {a0 : Nat} {x1 : Int32} {h : hh_T} {Q : Option Value ⊕ Nat → hh_T → Prop} (H : gm_G 85 2 [some (.ref a0), some (.int x1), some (.int (Int32.ofNat 0))] [] h Q) : gm_G 85 0 [some (.ref a0), some (.int x1)] [] h Q := by
  refine g_iconst rfl rfl rfl (pc' := 1) ?_
  refine g_istore rfl rfl rfl (pc' := 2) ?_
  exact g_weak (show gm_Lle [some _, some _, some _] _ from ⟨rfl, ⟨rfl, ⟨rfl, trivial⟩⟩⟩) H
set_option maxRecDepth 20000 in
theorem w_85_2 {a0 : Nat} {x1 : Int32} {x2 : Int32} {h : hh_T} {Q : Option Value ⊕ Nat → hh_T → Prop} (H : gm_sub (hh_tg h a0) 17 = true ∧ ((¬ x2 < (hh_i h a0 5) → (Q (.inl (some (.int (Int32.ofInt (-1))))) h)) ∧ (x2 < (hh_i h a0 5) → (∀ r2, r2 = hh_r h a0 3 → (∃ a3, r2 = some a3 ∧ ((hh_tg h a3 = 100 ∨ hh_tg h a3 = 105) ∧ (∃ n4, gm_ix x2 n4 (hh_ln h a3) ∧ ((¬ (hh_i h a3 n4) = x1 → (gm_G 85 2 [some (.ref a0), some (.int x1), some (.int (x2 + (Int32.ofNat 1)))] [] h Q)) ∧ ((hh_i h a3 n4) = x1 → (Q (.inl (some (.int x2))) h)))))))))) : gm_G 85 2 [some (.ref a0), some (.int x1), some (.int x2)] [] h Q := by
  refine g_iload rfl rfl rfl (pc' := 3) ?_
  refine g_aload (r := some _) rfl rfl rfl (pc' := 4) ?_
  obtain ⟨ht1, H⟩ := H
  refine g_getI rfl rfl rfl rfl ht1 (pc' := 7) rfl ?_
  refine g_ic_ge rfl (pc' := 10) (pt := 28) rfl rfl ⟨fun hc => ?_, fun hc => ?_⟩
  · replace H := H.1 hc
    refine g_iconst rfl rfl rfl (pc' := 29) ?_
    exact g_ireturn rfl (Or.inl rfl) H
  · replace H := H.2 hc
    refine g_aload (r := some _) rfl rfl rfl (pc' := 11) ?_
    refine g_getRv rfl rfl rfl rfl ht1 (pc' := 14) rfl (fun r2 hr2 => ?_)
    replace H := H r2 hr2
    refine g_iload rfl rfl rfl (pc' := 15) ?_
    obtain ⟨a3, rfl, H⟩ := H
    obtain ⟨ht5, H⟩ := H
    obtain ⟨n4, hn4, H⟩ := H
    refine g_iaload rfl ht5 hn4 (pc' := 16) rfl ?_
    refine g_iload rfl rfl rfl (pc' := 17) ?_
    refine g_ic_ne rfl (pc' := 20) (pt := 22) rfl rfl ⟨fun hc => ?_, fun hc => ?_⟩
    · replace H := H.1 hc
      refine g_iinc (c := (Int32.ofNat 1)) rfl rfl rfl rfl rfl (pc' := 25) ?_
      refine g_goto rfl (pc' := 2) rfl ?_
      exact g_weak (show gm_Lle [some _, some _, some _] _ from ⟨rfl, ⟨rfl, ⟨rfl, trivial⟩⟩⟩) H
    · replace H := H.2 hc
      refine g_iload rfl rfl rfl (pc' := 21) ?_
      exact g_ireturn rfl (Or.inl rfl) H
set_option maxRecDepth 20000 in
theorem w_86_0 {a0 : Nat} {r_1 : Option Nat} {h : hh_T} {Q : Option Value ⊕ Nat → hh_T → Prop} (H : gm_sub (hh_tg h a0) 18 = true ∧ (∀ h2, h2 = hh_wr h a0 6 r_1 → (∀ a3 h4, a3 = hh_sz h2 → h4 = hh_al h2 100 3 3 → (gm_sub (hh_tg h4 a0) 18 = true ∧ (∀ h6, h6 = hh_wr h4 a0 0 (some a3) → (∀ a7 h8, a7 = hh_sz h6 → h8 = hh_al h6 100 3 3 → (gm_sub (hh_tg h8 a0) 18 = true ∧ (∀ h10, h10 = hh_wr h8 a0 1 (some a7) → (gm_G 86 23 [some (.ref a0)] [] h10 Q))))))))) : gm_G 86 0 [some (.ref a0), some (va_rf r_1)] [] h Q := by
  refine g_aload (r := some _) rfl rfl rfl (pc' := 1) ?_
  refine g_aload (r := _) rfl rfl rfl (pc' := 2) ?_
  obtain ⟨ht1, H⟩ := H
  refine g_putR rfl rfl rfl rfl ht1  (pc' := 5) rfl ?_
  replace H := H _ rfl
  refine g_aload (r := some _) rfl rfl rfl (pc' := 6) ?_
  refine g_objinit rfl (Nat.le_of_ble_eq_true rfl) (pc' := 9) rfl ?_
  refine g_aload (r := some _) rfl rfl rfl (pc' := 10) ?_
  refine g_iconst rfl rfl rfl (pc' := 11) ?_
  refine g_newarray rfl (u := 100) (n := 3) rfl (by decide) rfl (by decide) (pc' := 13) rfl ?_
  replace H := H _ _ rfl rfl
  obtain ⟨ht5, H⟩ := H
  refine g_putR (x := some _) rfl rfl rfl rfl ht5  (pc' := 16) rfl ?_
  replace H := H _ rfl
  refine g_aload (r := some _) rfl rfl rfl (pc' := 17) ?_
  refine g_iconst rfl rfl rfl (pc' := 18) ?_
  refine g_newarray rfl (u := 100) (n := 3) rfl (by decide) rfl (by decide) (pc' := 20) rfl ?_
  replace H := H _ _ rfl rfl
  obtain ⟨ht9, H⟩ := H
  refine g_putR (x := some _) rfl rfl rfl rfl ht9  (pc' := 23) rfl ?_
  replace H := H _ rfl
  exact g_weak (show gm_Lle [some _] _ from ⟨rfl, trivial⟩) H
set_option maxRecDepth 20000 in
theorem w_86_23 {a0 : Nat}  {h : hh_T} {Q : Option Value ⊕ Nat → hh_T → Prop} (H : ∀ a1 h2, a1 = hh_sz h → h2 = hh_al h 100 18 18 → (gm_sub (hh_tg h2 a0) 18 = true ∧ (∀ h4, h4 = hh_wr h2 a0 2 (some a1) → (∀ a5 h6, a5 = hh_sz h4 → h6 = hh_al h4 102 8 8 → (gm_sub (hh_tg h6 a0) 18 = true ∧ (∀ h8, h8 = hh_wr h6 a0 5 (some a5) → (Q (.inl none) h8))))))) : gm_G 86 23 [some (.ref a0)] [] h Q := by
  refine g_aload (r := some _) rfl rfl rfl (pc' := 24) ?_
  refine g_iconst rfl rfl rfl (pc' := 26) ?_
  refine g_newarray rfl (u := 100) (n := 18) rfl (by decide) rfl (by decide) (pc' := 28) rfl ?_
  replace H := H _ _ rfl rfl
  obtain ⟨ht3, H⟩ := H
  refine g_putR (x := some _) rfl rfl rfl rfl ht3  (pc' := 31) rfl ?_
  replace H := H _ rfl
  refine g_aload (r := some _) rfl rfl rfl (pc' := 32) ?_
  refine g_iconst rfl rfl rfl (pc' := 34) ?_
  refine g_newarray rfl (u := 102) (n := 8) rfl (by decide) rfl (by decide) (pc' := 36) rfl ?_
  replace H := H _ _ rfl rfl
  obtain ⟨ht7, H⟩ := H
  refine g_putR (x := some _) rfl rfl rfl rfl ht7  (pc' := 39) rfl ?_
  replace H := H _ rfl
  exact g_return rfl H
set_option maxRecDepth 20000 in
theorem w_87_0 {a0 : Nat}  {h : hh_T} {Q : Option Value ⊕ Nat → hh_T → Prop} (H : ∀ a1 h2, a1 = hh_sz h → h2 = hh_al h 101 320 320 → (gm_sub (hh_tg h2 a0) 19 = true ∧ (∀ h4, h4 = hh_wr h2 a0 0 (some a1) → (∀ a5 h6, a5 = hh_sz h4 → h6 = hh_al h4 101 512 512 → (gm_sub (hh_tg h6 a0) 19 = true ∧ (∀ h8, h8 = hh_wr h6 a0 1 (some a5) → (gm_G 87 22 [some (.ref a0)] [] h8 Q))))))) : gm_G 87 0 [some (.ref a0)] [] h Q := by
  refine g_aload (r := some _) rfl rfl rfl (pc' := 1) ?_
  refine g_objinit rfl (Nat.le_of_ble_eq_true rfl) (pc' := 4) rfl ?_
  refine g_aload (r := some _) rfl rfl rfl (pc' := 5) ?_
  refine g_iconst rfl rfl rfl (pc' := 8) ?_
  refine g_newarray rfl (u := 101) (n := 320) rfl (by decide) rfl (by decide) (pc' := 10) rfl ?_
  replace H := H _ _ rfl rfl
  obtain ⟨ht3, H⟩ := H
  refine g_putR (x := some _) rfl rfl rfl rfl ht3  (pc' := 13) rfl ?_
  replace H := H _ rfl
  refine g_aload (r := some _) rfl rfl rfl (pc' := 14) ?_
  refine g_iconst rfl rfl rfl (pc' := 17) ?_
  refine g_newarray rfl (u := 101) (n := 512) rfl (by decide) rfl (by decide) (pc' := 19) rfl ?_
  replace H := H _ _ rfl rfl
  obtain ⟨ht7, H⟩ := H
  refine g_putR (x := some _) rfl rfl rfl rfl ht7  (pc' := 22) rfl ?_
  replace H := H _ rfl
  exact g_weak (show gm_Lle [some _] _ from ⟨rfl, trivial⟩) H
set_option maxRecDepth 20000 in
theorem w_87_22 {a0 : Nat}  {h : hh_T} {Q : Option Value ⊕ Nat → hh_T → Prop} (H : gm_sub (hh_tg h a0) 19 = true ∧ (∀ h2, h2 = hh_wi h a0 2 (Int32.ofNat 0) → (∀ h3, h3 = hh_wi h2 a0 3 (Int32.ofNat 0) → (∀ h4, h4 = hh_wi h3 a0 4 (Int32.ofNat 0) → (∀ h5, h5 = hh_wi h4 a0 5 (Int32.ofNat 0) → (∀ a6 h7, a6 = hh_sz h5 → h7 = hh_al h5 102 64 64 → (gm_sub (hh_tg h7 a0) 19 = true ∧ (∀ h9, h9 = hh_wr h7 a0 6 (some a6) → (gm_G 87 50 [some (.ref a0)] [] h9 Q))))))))) : gm_G 87 22 [some (.ref a0)] [] h Q := by
  refine g_aload (r := some _) rfl rfl rfl (pc' := 23) ?_
  refine g_iconst rfl rfl rfl (pc' := 24) ?_
  obtain ⟨ht1, H⟩ := H
  refine g_putI rfl rfl rfl rfl ht1  (pc' := 27) rfl ?_
  replace H := H _ rfl
  refine g_aload (r := some _) rfl rfl rfl (pc' := 28) ?_
  refine g_iconst rfl rfl rfl (pc' := 29) ?_
  refine g_putI rfl rfl rfl rfl ht1  (pc' := 32) rfl ?_
  replace H := H _ rfl
  refine g_aload (r := some _) rfl rfl rfl (pc' := 33) ?_
  refine g_iconst rfl rfl rfl (pc' := 34) ?_
  refine g_putI rfl rfl rfl rfl ht1  (pc' := 37) rfl ?_
  replace H := H _ rfl
  refine g_aload (r := some _) rfl rfl rfl (pc' := 38) ?_
  refine g_iconst rfl rfl rfl (pc' := 39) ?_
  refine g_putI rfl rfl rfl rfl ht1  (pc' := 42) rfl ?_
  replace H := H _ rfl
  refine g_aload (r := some _) rfl rfl rfl (pc' := 43) ?_
  refine g_iconst rfl rfl rfl (pc' := 45) ?_
  refine g_newarray rfl (u := 102) (n := 64) rfl (by decide) rfl (by decide) (pc' := 47) rfl ?_
  replace H := H _ _ rfl rfl
  obtain ⟨ht8, H⟩ := H
  refine g_putR (x := some _) rfl rfl rfl rfl ht8  (pc' := 50) rfl ?_
  replace H := H _ rfl
  exact g_weak (show gm_Lle [some _] _ from ⟨rfl, trivial⟩) H
set_option maxRecDepth 20000 in
theorem w_87_50 {a0 : Nat}  {h : hh_T} {Q : Option Value ⊕ Nat → hh_T → Prop} (H : gm_sub (hh_tg h a0) 19 = true ∧ (∀ h2, h2 = hh_wi h a0 7 (Int32.ofNat 0) → (∀ a3 h4, a3 = hh_sz h2 → h4 = hh_al h2 100 8 8 → (gm_sub (hh_tg h4 a0) 19 = true ∧ (∀ h6, h6 = hh_wr h4 a0 8 (some a3) → (∀ a7 h8, a7 = hh_sz h6 → h8 = hh_al h6 100 8 8 → (gm_sub (hh_tg h8 a0) 19 = true ∧ (∀ h10, h10 = hh_wr h8 a0 9 (some a7) → (gm_G 87 71 [some (.ref a0)] [] h10 Q))))))))) : gm_G 87 50 [some (.ref a0)] [] h Q := by
  refine g_aload (r := some _) rfl rfl rfl (pc' := 51) ?_
  refine g_iconst rfl rfl rfl (pc' := 52) ?_
  obtain ⟨ht1, H⟩ := H
  refine g_putI rfl rfl rfl rfl ht1  (pc' := 55) rfl ?_
  replace H := H _ rfl
  refine g_aload (r := some _) rfl rfl rfl (pc' := 56) ?_
  refine g_iconst rfl rfl rfl (pc' := 58) ?_
  refine g_newarray rfl (u := 100) (n := 8) rfl (by decide) rfl (by decide) (pc' := 60) rfl ?_
  replace H := H _ _ rfl rfl
  obtain ⟨ht5, H⟩ := H
  refine g_putR (x := some _) rfl rfl rfl rfl ht5  (pc' := 63) rfl ?_
  replace H := H _ rfl
  refine g_aload (r := some _) rfl rfl rfl (pc' := 64) ?_
  refine g_iconst rfl rfl rfl (pc' := 66) ?_
  refine g_newarray rfl (u := 100) (n := 8) rfl (by decide) rfl (by decide) (pc' := 68) rfl ?_
  replace H := H _ _ rfl rfl
  obtain ⟨ht9, H⟩ := H
  refine g_putR (x := some _) rfl rfl rfl rfl ht9  (pc' := 71) rfl ?_
  replace H := H _ rfl
  exact g_weak (show gm_Lle [some _] _ from ⟨rfl, trivial⟩) H
set_option maxRecDepth 20000 in
theorem w_87_71 {a0 : Nat}  {h : hh_T} {Q : Option Value ⊕ Nat → hh_T → Prop} (H : ∀ a1 h2, a1 = hh_sz h → h2 = hh_al h 100 8 8 → (gm_sub (hh_tg h2 a0) 19 = true ∧ (∀ h4, h4 = hh_wr h2 a0 10 (some a1) → (∀ a5 h6, a5 = hh_sz h4 → h6 = hh_al h4 102 8 8 → (gm_sub (hh_tg h6 a0) 19 = true ∧ (∀ h8, h8 = hh_wr h6 a0 11 (some a5) → (∀ a9 h10, a9 = hh_sz h8 → h10 = hh_al h8 102 512 512 → (gm_sub (hh_tg h10 a0) 19 = true ∧ (∀ h12, h12 = hh_wr h10 a0 12 (some a9) → (gm_G 87 96 [some (.ref a0)] [] h12 Q)))))))))) : gm_G 87 71 [some (.ref a0)] [] h Q := by
  refine g_aload (r := some _) rfl rfl rfl (pc' := 72) ?_
  refine g_iconst rfl rfl rfl (pc' := 74) ?_
  refine g_newarray rfl (u := 100) (n := 8) rfl (by decide) rfl (by decide) (pc' := 76) rfl ?_
  replace H := H _ _ rfl rfl
  obtain ⟨ht3, H⟩ := H
  refine g_putR (x := some _) rfl rfl rfl rfl ht3  (pc' := 79) rfl ?_
  replace H := H _ rfl
  refine g_aload (r := some _) rfl rfl rfl (pc' := 80) ?_
  refine g_iconst rfl rfl rfl (pc' := 82) ?_
  refine g_newarray rfl (u := 102) (n := 8) rfl (by decide) rfl (by decide) (pc' := 84) rfl ?_
  replace H := H _ _ rfl rfl
  obtain ⟨ht7, H⟩ := H
  refine g_putR (x := some _) rfl rfl rfl rfl ht7  (pc' := 87) rfl ?_
  replace H := H _ rfl
  refine g_aload (r := some _) rfl rfl rfl (pc' := 88) ?_
  refine g_iconst rfl rfl rfl (pc' := 91) ?_
  refine g_newarray rfl (u := 102) (n := 512) rfl (by decide) rfl (by decide) (pc' := 93) rfl ?_
  replace H := H _ _ rfl rfl
  obtain ⟨ht11, H⟩ := H
  refine g_putR (x := some _) rfl rfl rfl rfl ht11  (pc' := 96) rfl ?_
  replace H := H _ rfl
  exact g_weak (show gm_Lle [some _] _ from ⟨rfl, trivial⟩) H
set_option maxRecDepth 20000 in
theorem w_87_96 {a0 : Nat}  {h : hh_T} {Q : Option Value ⊕ Nat → hh_T → Prop} (H : ∀ a1 h2, a1 = hh_sz h → h2 = hh_al h 102 512 512 → (gm_sub (hh_tg h2 a0) 19 = true ∧ (∀ h4, h4 = hh_wr h2 a0 13 (some a1) → (∀ a5 h6, a5 = hh_sz h4 → h6 = hh_al h4 101 4096 4096 → (gm_sub (hh_tg h6 a0) 19 = true ∧ (∀ h8, h8 = hh_wr h6 a0 14 (some a5) → (∀ h9, h9 = hh_wi h8 a0 15 (Int32.ofInt (-1)) → (gm_G 87 119 [some (.ref a0)] [] h9 Q)))))))) : gm_G 87 96 [some (.ref a0)] [] h Q := by
  refine g_aload (r := some _) rfl rfl rfl (pc' := 97) ?_
  refine g_iconst rfl rfl rfl (pc' := 100) ?_
  refine g_newarray rfl (u := 102) (n := 512) rfl (by decide) rfl (by decide) (pc' := 102) rfl ?_
  replace H := H _ _ rfl rfl
  obtain ⟨ht3, H⟩ := H
  refine g_putR (x := some _) rfl rfl rfl rfl ht3  (pc' := 105) rfl ?_
  replace H := H _ rfl
  refine g_aload (r := some _) rfl rfl rfl (pc' := 106) ?_
  refine g_iconst rfl rfl rfl (pc' := 109) ?_
  refine g_newarray rfl (u := 101) (n := 4096) rfl (by decide) rfl (by decide) (pc' := 111) rfl ?_
  replace H := H _ _ rfl rfl
  obtain ⟨ht7, H⟩ := H
  refine g_putR (x := some _) rfl rfl rfl rfl ht7  (pc' := 114) rfl ?_
  replace H := H _ rfl
  refine g_aload (r := some _) rfl rfl rfl (pc' := 115) ?_
  refine g_iconst rfl rfl rfl (pc' := 116) ?_
  refine g_putI rfl rfl rfl rfl ht7  (pc' := 119) rfl ?_
  replace H := H _ rfl
  exact g_weak (show gm_Lle [some _] _ from ⟨rfl, trivial⟩) H
set_option maxRecDepth 20000 in
theorem w_87_119 {a0 : Nat}  {h : hh_T} {Q : Option Value ⊕ Nat → hh_T → Prop} (H : gm_sub (hh_tg h a0) 19 = true ∧ (∀ h2, h2 = hh_wi h a0 16 (Int32.ofNat 0) → (∀ h3, h3 = hh_wi h2 a0 17 (Int32.ofNat 0) → (∀ h4, h4 = hh_wi h3 a0 18 (Int32.ofNat 0) → (∀ h5, h5 = hh_wi h4 a0 19 (Int32.ofNat 0) → (∀ a6 h7, a6 = hh_sz h5 → h7 = hh_al h5 100 3 3 → (gm_sub (hh_tg h7 a0) 19 = true ∧ (∀ h9, h9 = hh_wr h7 a0 20 (some a6) → (gm_G 87 146 [some (.ref a0)] [] h9 Q))))))))) : gm_G 87 119 [some (.ref a0)] [] h Q := by
  refine g_aload (r := some _) rfl rfl rfl (pc' := 120) ?_
  refine g_iconst rfl rfl rfl (pc' := 121) ?_
  obtain ⟨ht1, H⟩ := H
  refine g_putI rfl rfl rfl rfl ht1  (pc' := 124) rfl ?_
  replace H := H _ rfl
  refine g_aload (r := some _) rfl rfl rfl (pc' := 125) ?_
  refine g_iconst rfl rfl rfl (pc' := 126) ?_
  refine g_putI rfl rfl rfl rfl ht1  (pc' := 129) rfl ?_
  replace H := H _ rfl
  refine g_aload (r := some _) rfl rfl rfl (pc' := 130) ?_
  refine g_iconst rfl rfl rfl (pc' := 131) ?_
  refine g_putI rfl rfl rfl rfl ht1  (pc' := 134) rfl ?_
  replace H := H _ rfl
  refine g_aload (r := some _) rfl rfl rfl (pc' := 135) ?_
  refine g_iconst rfl rfl rfl (pc' := 136) ?_
  refine g_putI rfl rfl rfl rfl ht1  (pc' := 139) rfl ?_
  replace H := H _ rfl
  refine g_aload (r := some _) rfl rfl rfl (pc' := 140) ?_
  refine g_iconst rfl rfl rfl (pc' := 141) ?_
  refine g_newarray rfl (u := 100) (n := 3) rfl (by decide) rfl (by decide) (pc' := 143) rfl ?_
  replace H := H _ _ rfl rfl
  obtain ⟨ht8, H⟩ := H
  refine g_putR (x := some _) rfl rfl rfl rfl ht8  (pc' := 146) rfl ?_
  replace H := H _ rfl
  exact g_weak (show gm_Lle [some _] _ from ⟨rfl, trivial⟩) H
set_option maxRecDepth 20000 in
theorem w_87_146 {a0 : Nat}  {h : hh_T} {Q : Option Value ⊕ Nat → hh_T → Prop} (H : ∀ a1 h2, a1 = hh_sz h → h2 = hh_al h 100 3 3 → (gm_sub (hh_tg h2 a0) 19 = true ∧ (∀ h4, h4 = hh_wr h2 a0 21 (some a1) → (∀ a5 h6, a5 = hh_sz h4 → h6 = hh_al h4 100 3 3 → (gm_sub (hh_tg h6 a0) 19 = true ∧ (∀ h8, h8 = hh_wr h6 a0 22 (some a5) → (∀ a9 h10, a9 = hh_sz h8 → h10 = hh_al h8 100 3 3 → (gm_sub (hh_tg h10 a0) 19 = true ∧ (∀ h12, h12 = hh_wr h10 a0 23 (some a9) → (gm_G 87 167 [some (.ref a0)] [] h12 Q)))))))))) : gm_G 87 146 [some (.ref a0)] [] h Q := by
  refine g_aload (r := some _) rfl rfl rfl (pc' := 147) ?_
  refine g_iconst rfl rfl rfl (pc' := 148) ?_
  refine g_newarray rfl (u := 100) (n := 3) rfl (by decide) rfl (by decide) (pc' := 150) rfl ?_
  replace H := H _ _ rfl rfl
  obtain ⟨ht3, H⟩ := H
  refine g_putR (x := some _) rfl rfl rfl rfl ht3  (pc' := 153) rfl ?_
  replace H := H _ rfl
  refine g_aload (r := some _) rfl rfl rfl (pc' := 154) ?_
  refine g_iconst rfl rfl rfl (pc' := 155) ?_
  refine g_newarray rfl (u := 100) (n := 3) rfl (by decide) rfl (by decide) (pc' := 157) rfl ?_
  replace H := H _ _ rfl rfl
  obtain ⟨ht7, H⟩ := H
  refine g_putR (x := some _) rfl rfl rfl rfl ht7  (pc' := 160) rfl ?_
  replace H := H _ rfl
  refine g_aload (r := some _) rfl rfl rfl (pc' := 161) ?_
  refine g_iconst rfl rfl rfl (pc' := 162) ?_
  refine g_newarray rfl (u := 100) (n := 3) rfl (by decide) rfl (by decide) (pc' := 164) rfl ?_
  replace H := H _ _ rfl rfl
  obtain ⟨ht11, H⟩ := H
  refine g_putR (x := some _) rfl rfl rfl rfl ht11  (pc' := 167) rfl ?_
  replace H := H _ rfl
  exact g_weak (show gm_Lle [some _] _ from ⟨rfl, trivial⟩) H
set_option maxRecDepth 20000 in
theorem w_87_167 {a0 : Nat}  {h : hh_T} {Q : Option Value ⊕ Nat → hh_T → Prop} (H : ∀ a1 h2, a1 = hh_sz h → h2 = hh_al h 100 18 18 → (gm_sub (hh_tg h2 a0) 19 = true ∧ (∀ h4, h4 = hh_wr h2 a0 24 (some a1) → (∀ a5 h6, a5 = hh_sz h4 → h6 = hh_al h4 101 256 256 → (gm_sub (hh_tg h6 a0) 19 = true ∧ (∀ h8, h8 = hh_wr h6 a0 25 (some a5) → (∀ a9 h10, a9 = hh_sz h8 → h10 = hh_al h8 102 640 640 → (gm_sub (hh_tg h10 a0) 19 = true ∧ (∀ h12, h12 = hh_wr h10 a0 26 (some a9) → (gm_G 87 193 [some (.ref a0)] [] h12 Q)))))))))) : gm_G 87 167 [some (.ref a0)] [] h Q := by
  refine g_aload (r := some _) rfl rfl rfl (pc' := 168) ?_
  refine g_iconst rfl rfl rfl (pc' := 170) ?_
  refine g_newarray rfl (u := 100) (n := 18) rfl (by decide) rfl (by decide) (pc' := 172) rfl ?_
  replace H := H _ _ rfl rfl
  obtain ⟨ht3, H⟩ := H
  refine g_putR (x := some _) rfl rfl rfl rfl ht3  (pc' := 175) rfl ?_
  replace H := H _ rfl
  refine g_aload (r := some _) rfl rfl rfl (pc' := 176) ?_
  refine g_iconst rfl rfl rfl (pc' := 179) ?_
  refine g_newarray rfl (u := 101) (n := 256) rfl (by decide) rfl (by decide) (pc' := 181) rfl ?_
  replace H := H _ _ rfl rfl
  obtain ⟨ht7, H⟩ := H
  refine g_putR (x := some _) rfl rfl rfl rfl ht7  (pc' := 184) rfl ?_
  replace H := H _ rfl
  refine g_aload (r := some _) rfl rfl rfl (pc' := 185) ?_
  refine g_iconst rfl rfl rfl (pc' := 188) ?_
  refine g_newarray rfl (u := 102) (n := 640) rfl (by decide) rfl (by decide) (pc' := 190) rfl ?_
  replace H := H _ _ rfl rfl
  obtain ⟨ht11, H⟩ := H
  refine g_putR (x := some _) rfl rfl rfl rfl ht11  (pc' := 193) rfl ?_
  replace H := H _ rfl
  exact g_weak (show gm_Lle [some _] _ from ⟨rfl, trivial⟩) H
set_option maxRecDepth 20000 in
theorem w_87_193 {a0 : Nat}  {h : hh_T} {Q : Option Value ⊕ Nat → hh_T → Prop} (H : ∀ a1 h2, a1 = hh_sz h → h2 = hh_al h 102 640 640 → (gm_sub (hh_tg h2 a0) 19 = true ∧ (∀ h4, h4 = hh_wr h2 a0 27 (some a1) → (∀ a5 h6, a5 = hh_sz h4 → h6 = hh_al h4 102 640 640 → (gm_sub (hh_tg h6 a0) 19 = true ∧ (∀ h8, h8 = hh_wr h6 a0 28 (some a5) → (∀ a9 h10, a9 = hh_sz h8 → h10 = hh_al h8 100 640 640 → (gm_sub (hh_tg h10 a0) 19 = true ∧ (∀ h12, h12 = hh_wr h10 a0 29 (some a9) → (gm_G 87 220 [some (.ref a0)] [] h12 Q)))))))))) : gm_G 87 193 [some (.ref a0)] [] h Q := by
  refine g_aload (r := some _) rfl rfl rfl (pc' := 194) ?_
  refine g_iconst rfl rfl rfl (pc' := 197) ?_
  refine g_newarray rfl (u := 102) (n := 640) rfl (by decide) rfl (by decide) (pc' := 199) rfl ?_
  replace H := H _ _ rfl rfl
  obtain ⟨ht3, H⟩ := H
  refine g_putR (x := some _) rfl rfl rfl rfl ht3  (pc' := 202) rfl ?_
  replace H := H _ rfl
  refine g_aload (r := some _) rfl rfl rfl (pc' := 203) ?_
  refine g_iconst rfl rfl rfl (pc' := 206) ?_
  refine g_newarray rfl (u := 102) (n := 640) rfl (by decide) rfl (by decide) (pc' := 208) rfl ?_
  replace H := H _ _ rfl rfl
  obtain ⟨ht7, H⟩ := H
  refine g_putR (x := some _) rfl rfl rfl rfl ht7  (pc' := 211) rfl ?_
  replace H := H _ rfl
  refine g_aload (r := some _) rfl rfl rfl (pc' := 212) ?_
  refine g_iconst rfl rfl rfl (pc' := 215) ?_
  refine g_newarray rfl (u := 100) (n := 640) rfl (by decide) rfl (by decide) (pc' := 217) rfl ?_
  replace H := H _ _ rfl rfl
  obtain ⟨ht11, H⟩ := H
  refine g_putR (x := some _) rfl rfl rfl rfl ht11  (pc' := 220) rfl ?_
  replace H := H _ rfl
  exact g_weak (show gm_Lle [some _] _ from ⟨rfl, trivial⟩) H
set_option maxRecDepth 20000 in
theorem w_87_220 {a0 : Nat}  {h : hh_T} {Q : Option Value ⊕ Nat → hh_T → Prop} (H : ∀ a1 h2, a1 = hh_sz h → h2 = hh_al h 100 640 640 → (gm_sub (hh_tg h2 a0) 19 = true ∧ (∀ h4, h4 = hh_wr h2 a0 30 (some a1) → (∀ a5 h6, a5 = hh_sz h4 → h6 = hh_al h4 100 640 640 → (gm_sub (hh_tg h6 a0) 19 = true ∧ (∀ h8, h8 = hh_wr h6 a0 31 (some a5) → (∀ a9 h10, a9 = hh_sz h8 → h10 = hh_al h8 100 1280 1280 → (gm_sub (hh_tg h10 a0) 19 = true ∧ (∀ h12, h12 = hh_wr h10 a0 32 (some a9) → (gm_G 87 247 [some (.ref a0)] [] h12 Q)))))))))) : gm_G 87 220 [some (.ref a0)] [] h Q := by
  refine g_aload (r := some _) rfl rfl rfl (pc' := 221) ?_
  refine g_iconst rfl rfl rfl (pc' := 224) ?_
  refine g_newarray rfl (u := 100) (n := 640) rfl (by decide) rfl (by decide) (pc' := 226) rfl ?_
  replace H := H _ _ rfl rfl
  obtain ⟨ht3, H⟩ := H
  refine g_putR (x := some _) rfl rfl rfl rfl ht3  (pc' := 229) rfl ?_
  replace H := H _ rfl
  refine g_aload (r := some _) rfl rfl rfl (pc' := 230) ?_
  refine g_iconst rfl rfl rfl (pc' := 233) ?_
  refine g_newarray rfl (u := 100) (n := 640) rfl (by decide) rfl (by decide) (pc' := 235) rfl ?_
  replace H := H _ _ rfl rfl
  obtain ⟨ht7, H⟩ := H
  refine g_putR (x := some _) rfl rfl rfl rfl ht7  (pc' := 238) rfl ?_
  replace H := H _ rfl
  refine g_aload (r := some _) rfl rfl rfl (pc' := 239) ?_
  refine g_iconst rfl rfl rfl (pc' := 242) ?_
  refine g_newarray rfl (u := 100) (n := 1280) rfl (by decide) rfl (by decide) (pc' := 244) rfl ?_
  replace H := H _ _ rfl rfl
  obtain ⟨ht11, H⟩ := H
  refine g_putR (x := some _) rfl rfl rfl rfl ht11  (pc' := 247) rfl ?_
  replace H := H _ rfl
  exact g_weak (show gm_Lle [some _] _ from ⟨rfl, trivial⟩) H
set_option maxRecDepth 20000 in
theorem w_87_247 {a0 : Nat}  {h : hh_T} {Q : Option Value ⊕ Nat → hh_T → Prop} (H : ∀ a1 h2, a1 = hh_sz h → h2 = hh_al h 100 1280 1280 → (gm_sub (hh_tg h2 a0) 19 = true ∧ (∀ h4, h4 = hh_wr h2 a0 33 (some a1) → (∀ a5 h6, a5 = hh_sz h4 → h6 = hh_al h4 103 640 640 → (gm_sub (hh_tg h6 a0) 19 = true ∧ (∀ h8, h8 = hh_wr h6 a0 34 (some a5) → (∀ a9 h10, a9 = hh_sz h8 → h10 = hh_al h8 101 20480 20480 → (gm_sub (hh_tg h10 a0) 19 = true ∧ (∀ h12, h12 = hh_wr h10 a0 35 (some a9) → (gm_G 87 274 [some (.ref a0)] [] h12 Q)))))))))) : gm_G 87 247 [some (.ref a0)] [] h Q := by
  refine g_aload (r := some _) rfl rfl rfl (pc' := 248) ?_
  refine g_iconst rfl rfl rfl (pc' := 251) ?_
  refine g_newarray rfl (u := 100) (n := 1280) rfl (by decide) rfl (by decide) (pc' := 253) rfl ?_
  replace H := H _ _ rfl rfl
  obtain ⟨ht3, H⟩ := H
  refine g_putR (x := some _) rfl rfl rfl rfl ht3  (pc' := 256) rfl ?_
  replace H := H _ rfl
  refine g_aload (r := some _) rfl rfl rfl (pc' := 257) ?_
  refine g_iconst rfl rfl rfl (pc' := 260) ?_
  refine g_newarray rfl (u := 103) (n := 640) rfl (by decide) rfl (by decide) (pc' := 262) rfl ?_
  replace H := H _ _ rfl rfl
  obtain ⟨ht7, H⟩ := H
  refine g_putR (x := some _) rfl rfl rfl rfl ht7  (pc' := 265) rfl ?_
  replace H := H _ rfl
  refine g_aload (r := some _) rfl rfl rfl (pc' := 266) ?_
  refine g_iconst rfl rfl rfl (pc' := 269) ?_
  refine g_newarray rfl (u := 101) (n := 20480) rfl (by decide) rfl (by decide) (pc' := 271) rfl ?_
  replace H := H _ _ rfl rfl
  obtain ⟨ht11, H⟩ := H
  refine g_putR (x := some _) rfl rfl rfl rfl ht11  (pc' := 274) rfl ?_
  replace H := H _ rfl
  exact g_weak (show gm_Lle [some _] _ from ⟨rfl, trivial⟩) H
set_option maxRecDepth 20000 in
theorem w_87_274 {a0 : Nat}  {h : hh_T} {Q : Option Value ⊕ Nat → hh_T → Prop} (H : ∀ a1 h2, a1 = hh_sz h → h2 = hh_al h 102 1152 1152 → (gm_sub (hh_tg h2 a0) 19 = true ∧ (∀ h4, h4 = hh_wr h2 a0 36 (some a1) → (∀ a5 h6, a5 = hh_sz h4 → h6 = hh_al h4 101 80 80 → (gm_sub (hh_tg h6 a0) 19 = true ∧ (∀ h8, h8 = hh_wr h6 a0 37 (some a5) → (∀ a9 h10, a9 = hh_sz h8 → h10 = hh_al h8 101 64 64 → (gm_sub (hh_tg h10 a0) 19 = true ∧ (∀ h12, h12 = hh_wr h10 a0 38 (some a9) → (gm_G 87 299 [some (.ref a0)] [] h12 Q)))))))))) : gm_G 87 274 [some (.ref a0)] [] h Q := by
  refine g_aload (r := some _) rfl rfl rfl (pc' := 275) ?_
  refine g_iconst rfl rfl rfl (pc' := 278) ?_
  refine g_newarray rfl (u := 102) (n := 1152) rfl (by decide) rfl (by decide) (pc' := 280) rfl ?_
  replace H := H _ _ rfl rfl
  obtain ⟨ht3, H⟩ := H
  refine g_putR (x := some _) rfl rfl rfl rfl ht3  (pc' := 283) rfl ?_
  replace H := H _ rfl
  refine g_aload (r := some _) rfl rfl rfl (pc' := 284) ?_
  refine g_iconst rfl rfl rfl (pc' := 286) ?_
  refine g_newarray rfl (u := 101) (n := 80) rfl (by decide) rfl (by decide) (pc' := 288) rfl ?_
  replace H := H _ _ rfl rfl
  obtain ⟨ht7, H⟩ := H
  refine g_putR (x := some _) rfl rfl rfl rfl ht7  (pc' := 291) rfl ?_
  replace H := H _ rfl
  refine g_aload (r := some _) rfl rfl rfl (pc' := 292) ?_
  refine g_iconst rfl rfl rfl (pc' := 294) ?_
  refine g_newarray rfl (u := 101) (n := 64) rfl (by decide) rfl (by decide) (pc' := 296) rfl ?_
  replace H := H _ _ rfl rfl
  obtain ⟨ht11, H⟩ := H
  refine g_putR (x := some _) rfl rfl rfl rfl ht11  (pc' := 299) rfl ?_
  replace H := H _ rfl
  exact g_weak (show gm_Lle [some _] _ from ⟨rfl, trivial⟩) H
set_option maxRecDepth 20000 in
theorem w_87_299 {a0 : Nat}  {h : hh_T} {Q : Option Value ⊕ Nat → hh_T → Prop} (H : ∀ a1 h2, a1 = hh_sz h → h2 = hh_al h 100 136 136 → (gm_sub (hh_tg h2 a0) 19 = true ∧ (∀ h4, h4 = hh_wr h2 a0 39 (some a1) → (∀ a5 h6, a5 = hh_sz h4 → h6 = hh_al h4 102 136 136 → (gm_sub (hh_tg h6 a0) 19 = true ∧ (∀ h8, h8 = hh_wr h6 a0 40 (some a5) → (∀ h9, h9 = hh_wi h8 a0 41 (Int32.ofNat 0) → (gm_G 87 322 [some (.ref a0)] [] h9 Q)))))))) : gm_G 87 299 [some (.ref a0)] [] h Q := by
  refine g_aload (r := some _) rfl rfl rfl (pc' := 300) ?_
  refine g_iconst rfl rfl rfl (pc' := 303) ?_
  refine g_newarray rfl (u := 100) (n := 136) rfl (by decide) rfl (by decide) (pc' := 305) rfl ?_
  replace H := H _ _ rfl rfl
  obtain ⟨ht3, H⟩ := H
  refine g_putR (x := some _) rfl rfl rfl rfl ht3  (pc' := 308) rfl ?_
  replace H := H _ rfl
  refine g_aload (r := some _) rfl rfl rfl (pc' := 309) ?_
  refine g_iconst rfl rfl rfl (pc' := 312) ?_
  refine g_newarray rfl (u := 102) (n := 136) rfl (by decide) rfl (by decide) (pc' := 314) rfl ?_
  replace H := H _ _ rfl rfl
  obtain ⟨ht7, H⟩ := H
  refine g_putR (x := some _) rfl rfl rfl rfl ht7  (pc' := 317) rfl ?_
  replace H := H _ rfl
  refine g_aload (r := some _) rfl rfl rfl (pc' := 318) ?_
  refine g_iconst rfl rfl rfl (pc' := 319) ?_
  refine g_putI rfl rfl rfl rfl ht7  (pc' := 322) rfl ?_
  replace H := H _ rfl
  exact g_weak (show gm_Lle [some _] _ from ⟨rfl, trivial⟩) H
set_option maxRecDepth 20000 in
theorem w_87_322 {a0 : Nat}  {h : hh_T} {Q : Option Value ⊕ Nat → hh_T → Prop} (H : gm_sub (hh_tg h a0) 19 = true ∧ (∀ h2, h2 = hh_wi h a0 42 (Int32.ofNat 0) → (∀ h3, h3 = hh_wi h2 a0 43 (Int32.ofNat 0) → (∀ a4 h5, a4 = hh_sz h3 → h5 = hh_al h3 100 64 64 → (gm_sub (hh_tg h5 a0) 19 = true ∧ (∀ h7, h7 = hh_wr h5 a0 44 (some a4) → (∀ a8 h9, a8 = hh_sz h7 → h9 = hh_al h7 100 4 4 → (gm_sub (hh_tg h9 a0) 19 = true ∧ (∀ h11, h11 = hh_wr h9 a0 45 (some a8) → (gm_G 87 347 [some (.ref a0)] [] h11 Q)))))))))) : gm_G 87 322 [some (.ref a0)] [] h Q := by
  refine g_aload (r := some _) rfl rfl rfl (pc' := 323) ?_
  refine g_iconst rfl rfl rfl (pc' := 324) ?_
  obtain ⟨ht1, H⟩ := H
  refine g_putI rfl rfl rfl rfl ht1  (pc' := 327) rfl ?_
  replace H := H _ rfl
  refine g_aload (r := some _) rfl rfl rfl (pc' := 328) ?_
  refine g_iconst rfl rfl rfl (pc' := 329) ?_
  refine g_putI rfl rfl rfl rfl ht1  (pc' := 332) rfl ?_
  replace H := H _ rfl
  refine g_aload (r := some _) rfl rfl rfl (pc' := 333) ?_
  refine g_iconst rfl rfl rfl (pc' := 335) ?_
  refine g_newarray rfl (u := 100) (n := 64) rfl (by decide) rfl (by decide) (pc' := 337) rfl ?_
  replace H := H _ _ rfl rfl
  obtain ⟨ht6, H⟩ := H
  refine g_putR (x := some _) rfl rfl rfl rfl ht6  (pc' := 340) rfl ?_
  replace H := H _ rfl
  refine g_aload (r := some _) rfl rfl rfl (pc' := 341) ?_
  refine g_iconst rfl rfl rfl (pc' := 342) ?_
  refine g_newarray rfl (u := 100) (n := 4) rfl (by decide) rfl (by decide) (pc' := 344) rfl ?_
  replace H := H _ _ rfl rfl
  obtain ⟨ht10, H⟩ := H
  refine g_putR (x := some _) rfl rfl rfl rfl ht10  (pc' := 347) rfl ?_
  replace H := H _ rfl
  exact g_weak (show gm_Lle [some _] _ from ⟨rfl, trivial⟩) H
set_option maxRecDepth 20000 in
theorem w_87_347 {a0 : Nat}  {h : hh_T} {Q : Option Value ⊕ Nat → hh_T → Prop} (H : gm_sub (hh_tg h a0) 19 = true ∧ (∀ h2, h2 = hh_wi h a0 46 (Int32.ofNat 0) → (∀ h3, h3 = hh_wi h2 a0 47 (Int32.ofNat 0) → (∀ h4, h4 = hh_wi h3 a0 48 (Int32.ofNat 0) → (∀ h5, h5 = hh_wi h4 a0 49 (Int32.ofNat 0) → (∀ a6 h7, a6 = hh_sz h5 → h7 = hh_al h5 100 16 16 → (gm_sub (hh_tg h7 a0) 19 = true ∧ (∀ h9, h9 = hh_wr h7 a0 50 (some a6) → (gm_G 87 375 [some (.ref a0)] [] h9 Q))))))))) : gm_G 87 347 [some (.ref a0)] [] h Q := by
  refine g_aload (r := some _) rfl rfl rfl (pc' := 348) ?_
  refine g_iconst rfl rfl rfl (pc' := 349) ?_
  obtain ⟨ht1, H⟩ := H
  refine g_putI rfl rfl rfl rfl ht1  (pc' := 352) rfl ?_
  replace H := H _ rfl
  refine g_aload (r := some _) rfl rfl rfl (pc' := 353) ?_
  refine g_iconst rfl rfl rfl (pc' := 354) ?_
  refine g_putI rfl rfl rfl rfl ht1  (pc' := 357) rfl ?_
  replace H := H _ rfl
  refine g_aload (r := some _) rfl rfl rfl (pc' := 358) ?_
  refine g_iconst rfl rfl rfl (pc' := 359) ?_
  refine g_putI rfl rfl rfl rfl ht1  (pc' := 362) rfl ?_
  replace H := H _ rfl
  refine g_aload (r := some _) rfl rfl rfl (pc' := 363) ?_
  refine g_iconst rfl rfl rfl (pc' := 364) ?_
  refine g_putI rfl rfl rfl rfl ht1  (pc' := 367) rfl ?_
  replace H := H _ rfl
  refine g_aload (r := some _) rfl rfl rfl (pc' := 368) ?_
  refine g_iconst rfl rfl rfl (pc' := 370) ?_
  refine g_newarray rfl (u := 100) (n := 16) rfl (by decide) rfl (by decide) (pc' := 372) rfl ?_
  replace H := H _ _ rfl rfl
  obtain ⟨ht8, H⟩ := H
  refine g_putR (x := some _) rfl rfl rfl rfl ht8  (pc' := 375) rfl ?_
  replace H := H _ rfl
  exact g_weak (show gm_Lle [some _] _ from ⟨rfl, trivial⟩) H
set_option maxRecDepth 20000 in
theorem w_87_375 {a0 : Nat}  {h : hh_T} {Q : Option Value ⊕ Nat → hh_T → Prop} (H : ∀ a1 h2, a1 = hh_sz h → h2 = hh_al h 101 32 32 → (gm_sub (hh_tg h2 a0) 19 = true ∧ (∀ h4, h4 = hh_wr h2 a0 51 (some a1) → (∀ a5 h6, a5 = hh_sz h4 → h6 = hh_al h4 101 20480 20480 → (gm_sub (hh_tg h6 a0) 19 = true ∧ (∀ h8, h8 = hh_wr h6 a0 52 (some a5) → (∀ h9, h9 = hh_wi h8 a0 53 (Int32.ofNat 0) → (gm_G 87 397 [some (.ref a0)] [] h9 Q)))))))) : gm_G 87 375 [some (.ref a0)] [] h Q := by
  refine g_aload (r := some _) rfl rfl rfl (pc' := 376) ?_
  refine g_iconst rfl rfl rfl (pc' := 378) ?_
  refine g_newarray rfl (u := 101) (n := 32) rfl (by decide) rfl (by decide) (pc' := 380) rfl ?_
  replace H := H _ _ rfl rfl
  obtain ⟨ht3, H⟩ := H
  refine g_putR (x := some _) rfl rfl rfl rfl ht3  (pc' := 383) rfl ?_
  replace H := H _ rfl
  refine g_aload (r := some _) rfl rfl rfl (pc' := 384) ?_
  refine g_iconst rfl rfl rfl (pc' := 387) ?_
  refine g_newarray rfl (u := 101) (n := 20480) rfl (by decide) rfl (by decide) (pc' := 389) rfl ?_
  replace H := H _ _ rfl rfl
  obtain ⟨ht7, H⟩ := H
  refine g_putR (x := some _) rfl rfl rfl rfl ht7  (pc' := 392) rfl ?_
  replace H := H _ rfl
  refine g_aload (r := some _) rfl rfl rfl (pc' := 393) ?_
  refine g_iconst rfl rfl rfl (pc' := 394) ?_
  refine g_putZ rfl rfl rfl rfl ht7 (by decide) (pc' := 397) rfl ?_
  replace H := H _ rfl
  exact g_weak (show gm_Lle [some _] _ from ⟨rfl, trivial⟩) H
set_option maxRecDepth 20000 in
theorem w_87_397 {a0 : Nat}  {h : hh_T} {Q : Option Value ⊕ Nat → hh_T → Prop} (H : ∀ a1 h2, a1 = hh_sz h → h2 = hh_al h 100 8 8 → (gm_sub (hh_tg h2 a0) 19 = true ∧ (∀ h4, h4 = hh_wr h2 a0 54 (some a1) → (∀ a5 h6, a5 = hh_sz h4 → h6 = hh_al h4 100 8 8 → (gm_sub (hh_tg h6 a0) 19 = true ∧ (∀ h8, h8 = hh_wr h6 a0 55 (some a5) → (∀ a9 h10, a9 = hh_sz h8 → h10 = hh_al h8 100 64 64 → (gm_sub (hh_tg h10 a0) 19 = true ∧ (∀ h12, h12 = hh_wr h10 a0 56 (some a9) → (gm_G 87 421 [some (.ref a0)] [] h12 Q)))))))))) : gm_G 87 397 [some (.ref a0)] [] h Q := by
  refine g_aload (r := some _) rfl rfl rfl (pc' := 398) ?_
  refine g_iconst rfl rfl rfl (pc' := 400) ?_
  refine g_newarray rfl (u := 100) (n := 8) rfl (by decide) rfl (by decide) (pc' := 402) rfl ?_
  replace H := H _ _ rfl rfl
  obtain ⟨ht3, H⟩ := H
  refine g_putR (x := some _) rfl rfl rfl rfl ht3  (pc' := 405) rfl ?_
  replace H := H _ rfl
  refine g_aload (r := some _) rfl rfl rfl (pc' := 406) ?_
  refine g_iconst rfl rfl rfl (pc' := 408) ?_
  refine g_newarray rfl (u := 100) (n := 8) rfl (by decide) rfl (by decide) (pc' := 410) rfl ?_
  replace H := H _ _ rfl rfl
  obtain ⟨ht7, H⟩ := H
  refine g_putR (x := some _) rfl rfl rfl rfl ht7  (pc' := 413) rfl ?_
  replace H := H _ rfl
  refine g_aload (r := some _) rfl rfl rfl (pc' := 414) ?_
  refine g_iconst rfl rfl rfl (pc' := 416) ?_
  refine g_newarray rfl (u := 100) (n := 64) rfl (by decide) rfl (by decide) (pc' := 418) rfl ?_
  replace H := H _ _ rfl rfl
  obtain ⟨ht11, H⟩ := H
  refine g_putR (x := some _) rfl rfl rfl rfl ht11  (pc' := 421) rfl ?_
  replace H := H _ rfl
  exact g_weak (show gm_Lle [some _] _ from ⟨rfl, trivial⟩) H
set_option maxRecDepth 20000 in
theorem w_87_421 {a0 : Nat}  {h : hh_T} {Q : Option Value ⊕ Nat → hh_T → Prop} (H : ∀ a1 h2, a1 = hh_sz h → h2 = hh_al h 100 1536 1536 → (gm_sub (hh_tg h2 a0) 19 = true ∧ (∀ h4, h4 = hh_wr h2 a0 57 (some a1) → (∀ a5 h6, a5 = hh_sz h4 → h6 = hh_al h4 100 1536 1536 → (gm_sub (hh_tg h6 a0) 19 = true ∧ (∀ h8, h8 = hh_wr h6 a0 58 (some a5) → (∀ a9 h10, a9 = hh_sz h8 → h10 = hh_al h8 100 1536 1536 → (gm_sub (hh_tg h10 a0) 19 = true ∧ (∀ h12, h12 = hh_wr h10 a0 59 (some a9) → (gm_G 87 448 [some (.ref a0)] [] h12 Q)))))))))) : gm_G 87 421 [some (.ref a0)] [] h Q := by
  refine g_aload (r := some _) rfl rfl rfl (pc' := 422) ?_
  refine g_iconst rfl rfl rfl (pc' := 425) ?_
  refine g_newarray rfl (u := 100) (n := 1536) rfl (by decide) rfl (by decide) (pc' := 427) rfl ?_
  replace H := H _ _ rfl rfl
  obtain ⟨ht3, H⟩ := H
  refine g_putR (x := some _) rfl rfl rfl rfl ht3  (pc' := 430) rfl ?_
  replace H := H _ rfl
  refine g_aload (r := some _) rfl rfl rfl (pc' := 431) ?_
  refine g_iconst rfl rfl rfl (pc' := 434) ?_
  refine g_newarray rfl (u := 100) (n := 1536) rfl (by decide) rfl (by decide) (pc' := 436) rfl ?_
  replace H := H _ _ rfl rfl
  obtain ⟨ht7, H⟩ := H
  refine g_putR (x := some _) rfl rfl rfl rfl ht7  (pc' := 439) rfl ?_
  replace H := H _ rfl
  refine g_aload (r := some _) rfl rfl rfl (pc' := 440) ?_
  refine g_iconst rfl rfl rfl (pc' := 443) ?_
  refine g_newarray rfl (u := 100) (n := 1536) rfl (by decide) rfl (by decide) (pc' := 445) rfl ?_
  replace H := H _ _ rfl rfl
  obtain ⟨ht11, H⟩ := H
  refine g_putR (x := some _) rfl rfl rfl rfl ht11  (pc' := 448) rfl ?_
  replace H := H _ rfl
  exact g_weak (show gm_Lle [some _] _ from ⟨rfl, trivial⟩) H
set_option maxRecDepth 20000 in
theorem w_87_448 {a0 : Nat}  {h : hh_T} {Q : Option Value ⊕ Nat → hh_T → Prop} (H : ∀ a1 h2, a1 = hh_sz h → h2 = hh_al h 100 1536 1536 → (gm_sub (hh_tg h2 a0) 19 = true ∧ (∀ h4, h4 = hh_wr h2 a0 60 (some a1) → (∀ a5 h6, a5 = hh_sz h4 → h6 = hh_al h4 100 1536 1536 → (gm_sub (hh_tg h6 a0) 19 = true ∧ (∀ h8, h8 = hh_wr h6 a0 61 (some a5) → (∀ a9 h10, a9 = hh_sz h8 → h10 = hh_al h8 100 1536 1536 → (gm_sub (hh_tg h10 a0) 19 = true ∧ (∀ h12, h12 = hh_wr h10 a0 62 (some a9) → (gm_G 87 475 [some (.ref a0)] [] h12 Q)))))))))) : gm_G 87 448 [some (.ref a0)] [] h Q := by
  refine g_aload (r := some _) rfl rfl rfl (pc' := 449) ?_
  refine g_iconst rfl rfl rfl (pc' := 452) ?_
  refine g_newarray rfl (u := 100) (n := 1536) rfl (by decide) rfl (by decide) (pc' := 454) rfl ?_
  replace H := H _ _ rfl rfl
  obtain ⟨ht3, H⟩ := H
  refine g_putR (x := some _) rfl rfl rfl rfl ht3  (pc' := 457) rfl ?_
  replace H := H _ rfl
  refine g_aload (r := some _) rfl rfl rfl (pc' := 458) ?_
  refine g_iconst rfl rfl rfl (pc' := 461) ?_
  refine g_newarray rfl (u := 100) (n := 1536) rfl (by decide) rfl (by decide) (pc' := 463) rfl ?_
  replace H := H _ _ rfl rfl
  obtain ⟨ht7, H⟩ := H
  refine g_putR (x := some _) rfl rfl rfl rfl ht7  (pc' := 466) rfl ?_
  replace H := H _ rfl
  refine g_aload (r := some _) rfl rfl rfl (pc' := 467) ?_
  refine g_iconst rfl rfl rfl (pc' := 470) ?_
  refine g_newarray rfl (u := 100) (n := 1536) rfl (by decide) rfl (by decide) (pc' := 472) rfl ?_
  replace H := H _ _ rfl rfl
  obtain ⟨ht11, H⟩ := H
  refine g_putR (x := some _) rfl rfl rfl rfl ht11  (pc' := 475) rfl ?_
  replace H := H _ rfl
  exact g_weak (show gm_Lle [some _] _ from ⟨rfl, trivial⟩) H
set_option maxRecDepth 20000 in
theorem w_87_475 {a0 : Nat}  {h : hh_T} {Q : Option Value ⊕ Nat → hh_T → Prop} (H : ∀ a1 h2, a1 = hh_sz h → h2 = hh_al h 100 1536 1536 → (gm_sub (hh_tg h2 a0) 19 = true ∧ (∀ h4, h4 = hh_wr h2 a0 63 (some a1) → (∀ a5 h6, a5 = hh_sz h4 → h6 = hh_al h4 100 1536 1536 → (gm_sub (hh_tg h6 a0) 19 = true ∧ (∀ h8, h8 = hh_wr h6 a0 64 (some a5) → (∀ a9 h10, a9 = hh_sz h8 → h10 = hh_al h8 100 1536 1536 → (gm_sub (hh_tg h10 a0) 19 = true ∧ (∀ h12, h12 = hh_wr h10 a0 65 (some a9) → (gm_G 87 502 [some (.ref a0)] [] h12 Q)))))))))) : gm_G 87 475 [some (.ref a0)] [] h Q := by
  refine g_aload (r := some _) rfl rfl rfl (pc' := 476) ?_
  refine g_iconst rfl rfl rfl (pc' := 479) ?_
  refine g_newarray rfl (u := 100) (n := 1536) rfl (by decide) rfl (by decide) (pc' := 481) rfl ?_
  replace H := H _ _ rfl rfl
  obtain ⟨ht3, H⟩ := H
  refine g_putR (x := some _) rfl rfl rfl rfl ht3  (pc' := 484) rfl ?_
  replace H := H _ rfl
  refine g_aload (r := some _) rfl rfl rfl (pc' := 485) ?_
  refine g_iconst rfl rfl rfl (pc' := 488) ?_
  refine g_newarray rfl (u := 100) (n := 1536) rfl (by decide) rfl (by decide) (pc' := 490) rfl ?_
  replace H := H _ _ rfl rfl
  obtain ⟨ht7, H⟩ := H
  refine g_putR (x := some _) rfl rfl rfl rfl ht7  (pc' := 493) rfl ?_
  replace H := H _ rfl
  refine g_aload (r := some _) rfl rfl rfl (pc' := 494) ?_
  refine g_iconst rfl rfl rfl (pc' := 497) ?_
  refine g_newarray rfl (u := 100) (n := 1536) rfl (by decide) rfl (by decide) (pc' := 499) rfl ?_
  replace H := H _ _ rfl rfl
  obtain ⟨ht11, H⟩ := H
  refine g_putR (x := some _) rfl rfl rfl rfl ht11  (pc' := 502) rfl ?_
  replace H := H _ rfl
  exact g_weak (show gm_Lle [some _] _ from ⟨rfl, trivial⟩) H
set_option maxRecDepth 20000 in
theorem w_87_502 {a0 : Nat}  {h : hh_T} {Q : Option Value ⊕ Nat → hh_T → Prop} (H : ∀ a1 h2, a1 = hh_sz h → h2 = hh_al h 100 1536 1536 → (gm_sub (hh_tg h2 a0) 19 = true ∧ (∀ h4, h4 = hh_wr h2 a0 66 (some a1) → (∀ a5 h6, a5 = hh_sz h4 → h6 = hh_al h4 100 6144 6144 → (gm_sub (hh_tg h6 a0) 19 = true ∧ (∀ h8, h8 = hh_wr h6 a0 67 (some a5) → (∀ a9 h10, a9 = hh_sz h8 → h10 = hh_al h8 100 6144 6144 → (gm_sub (hh_tg h10 a0) 19 = true ∧ (∀ h12, h12 = hh_wr h10 a0 68 (some a9) → (gm_G 87 529 [some (.ref a0)] [] h12 Q)))))))))) : gm_G 87 502 [some (.ref a0)] [] h Q := by
  refine g_aload (r := some _) rfl rfl rfl (pc' := 503) ?_
  refine g_iconst rfl rfl rfl (pc' := 506) ?_
  refine g_newarray rfl (u := 100) (n := 1536) rfl (by decide) rfl (by decide) (pc' := 508) rfl ?_
  replace H := H _ _ rfl rfl
  obtain ⟨ht3, H⟩ := H
  refine g_putR (x := some _) rfl rfl rfl rfl ht3  (pc' := 511) rfl ?_
  replace H := H _ rfl
  refine g_aload (r := some _) rfl rfl rfl (pc' := 512) ?_
  refine g_iconst rfl rfl rfl (pc' := 515) ?_
  refine g_newarray rfl (u := 100) (n := 6144) rfl (by decide) rfl (by decide) (pc' := 517) rfl ?_
  replace H := H _ _ rfl rfl
  obtain ⟨ht7, H⟩ := H
  refine g_putR (x := some _) rfl rfl rfl rfl ht7  (pc' := 520) rfl ?_
  replace H := H _ rfl
  refine g_aload (r := some _) rfl rfl rfl (pc' := 521) ?_
  refine g_iconst rfl rfl rfl (pc' := 524) ?_
  refine g_newarray rfl (u := 100) (n := 6144) rfl (by decide) rfl (by decide) (pc' := 526) rfl ?_
  replace H := H _ _ rfl rfl
  obtain ⟨ht11, H⟩ := H
  refine g_putR (x := some _) rfl rfl rfl rfl ht11  (pc' := 529) rfl ?_
  replace H := H _ rfl
  exact g_weak (show gm_Lle [some _] _ from ⟨rfl, trivial⟩) H
set_option maxRecDepth 20000 in
theorem w_87_529 {a0 : Nat}  {h : hh_T} {Q : Option Value ⊕ Nat → hh_T → Prop} (H : ∀ a1 h2, a1 = hh_sz h → h2 = hh_al h 100 6144 6144 → (gm_sub (hh_tg h2 a0) 19 = true ∧ (∀ h4, h4 = hh_wr h2 a0 69 (some a1) → (∀ a5 h6, a5 = hh_sz h4 → h6 = hh_al h4 100 12288 12288 → (gm_sub (hh_tg h6 a0) 19 = true ∧ (∀ h8, h8 = hh_wr h6 a0 70 (some a5) → (∀ a9 h10, a9 = hh_sz h8 → h10 = hh_al h8 100 12288 12288 → (gm_sub (hh_tg h10 a0) 19 = true ∧ (∀ h12, h12 = hh_wr h10 a0 71 (some a9) → (gm_G 87 556 [some (.ref a0)] [] h12 Q)))))))))) : gm_G 87 529 [some (.ref a0)] [] h Q := by
  refine g_aload (r := some _) rfl rfl rfl (pc' := 530) ?_
  refine g_iconst rfl rfl rfl (pc' := 533) ?_
  refine g_newarray rfl (u := 100) (n := 6144) rfl (by decide) rfl (by decide) (pc' := 535) rfl ?_
  replace H := H _ _ rfl rfl
  obtain ⟨ht3, H⟩ := H
  refine g_putR (x := some _) rfl rfl rfl rfl ht3  (pc' := 538) rfl ?_
  replace H := H _ rfl
  refine g_aload (r := some _) rfl rfl rfl (pc' := 539) ?_
  refine g_iconst rfl rfl rfl (pc' := 542) ?_
  refine g_newarray rfl (u := 100) (n := 12288) rfl (by decide) rfl (by decide) (pc' := 544) rfl ?_
  replace H := H _ _ rfl rfl
  obtain ⟨ht7, H⟩ := H
  refine g_putR (x := some _) rfl rfl rfl rfl ht7  (pc' := 547) rfl ?_
  replace H := H _ rfl
  refine g_aload (r := some _) rfl rfl rfl (pc' := 548) ?_
  refine g_iconst rfl rfl rfl (pc' := 551) ?_
  refine g_newarray rfl (u := 100) (n := 12288) rfl (by decide) rfl (by decide) (pc' := 553) rfl ?_
  replace H := H _ _ rfl rfl
  obtain ⟨ht11, H⟩ := H
  refine g_putR (x := some _) rfl rfl rfl rfl ht11  (pc' := 556) rfl ?_
  replace H := H _ rfl
  exact g_weak (show gm_Lle [some _] _ from ⟨rfl, trivial⟩) H
set_option maxRecDepth 20000 in
theorem w_87_556 {a0 : Nat}  {h : hh_T} {Q : Option Value ⊕ Nat → hh_T → Prop} (H : ∀ a1 h2, a1 = hh_sz h → h2 = hh_al h 100 12288 12288 → (gm_sub (hh_tg h2 a0) 19 = true ∧ (∀ h4, h4 = hh_wr h2 a0 72 (some a1) → (∀ a5 h6, a5 = hh_sz h4 → h6 = hh_al h4 101 98304 98304 → (gm_sub (hh_tg h6 a0) 19 = true ∧ (∀ h8, h8 = hh_wr h6 a0 73 (some a5) → (∀ a9 h10, a9 = hh_sz h8 → h10 = hh_al h8 101 36864 36864 → (gm_sub (hh_tg h10 a0) 19 = true ∧ (∀ h12, h12 = hh_wr h10 a0 74 (some a9) → (gm_G 87 581 [some (.ref a0)] [] h12 Q)))))))))) : gm_G 87 556 [some (.ref a0)] [] h Q := by
  refine g_aload (r := some _) rfl rfl rfl (pc' := 557) ?_
  refine g_iconst rfl rfl rfl (pc' := 560) ?_
  refine g_newarray rfl (u := 100) (n := 12288) rfl (by decide) rfl (by decide) (pc' := 562) rfl ?_
  replace H := H _ _ rfl rfl
  obtain ⟨ht3, H⟩ := H
  refine g_putR (x := some _) rfl rfl rfl rfl ht3  (pc' := 565) rfl ?_
  replace H := H _ rfl
  refine g_aload (r := some _) rfl rfl rfl (pc' := 566) ?_
  refine g_iconst rfl rfl rfl (pc' := 568) ?_
  refine g_newarray rfl (u := 101) (n := 98304) rfl (by decide) rfl (by decide) (pc' := 570) rfl ?_
  replace H := H _ _ rfl rfl
  obtain ⟨ht7, H⟩ := H
  refine g_putR (x := some _) rfl rfl rfl rfl ht7  (pc' := 573) rfl ?_
  replace H := H _ rfl
  refine g_aload (r := some _) rfl rfl rfl (pc' := 574) ?_
  refine g_iconst rfl rfl rfl (pc' := 576) ?_
  refine g_newarray rfl (u := 101) (n := 36864) rfl (by decide) rfl (by decide) (pc' := 578) rfl ?_
  replace H := H _ _ rfl rfl
  obtain ⟨ht11, H⟩ := H
  refine g_putR (x := some _) rfl rfl rfl rfl ht11  (pc' := 581) rfl ?_
  replace H := H _ rfl
  exact g_weak (show gm_Lle [some _] _ from ⟨rfl, trivial⟩) H
set_option maxRecDepth 20000 in
theorem w_87_581 {a0 : Nat}  {h : hh_T} {Q : Option Value ⊕ Nat → hh_T → Prop} (H : ∀ a1 h2, a1 = hh_sz h → h2 = hh_al h 100 96 96 → (gm_sub (hh_tg h2 a0) 19 = true ∧ (∀ h4, h4 = hh_wr h2 a0 75 (some a1) → (∀ h5, h5 = hh_wi h4 a0 76 (Int32.ofNat 0) → (∀ h6, h6 = hh_wi h5 a0 77 (Int32.ofNat 0) → (∀ a7 h8, a7 = hh_sz h6 → h8 = hh_al h6 100 32 32 → (gm_sub (hh_tg h8 a0) 19 = true ∧ (∀ h10, h10 = hh_wr h8 a0 78 (some a7) → (gm_G 87 607 [some (.ref a0)] [] h10 Q))))))))) : gm_G 87 581 [some (.ref a0)] [] h Q := by
  refine g_aload (r := some _) rfl rfl rfl (pc' := 582) ?_
  refine g_iconst rfl rfl rfl (pc' := 584) ?_
  refine g_newarray rfl (u := 100) (n := 96) rfl (by decide) rfl (by decide) (pc' := 586) rfl ?_
  replace H := H _ _ rfl rfl
  obtain ⟨ht3, H⟩ := H
  refine g_putR (x := some _) rfl rfl rfl rfl ht3  (pc' := 589) rfl ?_
  replace H := H _ rfl
  refine g_aload (r := some _) rfl rfl rfl (pc' := 590) ?_
  refine g_iconst rfl rfl rfl (pc' := 591) ?_
  refine g_putZ rfl rfl rfl rfl ht3 (by decide) (pc' := 594) rfl ?_
  replace H := H _ rfl
  refine g_aload (r := some _) rfl rfl rfl (pc' := 595) ?_
  refine g_iconst rfl rfl rfl (pc' := 596) ?_
  refine g_putZ rfl rfl rfl rfl ht3 (by decide) (pc' := 599) rfl ?_
  replace H := H _ rfl
  refine g_aload (r := some _) rfl rfl rfl (pc' := 600) ?_
  refine g_iconst rfl rfl rfl (pc' := 602) ?_
  refine g_newarray rfl (u := 100) (n := 32) rfl (by decide) rfl (by decide) (pc' := 604) rfl ?_
  replace H := H _ _ rfl rfl
  obtain ⟨ht9, H⟩ := H
  refine g_putR (x := some _) rfl rfl rfl rfl ht9  (pc' := 607) rfl ?_
  replace H := H _ rfl
  exact g_weak (show gm_Lle [some _] _ from ⟨rfl, trivial⟩) H
set_option maxRecDepth 20000 in
theorem w_87_607 {a0 : Nat}  {h : hh_T} {Q : Option Value ⊕ Nat → hh_T → Prop} (H : ∀ a1 h2, a1 = hh_sz h → h2 = hh_al h 100 32 32 → (gm_sub (hh_tg h2 a0) 19 = true ∧ (∀ h4, h4 = hh_wr h2 a0 79 (some a1) → (∀ a5 h6, a5 = hh_sz h4 → h6 = hh_al h4 100 32 32 → (gm_sub (hh_tg h6 a0) 19 = true ∧ (∀ h8, h8 = hh_wr h6 a0 80 (some a5) → (∀ a9 h10, a9 = hh_sz h8 → h10 = hh_al h8 100 32 32 → (gm_sub (hh_tg h10 a0) 19 = true ∧ (∀ h12, h12 = hh_wr h10 a0 81 (some a9) → (gm_G 87 631 [some (.ref a0)] [] h12 Q)))))))))) : gm_G 87 607 [some (.ref a0)] [] h Q := by
  refine g_aload (r := some _) rfl rfl rfl (pc' := 608) ?_
  refine g_iconst rfl rfl rfl (pc' := 610) ?_
  refine g_newarray rfl (u := 100) (n := 32) rfl (by decide) rfl (by decide) (pc' := 612) rfl ?_
  replace H := H _ _ rfl rfl
  obtain ⟨ht3, H⟩ := H
  refine g_putR (x := some _) rfl rfl rfl rfl ht3  (pc' := 615) rfl ?_
  replace H := H _ rfl
  refine g_aload (r := some _) rfl rfl rfl (pc' := 616) ?_
  refine g_iconst rfl rfl rfl (pc' := 618) ?_
  refine g_newarray rfl (u := 100) (n := 32) rfl (by decide) rfl (by decide) (pc' := 620) rfl ?_
  replace H := H _ _ rfl rfl
  obtain ⟨ht7, H⟩ := H
  refine g_putR (x := some _) rfl rfl rfl rfl ht7  (pc' := 623) rfl ?_
  replace H := H _ rfl
  refine g_aload (r := some _) rfl rfl rfl (pc' := 624) ?_
  refine g_iconst rfl rfl rfl (pc' := 626) ?_
  refine g_newarray rfl (u := 100) (n := 32) rfl (by decide) rfl (by decide) (pc' := 628) rfl ?_
  replace H := H _ _ rfl rfl
  obtain ⟨ht11, H⟩ := H
  refine g_putR (x := some _) rfl rfl rfl rfl ht11  (pc' := 631) rfl ?_
  replace H := H _ rfl
  exact g_weak (show gm_Lle [some _] _ from ⟨rfl, trivial⟩) H
set_option maxRecDepth 20000 in
theorem w_87_631 {a0 : Nat}  {h : hh_T} {Q : Option Value ⊕ Nat → hh_T → Prop} (H : ∀ a1 h2, a1 = hh_sz h → h2 = hh_al h 100 32 32 → (gm_sub (hh_tg h2 a0) 19 = true ∧ (∀ h4, h4 = hh_wr h2 a0 82 (some a1) → (∀ a5 h6, a5 = hh_sz h4 → h6 = hh_al h4 100 32 32 → (gm_sub (hh_tg h6 a0) 19 = true ∧ (∀ h8, h8 = hh_wr h6 a0 83 (some a5) → (∀ a9 h10, a9 = hh_sz h8 → h10 = hh_al h8 100 160 160 → (gm_sub (hh_tg h10 a0) 19 = true ∧ (∀ h12, h12 = hh_wr h10 a0 84 (some a9) → (gm_G 87 656 [some (.ref a0)] [] h12 Q)))))))))) : gm_G 87 631 [some (.ref a0)] [] h Q := by
  refine g_aload (r := some _) rfl rfl rfl (pc' := 632) ?_
  refine g_iconst rfl rfl rfl (pc' := 634) ?_
  refine g_newarray rfl (u := 100) (n := 32) rfl (by decide) rfl (by decide) (pc' := 636) rfl ?_
  replace H := H _ _ rfl rfl
  obtain ⟨ht3, H⟩ := H
  refine g_putR (x := some _) rfl rfl rfl rfl ht3  (pc' := 639) rfl ?_
  replace H := H _ rfl
  refine g_aload (r := some _) rfl rfl rfl (pc' := 640) ?_
  refine g_iconst rfl rfl rfl (pc' := 642) ?_
  refine g_newarray rfl (u := 100) (n := 32) rfl (by decide) rfl (by decide) (pc' := 644) rfl ?_
  replace H := H _ _ rfl rfl
  obtain ⟨ht7, H⟩ := H
  refine g_putR (x := some _) rfl rfl rfl rfl ht7  (pc' := 647) rfl ?_
  replace H := H _ rfl
  refine g_aload (r := some _) rfl rfl rfl (pc' := 648) ?_
  refine g_iconst rfl rfl rfl (pc' := 651) ?_
  refine g_newarray rfl (u := 100) (n := 160) rfl (by decide) rfl (by decide) (pc' := 653) rfl ?_
  replace H := H _ _ rfl rfl
  obtain ⟨ht11, H⟩ := H
  refine g_putR (x := some _) rfl rfl rfl rfl ht11  (pc' := 656) rfl ?_
  replace H := H _ rfl
  exact g_weak (show gm_Lle [some _] _ from ⟨rfl, trivial⟩) H
set_option maxRecDepth 20000 in
theorem w_87_656 {a0 : Nat}  {h : hh_T} {Q : Option Value ⊕ Nat → hh_T → Prop} (H : ∀ a1 h2, a1 = hh_sz h → h2 = hh_al h 100 288 288 → (gm_sub (hh_tg h2 a0) 19 = true ∧ (∀ h4, h4 = hh_wr h2 a0 85 (some a1) → (∀ a5 h6, a5 = hh_sz h4 → h6 = hh_al h4 101 256 256 → (gm_sub (hh_tg h6 a0) 19 = true ∧ (∀ h8, h8 = hh_wr h6 a0 86 (some a5) → (∀ a9 h10, a9 = hh_sz h8 → h10 = hh_al h8 101 384 384 → (gm_sub (hh_tg h10 a0) 19 = true ∧ (∀ h12, h12 = hh_wr h10 a0 87 (some a9) → (gm_G 87 683 [some (.ref a0)] [] h12 Q)))))))))) : gm_G 87 656 [some (.ref a0)] [] h Q := by
  refine g_aload (r := some _) rfl rfl rfl (pc' := 657) ?_
  refine g_iconst rfl rfl rfl (pc' := 660) ?_
  refine g_newarray rfl (u := 100) (n := 288) rfl (by decide) rfl (by decide) (pc' := 662) rfl ?_
  replace H := H _ _ rfl rfl
  obtain ⟨ht3, H⟩ := H
  refine g_putR (x := some _) rfl rfl rfl rfl ht3  (pc' := 665) rfl ?_
  replace H := H _ rfl
  refine g_aload (r := some _) rfl rfl rfl (pc' := 666) ?_
  refine g_iconst rfl rfl rfl (pc' := 669) ?_
  refine g_newarray rfl (u := 101) (n := 256) rfl (by decide) rfl (by decide) (pc' := 671) rfl ?_
  replace H := H _ _ rfl rfl
  obtain ⟨ht7, H⟩ := H
  refine g_putR (x := some _) rfl rfl rfl rfl ht7  (pc' := 674) rfl ?_
  replace H := H _ rfl
  refine g_aload (r := some _) rfl rfl rfl (pc' := 675) ?_
  refine g_iconst rfl rfl rfl (pc' := 678) ?_
  refine g_newarray rfl (u := 101) (n := 384) rfl (by decide) rfl (by decide) (pc' := 680) rfl ?_
  replace H := H _ _ rfl rfl
  obtain ⟨ht11, H⟩ := H
  refine g_putR (x := some _) rfl rfl rfl rfl ht11  (pc' := 683) rfl ?_
  replace H := H _ rfl
  exact g_weak (show gm_Lle [some _] _ from ⟨rfl, trivial⟩) H
set_option maxRecDepth 20000 in
theorem w_87_683 {a0 : Nat}  {h : hh_T} {Q : Option Value ⊕ Nat → hh_T → Prop} (H : ∀ a1 h2, a1 = hh_sz h → h2 = hh_al h 100 48 48 → (gm_sub (hh_tg h2 a0) 19 = true ∧ (∀ h4, h4 = hh_wr h2 a0 88 (some a1) → (∀ a5 h6, a5 = hh_sz h4 → h6 = hh_al h4 100 48 48 → (gm_sub (hh_tg h6 a0) 19 = true ∧ (∀ h8, h8 = hh_wr h6 a0 89 (some a5) → (∀ a9 h10, a9 = hh_sz h8 → h10 = hh_al h8 100 48 48 → (gm_sub (hh_tg h10 a0) 19 = true ∧ (∀ h12, h12 = hh_wr h10 a0 90 (some a9) → (gm_G 87 707 [some (.ref a0)] [] h12 Q)))))))))) : gm_G 87 683 [some (.ref a0)] [] h Q := by
  refine g_aload (r := some _) rfl rfl rfl (pc' := 684) ?_
  refine g_iconst rfl rfl rfl (pc' := 686) ?_
  refine g_newarray rfl (u := 100) (n := 48) rfl (by decide) rfl (by decide) (pc' := 688) rfl ?_
  replace H := H _ _ rfl rfl
  obtain ⟨ht3, H⟩ := H
  refine g_putR (x := some _) rfl rfl rfl rfl ht3  (pc' := 691) rfl ?_
  replace H := H _ rfl
  refine g_aload (r := some _) rfl rfl rfl (pc' := 692) ?_
  refine g_iconst rfl rfl rfl (pc' := 694) ?_
  refine g_newarray rfl (u := 100) (n := 48) rfl (by decide) rfl (by decide) (pc' := 696) rfl ?_
  replace H := H _ _ rfl rfl
  obtain ⟨ht7, H⟩ := H
  refine g_putR (x := some _) rfl rfl rfl rfl ht7  (pc' := 699) rfl ?_
  replace H := H _ rfl
  refine g_aload (r := some _) rfl rfl rfl (pc' := 700) ?_
  refine g_iconst rfl rfl rfl (pc' := 702) ?_
  refine g_newarray rfl (u := 100) (n := 48) rfl (by decide) rfl (by decide) (pc' := 704) rfl ?_
  replace H := H _ _ rfl rfl
  obtain ⟨ht11, H⟩ := H
  refine g_putR (x := some _) rfl rfl rfl rfl ht11  (pc' := 707) rfl ?_
  replace H := H _ rfl
  exact g_weak (show gm_Lle [some _] _ from ⟨rfl, trivial⟩) H
set_option maxRecDepth 20000 in
theorem w_87_707 {a0 : Nat}  {h : hh_T} {Q : Option Value ⊕ Nat → hh_T → Prop} (H : ∀ a1 h2, a1 = hh_sz h → h2 = hh_al h 100 48 48 → (gm_sub (hh_tg h2 a0) 19 = true ∧ (∀ h4, h4 = hh_wr h2 a0 91 (some a1) → (∀ a5 h6, a5 = hh_sz h4 → h6 = hh_al h4 100 48 48 → (gm_sub (hh_tg h6 a0) 19 = true ∧ (∀ h8, h8 = hh_wr h6 a0 92 (some a5) → (∀ a9 h10, a9 = hh_sz h8 → h10 = hh_al h8 100 48 48 → (gm_sub (hh_tg h10 a0) 19 = true ∧ (∀ h12, h12 = hh_wr h10 a0 93 (some a9) → (gm_G 87 731 [some (.ref a0)] [] h12 Q)))))))))) : gm_G 87 707 [some (.ref a0)] [] h Q := by
  refine g_aload (r := some _) rfl rfl rfl (pc' := 708) ?_
  refine g_iconst rfl rfl rfl (pc' := 710) ?_
  refine g_newarray rfl (u := 100) (n := 48) rfl (by decide) rfl (by decide) (pc' := 712) rfl ?_
  replace H := H _ _ rfl rfl
  obtain ⟨ht3, H⟩ := H
  refine g_putR (x := some _) rfl rfl rfl rfl ht3  (pc' := 715) rfl ?_
  replace H := H _ rfl
  refine g_aload (r := some _) rfl rfl rfl (pc' := 716) ?_
  refine g_iconst rfl rfl rfl (pc' := 718) ?_
  refine g_newarray rfl (u := 100) (n := 48) rfl (by decide) rfl (by decide) (pc' := 720) rfl ?_
  replace H := H _ _ rfl rfl
  obtain ⟨ht7, H⟩ := H
  refine g_putR (x := some _) rfl rfl rfl rfl ht7  (pc' := 723) rfl ?_
  replace H := H _ rfl
  refine g_aload (r := some _) rfl rfl rfl (pc' := 724) ?_
  refine g_iconst rfl rfl rfl (pc' := 726) ?_
  refine g_newarray rfl (u := 100) (n := 48) rfl (by decide) rfl (by decide) (pc' := 728) rfl ?_
  replace H := H _ _ rfl rfl
  obtain ⟨ht11, H⟩ := H
  refine g_putR (x := some _) rfl rfl rfl rfl ht11  (pc' := 731) rfl ?_
  replace H := H _ rfl
  exact g_weak (show gm_Lle [some _] _ from ⟨rfl, trivial⟩) H
