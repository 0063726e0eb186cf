/-! STAGE 2, 7: the component, label by label (printed) -/
set_option maxRecDepth 20000 in
theorem w_356_0 {a0 : Nat} {r_1 : Option Nat} {x2 : Int32} {h : hh_T} {Q : Option Value ⊕ Nat → hh_T → Prop} (H : gm_sub (hh_tg h a0) 6 = true ∧ (∀ h2, h2 = hh_wr h a0 14 r_1 → (gm_G 245 0 [some (.ref a0), some (va_rf r_1), some (.int x2)] [] h2 (pV (fun h3 => ∀ a4 h5, a4 = hh_sz h3 → h5 = hh_al h3 100 64 64 → (gm_sub (hh_tg h5 a0) 6 = true ∧ (∀ h7, h7 = hh_wr h5 a0 9 (some a4) → (∀ a8 h9, a8 = hh_sz h7 → h9 = hh_al h7 101 24 24 → (gm_sub (hh_tg h9 a0) 6 = true ∧ (∀ h11, h11 = hh_wr h9 a0 10 (some a8) → (gm_G 356 27 [some (.ref a0)] [] h11 Q))))))) (fun e12 h13 => hh_tg h13 e12 = 21 ∧ Q (.inr e12) h13))))) : gm_G 356 0 [some (.ref a0), some (va_rf r_1), some (.int x2)] [] h Q := by
  refine g_aload (r := some _) rfl rfl rfl (pc' := 1) ?_
  refine g_aload (r := _) rfl rfl rfl (pc' := 2) ?_
  obtain ⟨ht1, H⟩ := H
  refine g_putR rfl rfl rfl rfl ht1  (pc' := 5) rfl ?_
  replace H := H _ rfl
  refine g_aload (r := some _) rfl rfl rfl (pc' := 6) ?_
  refine g_aload (r := _) rfl rfl rfl (pc' := 7) ?_
  refine g_iload rfl rfl rfl (pc' := 8) ?_
  refine g_call rfl (y := 245) (n := 3) (pc' := 11) (fun _ => rfl) (by cases r_1 <;> rfl) rfl ⟨(Nat.le_of_ble_eq_true rfl), (Nat.le_of_ble_eq_true rfl), (Nat.le_of_ble_eq_true rfl)⟩ rfl (gm_G.mono H (pV_elim (fun h3 H' => ?_) (fun e12 h13 H => ?_)))
  · show gm_G _ 11 _ _ _ _
    replace H := H'
    clear H'
    refine g_aload (r := some _) rfl rfl rfl (pc' := 12) ?_
    refine g_iconst rfl rfl rfl (pc' := 14) ?_
    refine g_newarray rfl (u := 100) (n := 64) rfl (by decide) rfl (by decide) (pc' := 16) rfl ?_
    replace H := H _ _ rfl rfl
    obtain ⟨ht6, H⟩ := H
    refine g_putR (x := some _) rfl rfl rfl rfl ht6  (pc' := 19) rfl ?_
    replace H := H _ rfl
    refine g_aload (r := some _) rfl rfl rfl (pc' := 20) ?_
    refine g_iconst rfl rfl rfl (pc' := 22) ?_
    refine g_newarray rfl (u := 101) (n := 24) rfl (by decide) rfl (by decide) (pc' := 24) rfl ?_
    replace H := H _ _ rfl rfl
    obtain ⟨ht10, H⟩ := H
    refine g_putR (x := some _) rfl rfl rfl rfl ht10  (pc' := 27) rfl ?_
    replace H := H _ rfl
    exact g_weak (show gm_Lle [some _] _ from ⟨rfl, trivial⟩) H
  · exact H
set_option maxRecDepth 20000 in
theorem w_356_27 {a0 : Nat}  {h : hh_T} {Q : Option Value ⊕ Nat → hh_T → Prop} (H : ∀ a1 h2, a1 = hh_sz h → h2 = hh_al h 100 3 3 → (gm_sub (hh_tg h2 a0) 6 = true ∧ (∀ h4, h4 = hh_wr h2 a0 11 (some a1) → (∀ a5 h6, a5 = hh_sz h4 → h6 = hh_al h4 100 3 3 → (gm_sub (hh_tg h6 a0) 6 = true ∧ (∀ h8, h8 = hh_wr h6 a0 12 (some a5) → (∀ a9 h10, a9 = hh_sz h8 → h10 = gm_mul h8 → (gm_sub (hh_tg h10 a0) 6 = true ∧ (∀ h12, h12 = hh_wr h10 a0 13 (some a9) → (gm_G 356 52 [] [] h12 Q)))))))))) : gm_G 356 27 [some (.ref a0)] [] h Q := by
  refine g_aload (r := some _) rfl rfl rfl (pc' := 28) ?_
  refine g_iconst rfl rfl rfl (pc' := 29) ?_
  refine g_newarray rfl (u := 100) (n := 3) rfl (by decide) rfl (by decide) (pc' := 31) rfl ?_
  replace H := H _ _ rfl rfl
  obtain ⟨ht3, H⟩ := H
  refine g_putR (x := some _) rfl rfl rfl rfl ht3  (pc' := 34) rfl ?_
  replace H := H _ rfl
  refine g_aload (r := some _) rfl rfl rfl (pc' := 35) ?_
  refine g_iconst rfl rfl rfl (pc' := 36) ?_
  refine g_newarray rfl (u := 100) (n := 3) rfl (by decide) rfl (by decide) (pc' := 38) rfl ?_
  replace H := H _ _ rfl rfl
  obtain ⟨ht7, H⟩ := H
  refine g_putR (x := some _) rfl rfl rfl rfl ht7  (pc' := 41) rfl ?_
  replace H := H _ rfl
  refine g_aload (r := some _) rfl rfl rfl (pc' := 42) ?_
  refine g_iconst rfl rfl rfl (pc' := 43) ?_
  refine g_iconst rfl rfl rfl (pc' := 45) ?_
  refine g_multi rfl (pc' := 49) rfl ?_
  replace H := H _ _ rfl rfl
  obtain ⟨ht11, H⟩ := H
  refine g_putR (x := some _) rfl rfl rfl rfl ht11  (pc' := 52) rfl ?_
  replace H := H _ rfl
  exact g_weak (show gm_Lle [] _ from trivial) H
set_option maxRecDepth 20000 in
theorem w_356_52 {a0 : Nat}  {h : hh_T} {Q : Option Value ⊕ Nat → hh_T → Prop} (H : Q (.inl none) h) : gm_G 356 52 [] [] h Q := by
  exact g_return rfl H
set_option maxRecDepth 20000 in
theorem w_357_0 {a0 : Nat} {x1 : Int32} {x2 : Int32} {x3 : Int32} {r_4 : Option Nat} {x5 : Int32} {h : hh_T} {Q : Option Value ⊕ Nat → hh_T → Prop} (H : gm_G 357 9 [some (.ref a0), some (.int x1), some (.int x2), some (.int x3), some (va_rf r_4), some (.int x5), some (.int (Int32.ofNat 0)), some (.int (Int32.ofNat 0)), some (.int (Int32.ofNat 0))] [] h Q) : gm_G 357 0 [some (.ref a0), some (.int x1), some (.int x2), some (.int x3), some (va_rf r_4), some (.int x5)] [] h Q := by
  refine g_iconst rfl rfl rfl (pc' := 1) ?_
  refine g_istore rfl rfl rfl (pc' := 3) ?_
  refine g_iconst rfl rfl rfl (pc' := 4) ?_
  refine g_istore rfl rfl rfl (pc' := 6) ?_
  refine g_iconst rfl rfl rfl (pc' := 7) ?_
  refine g_istore rfl rfl rfl (pc' := 9) ?_
  exact g_weak (show gm_Lle [some _, some _, some _, some _, some _, some _, some _, some _, some _] _ from ⟨rfl, ⟨rfl, ⟨rfl, ⟨rfl, ⟨rfl, ⟨rfl, ⟨rfl, ⟨rfl, ⟨rfl, trivial⟩⟩⟩⟩⟩⟩⟩⟩⟩) H
set_option maxRecDepth 20000 in
theorem w_357_9 {a0 : Nat} {x1 : Int32} {x2 : Int32} {x3 : Int32} {r_4 : Option Nat} {x5 : Int32} {x6 : Int32} {x7 : Int32} {x8 : Int32} {h : hh_T} {Q : Option Value ⊕ Nat → hh_T → Prop} (H : (¬ x8 < x3 → (gm_G 357 106 [some (.ref a0), some (.int x1), some (.int x2), some (.int x3), some (va_rf r_4), some (.int x5), some (.int x6), some (.int x7), some (.int (Int32.ofNat 0)), some (.int (Int32.ofNat 0))] [] h Q)) ∧ (x8 < x3 → (gm_sub (hh_tg h a0) 6 = true ∧ (hh_tg h a0 = 7 ∧ (gm_G 253 0 [some (.ref a0), some (.int ((x2 + (hh_i h a0 8)) + x8)), some (.int x1)] [] h (pI (fun v4 h3 => (v4 = Int32.ofNat 0 → (gm_sub (hh_tg h3 a0) 3 = true ∧ (∀ r6, r6 = hh_r h3 a0 1 → ((hh_i h3 a0 2) ≠ 0 ∧ (∃ a7, r6 = some a7 ∧ ((hh_tg h3 a7 = 104 ∨ 200 ≤ hh_tg h3 a7) ∧ (∃ n8, gm_ix (((x2 + (hh_i h a0 8)) + x8) - ((x2 + (hh_i h a0 8)) + x8) / (hh_i h3 a0 2) * (hh_i h3 a0 2)) n8 (hh_ln h3 a7) ∧ (∀ r10, r10 = hh_r h3 a7 n8 → ((hh_i h3 a0 2) ≠ 0 ∧ (∃ a11, r10 = some a11 ∧ (hh_tg h3 a11 = 22 ∧ (gm_G 170 0 [some (.ref a11), some (.int (((x2 + (hh_i h a0 8)) + x8) / (hh_i h3 a0 2))), some (va_rf r_4), some (.int (x5 + ((Int32.ofNat 8) * x8)))] [] h3 (pV (fun h13 => gm_G 357 94 [some (.ref a0), some (.int x1), some (.int x2), some (.int x3), some (va_rf r_4), some (.int x5), some (.int x6), some (.int x7), some (.int x8)] [] h13 Q) (fun e14 h15 => hh_tg h15 e14 = 21 ∧ Q (.inr e14) h15)))))))))))))) ∧ (¬ v4 = Int32.ofNat 0 → (gm_sub (hh_tg h3 a0) 6 = true ∧ ((¬ x6 = (hh_i h3 a0 8) → (∀ r17, r17 = hh_r h3 a0 11 → (∃ a18, r17 = some a18 ∧ (hh_tg h3 a18 = 100 ∧ (∃ n19, gm_ix x6 n19 (hh_ln h3 a18) ∧ (∀ h20, h20 = hh_wi h3 a18 n19 x8 → (gm_G 357 94 [some (.ref a0), some (.int x1), some (.int x2), some (.int x3), some (va_rf r_4), some (.int x5), some (.int (x6 + (Int32.ofNat 1))), some (.int x7), some (.int x8)] [] h20 Q))))))) ∧ (x6 = (hh_i h3 a0 8) → (Q (.inl (some (.int (Int32.ofNat 0)))) h3)))))) (fun e22 h23 => hh_tg h23 e22 = 21 ∧ Q (.inr e22) h23))))))) : gm_G 357 9 [some (.ref a0), some (.int x1), some (.int x2), some (.int x3), some (va_rf r_4), some (.int x5), some (.int x6), some (.int x7), some (.int x8)] [] h Q := by
  refine g_iload rfl rfl rfl (pc' := 11) ?_
  refine g_iload rfl rfl rfl (pc' := 12) ?_
  refine g_ic_ge rfl (pc' := 15) (pt := 100) rfl rfl ⟨fun hc => ?_, fun hc => ?_⟩
  · replace H := H.1 hc
    refine g_iconst rfl rfl rfl (pc' := 101) ?_
    refine g_istore rfl rfl rfl (pc' := 103) ?_
    refine g_iconst rfl rfl rfl (pc' := 104) ?_
    refine g_istore rfl rfl rfl (pc' := 106) ?_
    exact g_weak (show gm_Lle [some _, some _, some _, some _, some _, some _, some _, some _, some _, some _] _ from ⟨rfl, ⟨rfl, ⟨rfl, ⟨rfl, ⟨rfl, ⟨rfl, ⟨rfl, ⟨rfl, ⟨rfl, ⟨rfl, trivial⟩⟩⟩⟩⟩⟩⟩⟩⟩⟩) H
  · replace H := H.2 hc
    refine g_iload rfl rfl rfl (pc' := 16) ?_
    refine g_aload (r := some _) rfl rfl rfl (pc' := 17) ?_
    obtain ⟨ht1, H⟩ := H
    refine g_getI rfl rfl rfl rfl ht1 (pc' := 20) rfl ?_
    refine g_iadd rfl rfl (pc' := 21) ?_
    refine g_iload rfl rfl rfl (pc' := 23) ?_
    refine g_iadd rfl rfl (pc' := 24) ?_
    refine g_istore rfl rfl rfl (pc' := 26) ?_
    refine g_aload (r := some _) rfl rfl rfl (pc' := 27) ?_
    refine g_iload rfl rfl rfl (pc' := 29) ?_
    refine g_iload rfl rfl rfl (pc' := 30) ?_
    obtain ⟨ht2, H⟩ := H
    refine g_call rfl (y := 253) (n := 3) (pc' := 33) (g_vt ht2 rfl rfl) rfl rfl ⟨(Nat.le_of_ble_eq_true rfl), (Nat.le_of_ble_eq_true rfl), (Nat.le_of_ble_eq_true rfl)⟩ rfl (gm_G.mono H (pI_elim (fun v4 h3 H' => ?_) (fun e22 h23 H => ?_)))
    · show gm_G _ 33 _ _ _ _
      replace H := H'
      clear H'
      refine g_if_eq rfl (pc' := 36) (pt := 62) rfl rfl ⟨fun hc => ?_, fun hc => ?_⟩
      · replace H := H.1 hc
        refine g_aload (r := some _) rfl rfl rfl (pc' := 63) ?_
        obtain ⟨ht5, H⟩ := H
        refine g_getRv rfl rfl rfl rfl ht5 (pc' := 66) rfl (fun r6 hr6 => ?_)
        replace H := H r6 hr6
        refine g_iload rfl rfl rfl (pc' := 68) ?_
        refine g_aload (r := some _) rfl rfl rfl (pc' := 69) ?_
        refine g_getI rfl rfl rfl rfl ht5 (pc' := 72) rfl ?_
        obtain ⟨Hp, H⟩ := H
        refine g_irem rfl Hp (pc' := 73) rfl ?_
        obtain ⟨a7, rfl, H⟩ := H
        obtain ⟨ht9, H⟩ := H
        obtain ⟨n8, hn8, H⟩ := H
        refine g_aaloadv rfl ht9 hn8 (pc' := 74) rfl (fun r10 hr10 => ?_)
        replace H := H r10 hr10
        refine g_iload rfl rfl rfl (pc' := 76) ?_
        refine g_aload (r := some _) rfl rfl rfl (pc' := 77) ?_
        refine g_getI rfl rfl rfl rfl ht5 (pc' := 80) rfl ?_
        obtain ⟨Hp, H⟩ := H
        refine g_idiv rfl Hp (pc' := 81) rfl ?_
        refine g_aload (r := _) rfl rfl rfl (pc' := 83) ?_
        refine g_iload rfl rfl rfl (pc' := 85) ?_
        refine g_iconst rfl rfl rfl (pc' := 87) ?_
        refine g_iload rfl rfl rfl (pc' := 89) ?_
        refine g_imul rfl rfl (pc' := 90) ?_
        refine g_iadd rfl rfl (pc' := 91) ?_
        obtain ⟨a11, rfl, H⟩ := H
        obtain ⟨ht12, H⟩ := H
        refine g_call rfl (y := 170) (n := 4) (pc' := 94) (g_vt ht12 rfl rfl) (by cases r_4 <;> rfl) rfl ⟨(Nat.le_of_ble_eq_true rfl), (Nat.le_of_ble_eq_true rfl), (Nat.le_of_ble_eq_true rfl)⟩ rfl (gm_G.mono H (pV_elim (fun h13 H' => ?_) (fun e14 h15 H => ?_)))
        · show gm_G _ 94 _ _ _ _
          replace H := H'
          clear H'
          exact g_weak (show gm_Lle [some _, some _, some _, some _, some _, some _, some _, some _, some _] _ from ⟨rfl, ⟨rfl, ⟨rfl, ⟨rfl, ⟨rfl, ⟨rfl, ⟨rfl, ⟨rfl, ⟨rfl, trivial⟩⟩⟩⟩⟩⟩⟩⟩⟩) H
        · exact H
      · replace H := H.2 hc
        refine g_iload rfl rfl rfl (pc' := 38) ?_
        refine g_aload (r := some _) rfl rfl rfl (pc' := 39) ?_
        obtain ⟨ht16, H⟩ := H
        refine g_getI rfl rfl rfl rfl ht16 (pc' := 42) rfl ?_
        refine g_ic_ne rfl (pc' := 45) (pt := 47) rfl rfl ⟨fun hc => ?_, fun hc => ?_⟩
        · replace H := H.1 hc
          refine g_aload (r := some _) rfl rfl rfl (pc' := 48) ?_
          refine g_getRv rfl rfl rfl rfl ht16 (pc' := 51) rfl (fun r17 hr17 => ?_)
          replace H := H r17 hr17
          refine g_iload rfl rfl rfl (pc' := 53) ?_
          refine g_iload rfl rfl rfl (pc' := 55) ?_
          obtain ⟨a18, rfl, H⟩ := H
          obtain ⟨ht21, H⟩ := H
          obtain ⟨n19, hn19, H⟩ := H
          refine g_iastore rfl ht21 hn19  (pc' := 56) rfl ?_
          replace H := H _ rfl
          refine g_iinc (c := (Int32.ofNat 1)) rfl rfl rfl rfl rfl (pc' := 59) ?_
          refine g_goto rfl (pc' := 94) rfl ?_
          exact g_weak (show gm_Lle [some _, some _, some _, some _, some _, some _, some _, some _, some _] _ from ⟨rfl, ⟨rfl, ⟨rfl, ⟨rfl, ⟨rfl, ⟨rfl, ⟨rfl, ⟨rfl, ⟨rfl, trivial⟩⟩⟩⟩⟩⟩⟩⟩⟩) H
        · replace H := H.2 hc
          refine g_iconst rfl rfl rfl (pc' := 46) ?_
          exact g_ireturn rfl (Or.inr (by decide)) H
    · exact H
set_option maxRecDepth 20000 in
theorem w_357_94 {a0 : Nat} {x1 : Int32} {x2 : Int32} {x3 : Int32} {r_4 : Option Nat} {x5 : Int32} {x6 : Int32} {x7 : Int32} {x8 : Int32} {h : hh_T} {Q : Option Value ⊕ Nat → hh_T → Prop} (H : gm_G 357 9 [some (.ref a0), some (.int x1), some (.int x2), some (.int x3), some (va_rf r_4), some (.int x5), some (.int x6), some (.int x7), some (.int (x8 + (Int32.ofNat 1)))] [] h Q) : gm_G 357 94 [some (.ref a0), some (.int x1), some (.int x2), some (.int x3), some (va_rf r_4), some (.int x5), some (.int x6), some (.int x7), some (.int x8)] [] h Q := by
  refine g_iinc (c := (Int32.ofNat 1)) rfl rfl rfl rfl rfl (pc' := 97) ?_
  refine g_goto rfl (pc' := 9) rfl ?_
  exact g_weak (show gm_Lle [some _, some _, some _, some _, some _, some _, some _, some _, some _] _ from ⟨rfl, ⟨rfl, ⟨rfl, ⟨rfl, ⟨rfl, ⟨rfl, ⟨rfl, ⟨rfl, ⟨rfl, trivial⟩⟩⟩⟩⟩⟩⟩⟩⟩) H
set_option maxRecDepth 20000 in
theorem w_357_106 {a0 : Nat} {x1 : Int32} {x2 : Int32} {x3 : Int32} {r_4 : Option Nat} {x5 : Int32} {x6 : Int32} {x7 : Int32} {x8 : Int32} {x9 : Int32} {h : hh_T} {Q : Option Value ⊕ Nat → hh_T → Prop} (H : gm_sub (hh_tg h a0) 6 = true ∧ ((¬ x9 < (hh_i h a0 8) → ((¬ (hh_i h a0 8) < (x6 + x7) → ((¬ Int32.ofNat 0 < x6 → (Q (.inl (some (.int (Int32.ofNat 1)))) h)) ∧ (Int32.ofNat 0 < x6 → (∀ r2, r2 = hh_r h a0 14 → (∃ a3, r2 = some a3 ∧ (gm_sub (hh_tg h a3) 0 = true ∧ (∀ h5, h5 = hh_wi h a3 4 (Int32.ofNat 1) → (hh_tg h5 a0 = 7 ∧ (gm_G 254 0 [some (.ref a0), some (.int x6), some (.int x2), some (.int x3), some (va_rf r_4), some (.int x5)] [] h5 (pV (fun h7 => Q (.inl (some (.int (Int32.ofNat 1)))) h7) (fun e8 h9 => hh_tg h9 e8 = 21 ∧ Q (.inr e8) h9))))))))))) ∧ ((hh_i h a0 8) < (x6 + x7) → (Q (.inl (some (.int (Int32.ofNat 0)))) h)))) ∧ (x9 < (hh_i h a0 8) → (hh_tg h a0 = 7 ∧ (gm_G 253 0 [some (.ref a0), some (.int (x2 + x9)), some (.int x1)] [] h (pI (fun v12 h11 => (v12 = Int32.ofNat 0 → ((¬ x8 < x6 → (gm_G 357 152 [some (.ref a0), some (.int x1), some (.int x2), some (.int x3), some (va_rf r_4), some (.int x5), some (.int x6), some (.int x7), some (.int x8), some (.int x9)] [] h11 Q)) ∧ (x8 < x6 → (gm_sub (hh_tg h11 a0) 6 = true ∧ (∀ r14, r14 = hh_r h11 a0 12 → (∃ a15, r14 = some a15 ∧ (hh_tg h11 a15 = 100 ∧ (∃ n16, gm_ix x8 n16 (hh_ln h11 a15) ∧ (∀ h17, h17 = hh_wi h11 a15 n16 x9 → (gm_G 357 152 [some (.ref a0), some (.int x1), some (.int x2), some (.int x3), some (va_rf r_4), some (.int x5), some (.int x6), some (.int x7), some (.int (x8 + (Int32.ofNat 1))), some (.int x9)] [] h17 Q)))))))))) ∧ (¬ v12 = Int32.ofNat 0 → (gm_G 357 152 [some (.ref a0), some (.int x1), some (.int x2), some (.int x3), some (va_rf r_4), some (.int x5), some (.int x6), some (.int (x7 + (Int32.ofNat 1))), some (.int x8), some (.int x9)] [] h11 Q))) (fun e19 h20 => hh_tg h20 e19 = 21 ∧ Q (.inr e19) h20))))))) : gm_G 357 106 [some (.ref a0), some (.int x1), some (.int x2), some (.int x3), some (va_rf r_4), some (.int x5), some (.int x6), some (.int x7), some (.int x8), some (.int x9)] [] h Q := by
  refine g_iload rfl rfl rfl (pc' := 108) ?_
  refine g_aload (r := some _) rfl rfl rfl (pc' := 109) ?_
  obtain ⟨ht1, H⟩ := H
  refine g_getI rfl rfl rfl rfl ht1 (pc' := 112) rfl ?_
  refine g_ic_ge rfl (pc' := 115) (pt := 158) rfl rfl ⟨fun hc => ?_, fun hc => ?_⟩
  · replace H := H.1 hc
    refine g_iload rfl rfl rfl (pc' := 160) ?_
    refine g_iload rfl rfl rfl (pc' := 162) ?_
    refine g_iadd rfl rfl (pc' := 163) ?_
    refine g_aload (r := some _) rfl rfl rfl (pc' := 164) ?_
    refine g_getI rfl rfl rfl rfl ht1 (pc' := 167) rfl ?_
    refine g_ic_le rfl (pc' := 170) (pt := 172) rfl rfl ⟨fun hc => ?_, fun hc => ?_⟩
    · replace H := H.1 hc
      refine g_iload rfl rfl rfl (pc' := 174) ?_
      refine g_if_le rfl (pc' := 177) (pt := 197) rfl rfl ⟨fun hc => ?_, fun hc => ?_⟩
      · replace H := H.1 hc
        refine g_iconst rfl rfl rfl (pc' := 198) ?_
        exact g_ireturn rfl (Or.inr (by decide)) H
      · replace H := H.2 hc
        refine g_aload (r := some _) rfl rfl rfl (pc' := 178) ?_
        refine g_getRv rfl rfl rfl rfl ht1 (pc' := 181) rfl (fun r2 hr2 => ?_)
        replace H := H r2 hr2
        refine g_iconst rfl rfl rfl (pc' := 182) ?_
        obtain ⟨a3, rfl, H⟩ := H
        obtain ⟨ht4, H⟩ := H
        refine g_putZ rfl rfl rfl rfl ht4 (by decide) (pc' := 185) rfl ?_
        replace H := H _ rfl
        refine g_aload (r := some _) rfl rfl rfl (pc' := 186) ?_
        refine g_iload rfl rfl rfl (pc' := 188) ?_
        refine g_iload rfl rfl rfl (pc' := 189) ?_
        refine g_iload rfl rfl rfl (pc' := 190) ?_
        refine g_aload (r := _) rfl rfl rfl (pc' := 192) ?_
        refine g_iload rfl rfl rfl (pc' := 194) ?_
        obtain ⟨ht6, H⟩ := H
        refine g_call rfl (y := 254) (n := 6) (pc' := 197) (g_vt ht6 rfl rfl) (by cases r_4 <;> rfl) rfl ⟨(Nat.le_of_ble_eq_true rfl), (Nat.le_of_ble_eq_true rfl), (Nat.le_of_ble_eq_true rfl)⟩ rfl (gm_G.mono H (pV_elim (fun h7 H' => ?_) (fun e8 h9 H => ?_)))
        · show gm_G _ 197 _ _ _ _
          replace H := H'
          clear H'
          refine g_iconst rfl rfl rfl (pc' := 198) ?_
          exact g_ireturn rfl (Or.inr (by decide)) H
        · exact H
    · replace H := H.2 hc
      refine g_iconst rfl rfl rfl (pc' := 171) ?_
      exact g_ireturn rfl (Or.inr (by decide)) H
  · replace H := H.2 hc
    refine g_aload (r := some _) rfl rfl rfl (pc' := 116) ?_
    refine g_iload rfl rfl rfl (pc' := 117) ?_
    refine g_iload rfl rfl rfl (pc' := 119) ?_
    refine g_iadd rfl rfl (pc' := 120) ?_
    refine g_iload rfl rfl rfl (pc' := 121) ?_
    obtain ⟨ht10, H⟩ := H
    refine g_call rfl (y := 253) (n := 3) (pc' := 124) (g_vt ht10 rfl rfl) rfl rfl ⟨(Nat.le_of_ble_eq_true rfl), (Nat.le_of_ble_eq_true rfl), (Nat.le_of_ble_eq_true rfl)⟩ rfl (gm_G.mono H (pI_elim (fun v12 h11 H' => ?_) (fun e19 h20 H => ?_)))
    · show gm_G _ 124 _ _ _ _
      replace H := H'
      clear H'
      refine g_if_eq rfl (pc' := 127) (pt := 133) rfl rfl ⟨fun hc => ?_, fun hc => ?_⟩
      · replace H := H.1 hc
        refine g_iload rfl rfl rfl (pc' := 135) ?_
        refine g_iload rfl rfl rfl (pc' := 137) ?_
        refine g_ic_ge rfl (pc' := 140) (pt := 152) rfl rfl ⟨fun hc => ?_, fun hc => ?_⟩
        · replace H := H.1 hc
          exact g_weak (show gm_Lle [some _, some _, some _, some _, some _, some _, some _, some _, some _, some _] _ from ⟨rfl, ⟨rfl, ⟨rfl, ⟨rfl, ⟨rfl, ⟨rfl, ⟨rfl, ⟨rfl, ⟨rfl, ⟨rfl, trivial⟩⟩⟩⟩⟩⟩⟩⟩⟩⟩) H
        · replace H := H.2 hc
          refine g_aload (r := some _) rfl rfl rfl (pc' := 141) ?_
          obtain ⟨ht13, H⟩ := H
          refine g_getRv rfl rfl rfl rfl ht13 (pc' := 144) rfl (fun r14 hr14 => ?_)
          replace H := H r14 hr14
          refine g_iload rfl rfl rfl (pc' := 146) ?_
          refine g_iload rfl rfl rfl (pc' := 148) ?_
          obtain ⟨a15, rfl, H⟩ := H
          obtain ⟨ht18, H⟩ := H
          obtain ⟨n16, hn16, H⟩ := H
          refine g_iastore rfl ht18 hn16  (pc' := 149) rfl ?_
          replace H := H _ rfl
          refine g_iinc (c := (Int32.ofNat 1)) rfl rfl rfl rfl rfl (pc' := 152) ?_
          exact g_weak (show gm_Lle [some _, some _, some _, some _, some _, some _, some _, some _, some _, some _] _ from ⟨rfl, ⟨rfl, ⟨rfl, ⟨rfl, ⟨rfl, ⟨rfl, ⟨rfl, ⟨rfl, ⟨rfl, ⟨rfl, trivial⟩⟩⟩⟩⟩⟩⟩⟩⟩⟩) H
      · replace H := H.2 hc
        refine g_iinc (c := (Int32.ofNat 1)) rfl rfl rfl rfl rfl (pc' := 130) ?_
        refine g_goto rfl (pc' := 152) rfl ?_
        exact g_weak (show gm_Lle [some _, some _, some _, some _, some _, some _, some _, some _, some _, some _] _ from ⟨rfl, ⟨rfl, ⟨rfl, ⟨rfl, ⟨rfl, ⟨rfl, ⟨rfl, ⟨rfl, ⟨rfl, ⟨rfl, trivial⟩⟩⟩⟩⟩⟩⟩⟩⟩⟩) H
    · exact H
set_option maxRecDepth 20000 in
theorem w_357_152 {a0 : Nat} {x1 : Int32} {x2 : Int32} {x3 : Int32} {r_4 : Option Nat} {x5 : Int32} {x6 : Int32} {x7 : Int32} {x8 : Int32} {x9 : Int32} {h : hh_T} {Q : Option Value ⊕ Nat → hh_T → Prop} (H : gm_G 357 106 [some (.ref a0), some (.int x1), some (.int x2), some (.int x3), some (va_rf r_4), some (.int x5), some (.int x6), some (.int x7), some (.int x8), some (.int (x9 + (Int32.ofNat 1)))] [] h Q) : gm_G 357 152 [some (.ref a0), some (.int x1), some (.int x2), some (.int x3), some (va_rf r_4), some (.int x5), some (.int x6), some (.int x7), some (.int x8), some (.int x9)] [] h Q := by
  refine g_iinc (c := (Int32.ofNat 1)) rfl rfl rfl rfl rfl (pc' := 155) ?_
  refine g_goto rfl (pc' := 106) rfl ?_
  exact g_weak (show gm_Lle [some _, some _, some _, some _, some _, some _, some _, some _, some _, some _] _ from ⟨rfl, ⟨rfl, ⟨rfl, ⟨rfl, ⟨rfl, ⟨rfl, ⟨rfl, ⟨rfl, ⟨rfl, ⟨rfl, trivial⟩⟩⟩⟩⟩⟩⟩⟩⟩⟩) H
set_option maxRecDepth 20000 in
theorem w_358_0 {a0 : Nat}  {h : hh_T} {Q : Option Value ⊕ Nat → hh_T → Prop} (H : gm_G 358 2 [some (.ref a0), some (.int (Int32.ofNat 1))] [] h Q) : gm_G 358 0 [some (.ref a0)] [] h Q := by
  refine g_iconst rfl rfl rfl (pc' := 1) ?_
  refine g_istore rfl rfl rfl (pc' := 2) ?_
  exact g_weak (show gm_Lle [some _, some _] _ from ⟨rfl, ⟨rfl, trivial⟩⟩) H
set_option maxRecDepth 20000 in
theorem w_358_2 {a0 : Nat} {x1 : Int32} {h : hh_T} {Q : Option Value ⊕ Nat → hh_T → Prop} (H : (¬ x1 < (Int32.ofNat 5) → (gm_sub (hh_tg h a0) 11 = true ∧ (∀ h2, h2 = hh_wi h a0 5 (Int32.ofNat 0) → (Q (.inl none) h2)))) ∧ (x1 < (Int32.ofNat 5) → (gm_G 358 7 [some (.ref a0), some (.int x1)] [] h Q))) : gm_G 358 2 [some (.ref a0), some (.int x1)] [] h Q := by
  refine g_iload rfl rfl rfl (pc' := 3) ?_
  refine g_iconst rfl rfl rfl (pc' := 4) ?_
  refine g_ic_ge rfl (pc' := 7) (pt := 35) rfl rfl ⟨fun hc => ?_, fun hc => ?_⟩
  · replace H := H.1 hc
    refine g_aload (r := some _) rfl rfl rfl (pc' := 36) ?_
    refine g_iconst rfl rfl rfl (pc' := 37) ?_
    obtain ⟨ht1, H⟩ := H
    refine g_putI rfl rfl rfl rfl ht1  (pc' := 40) rfl ?_
    replace H := H _ rfl
    exact g_return rfl H
  · replace H := H.2 hc
    exact g_weak (show gm_Lle [some _, some _] _ from ⟨rfl, ⟨rfl, trivial⟩⟩) H
set_option maxRecDepth 20000 in
theorem w_358_7 {a0 : Nat} {x1 : Int32} {h : hh_T} {Q : Option Value ⊕ Nat → hh_T → Prop} (H : gm_sub (hh_tg h a0) 11 = true ∧ (∀ r2, r2 = hh_r h a0 0 → (∃ a3, r2 = some a3 ∧ ((hh_tg h a3 = 104 ∨ 200 ≤ hh_tg h a3) ∧ (∃ n4, gm_ix x1 n4 (hh_ln h a3) ∧ (∀ r6, r6 = hh_r h a3 n4 → ((r6 = none → (gm_G 358 2 [some (.ref a0), some (.int (x1 + (Int32.ofNat 1)))] [] h Q)) ∧ (∀ a7, r6 = some a7 → (∀ r8, r8 = hh_r h a0 0 → (∃ a9, r8 = some a9 ∧ ((hh_tg h a9 = 104 ∨ 200 ≤ hh_tg h a9) ∧ (∃ n10, gm_ix x1 n10 (hh_ln h a9) ∧ (∀ r12, r12 = hh_r h a9 n10 → (hh_tg h a0 = 12 ∧ (gm_G 256 0 [some (.ref a0), some (va_rf r12)] [] h (pV (fun h14 => gm_G 358 7 [some (.ref a0), some (.int x1)] [] h14 Q) (fun e15 h16 => hh_tg h16 e15 = 21 ∧ Q (.inr e15) h16))))))))))))))))) : gm_G 358 7 [some (.ref a0), some (.int x1)] [] h Q := by
  refine g_aload (r := some _) rfl rfl rfl (pc' := 8) ?_
  obtain ⟨ht1, H⟩ := H
  refine g_getRv rfl rfl rfl rfl ht1 (pc' := 11) rfl (fun r2 hr2 => ?_)
  replace H := H r2 hr2
  refine g_iload rfl rfl rfl (pc' := 12) ?_
  obtain ⟨a3, rfl, H⟩ := H
  obtain ⟨ht5, H⟩ := H
  obtain ⟨n4, hn4, H⟩ := H
  refine g_aaloadv rfl ht5 hn4 (pc' := 13) rfl (fun r6 hr6 => ?_)
  replace H := H r6 hr6
  refine g_ifnull rfl (pc' := 16) (pt := 29) rfl rfl ⟨fun hc => ?_, fun a7 hc => ?_⟩
  · replace H := H.1 hc
    subst hc
    refine g_iinc (c := (Int32.ofNat 1)) rfl rfl rfl rfl rfl (pc' := 32) ?_
    refine g_goto rfl (pc' := 2) rfl ?_
    exact g_weak (show gm_Lle [some _, some _] _ from ⟨rfl, ⟨rfl, trivial⟩⟩) H
  · replace H := H.2 a7 hc
    subst hc
    refine g_aload (r := some _) rfl rfl rfl (pc' := 17) ?_
    refine g_aload (r := some _) rfl rfl rfl (pc' := 18) ?_
    refine g_getRv rfl rfl rfl rfl ht1 (pc' := 21) rfl (fun r8 hr8 => ?_)
    replace H := H r8 hr8
    refine g_iload rfl rfl rfl (pc' := 22) ?_
    obtain ⟨a9, rfl, H⟩ := H
    obtain ⟨ht11, H⟩ := H
    obtain ⟨n10, hn10, H⟩ := H
    refine g_aaloadv rfl ht11 hn10 (pc' := 23) rfl (fun r12 hr12 => ?_)
    replace H := H r12 hr12
    obtain ⟨ht13, H⟩ := H
    refine g_call rfl (y := 256) (n := 2) (pc' := 26) (g_vt ht13 rfl rfl) (by cases r12 <;> rfl) rfl ⟨(Nat.le_of_ble_eq_true rfl), (Nat.le_of_ble_eq_true rfl), (Nat.le_of_ble_eq_true rfl)⟩ rfl (gm_G.mono H (pV_elim (fun h14 H' => ?_) (fun e15 h16 H => ?_)))
    · show gm_G _ 26 _ _ _ _
      replace H := H'
      clear H'
      refine g_goto rfl (pc' := 7) rfl ?_
      exact g_weak (show gm_Lle [some _, some _] _ from ⟨rfl, ⟨rfl, trivial⟩⟩) H
    · exact H
set_option maxRecDepth 20000 in
theorem w_359_0 {a0 : Nat} {r_1 : Option Nat} {r_2 : Option Nat} {x3 : Int32} {h : hh_T} {Q : Option Value ⊕ Nat → hh_T → Prop} (H : gm_sub (hh_tg h a0) 11 = true ∧ (∀ h2, h2 = hh_wi h a0 6 ((hh_i h a0 6) + (Int32.ofNat 1)) → (∃ a3, r_1 = some a3 ∧ (gm_sub (hh_tg h2 a3) 31 = true ∧ (hh_tg h2 a0 = 12 ∧ (gm_G 256 0 [some (.ref a0), some (.ref a3)] [] h2 (pV (fun h6 => gm_sub (hh_tg h6 a0) 11 = true ∧ (∀ r8, r8 = hh_r h6 a0 4 → (∃ a9, r8 = some a9 ∧ (hh_tg h6 a9 = 102 ∧ (∃ n10, gm_ix (hh_i h2 a3 11) n10 (hh_ln h6 a9) ∧ (∀ h11, h11 = hh_wi h6 a9 n10 (Int32.ofNat 1) → (hh_tg h11 a0 = 12 ∧ (gm_G 59 0 [some (.ref a0), some (.ref a3), some (.int (Int32.ofNat 2))] [] h11 (pV (fun h13 => gm_G 359 38 [some (.ref a0), none, some (va_rf r_2), some (.int x3), some (.int (hh_i h2 a3 11)), some (.int (Int32.ofNat 0))] [] h13 Q) (fun e14 h15 => hh_tg h15 e14 = 21 ∧ Q (.inr e14) h15)))))))))) (fun e17 h18 => hh_tg h18 e17 = 21 ∧ Q (.inr e17) h18)))))))) : gm_G 359 0 [some (.ref a0), some (va_rf r_1), some (va_rf r_2), some (.int x3)] [] h Q := by
  refine g_aload (r := some _) rfl rfl rfl (pc' := 1) ?_
  refine g_dup_a (r := some _) rfl rfl (pc' := 2) ?_
  obtain ⟨ht1, H⟩ := H
  refine g_getI rfl rfl rfl rfl ht1 (pc' := 5) rfl ?_
  refine g_iconst rfl rfl rfl (pc' := 6) ?_
  refine g_iadd rfl rfl (pc' := 7) ?_
  refine g_putI rfl rfl rfl rfl ht1  (pc' := 10) rfl ?_
  replace H := H _ rfl
  refine g_aload (r := _) rfl rfl rfl (pc' := 11) ?_
  obtain ⟨a3, rfl, H⟩ := H
  obtain ⟨ht4, H⟩ := H
  refine g_getI rfl rfl rfl rfl ht4 (pc' := 14) rfl ?_
  refine g_istore rfl rfl rfl (pc' := 16) ?_
  refine g_aload (r := some _) rfl rfl rfl (pc' := 17) ?_
  refine g_aload (r := some _) rfl rfl rfl (pc' := 18) ?_
  obtain ⟨ht5, H⟩ := H
  refine g_call rfl (y := 256) (n := 2) (pc' := 21) (g_vt ht5 rfl rfl) rfl rfl ⟨(Nat.le_of_ble_eq_true rfl), (Nat.le_of_ble_eq_true rfl), (Nat.le_of_ble_eq_true rfl)⟩ rfl (gm_G.mono H (pV_elim (fun h6 H' => ?_) (fun e17 h18 H => ?_)))
  · show gm_G _ 21 _ _ _ _
    replace H := H'
    clear H'
    refine g_aload (r := some _) rfl rfl rfl (pc' := 22) ?_
    obtain ⟨ht7, H⟩ := H
    refine g_getRv rfl rfl rfl rfl ht7 (pc' := 25) rfl (fun r8 hr8 => ?_)
    replace H := H r8 hr8
    refine g_iload rfl rfl rfl (pc' := 27) ?_
    refine g_iconst rfl rfl rfl (pc' := 28) ?_
    obtain ⟨a9, rfl, H⟩ := H
    obtain ⟨ht16, H⟩ := H
    obtain ⟨n10, hn10, H⟩ := H
    refine g_zastore rfl ht16 hn10 (by decide) (pc' := 29) rfl ?_
    replace H := H _ rfl
    refine g_aload (r := some _) rfl rfl rfl (pc' := 30) ?_
    refine g_aload (r := some _) rfl rfl rfl (pc' := 31) ?_
    refine g_iconst rfl rfl rfl (pc' := 32) ?_
    obtain ⟨ht12, H⟩ := H
    refine g_call rfl (y := 59) (n := 3) (pc' := 35) (g_vt ht12 rfl rfl) rfl rfl ⟨(Nat.le_of_ble_eq_true rfl), (Nat.le_of_ble_eq_true rfl), (Nat.le_of_ble_eq_true rfl)⟩ rfl (gm_G.mono H (pV_elim (fun h13 H' => ?_) (fun e14 h15 H => ?_)))
    · show gm_G _ 35 _ _ _ _
      replace H := H'
      clear H'
      refine g_iconst rfl rfl rfl (pc' := 36) ?_
      refine g_istore rfl rfl rfl (pc' := 38) ?_
      exact g_weak (show gm_Lle [some _, none, some _, some _, some _, some _] _ from ⟨rfl, ⟨rfl, ⟨rfl, ⟨rfl, ⟨rfl, trivial⟩⟩⟩⟩⟩) H
    · exact H
  · exact H
set_option maxRecDepth 20000 in
theorem w_359_38 {a0 : Nat} {r_2 : Option Nat} {x3 : Int32} {x4 : Int32} {x5 : Int32} {h : hh_T} {Q : Option Value ⊕ Nat → hh_T → Prop} (H : (¬ x5 < (Int32.ofNat 32) → (Q (.inl none) h)) ∧ (x5 < (Int32.ofNat 32) → (gm_sub (hh_tg h a0) 11 = true ∧ (∀ r2, r2 = hh_r h a0 3 → (∃ a3, r2 = some a3 ∧ ((hh_tg h a3 = 101 ∨ hh_tg h a3 = 102) ∧ (∃ n4, gm_ix (((Int32.ofNat 32) * x4) + x5) n4 (hh_ln h a3) ∧ (∃ a6, r_2 = some a6 ∧ (hh_tg h a6 = 101 ∧ (∃ n7, gm_ix (x3 + x5) n7 (hh_ln h a6) ∧ (∀ h8, h8 = hh_wi h a6 n7 ((hh_i h a3 n4).toInt8.toInt32) → (gm_G 359 38 [some (.ref a0), none, some (.ref a6), some (.int x3), some (.int x4), some (.int (x5 + (Int32.ofNat 1)))] [] h8 Q)))))))))))) : gm_G 359 38 [some (.ref a0), none, some (va_rf r_2), some (.int x3), some (.int x4), some (.int x5)] [] h Q := by
  refine g_iload rfl rfl rfl (pc' := 40) ?_
  refine g_iconst rfl rfl rfl (pc' := 42) ?_
  refine g_ic_ge rfl (pc' := 45) (pt := 70) rfl rfl ⟨fun hc => ?_, fun hc => ?_⟩
  · replace H := H.1 hc
    exact g_return rfl H
  · replace H := H.2 hc
    refine g_aload (r := _) rfl rfl rfl (pc' := 46) ?_
    refine g_iload rfl rfl rfl (pc' := 47) ?_
    refine g_iload rfl rfl rfl (pc' := 49) ?_
    refine g_iadd rfl rfl (pc' := 50) ?_
    refine g_aload (r := some _) rfl rfl rfl (pc' := 51) ?_
    obtain ⟨ht1, H⟩ := H
    refine g_getRv rfl rfl rfl rfl ht1 (pc' := 54) rfl (fun r2 hr2 => ?_)
    replace H := H r2 hr2
    refine g_iconst rfl rfl rfl (pc' := 56) ?_
    refine g_iload rfl rfl rfl (pc' := 58) ?_
    refine g_imul rfl rfl (pc' := 59) ?_
    refine g_iload rfl rfl rfl (pc' := 61) ?_
    refine g_iadd rfl rfl (pc' := 62) ?_
    obtain ⟨a3, rfl, H⟩ := H
    obtain ⟨ht5, H⟩ := H
    obtain ⟨n4, hn4, H⟩ := H
    refine g_baload rfl ht5 hn4 (pc' := 63) rfl ?_
    obtain ⟨a6, rfl, H⟩ := H
    obtain ⟨ht9, H⟩ := H
    obtain ⟨n7, hn7, H⟩ := H
    refine g_bastore rfl ht9 hn7  (pc' := 64) rfl ?_
    replace H := H _ rfl
    refine g_iinc (c := (Int32.ofNat 1)) rfl rfl rfl rfl rfl (pc' := 67) ?_
    refine g_goto rfl (pc' := 38) rfl ?_
    exact g_weak (show gm_Lle [some _, none, some _, some _, some _, some _] _ from ⟨rfl, ⟨rfl, ⟨rfl, ⟨rfl, ⟨rfl, trivial⟩⟩⟩⟩⟩) H
set_option maxRecDepth 20000 in
theorem w_360_0 {a0 : Nat} {r_1 : Option Nat} {h : hh_T} {Q : Option Value ⊕ Nat → hh_T → Prop} (H : gm_sub (hh_tg h a0) 11 = true ∧ (∀ r2, r2 = hh_r h a0 2 → (∃ a3, r2 = some a3 ∧ ((hh_tg h a3 = 100 ∨ hh_tg h a3 = 105) ∧ (1 < hh_ln h a3 ∧ ((¬ Int32.ofNat 0 < (hh_i h a3 1) → (gm_G 360 59 [some (.ref a0), none, some (va_rf none), some (.int (Int32.ofNat 4))] [] h Q)) ∧ (Int32.ofNat 0 < (hh_i h a3 1) → (∀ r6, r6 = hh_r h a0 2 → (∃ a7, r6 = some a7 ∧ ((hh_tg h a7 = 100 ∨ hh_tg h a7 = 105) ∧ (1 < hh_ln h a7 ∧ (((hh_i h a0 5) < (hh_i h a7 1) → (gm_G 360 47 [some (.ref a0)] [] h Q)) ∧ (¬ (hh_i h a0 5) < (hh_i h a7 1) → (∀ r10, r10 = hh_r h a0 2 → (∃ a11, r10 = some a11 ∧ ((hh_tg h a11 = 100 ∨ hh_tg h a11 = 105) ∧ (1 < hh_ln h a11 ∧ ((¬ (hh_i h a11 1) = (hh_i h a0 5) → (gm_G 360 59 [some (.ref a0), none, some (va_rf none), some (.int (Int32.ofNat 4))] [] h Q)) ∧ ((hh_i h a11 1) = (hh_i h a0 5) → (∃ a14, r_1 = some a14 ∧ (gm_sub (hh_tg h a14) 31 = true ∧ ((¬ (hh_i h a14 10) = (Int32.ofNat 4) → (gm_G 360 59 [some (.ref a0), none, some (va_rf none), some (.int (Int32.ofNat 4))] [] h Q)) ∧ ((hh_i h a14 10) = (Int32.ofNat 4) → (gm_G 360 47 [some (.ref a0)] [] h Q)))))))))))))))))))))))) : gm_G 360 0 [some (.ref a0), some (va_rf r_1)] [] h Q := by
  refine g_null rfl rfl (pc' := 1) ?_
  refine g_astore (r := _) rfl gm_sto_rf1 rfl (pc' := 2) ?_
  refine g_iconst rfl rfl rfl (pc' := 3) ?_
  refine g_istore rfl rfl rfl (pc' := 4) ?_
  refine g_aload (r := some _) rfl rfl rfl (pc' := 5) ?_
  obtain ⟨ht1, H⟩ := H
  refine g_getRv rfl rfl rfl rfl ht1 (pc' := 8) rfl (fun r2 hr2 => ?_)
  replace H := H r2 hr2
  refine g_iconst rfl rfl rfl (pc' := 9) ?_
  obtain ⟨a3, rfl, H⟩ := H
  obtain ⟨ht5, H⟩ := H
  obtain ⟨hn4, H⟩ := H
  refine g_iaload rfl ht5 ⟨rfl, by decide, hn4⟩ (pc' := 10) rfl ?_
  refine g_if_le rfl (pc' := 13) (pt := 59) rfl rfl ⟨fun hc => ?_, fun hc => ?_⟩
  · replace H := H.1 hc
    exact g_weak (show gm_Lle [some _, none, some _, some _] _ from ⟨rfl, ⟨rfl, ⟨rfl, trivial⟩⟩⟩) H
  · replace H := H.2 hc
    refine g_aload (r := some _) rfl rfl rfl (pc' := 14) ?_
    refine g_getRv rfl rfl rfl rfl ht1 (pc' := 17) rfl (fun r6 hr6 => ?_)
    replace H := H r6 hr6
    refine g_iconst rfl rfl rfl (pc' := 18) ?_
    obtain ⟨a7, rfl, H⟩ := H
    obtain ⟨ht9, H⟩ := H
    obtain ⟨hn8, H⟩ := H
    refine g_iaload rfl ht9 ⟨rfl, by decide, hn8⟩ (pc' := 19) rfl ?_
    refine g_aload (r := some _) rfl rfl rfl (pc' := 20) ?_
    refine g_getI rfl rfl rfl rfl ht1 (pc' := 23) rfl ?_
    refine g_ic_gt rfl (pc' := 26) (pt := 47) rfl rfl ⟨fun hc => ?_, fun hc => ?_⟩
    · replace H := H.1 hc
      exact g_weak (show gm_Lle [some _] _ from ⟨rfl, trivial⟩) H
    · replace H := H.2 hc
      refine g_aload (r := some _) rfl rfl rfl (pc' := 27) ?_
      refine g_getRv rfl rfl rfl rfl ht1 (pc' := 30) rfl (fun r10 hr10 => ?_)
      replace H := H r10 hr10
      refine g_iconst rfl rfl rfl (pc' := 31) ?_
      obtain ⟨a11, rfl, H⟩ := H
      obtain ⟨ht13, H⟩ := H
      obtain ⟨hn12, H⟩ := H
      refine g_iaload rfl ht13 ⟨rfl, by decide, hn12⟩ (pc' := 32) rfl ?_
      refine g_aload (r := some _) rfl rfl rfl (pc' := 33) ?_
      refine g_getI rfl rfl rfl rfl ht1 (pc' := 36) rfl ?_
      refine g_ic_ne rfl (pc' := 39) (pt := 59) rfl rfl ⟨fun hc => ?_, fun hc => ?_⟩
      · replace H := H.1 hc
        exact g_weak (show gm_Lle [some _, none, some _, some _] _ from ⟨rfl, ⟨rfl, ⟨rfl, trivial⟩⟩⟩) H
      · replace H := H.2 hc
        refine g_aload (r := _) rfl rfl rfl (pc' := 40) ?_
        obtain ⟨a14, rfl, H⟩ := H
        obtain ⟨ht15, H⟩ := H
        refine g_getI rfl rfl rfl rfl ht15 (pc' := 43) rfl ?_
        refine g_iconst rfl rfl rfl (pc' := 44) ?_
        refine g_ic_ne rfl (pc' := 47) (pt := 59) rfl rfl ⟨fun hc => ?_, fun hc => ?_⟩
        · replace H := H.1 hc
          exact g_weak (show gm_Lle [some _, none, some _, some _] _ from ⟨rfl, ⟨rfl, ⟨rfl, trivial⟩⟩⟩) H
        · replace H := H.2 hc
          exact g_weak (show gm_Lle [some _] _ from ⟨rfl, trivial⟩) H
set_option maxRecDepth 20000 in
theorem w_360_47 {a0 : Nat}  {h : hh_T} {Q : Option Value ⊕ Nat → hh_T → Prop} (H : gm_sub (hh_tg h a0) 11 = true ∧ (∀ r2, r2 = hh_r h a0 0 → (∃ a3, r2 = some a3 ∧ ((hh_tg h a3 = 104 ∨ 200 ≤ hh_tg h a3) ∧ (1 < hh_ln h a3 ∧ (∀ r6, r6 = hh_r h a3 1 → (gm_G 360 75 [some (.ref a0), none, some (va_rf r6), some (.int (Int32.ofNat 3))] [] h Q))))))) : gm_G 360 47 [some (.ref a0)] [] h Q := by
  refine g_aload (r := some _) rfl rfl rfl (pc' := 48) ?_
  obtain ⟨ht1, H⟩ := H
  refine g_getRv rfl rfl rfl rfl ht1 (pc' := 51) rfl (fun r2 hr2 => ?_)
  replace H := H r2 hr2
  refine g_iconst rfl rfl rfl (pc' := 52) ?_
  obtain ⟨a3, rfl, H⟩ := H
  obtain ⟨ht5, H⟩ := H
  obtain ⟨hn4, H⟩ := H
  refine g_aaloadv rfl ht5 ⟨rfl, by decide, hn4⟩ (pc' := 53) rfl (fun r6 hr6 => ?_)
  replace H := H r6 hr6
  refine g_astore (r := _) rfl rfl rfl (pc' := 54) ?_
  refine g_iconst rfl rfl rfl (pc' := 55) ?_
  refine g_istore rfl gm_sto_rf2 rfl (pc' := 56) ?_
  refine g_goto rfl (pc' := 75) rfl ?_
  exact g_weak (show gm_Lle [some _, none, some _, some _] _ from ⟨rfl, ⟨rfl, ⟨rfl, trivial⟩⟩⟩) H
set_option maxRecDepth 20000 in
theorem w_360_59 {a0 : Nat} {r_2 : Option Nat} {x3 : Int32} {h : hh_T} {Q : Option Value ⊕ Nat → hh_T → Prop} (H : gm_sub (hh_tg h a0) 11 = true ∧ (∀ r2, r2 = hh_r h a0 2 → (∃ a3, r2 = some a3 ∧ ((hh_tg h a3 = 100 ∨ hh_tg h a3 = 105) ∧ (2 < hh_ln h a3 ∧ ((¬ Int32.ofNat 0 < (hh_i h a3 2) → (gm_G 360 75 [some (.ref a0), none, some (va_rf r_2), some (.int x3)] [] h Q)) ∧ (Int32.ofNat 0 < (hh_i h a3 2) → (∀ r6, r6 = hh_r h a0 0 → (∃ a7, r6 = some a7 ∧ ((hh_tg h a7 = 104 ∨ 200 ≤ hh_tg h a7) ∧ (2 < hh_ln h a7 ∧ (∀ r10, r10 = hh_r h a7 2 → (gm_G 360 75 [some (.ref a0), none, some (va_rf r10), some (.int x3)] [] h Q))))))))))))) : gm_G 360 59 [some (.ref a0), none, some (va_rf r_2), some (.int x3)] [] h Q := by
  refine g_aload (r := some _) rfl rfl rfl (pc' := 60) ?_
  obtain ⟨ht1, H⟩ := H
  refine g_getRv rfl rfl rfl rfl ht1 (pc' := 63) rfl (fun r2 hr2 => ?_)
  replace H := H r2 hr2
  refine g_iconst rfl rfl rfl (pc' := 64) ?_
  obtain ⟨a3, rfl, H⟩ := H
  obtain ⟨ht5, H⟩ := H
  obtain ⟨hn4, H⟩ := H
  refine g_iaload rfl ht5 ⟨rfl, by decide, hn4⟩ (pc' := 65) rfl ?_
  refine g_if_le rfl (pc' := 68) (pt := 75) rfl rfl ⟨fun hc => ?_, fun hc => ?_⟩
  · replace H := H.1 hc
    exact g_weak (show gm_Lle [some _, none, some _, some _] _ from ⟨rfl, ⟨rfl, ⟨rfl, trivial⟩⟩⟩) H
  · replace H := H.2 hc
    refine g_aload (r := some _) rfl rfl rfl (pc' := 69) ?_
    refine g_getRv rfl rfl rfl rfl ht1 (pc' := 72) rfl (fun r6 hr6 => ?_)
    replace H := H r6 hr6
    refine g_iconst rfl rfl rfl (pc' := 73) ?_
    obtain ⟨a7, rfl, H⟩ := H
    obtain ⟨ht9, H⟩ := H
    obtain ⟨hn8, H⟩ := H
    refine g_aaloadv rfl ht9 ⟨rfl, by decide, hn8⟩ (pc' := 74) rfl (fun r10 hr10 => ?_)
    replace H := H r10 hr10
    refine g_astore (r := _) rfl rfl rfl (pc' := 75) ?_
    exact g_weak (show gm_Lle [some _, none, some _, some _] _ from ⟨rfl, ⟨rfl, ⟨rfl, trivial⟩⟩⟩) H
set_option maxRecDepth 20000 in
theorem w_360_75 {a0 : Nat} {r_2 : Option Nat} {x3 : Int32} {h : hh_T} {Q : Option Value ⊕ Nat → hh_T → Prop} (H : (∀ a1, r_2 = some a1 → (hh_tg h a0 = 12 ∧ (gm_G 256 0 [some (.ref a0), some (.ref a1)] [] h (pV (fun h3 => hh_tg h3 a0 = 12 ∧ (gm_G 59 0 [some (.ref a0), some (.ref a1), some (.int x3)] [] h3 (pV (fun h5 => Q (.inl none) h5) (fun e6 h7 => hh_tg h7 e6 = 21 ∧ Q (.inr e6) h7)))) (fun e8 h9 => hh_tg h9 e8 = 21 ∧ Q (.inr e8) h9))))) ∧ (r_2 = none → (Q (.inl none) h))) : gm_G 360 75 [some (.ref a0), none, some (va_rf r_2), some (.int x3)] [] h Q := by
  refine g_aload (r := _) rfl rfl rfl (pc' := 76) ?_
  refine g_ifnonnull rfl (pc' := 79) (pt := 80) rfl rfl ⟨fun a1 hc => ?_, fun hc => ?_⟩
  · replace H := H.1 a1 hc
    subst hc
    refine g_aload (r := some _) rfl rfl rfl (pc' := 81) ?_
    refine g_aload (r := some _) rfl rfl rfl (pc' := 82) ?_
    obtain ⟨ht2, H⟩ := H
    refine g_call rfl (y := 256) (n := 2) (pc' := 85) (g_vt ht2 rfl rfl) rfl rfl ⟨(Nat.le_of_ble_eq_true rfl), (Nat.le_of_ble_eq_true rfl), (Nat.le_of_ble_eq_true rfl)⟩ rfl (gm_G.mono H (pV_elim (fun h3 H' => ?_) (fun e8 h9 H => ?_)))
    · show gm_G _ 85 _ _ _ _
      replace H := H'
      clear H'
      refine g_aload (r := some _) rfl rfl rfl (pc' := 86) ?_
      refine g_aload (r := some _) rfl rfl rfl (pc' := 87) ?_
      refine g_iload rfl rfl rfl (pc' := 88) ?_
      obtain ⟨ht4, H⟩ := H
      refine g_call rfl (y := 59) (n := 3) (pc' := 91) (g_vt ht4 rfl rfl) rfl rfl ⟨(Nat.le_of_ble_eq_true rfl), (Nat.le_of_ble_eq_true rfl), (Nat.le_of_ble_eq_true rfl)⟩ rfl (gm_G.mono H (pV_elim (fun h5 H' => ?_) (fun e6 h7 H => ?_)))
      · show gm_G _ 91 _ _ _ _
        replace H := H'
        clear H'
        exact g_return rfl H
      · exact H
    · exact H
  · replace H := H.2 hc
    subst hc
    exact g_return rfl H
set_option maxRecDepth 20000 in
theorem w_361_0 {a0 : Nat} {x1 : Int32} {h : hh_T} {Q : Option Value ⊕ Nat → hh_T → Prop} (H : gm_sub (hh_tg h a0) 17 = true ∧ (∀ r2, r2 = hh_r h a0 6 → (∃ a3, r2 = some a3 ∧ (gm_sub (hh_tg h a3) 12 = true ∧ ((¬ x1 < (hh_i h a3 1) → (Q (.inl (some (.int (Int32.ofNat 0)))) h)) ∧ (x1 < (hh_i h a3 1) → (∀ r5, r5 = hh_r h a0 6 → (∀ r6, r6 = hh_r h a0 6 → (∃ a7, r6 = some a7 ∧ (gm_sub (hh_tg h a7) 12 = true ∧ (gm_G 233 0 [some (va_rf r5), some (.int x1), some (.int (hh_i h a7 1))] [] h (pL (fun v10 h9 => ((lg_cmp v10 (Int64.ofNat 0)) = Int32.ofNat 0 → (Q (.inl (some (.int (Int32.ofNat 0)))) h9)) ∧ (¬ (lg_cmp v10 (Int64.ofNat 0)) = Int32.ofNat 0 → (Q (.inl (some (.int (Int32.ofNat 1)))) h9))) (fun e11 h12 => hh_tg h12 e11 = 21 ∧ Q (.inr e11) h12))))))))))))) : gm_G 361 0 [some (.ref a0), some (.int x1)] [] h Q := by
  refine g_aload (r := some _) rfl rfl rfl (pc' := 1) ?_
  obtain ⟨ht1, H⟩ := H
  refine g_getRv rfl rfl rfl rfl ht1 (pc' := 4) rfl (fun r2 hr2 => ?_)
  replace H := H r2 hr2
  obtain ⟨a3, rfl, H⟩ := H
  obtain ⟨ht4, H⟩ := H
  refine g_getI rfl rfl rfl rfl ht4 (pc' := 7) rfl ?_
  refine g_iload rfl rfl rfl (pc' := 8) ?_
  refine g_ic_le rfl (pc' := 11) (pt := 35) rfl rfl ⟨fun hc => ?_, fun hc => ?_⟩
  · replace H := H.1 hc
    refine g_iconst rfl rfl rfl (pc' := 36) ?_
    exact g_ireturn rfl (Or.inr (by decide)) H
  · replace H := H.2 hc
    refine g_aload (r := some _) rfl rfl rfl (pc' := 12) ?_
    refine g_getRv rfl rfl rfl rfl ht1 (pc' := 15) rfl (fun r5 hr5 => ?_)
    replace H := H r5 hr5
    refine g_iload rfl rfl rfl (pc' := 16) ?_
    refine g_aload (r := some _) rfl rfl rfl (pc' := 17) ?_
    refine g_getRv rfl rfl rfl rfl ht1 (pc' := 20) rfl (fun r6 hr6 => ?_)
    replace H := H r6 hr6
    obtain ⟨a7, rfl, H⟩ := H
    obtain ⟨ht8, H⟩ := H
    refine g_getI rfl rfl rfl rfl ht8 (pc' := 23) rfl ?_
    refine g_call rfl (y := 233) (n := 3) (pc' := 26) (fun _ => rfl) (by cases r5 <;> rfl) rfl ⟨(Nat.le_of_ble_eq_true rfl), (Nat.le_of_ble_eq_true rfl), (Nat.le_of_ble_eq_true rfl)⟩ rfl (gm_G.mono H (pL_elim (fun v10 h9 H' => ?_) (fun e11 h12 H => ?_)))
    · show gm_G _ 26 _ _ _ _
      replace H := H'
      clear H'
      refine g_lconst rfl rfl rfl (pc' := 27) ?_
      refine g_lcmp rfl rfl (pc' := 28) ?_
      refine g_if_eq rfl (pc' := 31) (pt := 35) rfl rfl ⟨fun hc => ?_, fun hc => ?_⟩
      · replace H := H.1 hc
        refine g_iconst rfl rfl rfl (pc' := 36) ?_
        exact g_ireturn rfl (Or.inr (by decide)) H
      · replace H := H.2 hc
        refine g_iconst rfl rfl rfl (pc' := 32) ?_
        refine g_goto rfl (pc' := 36) rfl ?_
        exact g_ireturn rfl (Or.inr (by decide)) H
    · exact H
set_option maxRecDepth 20000 in
theorem w_362_0 {a0 : Nat}  {h : hh_T} {Q : Option Value ⊕ Nat → hh_T → Prop} (H : gm_sub (hh_tg h a0) 18 = true ∧ (∀ r2, r2 = hh_r h a0 6 → (∃ a3, r2 = some a3 ∧ (gm_sub (hh_tg h a3) 0 = true ∧ (∀ r5, r5 = hh_r h a3 58 → (∃ a6, r5 = some a6 ∧ (gm_sub (hh_tg h a6) 12 = true ∧ ((¬ (hh_i h a0 4) = (hh_i h a6 1) → (∀ r8, r8 = hh_r h a0 6 → (∃ a9, r8 = some a9 ∧ (gm_sub (hh_tg h a9) 0 = true ∧ (∀ r11, r11 = hh_r h a9 58 → (∃ a12, r11 = some a12 ∧ (hh_tg h a12 = 13 ∧ (gm_G 63 0 [some (.ref a12), some (.int (hh_i h a0 4))] [] h (pI (fun v15 h14 => gm_sub (hh_tg h14 a0) 18 = true ∧ (∀ r17, r17 = hh_r h14 a0 6 → (∃ a18, r17 = some a18 ∧ (hh_tg h14 a18 = 1 ∧ (gm_G 228 0 [some (.ref a18), some (.int (v15 - (Int32.ofNat 48)))] [] h14 (pI (fun v21 h20 => (v21 = Int32.ofNat 0 → (Q (.inl (some (.int (Int32.ofNat 0)))) h20)) ∧ (¬ v21 = Int32.ofNat 0 → (gm_sub (hh_tg h20 a0) 18 = true ∧ (∀ r23, r23 = hh_r h20 a0 6 → (∃ a24, r23 = some a24 ∧ (gm_sub (hh_tg h20 a24) 0 = true ∧ (∀ r26, r26 = hh_r h20 a24 0 → (∃ a27, r26 = some a27 ∧ ((hh_tg h20 a27 = 104 ∨ 200 ≤ hh_tg h20 a27) ∧ (∃ n28, gm_ix (v15 - (Int32.ofNat 48)) n28 (hh_ln h20 a27) ∧ (∀ r30, r30 = hh_r h20 a27 n28 → (∃ a31, r30 = some a31 ∧ (gm_sub (hh_tg h20 a31) 21 = true ∧ (((hh_i h20 a31 4) = Int32.ofNat 0 → (Q (.inl (some (.int (Int32.ofNat 0)))) h20)) ∧ (¬ (hh_i h20 a31 4) = Int32.ofNat 0 → (∀ r33, r33 = hh_r h20 a0 5 → (∃ a34, r33 = some a34 ∧ ((hh_tg h20 a34 = 101 ∨ hh_tg h20 a34 = 102) ∧ (∃ n35, gm_ix (v15 - (Int32.ofNat 48)) n35 (hh_ln h20 a34) ∧ ((¬ (hh_i h20 a34 n35) = Int32.ofNat 0 → (Q (.inl (some (.int (Int32.ofNat 0)))) h20)) ∧ ((hh_i h20 a34 n35) = Int32.ofNat 0 → (Q (.inl (some (.int (Int32.ofNat 1)))) h20)))))))))))))))))))))) (fun e37 h38 => hh_tg h38 e37 = 21 ∧ Q (.inr e37) h38))))))) (fun e39 h40 => hh_tg h40 e39 = 21 ∧ Q (.inr e39) h40)))))))))) ∧ ((hh_i h a0 4) = (hh_i h a6 1) → (Q (.inl (some (.int (Int32.ofNat 0)))) h)))))))))) : gm_G 362 0 [some (.ref a0)] [] h Q := by
  refine g_aload (r := some _) rfl rfl rfl (pc' := 1) ?_
  obtain ⟨ht1, H⟩ := H
  refine g_getI rfl rfl rfl rfl ht1 (pc' := 4) rfl ?_
  refine g_aload (r := some _) rfl rfl rfl (pc' := 5) ?_
  refine g_getRv rfl rfl rfl rfl ht1 (pc' := 8) rfl (fun r2 hr2 => ?_)
  replace H := H r2 hr2
  obtain ⟨a3, rfl, H⟩ := H
  obtain ⟨ht4, H⟩ := H
  refine g_getRv rfl rfl rfl rfl ht4 (pc' := 11) rfl (fun r5 hr5 => ?_)
  replace H := H r5 hr5
  obtain ⟨a6, rfl, H⟩ := H
  obtain ⟨ht7, H⟩ := H
  refine g_getI rfl rfl rfl rfl ht7 (pc' := 14) rfl ?_
  refine g_ic_ne rfl (pc' := 17) (pt := 19) rfl rfl ⟨fun hc => ?_, fun hc => ?_⟩
  · replace H := H.1 hc
    refine g_aload (r := some _) rfl rfl rfl (pc' := 20) ?_
    refine g_getRv rfl rfl rfl rfl ht1 (pc' := 23) rfl (fun r8 hr8 => ?_)
    replace H := H r8 hr8
    obtain ⟨a9, rfl, H⟩ := H
    obtain ⟨ht10, H⟩ := H
    refine g_getRv rfl rfl rfl rfl ht10 (pc' := 26) rfl (fun r11 hr11 => ?_)
    replace H := H r11 hr11
    refine g_aload (r := some _) rfl rfl rfl (pc' := 27) ?_
    refine g_getI rfl rfl rfl rfl ht1 (pc' := 30) rfl ?_
    obtain ⟨a12, rfl, H⟩ := H
    obtain ⟨ht13, H⟩ := H
    refine g_call rfl (y := 63) (n := 2) (pc' := 33) (g_vt ht13 rfl rfl) rfl rfl ⟨(Nat.le_of_ble_eq_true rfl), (Nat.le_of_ble_eq_true rfl), (Nat.le_of_ble_eq_true rfl)⟩ rfl (gm_G.mono H (pI_elim (fun v15 h14 H' => ?_) (fun e39 h40 H => ?_)))
    · show gm_G _ 33 _ _ _ _
      replace H := H'
      clear H'
      refine g_iconst rfl rfl rfl (pc' := 35) ?_
      refine g_isub rfl rfl (pc' := 36) ?_
      refine g_istore rfl rfl rfl (pc' := 37) ?_
      refine g_aload (r := some _) rfl rfl rfl (pc' := 38) ?_
      obtain ⟨ht16, H⟩ := H
      refine g_getRv rfl rfl rfl rfl ht16 (pc' := 41) rfl (fun r17 hr17 => ?_)
      replace H := H r17 hr17
      refine g_iload rfl rfl rfl (pc' := 42) ?_
      obtain ⟨a18, rfl, H⟩ := H
      obtain ⟨ht19, H⟩ := H
      refine g_call rfl (y := 228) (n := 2) (pc' := 45) (g_vt ht19 rfl rfl) rfl rfl ⟨(Nat.le_of_ble_eq_true rfl), (Nat.le_of_ble_eq_true rfl), (Nat.le_of_ble_eq_true rfl)⟩ rfl (gm_G.mono H (pI_elim (fun v21 h20 H' => ?_) (fun e37 h38 H => ?_)))
      · show gm_G _ 45 _ _ _ _
        replace H := H'
        clear H'
        refine g_if_eq rfl (pc' := 48) (pt := 76) rfl rfl ⟨fun hc => ?_, fun hc => ?_⟩
        · replace H := H.1 hc
          refine g_iconst rfl rfl rfl (pc' := 77) ?_
          exact g_ireturn rfl (Or.inr (by decide)) H
        · replace H := H.2 hc
          refine g_aload (r := some _) rfl rfl rfl (pc' := 49) ?_
          obtain ⟨ht22, H⟩ := H
          refine g_getRv rfl rfl rfl rfl ht22 (pc' := 52) rfl (fun r23 hr23 => ?_)
          replace H := H r23 hr23
          obtain ⟨a24, rfl, H⟩ := H
          obtain ⟨ht25, H⟩ := H
          refine g_getRv rfl rfl rfl rfl ht25 (pc' := 55) rfl (fun r26 hr26 => ?_)
          replace H := H r26 hr26
          refine g_iload rfl rfl rfl (pc' := 56) ?_
          obtain ⟨a27, rfl, H⟩ := H
          obtain ⟨ht29, H⟩ := H
          obtain ⟨n28, hn28, H⟩ := H
          refine g_aaloadv rfl ht29 hn28 (pc' := 57) rfl (fun r30 hr30 => ?_)
          replace H := H r30 hr30
          obtain ⟨a31, rfl, H⟩ := H
          obtain ⟨ht32, H⟩ := H
          refine g_getZ rfl rfl rfl rfl ht32 (pc' := 60) rfl ?_
          refine g_if_eq rfl (pc' := 63) (pt := 76) rfl rfl ⟨fun hc => ?_, fun hc => ?_⟩
          · replace H := H.1 hc
            refine g_iconst rfl rfl rfl (pc' := 77) ?_
            exact g_ireturn rfl (Or.inr (by decide)) H
          · replace H := H.2 hc
            refine g_aload (r := some _) rfl rfl rfl (pc' := 64) ?_
            refine g_getRv rfl rfl rfl rfl ht22 (pc' := 67) rfl (fun r33 hr33 => ?_)
            replace H := H r33 hr33
            refine g_iload rfl rfl rfl (pc' := 68) ?_
            obtain ⟨a34, rfl, H⟩ := H
            obtain ⟨ht36, H⟩ := H
            obtain ⟨n35, hn35, H⟩ := H
            refine g_baload rfl ht36 hn35 (pc' := 69) rfl ?_
            refine g_if_ne rfl (pc' := 72) (pt := 76) rfl rfl ⟨fun hc => ?_, fun hc => ?_⟩
            · replace H := H.1 hc
              refine g_iconst rfl rfl rfl (pc' := 77) ?_
              exact g_ireturn rfl (Or.inr (by decide)) H
            · replace H := H.2 hc
              refine g_iconst rfl rfl rfl (pc' := 73) ?_
              refine g_goto rfl (pc' := 77) rfl ?_
              exact g_ireturn rfl (Or.inr (by decide)) H
      · exact H
    · exact H
  · replace H := H.2 hc
    refine g_iconst rfl rfl rfl (pc' := 18) ?_
    exact g_ireturn rfl (Or.inr (by decide)) H
set_option maxRecDepth 20000 in
theorem w_385_0 {a0 : Nat}  {h : hh_T} {Q : Option Value ⊕ Nat → hh_T → Prop} (H : hh_tg h a0 = 33 ∧ (gm_G 322 0 [some (.ref a0)] [] h (pI (fun v3 h2 => gm_sub (hh_tg h2 a0) 32 = true ∧ (∀ h5, h5 = hh_wi h2 a0 1 ((hh_i h2 a0 1) + v3) → (∀ r6, r6 = hh_r h5 a0 0 → (gm_G 233 0 [some (va_rf r6), some (.int ((hh_i h5 a0 1) - v3)), some (.int (hh_i h5 a0 1))] [] h5 (pL (fun v8 h7 => Q (.inl (some (.long v8))) h7) (fun e9 h10 => hh_tg h10 e9 = 21 ∧ Q (.inr e9) h10)))))) (fun e11 h12 => hh_tg h12 e11 = 21 ∧ Q (.inr e11) h12)))) : gm_G 385 0 [some (.ref a0)] [] h Q := by
  refine g_aload (r := some _) rfl rfl rfl (pc' := 1) ?_
  obtain ⟨ht1, H⟩ := H
  refine g_call rfl (y := 322) (n := 1) (pc' := 4) (g_vt ht1 rfl rfl) rfl rfl ⟨(Nat.le_of_ble_eq_true rfl), (Nat.le_of_ble_eq_true rfl), (Nat.le_of_ble_eq_true rfl)⟩ rfl (gm_G.mono H (pI_elim (fun v3 h2 H' => ?_) (fun e11 h12 H => ?_)))
  · show gm_G _ 4 _ _ _ _
    replace H := H'
    clear H'
    refine g_istore rfl rfl rfl (pc' := 5) ?_
    refine g_aload (r := some _) rfl rfl rfl (pc' := 6) ?_
    refine g_dup_a (r := some _) rfl rfl (pc' := 7) ?_
    obtain ⟨ht4, H⟩ := H
    refine g_getI rfl rfl rfl rfl ht4 (pc' := 10) rfl ?_
    refine g_iload rfl rfl rfl (pc' := 11) ?_
    refine g_iadd rfl rfl (pc' := 12) ?_
    refine g_putI rfl rfl rfl rfl ht4  (pc' := 15) rfl ?_
    replace H := H _ rfl
    refine g_aload (r := some _) rfl rfl rfl (pc' := 16) ?_
    refine g_getRv rfl rfl rfl rfl ht4 (pc' := 19) rfl (fun r6 hr6 => ?_)
    replace H := H r6 hr6
    refine g_aload (r := some _) rfl rfl rfl (pc' := 20) ?_
    refine g_getI rfl rfl rfl rfl ht4 (pc' := 23) rfl ?_
    refine g_iload rfl rfl rfl (pc' := 24) ?_
    refine g_isub rfl rfl (pc' := 25) ?_
    refine g_aload (r := some _) rfl rfl rfl (pc' := 26) ?_
    refine g_getI rfl rfl rfl rfl ht4 (pc' := 29) rfl ?_
    refine g_call rfl (y := 233) (n := 3) (pc' := 32) (fun _ => rfl) (by cases r6 <;> rfl) rfl ⟨(Nat.le_of_ble_eq_true rfl), (Nat.le_of_ble_eq_true rfl), (Nat.le_of_ble_eq_true rfl)⟩ rfl (gm_G.mono H (pL_elim (fun v8 h7 H' => ?_) (fun e9 h10 H => ?_)))
    · show gm_G _ 32 _ _ _ _
      replace H := H'
      clear H'
      exact g_lreturn rfl H
    · exact H
  · exact H
set_option maxRecDepth 20000 in
theorem w_386_0 {a0 : Nat}  {h : hh_T} {Q : Option Value ⊕ Nat → hh_T → Prop} (H : gm_sub (hh_tg h a0) 32 = true ∧ (∀ h2, h2 = hh_wi h a0 1 ((hh_i h a0 1) + (Int32.ofNat 2)) → (∀ r3, r3 = hh_r h2 a0 0 → (∃ a4, r3 = some a4 ∧ (hh_tg h2 a4 = 13 ∧ (gm_G 257 0 [some (.ref a4), some (.int ((hh_i h2 a0 1) - (Int32.ofNat 2)))] [] h2 (pI (fun v7 h6 => Q (.inl (some (.int v7))) h6) (fun e8 h9 => hh_tg h9 e8 = 21 ∧ Q (.inr e8) h9)))))))) : gm_G 386 0 [some (.ref a0)] [] h Q := by
  refine g_aload (r := some _) rfl rfl rfl (pc' := 1) ?_
  refine g_dup_a (r := some _) rfl rfl (pc' := 2) ?_
  obtain ⟨ht1, H⟩ := H
  refine g_getI rfl rfl rfl rfl ht1 (pc' := 5) rfl ?_
  refine g_iconst rfl rfl rfl (pc' := 6) ?_
  refine g_iadd rfl rfl (pc' := 7) ?_
  refine g_putI rfl rfl rfl rfl ht1  (pc' := 10) rfl ?_
  replace H := H _ rfl
  refine g_aload (r := some _) rfl rfl rfl (pc' := 11) ?_
  refine g_getRv rfl rfl rfl rfl ht1 (pc' := 14) rfl (fun r3 hr3 => ?_)
  replace H := H r3 hr3
  refine g_aload (r := some _) rfl rfl rfl (pc' := 15) ?_
  refine g_getI rfl rfl rfl rfl ht1 (pc' := 18) rfl ?_
  refine g_iconst rfl rfl rfl (pc' := 19) ?_
  refine g_isub rfl rfl (pc' := 20) ?_
  obtain ⟨a4, rfl, H⟩ := H
  obtain ⟨ht5, H⟩ := H
  refine g_call rfl (y := 257) (n := 2) (pc' := 23) (g_vt ht5 rfl rfl) rfl rfl ⟨(Nat.le_of_ble_eq_true rfl), (Nat.le_of_ble_eq_true rfl), (Nat.le_of_ble_eq_true rfl)⟩ rfl (gm_G.mono H (pI_elim (fun v7 h6 H' => ?_) (fun e8 h9 H => ?_)))
  · show gm_G _ 23 _ _ _ _
    replace H := H'
    clear H'
    exact g_ireturn rfl (Or.inl rfl) H
  · exact H
set_option maxRecDepth 20000 in
theorem w_387_0 {a0 : Nat} {r_1 : Option Nat} {x2 : Int32} {x3 : Int32} {h : hh_T} {Q : Option Value ⊕ Nat → hh_T → Prop} (H : gm_sub (hh_tg h a0) 41 = true ∧ (∀ h2, h2 = hh_wr h a0 6 r_1 → (∃ a3, r_1 = some a3 ∧ (gm_sub (hh_tg h2 a3) 0 = true ∧ (gm_G 329 0 [some (.ref a0), some (.ref a3), some (.int (hh_i h2 a3 41)), some (.int x2)] [] h2 (pV (fun h5 => gm_sub (hh_tg h5 a0) 41 = true ∧ (∀ h7, h7 = hh_wi h5 a0 5 x3 → (Q (.inl none) h7))) (fun e8 h9 => hh_tg h9 e8 = 21 ∧ Q (.inr e8) h9))))))) : gm_G 387 0 [some (.ref a0), some (va_rf r_1), some (.int x2), some (.int x3)] [] h Q := by
  refine g_aload (r := some _) rfl rfl rfl (pc' := 1) ?_
  refine g_aload (r := _) rfl rfl rfl (pc' := 2) ?_
  obtain ⟨ht1, H⟩ := H
  refine g_putR rfl rfl rfl rfl ht1  (pc' := 5) rfl ?_
  replace H := H _ rfl
  refine g_aload (r := some _) rfl rfl rfl (pc' := 6) ?_
  refine g_aload (r := _) rfl rfl rfl (pc' := 7) ?_
  refine g_aload (r := _) rfl rfl rfl (pc' := 8) ?_
  obtain ⟨a3, rfl, H⟩ := H
  obtain ⟨ht4, H⟩ := H
  refine g_getI rfl rfl rfl rfl ht4 (pc' := 11) rfl ?_
  refine g_iload rfl rfl rfl (pc' := 12) ?_
  refine g_call rfl (y := 329) (n := 4) (pc' := 15) (fun _ => rfl) rfl rfl ⟨(Nat.le_of_ble_eq_true rfl), (Nat.le_of_ble_eq_true rfl), (Nat.le_of_ble_eq_true rfl)⟩ rfl (gm_G.mono H (pV_elim (fun h5 H' => ?_) (fun e8 h9 H => ?_)))
  · show gm_G _ 15 _ _ _ _
    replace H := H'
    clear H'
    refine g_aload (r := some _) rfl rfl rfl (pc' := 16) ?_
    refine g_iload rfl rfl rfl (pc' := 17) ?_
    obtain ⟨ht6, H⟩ := H
    refine g_putI rfl rfl rfl rfl ht6  (pc' := 20) rfl ?_
    replace H := H _ rfl
    exact g_return rfl H
  · exact H
set_option maxRecDepth 20000 in
theorem w_388_0 {a0 : Nat} {r_1 : Option Nat} {x2 : Int32} {x3 : Int32} {x4 : Int32} {r_5 : Option Nat} {h : hh_T} {Q : Option Value ⊕ Nat → hh_T → Prop} (H : gm_sub (hh_tg h a0) 44 = true ∧ (∀ h2, h2 = hh_wr h a0 7 r_1 → (gm_G 329 0 [some (.ref a0), some (va_rf r_1), some (.int x2), some (.int x3)] [] h2 (pV (fun h3 => gm_sub (hh_tg h3 a0) 44 = true ∧ (∀ h5, h5 = hh_wi h3 a0 5 x4 → (∀ h6, h6 = hh_wr h5 a0 6 r_5 → (Q (.inl none) h6)))) (fun e7 h8 => hh_tg h8 e7 = 21 ∧ Q (.inr e7) h8))))) : gm_G 388 0 [some (.ref a0), some (va_rf r_1), some (.int x2), some (.int x3), some (.int x4), some (va_rf r_5)] [] h Q := by
  refine g_aload (r := some _) rfl rfl rfl (pc' := 1) ?_
  refine g_aload (r := _) rfl rfl rfl (pc' := 2) ?_
  obtain ⟨ht1, H⟩ := H
  refine g_putR rfl rfl rfl rfl ht1  (pc' := 5) rfl ?_
  replace H := H _ rfl
  refine g_aload (r := some _) rfl rfl rfl (pc' := 6) ?_
  refine g_aload (r := _) rfl rfl rfl (pc' := 7) ?_
  refine g_iload rfl rfl rfl (pc' := 8) ?_
  refine g_iload rfl rfl rfl (pc' := 9) ?_
  refine g_call rfl (y := 329) (n := 4) (pc' := 12) (fun _ => rfl) (by cases r_1 <;> rfl) rfl ⟨(Nat.le_of_ble_eq_true rfl), (Nat.le_of_ble_eq_true rfl), (Nat.le_of_ble_eq_true rfl)⟩ rfl (gm_G.mono H (pV_elim (fun h3 H' => ?_) (fun e7 h8 H => ?_)))
  · show gm_G _ 12 _ _ _ _
    replace H := H'
    clear H'
    refine g_aload (r := some _) rfl rfl rfl (pc' := 13) ?_
    refine g_iload rfl rfl rfl (pc' := 15) ?_
    obtain ⟨ht4, H⟩ := H
    refine g_putI rfl rfl rfl rfl ht4  (pc' := 18) rfl ?_
    replace H := H _ rfl
    refine g_aload (r := some _) rfl rfl rfl (pc' := 19) ?_
    refine g_aload (r := _) rfl rfl rfl (pc' := 21) ?_
    refine g_putR rfl rfl rfl rfl ht4  (pc' := 24) rfl ?_
    replace H := H _ rfl
    exact g_return rfl H
  · exact H
set_option maxRecDepth 20000 in
theorem w_389_0 {a0 : Nat} {r_1 : Option Nat} {x2 : Int32} {x3 : Int32} {x4 : Int32} {x5 : Int32} {h : hh_T} {Q : Option Value ⊕ Nat → hh_T → Prop} (H : gm_sub (hh_tg h a0) 45 = true ∧ (∀ h2, h2 = hh_wr h a0 7 r_1 → (gm_G 329 0 [some (.ref a0), some (va_rf r_1), some (.int x2), some (.int x3)] [] h2 (pV (fun h3 => gm_sub (hh_tg h3 a0) 45 = true ∧ (∀ h5, h5 = hh_wi h3 a0 5 x4 → (∀ h6, h6 = hh_wi h5 a0 6 x5 → (Q (.inl none) h6)))) (fun e7 h8 => hh_tg h8 e7 = 21 ∧ Q (.inr e7) h8))))) : gm_G 389 0 [some (.ref a0), some (va_rf r_1), some (.int x2), some (.int x3), some (.int x4), some (.int x5)] [] h Q := by
  refine g_aload (r := some _) rfl rfl rfl (pc' := 1) ?_
  refine g_aload (r := _) rfl rfl rfl (pc' := 2) ?_
  obtain ⟨ht1, H⟩ := H
  refine g_putR rfl rfl rfl rfl ht1  (pc' := 5) rfl ?_
  replace H := H _ rfl
  refine g_aload (r := some _) rfl rfl rfl (pc' := 6) ?_
  refine g_aload (r := _) rfl rfl rfl (pc' := 7) ?_
  refine g_iload rfl rfl rfl (pc' := 8) ?_
  refine g_iload rfl rfl rfl (pc' := 9) ?_
  refine g_call rfl (y := 329) (n := 4) (pc' := 12) (fun _ => rfl) (by cases r_1 <;> rfl) rfl ⟨(Nat.le_of_ble_eq_true rfl), (Nat.le_of_ble_eq_true rfl), (Nat.le_of_ble_eq_true rfl)⟩ rfl (gm_G.mono H (pV_elim (fun h3 H' => ?_) (fun e7 h8 H => ?_)))
  · show gm_G _ 12 _ _ _ _
    replace H := H'
    clear H'
    refine g_aload (r := some _) rfl rfl rfl (pc' := 13) ?_
    refine g_iload rfl rfl rfl (pc' := 15) ?_
    obtain ⟨ht4, H⟩ := H
    refine g_putI rfl rfl rfl rfl ht4  (pc' := 18) rfl ?_
    replace H := H _ rfl
    refine g_aload (r := some _) rfl rfl rfl (pc' := 19) ?_
    refine g_iload rfl rfl rfl (pc' := 21) ?_
    refine g_putI rfl rfl rfl rfl ht4  (pc' := 24) rfl ?_
    replace H := H _ rfl
    exact g_return rfl H
  · exact H
set_option maxRecDepth 20000 in
theorem w_390_0 {a0 : Nat} {r_1 : Option Nat} {x2 : Int32} {x3 : Int32} {x4 : Int32} {x5 : Int32} {x6 : Int32} {h : hh_T} {Q : Option Value ⊕ Nat → hh_T → Prop} (H : gm_sub (hh_tg h a0) 46 = true ∧ (∀ h2, h2 = hh_wr h a0 9 r_1 → (∃ a3, r_1 = some a3 ∧ (gm_sub (hh_tg h2 a3) 0 = true ∧ (gm_G 329 0 [some (.ref a0), some (.ref a3), some (.int (hh_i h2 a3 41)), some (.int x2)] [] h2 (pV (fun h5 => gm_sub (hh_tg h5 a0) 46 = true ∧ (∀ h7, h7 = hh_wi h5 a0 5 x3 → (∀ h8, h8 = hh_wi h7 a0 6 x4 → (∀ h9, h9 = hh_wi h8 a0 7 x5 → (gm_G 390 32 [some (.ref a0), none, none, none, none, none, some (.int x6)] [] h9 Q))))) (fun e10 h11 => hh_tg h11 e10 = 21 ∧ Q (.inr e10) h11))))))) : gm_G 390 0 [some (.ref a0), some (va_rf r_1), some (.int x2), some (.int x3), some (.int x4), some (.int x5), some (.int x6)] [] h Q := by
  refine g_aload (r := some _) rfl rfl rfl (pc' := 1) ?_
  refine g_aload (r := _) rfl rfl rfl (pc' := 2) ?_
  obtain ⟨ht1, H⟩ := H
  refine g_putR rfl rfl rfl rfl ht1  (pc' := 5) rfl ?_
  replace H := H _ rfl
  refine g_aload (r := some _) rfl rfl rfl (pc' := 6) ?_
  refine g_aload (r := _) rfl rfl rfl (pc' := 7) ?_
  refine g_aload (r := _) rfl rfl rfl (pc' := 8) ?_
  obtain ⟨a3, rfl, H⟩ := H
  obtain ⟨ht4, H⟩ := H
  refine g_getI rfl rfl rfl rfl ht4 (pc' := 11) rfl ?_
  refine g_iload rfl rfl rfl (pc' := 12) ?_
  refine g_call rfl (y := 329) (n := 4) (pc' := 15) (fun _ => rfl) rfl rfl ⟨(Nat.le_of_ble_eq_true rfl), (Nat.le_of_ble_eq_true rfl), (Nat.le_of_ble_eq_true rfl)⟩ rfl (gm_G.mono H (pV_elim (fun h5 H' => ?_) (fun e10 h11 H => ?_)))
  · show gm_G _ 15 _ _ _ _
    replace H := H'
    clear H'
    refine g_aload (r := some _) rfl rfl rfl (pc' := 16) ?_
    refine g_iload rfl rfl rfl (pc' := 17) ?_
    obtain ⟨ht6, H⟩ := H
    refine g_putI rfl rfl rfl rfl ht6  (pc' := 20) rfl ?_
    replace H := H _ rfl
    refine g_aload (r := some _) rfl rfl rfl (pc' := 21) ?_
    refine g_iload rfl rfl rfl (pc' := 23) ?_
    refine g_putI rfl rfl rfl rfl ht6  (pc' := 26) rfl ?_
    replace H := H _ rfl
    refine g_aload (r := some _) rfl rfl rfl (pc' := 27) ?_
    refine g_iload rfl rfl rfl (pc' := 29) ?_
    refine g_putI rfl rfl rfl rfl ht6  (pc' := 32) rfl ?_
    replace H := H _ rfl
    exact g_weak (show gm_Lle [some _, none, none, none, none, none, some _] _ from ⟨rfl, ⟨rfl, trivial⟩⟩) H
  · exact H
set_option maxRecDepth 20000 in
theorem w_390_32 {a0 : Nat} {x6 : Int32} {h : hh_T} {Q : Option Value ⊕ Nat → hh_T → Prop} (H : gm_sub (hh_tg h a0) 46 = true ∧ (∀ h2, h2 = hh_wi h a0 8 x6 → (Q (.inl none) h2))) : gm_G 390 32 [some (.ref a0), none, none, none, none, none, some (.int x6)] [] h Q := by
  refine g_aload (r := some _) rfl rfl rfl (pc' := 33) ?_
  refine g_iload rfl rfl rfl (pc' := 35) ?_
  obtain ⟨ht1, H⟩ := H
  refine g_putI rfl rfl rfl rfl ht1  (pc' := 38) rfl ?_
  replace H := H _ rfl
  exact g_return rfl H
set_option maxRecDepth 20000 in
theorem w_391_0 {a0 : Nat}  {h : hh_T} {Q : Option Value ⊕ Nat → hh_T → Prop} (H : ∀ a1 h2, a1 = hh_sz h → h2 = hh_al h 221 8 8 → (gm_sub (hh_tg h2 a0) 0 = true ∧ (∀ h4, h4 = hh_wr h2 a0 0 (some a1) → (∀ a5 h6, a5 = hh_sz h4 → h6 = hh_al h4 2 0 6 → (gm_G 22 0 [some (.ref a5), some (.ref a0)] [] h6 (pV (fun h7 => gm_sub (hh_tg h7 a0) 0 = true ∧ (∀ h9, h9 = hh_wr h7 a0 2 (some a5) → (gm_G 391 25 [some (.ref a0)] [] h9 Q))) (fun e10 h11 => hh_tg h11 e10 = 21 ∧ Q (.inr e10) h11))))))) : gm_G 391 0 [some (.ref a0)] [] h Q := by
  refine g_aload (r := some _) rfl rfl rfl (pc' := 1) ?_
  refine g_objinit rfl (Nat.le_of_ble_eq_true rfl) (pc' := 4) rfl ?_
  refine g_aload (r := some _) rfl rfl rfl (pc' := 5) ?_
  refine g_iconst rfl rfl rfl (pc' := 7) ?_
  refine g_anewarray rfl (n := 8) rfl (by decide) (pc' := 10) rfl ?_
  replace H := H _ _ rfl rfl
  obtain ⟨ht3, H⟩ := H
  refine g_putR (x := some _) rfl rfl rfl rfl ht3  (pc' := 13) rfl ?_
  replace H := H _ rfl
  refine g_aload (r := some _) rfl rfl rfl (pc' := 14) ?_
  refine g_new rfl (t := 2) (s := 6) rfl rfl (pc' := 17) rfl ?_
  replace H := H _ _ rfl rfl
  refine g_dup_a (r := some _) rfl rfl (pc' := 18) ?_
  refine g_aload (r := some _) rfl rfl rfl (pc' := 19) ?_
  refine g_call rfl (y := 22) (n := 2) (pc' := 22) (fun _ => rfl) rfl rfl ⟨(Nat.le_of_ble_eq_true rfl), (Nat.le_of_ble_eq_true rfl), (Nat.le_of_ble_eq_true rfl)⟩ rfl (gm_G.mono H (pV_elim (fun h7 H' => ?_) (fun e10 h11 H => ?_)))
  · show gm_G _ 22 _ _ _ _
    replace H := H'
    clear H'
    obtain ⟨ht8, H⟩ := H
    refine g_putR (x := some _) rfl rfl rfl rfl ht8  (pc' := 25) rfl ?_
    replace H := H _ rfl
    exact g_weak (show gm_Lle [some _] _ from ⟨rfl, trivial⟩) H
  · exact H
set_option maxRecDepth 20000 in
theorem w_391_25 {a0 : Nat}  {h : hh_T} {Q : Option Value ⊕ Nat → hh_T → Prop} (H : ∀ a1 h2, a1 = hh_sz h → h2 = hh_al h 3 0 2 → (gm_G 24 0 [some (.ref a1)] [] h2 (pV (fun h3 => gm_sub (hh_tg h3 a0) 0 = true ∧ (∀ h5, h5 = hh_wr h3 a0 3 (some a1) → (∀ a6 h7, a6 = hh_sz h5 → h7 = hh_al h5 204 3 3 → (∀ a8 h9, a8 = hh_sz h7 → h9 = hh_al h7 5 0 9 → (gm_G 355 0 [some (.ref a8), some (.ref a0), some (.int (Int32.ofNat 0))] [] h9 (pV (fun h10 => 200 ≤ hh_tg h10 a6 ∧ (gm_as (hh_tg h10 a6) (hh_tg h10 a8) = true) ∧ (0 < hh_ln h10 a6 ∧ (∀ h12, h12 = hh_wr h10 a6 0 (some a8) → (∀ a13 h14, a13 = hh_sz h12 → h14 = hh_al h12 5 0 9 → (gm_G 355 0 [some (.ref a13), some (.ref a0), some (.int (Int32.ofNat 1))] [] h14 (pV (fun h15 => 200 ≤ hh_tg h15 a6 ∧ (gm_as (hh_tg h15 a6) (hh_tg h15 a13) = true) ∧ (1 < hh_ln h15 a6 ∧ (∀ h17, h17 = hh_wr h15 a6 1 (some a13) → (∀ a18 h19, a18 = hh_sz h17 → h19 = hh_al h17 5 0 9 → (gm_G 355 0 [some (.ref a18), some (.ref a0), some (.int (Int32.ofNat 2))] [] h19 (pV (fun h20 => 200 ≤ hh_tg h20 a6 ∧ (gm_as (hh_tg h20 a6) (hh_tg h20 a18) = true) ∧ (2 < hh_ln h20 a6 ∧ (∀ h22, h22 = hh_wr h20 a6 2 (some a18) → (gm_sub (hh_tg h22 a0) 0 = true ∧ (∀ h24, h24 = hh_wr h22 a0 5 (some a6) → (gm_G 391 80 [some (.ref a0)] [] h24 Q)))))) (fun e25 h26 => hh_tg h26 e25 = 21 ∧ Q (.inr e25) h26))))))) (fun e27 h28 => hh_tg h28 e27 = 21 ∧ Q (.inr e27) h28))))))) (fun e29 h30 => hh_tg h30 e29 = 21 ∧ Q (.inr e29) h30))))))) (fun e31 h32 => hh_tg h32 e31 = 21 ∧ Q (.inr e31) h32)))) : gm_G 391 25 [some (.ref a0)] [] h Q := by
  refine g_aload (r := some _) rfl rfl rfl (pc' := 26) ?_
  refine g_new rfl (t := 3) (s := 2) rfl rfl (pc' := 29) rfl ?_
  replace H := H _ _ rfl rfl
  refine g_dup_a (r := some _) rfl rfl (pc' := 30) ?_
  refine g_call rfl (y := 24) (n := 1) (pc' := 33) (fun _ => rfl) rfl rfl ⟨(Nat.le_of_ble_eq_true rfl), (Nat.le_of_ble_eq_true rfl), (Nat.le_of_ble_eq_true rfl)⟩ rfl (gm_G.mono H (pV_elim (fun h3 H' => ?_) (fun e31 h32 H => ?_)))
  · show gm_G _ 33 _ _ _ _
    replace H := H'
    clear H'
    obtain ⟨ht4, H⟩ := H
    refine g_putR (x := some _) rfl rfl rfl rfl ht4  (pc' := 36) rfl ?_
    replace H := H _ rfl
    refine g_aload (r := some _) rfl rfl rfl (pc' := 37) ?_
    refine g_iconst rfl rfl rfl (pc' := 38) ?_
    refine g_anewarray rfl (n := 3) rfl (by decide) (pc' := 41) rfl ?_
    replace H := H _ _ rfl rfl
    refine g_dup_a (r := some _) rfl rfl (pc' := 42) ?_
    refine g_iconst rfl rfl rfl (pc' := 43) ?_
    refine g_new rfl (t := 5) (s := 9) rfl rfl (pc' := 46) rfl ?_
    replace H := H _ _ rfl rfl
    refine g_dup_a (r := some _) rfl rfl (pc' := 47) ?_
    refine g_aload (r := some _) rfl rfl rfl (pc' := 48) ?_
    refine g_iconst rfl rfl rfl (pc' := 49) ?_
    refine g_call rfl (y := 355) (n := 3) (pc' := 52) (fun _ => rfl) rfl rfl ⟨(Nat.le_of_ble_eq_true rfl), (Nat.le_of_ble_eq_true rfl), (Nat.le_of_ble_eq_true rfl)⟩ rfl (gm_G.mono H (pV_elim (fun h10 H' => ?_) (fun e29 h30 H => ?_)))
    · show gm_G _ 52 _ _ _ _
      replace H := H'
      clear H'
      obtain ⟨Ha, Hb, H⟩ := H
      obtain ⟨hn11, H⟩ := H
      refine g_aastore (r := some _) rfl Ha (fun b hb => by cases hb; exact Hb) ⟨rfl, by decide, hn11⟩ (pc' := 53) rfl ?_
      replace H := H _ rfl
      refine g_dup_a (r := some _) rfl rfl (pc' := 54) ?_
      refine g_iconst rfl rfl rfl (pc' := 55) ?_
      refine g_new rfl (t := 5) (s := 9) rfl rfl (pc' := 58) rfl ?_
      replace H := H _ _ rfl rfl
      refine g_dup_a (r := some _) rfl rfl (pc' := 59) ?_
      refine g_aload (r := some _) rfl rfl rfl (pc' := 60) ?_
      refine g_iconst rfl rfl rfl (pc' := 61) ?_
      refine g_call rfl (y := 355) (n := 3) (pc' := 64) (fun _ => rfl) rfl rfl ⟨(Nat.le_of_ble_eq_true rfl), (Nat.le_of_ble_eq_true rfl), (Nat.le_of_ble_eq_true rfl)⟩ rfl (gm_G.mono H (pV_elim (fun h15 H' => ?_) (fun e27 h28 H => ?_)))
      · show gm_G _ 64 _ _ _ _
        replace H := H'
        clear H'
        obtain ⟨Ha, Hb, H⟩ := H
        obtain ⟨hn16, H⟩ := H
        refine g_aastore (r := some _) rfl Ha (fun b hb => by cases hb; exact Hb) ⟨rfl, by decide, hn16⟩ (pc' := 65) rfl ?_
        replace H := H _ rfl
        refine g_dup_a (r := some _) rfl rfl (pc' := 66) ?_
        refine g_iconst rfl rfl rfl (pc' := 67) ?_
        refine g_new rfl (t := 5) (s := 9) rfl rfl (pc' := 70) rfl ?_
        replace H := H _ _ rfl rfl
        refine g_dup_a (r := some _) rfl rfl (pc' := 71) ?_
        refine g_aload (r := some _) rfl rfl rfl (pc' := 72) ?_
        refine g_iconst rfl rfl rfl (pc' := 73) ?_
        refine g_call rfl (y := 355) (n := 3) (pc' := 76) (fun _ => rfl) rfl rfl ⟨(Nat.le_of_ble_eq_true rfl), (Nat.le_of_ble_eq_true rfl), (Nat.le_of_ble_eq_true rfl)⟩ rfl (gm_G.mono H (pV_elim (fun h20 H' => ?_) (fun e25 h26 H => ?_)))
        · show gm_G _ 76 _ _ _ _
          replace H := H'
          clear H'
          obtain ⟨Ha, Hb, H⟩ := H
          obtain ⟨hn21, H⟩ := H
          refine g_aastore (r := some _) rfl Ha (fun b hb => by cases hb; exact Hb) ⟨rfl, by decide, hn21⟩ (pc' := 77) rfl ?_
          replace H := H _ rfl
          obtain ⟨ht23, H⟩ := H
          refine g_putR (x := some _) rfl rfl rfl rfl ht23  (pc' := 80) rfl ?_
          replace H := H _ rfl
          exact g_weak (show gm_Lle [some _] _ from ⟨rfl, trivial⟩) H
        · exact H
      · exact H
    · exact H
  · exact H
set_option maxRecDepth 20000 in
theorem w_391_80 {a0 : Nat}  {h : hh_T} {Q : Option Value ⊕ Nat → hh_T → Prop} (H : ∀ a1 h2, a1 = hh_sz h → h2 = hh_al h 206 3 3 → (∀ a3 h4, a3 = hh_sz h2 → h4 = hh_al h2 7 0 15 → (gm_G 356 0 [some (.ref a3), some (.ref a0), some (.int (Int32.ofNat 0))] [] h4 (pV (fun h5 => 200 ≤ hh_tg h5 a1 ∧ (gm_as (hh_tg h5 a1) (hh_tg h5 a3) = true) ∧ (0 < hh_ln h5 a1 ∧ (∀ h7, h7 = hh_wr h5 a1 0 (some a3) → (∀ a8 h9, a8 = hh_sz h7 → h9 = hh_al h7 7 0 15 → (gm_G 356 0 [some (.ref a8), some (.ref a0), some (.int (Int32.ofNat 1))] [] h9 (pV (fun h10 => 200 ≤ hh_tg h10 a1 ∧ (gm_as (hh_tg h10 a1) (hh_tg h10 a8) = true) ∧ (1 < hh_ln h10 a1 ∧ (∀ h12, h12 = hh_wr h10 a1 1 (some a8) → (∀ a13 h14, a13 = hh_sz h12 → h14 = hh_al h12 7 0 15 → (gm_G 356 0 [some (.ref a13), some (.ref a0), some (.int (Int32.ofNat 2))] [] h14 (pV (fun h15 => 200 ≤ hh_tg h15 a1 ∧ (gm_as (hh_tg h15 a1) (hh_tg h15 a13) = true) ∧ (2 < hh_ln h15 a1 ∧ (∀ h17, h17 = hh_wr h15 a1 2 (some a13) → (gm_sub (hh_tg h17 a0) 0 = true ∧ (∀ h19, h19 = hh_wr h17 a0 6 (some a1) → (gm_G 391 124 [some (.ref a0)] [] h19 Q)))))) (fun e20 h21 => hh_tg h21 e20 = 21 ∧ Q (.inr e20) h21))))))) (fun e22 h23 => hh_tg h23 e22 = 21 ∧ Q (.inr e22) h23))))))) (fun e24 h25 => hh_tg h25 e24 = 21 ∧ Q (.inr e24) h25))))) : gm_G 391 80 [some (.ref a0)] [] h Q := by
  refine g_aload (r := some _) rfl rfl rfl (pc' := 81) ?_
  refine g_iconst rfl rfl rfl (pc' := 82) ?_
  refine g_anewarray rfl (n := 3) rfl (by decide) (pc' := 85) rfl ?_
  replace H := H _ _ rfl rfl
  refine g_dup_a (r := some _) rfl rfl (pc' := 86) ?_
  refine g_iconst rfl rfl rfl (pc' := 87) ?_
  refine g_new rfl (t := 7) (s := 15) rfl rfl (pc' := 90) rfl ?_
  replace H := H _ _ rfl rfl
  refine g_dup_a (r := some _) rfl rfl (pc' := 91) ?_
  refine g_aload (r := some _) rfl rfl rfl (pc' := 92) ?_
  refine g_iconst rfl rfl rfl (pc' := 93) ?_
  refine g_call rfl (y := 356) (n := 3) (pc' := 96) (fun _ => rfl) rfl rfl ⟨(Nat.le_of_ble_eq_true rfl), (Nat.le_of_ble_eq_true rfl), (Nat.le_of_ble_eq_true rfl)⟩ rfl (gm_G.mono H (pV_elim (fun h5 H' => ?_) (fun e24 h25 H => ?_)))
  · show gm_G _ 96 _ _ _ _
    replace H := H'
    clear H'
    obtain ⟨Ha, Hb, H⟩ := H
    obtain ⟨hn6, H⟩ := H
    refine g_aastore (r := some _) rfl Ha (fun b hb => by cases hb; exact Hb) ⟨rfl, by decide, hn6⟩ (pc' := 97) rfl ?_
    replace H := H _ rfl
    refine g_dup_a (r := some _) rfl rfl (pc' := 98) ?_
    refine g_iconst rfl rfl rfl (pc' := 99) ?_
    refine g_new rfl (t := 7) (s := 15) rfl rfl (pc' := 102) rfl ?_
    replace H := H _ _ rfl rfl
    refine g_dup_a (r := some _) rfl rfl (pc' := 103) ?_
    refine g_aload (r := some _) rfl rfl rfl (pc' := 104) ?_
    refine g_iconst rfl rfl rfl (pc' := 105) ?_
    refine g_call rfl (y := 356) (n := 3) (pc' := 108) (fun _ => rfl) rfl rfl ⟨(Nat.le_of_ble_eq_true rfl), (Nat.le_of_ble_eq_true rfl), (Nat.le_of_ble_eq_true rfl)⟩ rfl (gm_G.mono H (pV_elim (fun h10 H' => ?_) (fun e22 h23 H => ?_)))
    · show gm_G _ 108 _ _ _ _
      replace H := H'
      clear H'
      obtain ⟨Ha, Hb, H⟩ := H
      obtain ⟨hn11, H⟩ := H
      refine g_aastore (r := some _) rfl Ha (fun b hb => by cases hb; exact Hb) ⟨rfl, by decide, hn11⟩ (pc' := 109) rfl ?_
      replace H := H _ rfl
      refine g_dup_a (r := some _) rfl rfl (pc' := 110) ?_
      refine g_iconst rfl rfl rfl (pc' := 111) ?_
      refine g_new rfl (t := 7) (s := 15) rfl rfl (pc' := 114) rfl ?_
      replace H := H _ _ rfl rfl
      refine g_dup_a (r := some _) rfl rfl (pc' := 115) ?_
      refine g_aload (r := some _) rfl rfl rfl (pc' := 116) ?_
      refine g_iconst rfl rfl rfl (pc' := 117) ?_
      refine g_call rfl (y := 356) (n := 3) (pc' := 120) (fun _ => rfl) rfl rfl ⟨(Nat.le_of_ble_eq_true rfl), (Nat.le_of_ble_eq_true rfl), (Nat.le_of_ble_eq_true rfl)⟩ rfl (gm_G.mono H (pV_elim (fun h15 H' => ?_) (fun e20 h21 H => ?_)))
      · show gm_G _ 120 _ _ _ _
        replace H := H'
        clear H'
        obtain ⟨Ha, Hb, H⟩ := H
        obtain ⟨hn16, H⟩ := H
        refine g_aastore (r := some _) rfl Ha (fun b hb => by cases hb; exact Hb) ⟨rfl, by decide, hn16⟩ (pc' := 121) rfl ?_
        replace H := H _ rfl
        obtain ⟨ht18, H⟩ := H
        refine g_putR (x := some _) rfl rfl rfl rfl ht18  (pc' := 124) rfl ?_
        replace H := H _ rfl
        exact g_weak (show gm_Lle [some _] _ from ⟨rfl, trivial⟩) H
      · exact H
    · exact H
  · exact H
set_option maxRecDepth 20000 in
theorem w_391_124 {a0 : Nat}  {h : hh_T} {Q : Option Value ⊕ Nat → hh_T → Prop} (H : ∀ a1 h2, a1 = hh_sz h → h2 = hh_al h 203 3 3 → (gm_sub (hh_tg h2 a0) 0 = true ∧ (∀ h4, h4 = hh_wr h2 a0 7 (some a1) → (∀ a5 h6, a5 = hh_sz h4 → h6 = hh_al h4 8 0 0 → (gm_G 47 0 [some (.ref a5)] [] h6 (pV (fun h7 => gm_sub (hh_tg h7 a0) 0 = true ∧ (∀ h9, h9 = hh_wr h7 a0 11 (some a5) → (gm_G 391 143 [some (.ref a0)] [] h9 Q))) (fun e10 h11 => hh_tg h11 e10 = 21 ∧ Q (.inr e10) h11))))))) : gm_G 391 124 [some (.ref a0)] [] h Q := by
  refine g_aload (r := some _) rfl rfl rfl (pc' := 125) ?_
  refine g_iconst rfl rfl rfl (pc' := 126) ?_
  refine g_anewarray rfl (n := 3) rfl (by decide) (pc' := 129) rfl ?_
  replace H := H _ _ rfl rfl
  obtain ⟨ht3, H⟩ := H
  refine g_putR (x := some _) rfl rfl rfl rfl ht3  (pc' := 132) rfl ?_
  replace H := H _ rfl
  refine g_aload (r := some _) rfl rfl rfl (pc' := 133) ?_
  refine g_new rfl (t := 8) (s := 0) rfl rfl (pc' := 136) rfl ?_
  replace H := H _ _ rfl rfl
  refine g_dup_a (r := some _) rfl rfl (pc' := 137) ?_
  refine g_call rfl (y := 47) (n := 1) (pc' := 140) (fun _ => rfl) rfl rfl ⟨(Nat.le_of_ble_eq_true rfl), (Nat.le_of_ble_eq_true rfl), (Nat.le_of_ble_eq_true rfl)⟩ rfl (gm_G.mono H (pV_elim (fun h7 H' => ?_) (fun e10 h11 H => ?_)))
  · show gm_G _ 140 _ _ _ _
    replace H := H'
    clear H'
    obtain ⟨ht8, H⟩ := H
    refine g_putR (x := some _) rfl rfl rfl rfl ht8  (pc' := 143) rfl ?_
    replace H := H _ rfl
    exact g_weak (show gm_Lle [some _] _ from ⟨rfl, trivial⟩) H
  · exact H
set_option maxRecDepth 20000 in
theorem w_391_143 {a0 : Nat}  {h : hh_T} {Q : Option Value ⊕ Nat → hh_T → Prop} (H : ∀ a1 h2, a1 = hh_sz h → h2 = hh_al h 9 0 0 → (gm_G 49 0 [some (.ref a1)] [] h2 (pV (fun h3 => gm_sub (hh_tg h3 a0) 0 = true ∧ (∀ h5, h5 = hh_wr h3 a0 12 (some a1) → (∀ a6 h7, a6 = hh_sz h5 → h7 = hh_al h5 10 0 2 → (gm_G 51 0 [some (.ref a6)] [] h7 (pV (fun h8 => gm_sub (hh_tg h8 a0) 0 = true ∧ (∀ h10, h10 = hh_wr h8 a0 13 (some a6) → (gm_G 391 165 [some (.ref a0)] [] h10 Q))) (fun e11 h12 => hh_tg h12 e11 = 21 ∧ Q (.inr e11) h12)))))) (fun e13 h14 => hh_tg h14 e13 = 21 ∧ Q (.inr e13) h14)))) : gm_G 391 143 [some (.ref a0)] [] h Q := by
  refine g_aload (r := some _) rfl rfl rfl (pc' := 144) ?_
  refine g_new rfl (t := 9) (s := 0) rfl rfl (pc' := 147) rfl ?_
  replace H := H _ _ rfl rfl
  refine g_dup_a (r := some _) rfl rfl (pc' := 148) ?_
  refine g_call rfl (y := 49) (n := 1) (pc' := 151) (fun _ => rfl) rfl rfl ⟨(Nat.le_of_ble_eq_true rfl), (Nat.le_of_ble_eq_true rfl), (Nat.le_of_ble_eq_true rfl)⟩ rfl (gm_G.mono H (pV_elim (fun h3 H' => ?_) (fun e13 h14 H => ?_)))
  · show gm_G _ 151 _ _ _ _
    replace H := H'
    clear H'
    obtain ⟨ht4, H⟩ := H
    refine g_putR (x := some _) rfl rfl rfl rfl ht4  (pc' := 154) rfl ?_
    replace H := H _ rfl
    refine g_aload (r := some _) rfl rfl rfl (pc' := 155) ?_
    refine g_new rfl (t := 10) (s := 2) rfl rfl (pc' := 158) rfl ?_
    replace H := H _ _ rfl rfl
    refine g_dup_a (r := some _) rfl rfl (pc' := 159) ?_
    refine g_call rfl (y := 51) (n := 1) (pc' := 162) (fun _ => rfl) rfl rfl ⟨(Nat.le_of_ble_eq_true rfl), (Nat.le_of_ble_eq_true rfl), (Nat.le_of_ble_eq_true rfl)⟩ rfl (gm_G.mono H (pV_elim (fun h8 H' => ?_) (fun e11 h12 H => ?_)))
    · show gm_G _ 162 _ _ _ _
      replace H := H'
      clear H'
      obtain ⟨ht9, H⟩ := H
      refine g_putR (x := some _) rfl rfl rfl rfl ht9  (pc' := 165) rfl ?_
      replace H := H _ rfl
      exact g_weak (show gm_Lle [some _] _ from ⟨rfl, trivial⟩) H
    · exact H
  · exact H
set_option maxRecDepth 20000 in
theorem w_391_165 {a0 : Nat}  {h : hh_T} {Q : Option Value ⊕ Nat → hh_T → Prop} (H : ∀ a1 h2, a1 = hh_sz h → h2 = hh_al h 11 0 1 → (gm_G 54 0 [some (.ref a1)] [] h2 (pV (fun h3 => gm_sub (hh_tg h3 a0) 0 = true ∧ (∀ h5, h5 = hh_wr h3 a0 14 (some a1) → (∀ a6 h7, a6 = hh_sz h5 → h7 = hh_al h5 12 0 8 → (gm_G 58 0 [some (.ref a6)] [] h7 (pV (fun h8 => gm_sub (hh_tg h8 a0) 0 = true ∧ (∀ h10, h10 = hh_wr h8 a0 18 (some a6) → (gm_G 391 187 [some (.ref a0)] [] h10 Q))) (fun e11 h12 => hh_tg h12 e11 = 21 ∧ Q (.inr e11) h12)))))) (fun e13 h14 => hh_tg h14 e13 = 21 ∧ Q (.inr e13) h14)))) : gm_G 391 165 [some (.ref a0)] [] h Q := by
  refine g_aload (r := some _) rfl rfl rfl (pc' := 166) ?_
  refine g_new rfl (t := 11) (s := 1) rfl rfl (pc' := 169) rfl ?_
  replace H := H _ _ rfl rfl
  refine g_dup_a (r := some _) rfl rfl (pc' := 170) ?_
  refine g_call rfl (y := 54) (n := 1) (pc' := 173) (fun _ => rfl) rfl rfl ⟨(Nat.le_of_ble_eq_true rfl), (Nat.le_of_ble_eq_true rfl), (Nat.le_of_ble_eq_true rfl)⟩ rfl (gm_G.mono H (pV_elim (fun h3 H' => ?_) (fun e13 h14 H => ?_)))
  · show gm_G _ 173 _ _ _ _
    replace H := H'
    clear H'
    obtain ⟨ht4, H⟩ := H
    refine g_putR (x := some _) rfl rfl rfl rfl ht4  (pc' := 176) rfl ?_
    replace H := H _ rfl
    refine g_aload (r := some _) rfl rfl rfl (pc' := 177) ?_
    refine g_new rfl (t := 12) (s := 8) rfl rfl (pc' := 180) rfl ?_
    replace H := H _ _ rfl rfl
    refine g_dup_a (r := some _) rfl rfl (pc' := 181) ?_
    refine g_call rfl (y := 58) (n := 1) (pc' := 184) (fun _ => rfl) rfl rfl ⟨(Nat.le_of_ble_eq_true rfl), (Nat.le_of_ble_eq_true rfl), (Nat.le_of_ble_eq_true rfl)⟩ rfl (gm_G.mono H (pV_elim (fun h8 H' => ?_) (fun e11 h12 H => ?_)))
    · show gm_G _ 184 _ _ _ _
      replace H := H'
      clear H'
      obtain ⟨ht9, H⟩ := H
      refine g_putR (x := some _) rfl rfl rfl rfl ht9  (pc' := 187) rfl ?_
      replace H := H _ rfl
      exact g_weak (show gm_Lle [some _] _ from ⟨rfl, trivial⟩) H
    · exact H
  · exact H
set_option maxRecDepth 20000 in
theorem w_391_187 {a0 : Nat}  {h : hh_T} {Q : Option Value ⊕ Nat → hh_T → Prop} (H : ∀ a1 h2, a1 = hh_sz h → h2 = hh_al h 101 32 32 → (gm_sub (hh_tg h2 a0) 0 = true ∧ (∀ h4, h4 = hh_wr h2 a0 19 (some a1) → (∀ a5 h6, a5 = hh_sz h4 → h6 = hh_al h4 101 32 32 → (gm_sub (hh_tg h6 a0) 0 = true ∧ (∀ h8, h8 = hh_wr h6 a0 20 (some a5) → (∀ a9 h10, a9 = hh_sz h8 → h10 = hh_al h8 100 16 16 → (gm_sub (hh_tg h10 a0) 0 = true ∧ (∀ h12, h12 = hh_wr h10 a0 21 (some a9) → (gm_G 391 211 [some (.ref a0)] [] h12 Q)))))))))) : gm_G 391 187 [some (.ref a0)] [] h Q := by
  refine g_aload (r := some _) rfl rfl rfl (pc' := 188) ?_
  refine g_iconst rfl rfl rfl (pc' := 190) ?_
  refine g_newarray rfl (u := 101) (n := 32) rfl (by decide) rfl (by decide) (pc' := 192) rfl ?_
  replace H := H _ _ rfl rfl
  obtain ⟨ht3, H⟩ := H
  refine g_putR (x := some _) rfl rfl rfl rfl ht3  (pc' := 195) rfl ?_
  replace H := H _ rfl
  refine g_aload (r := some _) rfl rfl rfl (pc' := 196) ?_
  refine g_iconst rfl rfl rfl (pc' := 198) ?_
  refine g_newarray rfl (u := 101) (n := 32) rfl (by decide) rfl (by decide) (pc' := 200) rfl ?_
  replace H := H _ _ rfl rfl
  obtain ⟨ht7, H⟩ := H
  refine g_putR (x := some _) rfl rfl rfl rfl ht7  (pc' := 203) rfl ?_
  replace H := H _ rfl
  refine g_aload (r := some _) rfl rfl rfl (pc' := 204) ?_
  refine g_iconst rfl rfl rfl (pc' := 206) ?_
  refine g_newarray rfl (u := 100) (n := 16) rfl (by decide) rfl (by decide) (pc' := 208) rfl ?_
  replace H := H _ _ rfl rfl
  obtain ⟨ht11, H⟩ := H
  refine g_putR (x := some _) rfl rfl rfl rfl ht11  (pc' := 211) rfl ?_
  replace H := H _ rfl
  exact g_weak (show gm_Lle [some _] _ from ⟨rfl, trivial⟩) H
set_option maxRecDepth 20000 in
theorem w_391_211 {a0 : Nat}  {h : hh_T} {Q : Option Value ⊕ Nat → hh_T → Prop} (H : ∀ a1 h2, a1 = hh_sz h → h2 = hh_al h 231 128 128 → (gm_sub (hh_tg h2 a0) 0 = true ∧ (∀ h4, h4 = hh_wr h2 a0 23 (some a1) → (∀ a5 h6, a5 = hh_sz h4 → h6 = hh_al h4 101 4096 4096 → (gm_sub (hh_tg h6 a0) 0 = true ∧ (∀ h8, h8 = hh_wr h6 a0 24 (some a5) → (∀ a9 h10, a9 = hh_sz h8 → h10 = hh_al h8 13 0 2 → (gm_G 62 0 [some (.ref a9), some (.int (Int32.ofNat 72))] [] h10 (pV (fun h11 => gm_sub (hh_tg h11 a0) 0 = true ∧ (∀ h13, h13 = hh_wr h11 a0 26 (some a9) → (gm_G 391 243 [some (.ref a0)] [] h13 Q))) (fun e14 h15 => hh_tg h15 e14 = 21 ∧ Q (.inr e14) h15)))))))))) : gm_G 391 211 [some (.ref a0)] [] h Q := by
  refine g_aload (r := some _) rfl rfl rfl (pc' := 212) ?_
  refine g_iconst rfl rfl rfl (pc' := 215) ?_
  refine g_anewarray rfl (n := 128) rfl (by decide) (pc' := 218) rfl ?_
  replace H := H _ _ rfl rfl
  obtain ⟨ht3, H⟩ := H
  refine g_putR (x := some _) rfl rfl rfl rfl ht3  (pc' := 221) rfl ?_
  replace H := H _ rfl
  refine g_aload (r := some _) rfl rfl rfl (pc' := 222) ?_
  refine g_iconst rfl rfl rfl (pc' := 225) ?_
  refine g_newarray rfl (u := 101) (n := 4096) rfl (by decide) rfl (by decide) (pc' := 227) rfl ?_
  replace H := H _ _ rfl rfl
  obtain ⟨ht7, H⟩ := H
  refine g_putR (x := some _) rfl rfl rfl rfl ht7  (pc' := 230) rfl ?_
  replace H := H _ rfl
  refine g_aload (r := some _) rfl rfl rfl (pc' := 231) ?_
  refine g_new rfl (t := 13) (s := 2) rfl rfl (pc' := 234) rfl ?_
  replace H := H _ _ rfl rfl
  refine g_dup_a (r := some _) rfl rfl (pc' := 235) ?_
  refine g_iconst rfl rfl rfl (pc' := 237) ?_
  refine g_call rfl (y := 62) (n := 2) (pc' := 240) (fun _ => rfl) rfl rfl ⟨(Nat.le_of_ble_eq_true rfl), (Nat.le_of_ble_eq_true rfl), (Nat.le_of_ble_eq_true rfl)⟩ rfl (gm_G.mono H (pV_elim (fun h11 H' => ?_) (fun e14 h15 H => ?_)))
  · show gm_G _ 240 _ _ _ _
    replace H := H'
    clear H'
    obtain ⟨ht12, H⟩ := H
    refine g_putR (x := some _) rfl rfl rfl rfl ht12  (pc' := 243) rfl ?_
    replace H := H _ rfl
    exact g_weak (show gm_Lle [some _] _ from ⟨rfl, trivial⟩) H
  · exact H
set_option maxRecDepth 20000 in
theorem w_391_243 {a0 : Nat}  {h : hh_T} {Q : Option Value ⊕ Nat → hh_T → Prop} (H : ∀ a1 h2, a1 = hh_sz h → h2 = hh_al h 231 128 128 → (gm_sub (hh_tg h2 a0) 0 = true ∧ (∀ h4, h4 = hh_wr h2 a0 27 (some a1) → (∀ a5 h6, a5 = hh_sz h4 → h6 = hh_al h4 225 3 3 → (gm_sub (hh_tg h6 a0) 0 = true ∧ (∀ h8, h8 = hh_wr h6 a0 31 (some a5) → (∀ a9 h10, a9 = hh_sz h8 → h10 = hh_al h8 222 3 3 → (gm_sub (hh_tg h10 a0) 0 = true ∧ (∀ h12, h12 = hh_wr h10 a0 34 (some a9) → (gm_G 391 269 [some (.ref a0)] [] h12 Q)))))))))) : gm_G 391 243 [some (.ref a0)] [] h Q := by
  refine g_aload (r := some _) rfl rfl rfl (pc' := 244) ?_
  refine g_iconst rfl rfl rfl (pc' := 247) ?_
  refine g_anewarray rfl (n := 128) rfl (by decide) (pc' := 250) rfl ?_
  replace H := H _ _ rfl rfl
  obtain ⟨ht3, H⟩ := H
  refine g_putR (x := some _) rfl rfl rfl rfl ht3  (pc' := 253) rfl ?_
  replace H := H _ rfl
  refine g_aload (r := some _) rfl rfl rfl (pc' := 254) ?_
  refine g_iconst rfl rfl rfl (pc' := 255) ?_
  refine g_anewarray rfl (n := 3) rfl (by decide) (pc' := 258) rfl ?_
  replace H := H _ _ rfl rfl
  obtain ⟨ht7, H⟩ := H
  refine g_putR (x := some _) rfl rfl rfl rfl ht7  (pc' := 261) rfl ?_
  replace H := H _ rfl
  refine g_aload (r := some _) rfl rfl rfl (pc' := 262) ?_
  refine g_iconst rfl rfl rfl (pc' := 263) ?_
  refine g_anewarray rfl (n := 3) rfl (by decide) (pc' := 266) rfl ?_
  replace H := H _ _ rfl rfl
  obtain ⟨ht11, H⟩ := H
  refine g_putR (x := some _) rfl rfl rfl rfl ht11  (pc' := 269) rfl ?_
  replace H := H _ rfl
  exact g_weak (show gm_Lle [some _] _ from ⟨rfl, trivial⟩) H
set_option maxRecDepth 20000 in
theorem w_391_269 {a0 : Nat}  {h : hh_T} {Q : Option Value ⊕ Nat → hh_T → Prop} (H : ∀ a1 h2, a1 = hh_sz h → h2 = hh_al h 102 64 64 → (gm_sub (hh_tg h2 a0) 0 = true ∧ (∀ h4, h4 = hh_wr h2 a0 43 (some a1) → (∀ a5 h6, a5 = hh_sz h4 → h6 = hh_al h4 13 0 2 → (gm_G 62 0 [some (.ref a5), some (.int (Int32.ofNat 520))] [] h6 (pV (fun h7 => gm_sub (hh_tg h7 a0) 0 = true ∧ (∀ h9, h9 = hh_wr h7 a0 44 (some a5) → (gm_G 391 291 [some (.ref a0)] [] h9 Q))) (fun e10 h11 => hh_tg h11 e10 = 21 ∧ Q (.inr e10) h11))))))) : gm_G 391 269 [some (.ref a0)] [] h Q := by
  refine g_aload (r := some _) rfl rfl rfl (pc' := 270) ?_
  refine g_iconst rfl rfl rfl (pc' := 272) ?_
  refine g_newarray rfl (u := 102) (n := 64) rfl (by decide) rfl (by decide) (pc' := 274) rfl ?_
  replace H := H _ _ rfl rfl
  obtain ⟨ht3, H⟩ := H
  refine g_putR (x := some _) rfl rfl rfl rfl ht3  (pc' := 277) rfl ?_
  replace H := H _ rfl
  refine g_aload (r := some _) rfl rfl rfl (pc' := 278) ?_
  refine g_new rfl (t := 13) (s := 2) rfl rfl (pc' := 281) rfl ?_
  replace H := H _ _ rfl rfl
  refine g_dup_a (r := some _) rfl rfl (pc' := 282) ?_
  refine g_iconst rfl rfl rfl (pc' := 285) ?_
  refine g_call rfl (y := 62) (n := 2) (pc' := 288) (fun _ => rfl) rfl rfl ⟨(Nat.le_of_ble_eq_true rfl), (Nat.le_of_ble_eq_true rfl), (Nat.le_of_ble_eq_true rfl)⟩ rfl (gm_G.mono H (pV_elim (fun h7 H' => ?_) (fun e10 h11 H => ?_)))
  · show gm_G _ 288 _ _ _ _
    replace H := H'
    clear H'
    obtain ⟨ht8, H⟩ := H
    refine g_putR (x := some _) rfl rfl rfl rfl ht8  (pc' := 291) rfl ?_
    replace H := H _ rfl
    exact g_weak (show gm_Lle [some _] _ from ⟨rfl, trivial⟩) H
  · exact H
set_option maxRecDepth 20000 in
theorem w_391_291 {a0 : Nat}  {h : hh_T} {Q : Option Value ⊕ Nat → hh_T → Prop} (H : ∀ a1 h2, a1 = hh_sz h → h2 = hh_al h 13 0 2 → (gm_G 62 0 [some (.ref a1), some (.int (Int32.ofNat 520))] [] h2 (pV (fun h3 => gm_sub (hh_tg h3 a0) 0 = true ∧ (∀ h5, h5 = hh_wr h3 a0 45 (some a1) → (∀ a6 h7, a6 = hh_sz h5 → h7 = hh_al h5 101 256 256 → (gm_sub (hh_tg h7 a0) 0 = true ∧ (∀ h9, h9 = hh_wr h7 a0 46 (some a6) → (gm_G 391 314 [some (.ref a0)] [] h9 Q)))))) (fun e10 h11 => hh_tg h11 e10 = 21 ∧ Q (.inr e10) h11)))) : gm_G 391 291 [some (.ref a0)] [] h Q := by
  refine g_aload (r := some _) rfl rfl rfl (pc' := 292) ?_
  refine g_new rfl (t := 13) (s := 2) rfl rfl (pc' := 295) rfl ?_
  replace H := H _ _ rfl rfl
  refine g_dup_a (r := some _) rfl rfl (pc' := 296) ?_
  refine g_iconst rfl rfl rfl (pc' := 299) ?_
  refine g_call rfl (y := 62) (n := 2) (pc' := 302) (fun _ => rfl) rfl rfl ⟨(Nat.le_of_ble_eq_true rfl), (Nat.le_of_ble_eq_true rfl), (Nat.le_of_ble_eq_true rfl)⟩ rfl (gm_G.mono H (pV_elim (fun h3 H' => ?_) (fun e10 h11 H => ?_)))
  · show gm_G _ 302 _ _ _ _
    replace H := H'
    clear H'
    obtain ⟨ht4, H⟩ := H
    refine g_putR (x := some _) rfl rfl rfl rfl ht4  (pc' := 305) rfl ?_
    replace H := H _ rfl
    refine g_aload (r := some _) rfl rfl rfl (pc' := 306) ?_
    refine g_iconst rfl rfl rfl (pc' := 309) ?_
    refine g_newarray rfl (u := 101) (n := 256) rfl (by decide) rfl (by decide) (pc' := 311) rfl ?_
    replace H := H _ _ rfl rfl
    obtain ⟨ht8, H⟩ := H
    refine g_putR (x := some _) rfl rfl rfl rfl ht8  (pc' := 314) rfl ?_
    replace H := H _ rfl
    exact g_weak (show gm_Lle [some _] _ from ⟨rfl, trivial⟩) H
  · exact H
set_option maxRecDepth 20000 in
theorem w_391_314 {a0 : Nat}  {h : hh_T} {Q : Option Value ⊕ Nat → hh_T → Prop} (H : ∀ a1 h2, a1 = hh_sz h → h2 = hh_al h 231 8 8 → (gm_sub (hh_tg h2 a0) 0 = true ∧ (∀ h4, h4 = hh_wr h2 a0 47 (some a1) → (∀ a5 h6, a5 = hh_sz h4 → h6 = hh_al h4 102 8 8 → (gm_sub (hh_tg h6 a0) 0 = true ∧ (∀ h8, h8 = hh_wr h6 a0 48 (some a5) → (∀ a9 h10, a9 = hh_sz h8 → h10 = hh_al h8 14 0 2 → (gm_G 66 0 [some (.ref a9)] [] h10 (pV (fun h11 => gm_sub (hh_tg h11 a0) 0 = true ∧ (∀ h13, h13 = hh_wr h11 a0 49 (some a9) → (gm_G 391 342 [some (.ref a0)] [] h13 Q))) (fun e14 h15 => hh_tg h15 e14 = 21 ∧ Q (.inr e14) h15)))))))))) : gm_G 391 314 [some (.ref a0)] [] h Q := by
  refine g_aload (r := some _) rfl rfl rfl (pc' := 315) ?_
  refine g_iconst rfl rfl rfl (pc' := 317) ?_
  refine g_anewarray rfl (n := 8) rfl (by decide) (pc' := 320) rfl ?_
  replace H := H _ _ rfl rfl
  obtain ⟨ht3, H⟩ := H
  refine g_putR (x := some _) rfl rfl rfl rfl ht3  (pc' := 323) rfl ?_
  replace H := H _ rfl
  refine g_aload (r := some _) rfl rfl rfl (pc' := 324) ?_
  refine g_iconst rfl rfl rfl (pc' := 326) ?_
  refine g_newarray rfl (u := 102) (n := 8) rfl (by decide) rfl (by decide) (pc' := 328) rfl ?_
  replace H := H _ _ rfl rfl
  obtain ⟨ht7, H⟩ := H
  refine g_putR (x := some _) rfl rfl rfl rfl ht7  (pc' := 331) rfl ?_
  replace H := H _ rfl
  refine g_aload (r := some _) rfl rfl rfl (pc' := 332) ?_
  refine g_new rfl (t := 14) (s := 2) rfl rfl (pc' := 335) rfl ?_
  replace H := H _ _ rfl rfl
  refine g_dup_a (r := some _) rfl rfl (pc' := 336) ?_
  refine g_call rfl (y := 66) (n := 1) (pc' := 339) (fun _ => rfl) rfl rfl ⟨(Nat.le_of_ble_eq_true rfl), (Nat.le_of_ble_eq_true rfl), (Nat.le_of_ble_eq_true rfl)⟩ rfl (gm_G.mono H (pV_elim (fun h11 H' => ?_) (fun e14 h15 H => ?_)))
  · show gm_G _ 339 _ _ _ _
    replace H := H'
    clear H'
    obtain ⟨ht12, H⟩ := H
    refine g_putR (x := some _) rfl rfl rfl rfl ht12  (pc' := 342) rfl ?_
    replace H := H _ rfl
    exact g_weak (show gm_Lle [some _] _ from ⟨rfl, trivial⟩) H
  · exact H
set_option maxRecDepth 20000 in
theorem w_391_342 {a0 : Nat}  {h : hh_T} {Q : Option Value ⊕ Nat → hh_T → Prop} (H : ∀ a1 h2, a1 = hh_sz h → h2 = hh_al h 102 16 16 → (gm_sub (hh_tg h2 a0) 0 = true ∧ (∀ h4, h4 = hh_wr h2 a0 50 (some a1) → (∀ a5 h6, a5 = hh_sz h4 → h6 = hh_al h4 15 0 1 → (gm_G 70 0 [some (.ref a5)] [] h6 (pV (fun h7 => gm_sub (hh_tg h7 a0) 0 = true ∧ (∀ h9, h9 = hh_wr h7 a0 51 (some a5) → (gm_G 391 361 [some (.ref a0)] [] h9 Q))) (fun e10 h11 => hh_tg h11 e10 = 21 ∧ Q (.inr e10) h11))))))) : gm_G 391 342 [some (.ref a0)] [] h Q := by
  refine g_aload (r := some _) rfl rfl rfl (pc' := 343) ?_
  refine g_iconst rfl rfl rfl (pc' := 345) ?_
  refine g_newarray rfl (u := 102) (n := 16) rfl (by decide) rfl (by decide) (pc' := 347) rfl ?_
  replace H := H _ _ rfl rfl
  obtain ⟨ht3, H⟩ := H
  refine g_putR (x := some _) rfl rfl rfl rfl ht3  (pc' := 350) rfl ?_
  replace H := H _ rfl
  refine g_aload (r := some _) rfl rfl rfl (pc' := 351) ?_
  refine g_new rfl (t := 15) (s := 1) rfl rfl (pc' := 354) rfl ?_
  replace H := H _ _ rfl rfl
  refine g_dup_a (r := some _) rfl rfl (pc' := 355) ?_
  refine g_call rfl (y := 70) (n := 1) (pc' := 358) (fun _ => rfl) rfl rfl ⟨(Nat.le_of_ble_eq_true rfl), (Nat.le_of_ble_eq_true rfl), (Nat.le_of_ble_eq_true rfl)⟩ rfl (gm_G.mono H (pV_elim (fun h7 H' => ?_) (fun e10 h11 H => ?_)))
  · show gm_G _ 358 _ _ _ _
    replace H := H'
    clear H'
    obtain ⟨ht8, H⟩ := H
    refine g_putR (x := some _) rfl rfl rfl rfl ht8  (pc' := 361) rfl ?_
    replace H := H _ rfl
    exact g_weak (show gm_Lle [some _] _ from ⟨rfl, trivial⟩) H
  · exact H
set_option maxRecDepth 20000 in
theorem w_391_361 {a0 : Nat}  {h : hh_T} {Q : Option Value ⊕ Nat → hh_T → Prop} (H : ∀ a1 h2, a1 = hh_sz h → h2 = hh_al h 16 0 2 → (gm_G 80 0 [some (.ref a1), some (.ref a0)] [] h2 (pV (fun h3 => gm_sub (hh_tg h3 a0) 0 = true ∧ (∀ h5, h5 = hh_wr h3 a0 52 (some a1) → (∀ a6 h7, a6 = hh_sz h5 → h7 = hh_al h5 216 2 2 → (∀ a8 h9, a8 = hh_sz h7 → h9 = hh_al h7 17 0 3 → (gm_G 263 0 [some (.ref a8)] [] h9 (pV (fun h10 => 200 ≤ hh_tg h10 a6 ∧ (gm_as (hh_tg h10 a6) (hh_tg h10 a8) = true) ∧ (0 < hh_ln h10 a6 ∧ (∀ h12, h12 = hh_wr h10 a6 0 (some a8) → (∀ a13 h14, a13 = hh_sz h12 → h14 = hh_al h12 17 0 3 → (gm_G 263 0 [some (.ref a13)] [] h14 (pV (fun h15 => 200 ≤ hh_tg h15 a6 ∧ (gm_as (hh_tg h15 a6) (hh_tg h15 a13) = true) ∧ (1 < hh_ln h15 a6 ∧ (∀ h17, h17 = hh_wr h15 a6 1 (some a13) → (gm_sub (hh_tg h17 a0) 0 = true ∧ (∀ h19, h19 = hh_wr h17 a0 53 (some a6) → (gm_G 391 401 [some (.ref a0)] [] h19 Q)))))) (fun e20 h21 => hh_tg h21 e20 = 21 ∧ Q (.inr e20) h21))))))) (fun e22 h23 => hh_tg h23 e22 = 21 ∧ Q (.inr e22) h23))))))) (fun e24 h25 => hh_tg h25 e24 = 21 ∧ Q (.inr e24) h25)))) : gm_G 391 361 [some (.ref a0)] [] h Q := by
  refine g_aload (r := some _) rfl rfl rfl (pc' := 362) ?_
  refine g_new rfl (t := 16) (s := 2) rfl rfl (pc' := 365) rfl ?_
  replace H := H _ _ rfl rfl
  refine g_dup_a (r := some _) rfl rfl (pc' := 366) ?_
  refine g_aload (r := some _) rfl rfl rfl (pc' := 367) ?_
  refine g_call rfl (y := 80) (n := 2) (pc' := 370) (fun _ => rfl) rfl rfl ⟨(Nat.le_of_ble_eq_true rfl), (Nat.le_of_ble_eq_true rfl), (Nat.le_of_ble_eq_true rfl)⟩ rfl (gm_G.mono H (pV_elim (fun h3 H' => ?_) (fun e24 h25 H => ?_)))
  · show gm_G _ 370 _ _ _ _
    replace H := H'
    clear H'
    obtain ⟨ht4, H⟩ := H
    refine g_putR (x := some _) rfl rfl rfl rfl ht4  (pc' := 373) rfl ?_
    replace H := H _ rfl
    refine g_aload (r := some _) rfl rfl rfl (pc' := 374) ?_
    refine g_iconst rfl rfl rfl (pc' := 375) ?_
    refine g_anewarray rfl (n := 2) rfl (by decide) (pc' := 378) rfl ?_
    replace H := H _ _ rfl rfl
    refine g_dup_a (r := some _) rfl rfl (pc' := 379) ?_
    refine g_iconst rfl rfl rfl (pc' := 380) ?_
    refine g_new rfl (t := 17) (s := 3) rfl rfl (pc' := 383) rfl ?_
    replace H := H _ _ rfl rfl
    refine g_dup_a (r := some _) rfl rfl (pc' := 384) ?_
    refine g_call rfl (y := 263) (n := 1) (pc' := 387) (fun _ => rfl) rfl rfl ⟨(Nat.le_of_ble_eq_true rfl), (Nat.le_of_ble_eq_true rfl), (Nat.le_of_ble_eq_true rfl)⟩ rfl (gm_G.mono H (pV_elim (fun h10 H' => ?_) (fun e22 h23 H => ?_)))
    · show gm_G _ 387 _ _ _ _
      replace H := H'
      clear H'
      obtain ⟨Ha, Hb, H⟩ := H
      obtain ⟨hn11, H⟩ := H
      refine g_aastore (r := some _) rfl Ha (fun b hb => by cases hb; exact Hb) ⟨rfl, by decide, hn11⟩ (pc' := 388) rfl ?_
      replace H := H _ rfl
      refine g_dup_a (r := some _) rfl rfl (pc' := 389) ?_
      refine g_iconst rfl rfl rfl (pc' := 390) ?_
      refine g_new rfl (t := 17) (s := 3) rfl rfl (pc' := 393) rfl ?_
      replace H := H _ _ rfl rfl
      refine g_dup_a (r := some _) rfl rfl (pc' := 394) ?_
      refine g_call rfl (y := 263) (n := 1) (pc' := 397) (fun _ => rfl) rfl rfl ⟨(Nat.le_of_ble_eq_true rfl), (Nat.le_of_ble_eq_true rfl), (Nat.le_of_ble_eq_true rfl)⟩ rfl (gm_G.mono H (pV_elim (fun h15 H' => ?_) (fun e20 h21 H => ?_)))
      · show gm_G _ 397 _ _ _ _
        replace H := H'
        clear H'
        obtain ⟨Ha, Hb, H⟩ := H
        obtain ⟨hn16, H⟩ := H
        refine g_aastore (r := some _) rfl Ha (fun b hb => by cases hb; exact Hb) ⟨rfl, by decide, hn16⟩ (pc' := 398) rfl ?_
        replace H := H _ rfl
        obtain ⟨ht18, H⟩ := H
        refine g_putR (x := some _) rfl rfl rfl rfl ht18  (pc' := 401) rfl ?_
        replace H := H _ rfl
        exact g_weak (show gm_Lle [some _] _ from ⟨rfl, trivial⟩) H
      · exact H
    · exact H
  · exact H
set_option maxRecDepth 20000 in
theorem w_391_401 {a0 : Nat}  {h : hh_T} {Q : Option Value ⊕ Nat → hh_T → Prop} (H : ∀ a1 h2, a1 = hh_sz h → h2 = hh_al h 13 0 2 → (gm_G 62 0 [some (.ref a1), some (.int (Int32.ofNat 6000))] [] h2 (pV (fun h3 => gm_sub (hh_tg h3 a0) 0 = true ∧ (∀ h5, h5 = hh_wr h3 a0 54 (some a1) → (∀ a6 h7, a6 = hh_sz h5 → h7 = hh_al h5 101 32 32 → (gm_sub (hh_tg h7 a0) 0 = true ∧ (∀ h9, h9 = hh_wr h7 a0 55 (some a6) → (gm_G 391 423 [some (.ref a0)] [] h9 Q)))))) (fun e10 h11 => hh_tg h11 e10 = 21 ∧ Q (.inr e10) h11)))) : gm_G 391 401 [some (.ref a0)] [] h Q := by
  refine g_aload (r := some _) rfl rfl rfl (pc' := 402) ?_
  refine g_new rfl (t := 13) (s := 2) rfl rfl (pc' := 405) rfl ?_
  replace H := H _ _ rfl rfl
  refine g_dup_a (r := some _) rfl rfl (pc' := 406) ?_
  refine g_iconst rfl rfl rfl (pc' := 409) ?_
  refine g_call rfl (y := 62) (n := 2) (pc' := 412) (fun _ => rfl) rfl rfl ⟨(Nat.le_of_ble_eq_true rfl), (Nat.le_of_ble_eq_true rfl), (Nat.le_of_ble_eq_true rfl)⟩ rfl (gm_G.mono H (pV_elim (fun h3 H' => ?_) (fun e10 h11 H => ?_)))
  · show gm_G _ 412 _ _ _ _
    replace H := H'
    clear H'
    obtain ⟨ht4, H⟩ := H
    refine g_putR (x := some _) rfl rfl rfl rfl ht4  (pc' := 415) rfl ?_
    replace H := H _ rfl
    refine g_aload (r := some _) rfl rfl rfl (pc' := 416) ?_
    refine g_iconst rfl rfl rfl (pc' := 418) ?_
    refine g_newarray rfl (u := 101) (n := 32) rfl (by decide) rfl (by decide) (pc' := 420) rfl ?_
    replace H := H _ _ rfl rfl
    obtain ⟨ht8, H⟩ := H
    refine g_putR (x := some _) rfl rfl rfl rfl ht8  (pc' := 423) rfl ?_
    replace H := H _ rfl
    exact g_weak (show gm_Lle [some _] _ from ⟨rfl, trivial⟩) H
  · exact H
set_option maxRecDepth 20000 in
theorem w_391_423 {a0 : Nat}  {h : hh_T} {Q : Option Value ⊕ Nat → hh_T → Prop} (H : ∀ a1 h2, a1 = hh_sz h → h2 = hh_al h 18 0 12 → (gm_G 265 0 [some (.ref a1), some (.ref a0)] [] h2 (pV (fun h3 => gm_sub (hh_tg h3 a0) 0 = true ∧ (∀ h5, h5 = hh_wr h3 a0 56 (some a1) → (∀ a6 h7, a6 = hh_sz h5 → h7 = hh_al h5 13 0 2 → (gm_G 62 0 [some (.ref a6), some (.int (Int32.ofNat 320))] [] h7 (pV (fun h8 => gm_sub (hh_tg h8 a0) 0 = true ∧ (∀ h10, h10 = hh_wr h8 a0 57 (some a6) → (gm_G 391 449 [some (.ref a0)] [] h10 Q))) (fun e11 h12 => hh_tg h12 e11 = 21 ∧ Q (.inr e11) h12)))))) (fun e13 h14 => hh_tg h14 e13 = 21 ∧ Q (.inr e13) h14)))) : gm_G 391 423 [some (.ref a0)] [] h Q := by
  refine g_aload (r := some _) rfl rfl rfl (pc' := 424) ?_
  refine g_new rfl (t := 18) (s := 12) rfl rfl (pc' := 427) rfl ?_
  replace H := H _ _ rfl rfl
  refine g_dup_a (r := some _) rfl rfl (pc' := 428) ?_
  refine g_aload (r := some _) rfl rfl rfl (pc' := 429) ?_
  refine g_call rfl (y := 265) (n := 2) (pc' := 432) (fun _ => rfl) rfl rfl ⟨(Nat.le_of_ble_eq_true rfl), (Nat.le_of_ble_eq_true rfl), (Nat.le_of_ble_eq_true rfl)⟩ rfl (gm_G.mono H (pV_elim (fun h3 H' => ?_) (fun e13 h14 H => ?_)))
  · show gm_G _ 432 _ _ _ _
    replace H := H'
    clear H'
    obtain ⟨ht4, H⟩ := H
    refine g_putR (x := some _) rfl rfl rfl rfl ht4  (pc' := 435) rfl ?_
    replace H := H _ rfl
    refine g_aload (r := some _) rfl rfl rfl (pc' := 436) ?_
    refine g_new rfl (t := 13) (s := 2) rfl rfl (pc' := 439) rfl ?_
    replace H := H _ _ rfl rfl
    refine g_dup_a (r := some _) rfl rfl (pc' := 440) ?_
    refine g_iconst rfl rfl rfl (pc' := 443) ?_
    refine g_call rfl (y := 62) (n := 2) (pc' := 446) (fun _ => rfl) rfl rfl ⟨(Nat.le_of_ble_eq_true rfl), (Nat.le_of_ble_eq_true rfl), (Nat.le_of_ble_eq_true rfl)⟩ rfl (gm_G.mono H (pV_elim (fun h8 H' => ?_) (fun e11 h12 H => ?_)))
    · show gm_G _ 446 _ _ _ _
      replace H := H'
      clear H'
      obtain ⟨ht9, H⟩ := H
      refine g_putR (x := some _) rfl rfl rfl rfl ht9  (pc' := 449) rfl ?_
      replace H := H _ rfl
      exact g_weak (show gm_Lle [some _] _ from ⟨rfl, trivial⟩) H
    · exact H
  · exact H
set_option maxRecDepth 20000 in
theorem w_391_449 {a0 : Nat}  {h : hh_T} {Q : Option Value ⊕ Nat → hh_T → Prop} (H : ∀ a1 h2, a1 = hh_sz h → h2 = hh_al h 13 0 2 → (gm_G 62 0 [some (.ref a1), some (.int (Int32.ofNat 320))] [] h2 (pV (fun h3 => gm_sub (hh_tg h3 a0) 0 = true ∧ (∀ h5, h5 = hh_wr h3 a0 58 (some a1) → (∀ a6 h7, a6 = hh_sz h5 → h7 = hh_al h5 13 0 2 → (gm_G 62 0 [some (.ref a6), some (.int (Int32.ofNat 320))] [] h7 (pV (fun h8 => gm_sub (hh_tg h8 a0) 0 = true ∧ (∀ h10, h10 = hh_wr h8 a0 59 (some a6) → (gm_G 391 477 [some (.ref a0)] [] h10 Q))) (fun e11 h12 => hh_tg h12 e11 = 21 ∧ Q (.inr e11) h12)))))) (fun e13 h14 => hh_tg h14 e13 = 21 ∧ Q (.inr e13) h14)))) : gm_G 391 449 [some (.ref a0)] [] h Q := by
  refine g_aload (r := some _) rfl rfl rfl (pc' := 450) ?_
  refine g_new rfl (t := 13) (s := 2) rfl rfl (pc' := 453) rfl ?_
  replace H := H _ _ rfl rfl
  refine g_dup_a (r := some _) rfl rfl (pc' := 454) ?_
  refine g_iconst rfl rfl rfl (pc' := 457) ?_
  refine g_call rfl (y := 62) (n := 2) (pc' := 460) (fun _ => rfl) rfl rfl ⟨(Nat.le_of_ble_eq_true rfl), (Nat.le_of_ble_eq_true rfl), (Nat.le_of_ble_eq_true rfl)⟩ rfl (gm_G.mono H (pV_elim (fun h3 H' => ?_) (fun e13 h14 H => ?_)))
  · show gm_G _ 460 _ _ _ _
    replace H := H'
    clear H'
    obtain ⟨ht4, H⟩ := H
    refine g_putR (x := some _) rfl rfl rfl rfl ht4  (pc' := 463) rfl ?_
    replace H := H _ rfl
    refine g_aload (r := some _) rfl rfl rfl (pc' := 464) ?_
    refine g_new rfl (t := 13) (s := 2) rfl rfl (pc' := 467) rfl ?_
    replace H := H _ _ rfl rfl
    refine g_dup_a (r := some _) rfl rfl (pc' := 468) ?_
    refine g_iconst rfl rfl rfl (pc' := 471) ?_
    refine g_call rfl (y := 62) (n := 2) (pc' := 474) (fun _ => rfl) rfl rfl ⟨(Nat.le_of_ble_eq_true rfl), (Nat.le_of_ble_eq_true rfl), (Nat.le_of_ble_eq_true rfl)⟩ rfl (gm_G.mono H (pV_elim (fun h8 H' => ?_) (fun e11 h12 H => ?_)))
    · show gm_G _ 474 _ _ _ _
      replace H := H'
      clear H'
      obtain ⟨ht9, H⟩ := H
      refine g_putR (x := some _) rfl rfl rfl rfl ht9  (pc' := 477) rfl ?_
      replace H := H _ rfl
      exact g_weak (show gm_Lle [some _] _ from ⟨rfl, trivial⟩) H
    · exact H
  · exact H
set_option maxRecDepth 20000 in
theorem w_391_477 {a0 : Nat}  {h : hh_T} {Q : Option Value ⊕ Nat → hh_T → Prop} (H : ∀ a1 h2, a1 = hh_sz h → h2 = hh_al h 13 0 2 → (gm_G 62 0 [some (.ref a1), some (.int (Int32.ofNat 320))] [] h2 (pV (fun h3 => gm_sub (hh_tg h3 a0) 0 = true ∧ (∀ h5, h5 = hh_wr h3 a0 60 (some a1) → (∀ a6 h7, a6 = hh_sz h5 → h7 = hh_al h5 19 0 7 → (gm_G 86 0 [some (.ref a6), some (.ref a0)] [] h7 (pV (fun h8 => gm_sub (hh_tg h8 a0) 0 = true ∧ (∀ h10, h10 = hh_wr h8 a0 63 (some a6) → (gm_G 391 503 [some (.ref a0)] [] h10 Q))) (fun e11 h12 => hh_tg h12 e11 = 21 ∧ Q (.inr e11) h12)))))) (fun e13 h14 => hh_tg h14 e13 = 21 ∧ Q (.inr e13) h14)))) : gm_G 391 477 [some (.ref a0)] [] h Q := by
  refine g_aload (r := some _) rfl rfl rfl (pc' := 478) ?_
  refine g_new rfl (t := 13) (s := 2) rfl rfl (pc' := 481) rfl ?_
  replace H := H _ _ rfl rfl
  refine g_dup_a (r := some _) rfl rfl (pc' := 482) ?_
  refine g_iconst rfl rfl rfl (pc' := 485) ?_
  refine g_call rfl (y := 62) (n := 2) (pc' := 488) (fun _ => rfl) rfl rfl ⟨(Nat.le_of_ble_eq_true rfl), (Nat.le_of_ble_eq_true rfl), (Nat.le_of_ble_eq_true rfl)⟩ rfl (gm_G.mono H (pV_elim (fun h3 H' => ?_) (fun e13 h14 H => ?_)))
  · show gm_G _ 488 _ _ _ _
    replace H := H'
    clear H'
    obtain ⟨ht4, H⟩ := H
    refine g_putR (x := some _) rfl rfl rfl rfl ht4  (pc' := 491) rfl ?_
    replace H := H _ rfl
    refine g_aload (r := some _) rfl rfl rfl (pc' := 492) ?_
    refine g_new rfl (t := 19) (s := 7) rfl rfl (pc' := 495) rfl ?_
    replace H := H _ _ rfl rfl
    refine g_dup_a (r := some _) rfl rfl (pc' := 496) ?_
    refine g_aload (r := some _) rfl rfl rfl (pc' := 497) ?_
    refine g_call rfl (y := 86) (n := 2) (pc' := 500) (fun _ => rfl) rfl rfl ⟨(Nat.le_of_ble_eq_true rfl), (Nat.le_of_ble_eq_true rfl), (Nat.le_of_ble_eq_true rfl)⟩ rfl (gm_G.mono H (pV_elim (fun h8 H' => ?_) (fun e11 h12 H => ?_)))
    · show gm_G _ 500 _ _ _ _
      replace H := H'
      clear H'
      obtain ⟨ht9, H⟩ := H
      refine g_putR (x := some _) rfl rfl rfl rfl ht9  (pc' := 503) rfl ?_
      replace H := H _ rfl
      exact g_weak (show gm_Lle [some _] _ from ⟨rfl, trivial⟩) H
    · exact H
  · exact H
set_option maxRecDepth 20000 in
theorem w_391_503 {a0 : Nat}  {h : hh_T} {Q : Option Value ⊕ Nat → hh_T → Prop} (H : ∀ a1 h2, a1 = hh_sz h → h2 = hh_al h 231 128 128 → (gm_sub (hh_tg h2 a0) 0 = true ∧ (∀ h4, h4 = hh_wr h2 a0 64 (some a1) → (Q (.inl none) h4)))) : gm_G 391 503 [some (.ref a0)] [] h Q := by
  refine g_aload (r := some _) rfl rfl rfl (pc' := 504) ?_
  refine g_iconst rfl rfl rfl (pc' := 507) ?_
  refine g_anewarray rfl (n := 128) rfl (by decide) (pc' := 510) rfl ?_
  replace H := H _ _ rfl rfl
  obtain ⟨ht3, H⟩ := H
  refine g_putR (x := some _) rfl rfl rfl rfl ht3  (pc' := 513) rfl ?_
  replace H := H _ rfl
  exact g_return rfl H
set_option maxRecDepth 20000 in
theorem w_392_0 {a0 : Nat} {x1 : Int32} {x2 : Int32} {x3 : Int32} {h : hh_T} {Q : Option Value ⊕ Nat → hh_T → Prop} (H : gm_G 5 0 [some (.int x1), some (.int (Int32.ofNat 0)), some (.int (Int32.ofNat 2))] [] h (pI (fun v2 h1 => (¬ v2 = Int32.ofNat 0 → ((¬ x1 = Int32.ofNat 0 → ((¬ x1 = (Int32.ofNat 1) → (hh_tg h1 a0 = 1 ∧ (gm_G 218 0 [some (.ref a0), some (.int x2), some (.int x3)] [] h1 (pI (fun v5 h4 => Q (.inl (some (.int v5))) h4) (fun e6 h7 => hh_tg h7 e6 = 21 ∧ Q (.inr e6) h7))))) ∧ (x1 = (Int32.ofNat 1) → (hh_tg h1 a0 = 1 ∧ (gm_G 333 0 [some (.ref a0), some (.int x2), some (.int x3)] [] h1 (pI (fun v10 h9 => Q (.inl (some (.int v10))) h9) (fun e11 h12 => hh_tg h12 e11 = 21 ∧ Q (.inr e11) h12))))))) ∧ (x1 = Int32.ofNat 0 → (hh_tg h1 a0 = 1 ∧ (gm_G 332 0 [some (.ref a0), some (.int x2), some (.int x3)] [] h1 (pI (fun v15 h14 => Q (.inl (some (.int v15))) h14) (fun e16 h17 => hh_tg h17 e16 = 21 ∧ Q (.inr e16) h17))))))) ∧ (v2 = Int32.ofNat 0 → (Q (.inl (some (.int (Int32.ofInt (-1))))) h1))) (fun e18 h19 => hh_tg h19 e18 = 21 ∧ Q (.inr e18) h19))) : gm_G 392 0 [some (.ref a0), some (.int x1), some (.int x2), some (.int x3)] [] h Q := by
  refine g_iload rfl rfl rfl (pc' := 1) ?_
  refine g_iconst rfl rfl rfl (pc' := 2) ?_
  refine g_iconst rfl rfl rfl (pc' := 3) ?_
  refine g_call rfl (y := 5) (n := 3) (pc' := 6) (fun _ => rfl) rfl rfl ⟨(Nat.le_of_ble_eq_true rfl), (Nat.le_of_ble_eq_true rfl), (Nat.le_of_ble_eq_true rfl)⟩ rfl (gm_G.mono H (pI_elim (fun v2 h1 H' => ?_) (fun e18 h19 H => ?_)))
  · show gm_G _ 6 _ _ _ _
    replace H := H'
    clear H'
    refine g_if_ne rfl (pc' := 9) (pt := 11) rfl rfl ⟨fun hc => ?_, fun hc => ?_⟩
    · replace H := H.1 hc
      refine g_iload rfl rfl rfl (pc' := 12) ?_
      refine g_if_ne rfl (pc' := 15) (pt := 24) rfl rfl ⟨fun hc => ?_, fun hc => ?_⟩
      · replace H := H.1 hc
        refine g_iload rfl rfl rfl (pc' := 25) ?_
        refine g_iconst rfl rfl rfl (pc' := 26) ?_
        refine g_ic_ne rfl (pc' := 29) (pt := 38) rfl rfl ⟨fun hc => ?_, fun hc => ?_⟩
        · replace H := H.1 hc
          refine g_aload (r := some _) rfl rfl rfl (pc' := 39) ?_
          refine g_iload rfl rfl rfl (pc' := 40) ?_
          refine g_iload rfl rfl rfl (pc' := 41) ?_
          obtain ⟨ht3, H⟩ := H
          refine g_call rfl (y := 218) (n := 3) (pc' := 44) (g_vt ht3 rfl rfl) rfl rfl ⟨(Nat.le_of_ble_eq_true rfl), (Nat.le_of_ble_eq_true rfl), (Nat.le_of_ble_eq_true rfl)⟩ rfl (gm_G.mono H (pI_elim (fun v5 h4 H' => ?_) (fun e6 h7 H => ?_)))
          · show gm_G _ 44 _ _ _ _
            replace H := H'
            clear H'
            exact g_ireturn rfl (Or.inl rfl) H
          · exact H
        · replace H := H.2 hc
          refine g_aload (r := some _) rfl rfl rfl (pc' := 30) ?_
          refine g_iload rfl rfl rfl (pc' := 31) ?_
          refine g_iload rfl rfl rfl (pc' := 32) ?_
          obtain ⟨ht8, H⟩ := H
          refine g_call rfl (y := 333) (n := 3) (pc' := 35) (g_vt ht8 rfl rfl) rfl rfl ⟨(Nat.le_of_ble_eq_true rfl), (Nat.le_of_ble_eq_true rfl), (Nat.le_of_ble_eq_true rfl)⟩ rfl (gm_G.mono H (pI_elim (fun v10 h9 H' => ?_) (fun e11 h12 H => ?_)))
          · show gm_G _ 35 _ _ _ _
            replace H := H'
            clear H'
            refine g_goto rfl (pc' := 44) rfl ?_
            exact g_ireturn rfl (Or.inl rfl) H
          · exact H
      · replace H := H.2 hc
        refine g_aload (r := some _) rfl rfl rfl (pc' := 16) ?_
        refine g_iload rfl rfl rfl (pc' := 17) ?_
        refine g_iload rfl rfl rfl (pc' := 18) ?_
        obtain ⟨ht13, H⟩ := H
        refine g_call rfl (y := 332) (n := 3) (pc' := 21) (g_vt ht13 rfl rfl) rfl rfl ⟨(Nat.le_of_ble_eq_true rfl), (Nat.le_of_ble_eq_true rfl), (Nat.le_of_ble_eq_true rfl)⟩ rfl (gm_G.mono H (pI_elim (fun v15 h14 H' => ?_) (fun e16 h17 H => ?_)))
        · show gm_G _ 21 _ _ _ _
          replace H := H'
          clear H'
          refine g_goto rfl (pc' := 44) rfl ?_
          exact g_ireturn rfl (Or.inl rfl) H
        · exact H
    · replace H := H.2 hc
      refine g_iconst rfl rfl rfl (pc' := 10) ?_
      exact g_ireturn rfl (Or.inl rfl) H
  · exact H
set_option maxRecDepth 20000 in
theorem w_393_0 {a0 : Nat} {r_1 : Option Nat} {x2 : Int32} {x3 : Int32} {h : hh_T} {Q : Option Value ⊕ Nat → hh_T → Prop} (H : (¬ x2 = Int32.ofNat 0 → (gm_G 393 9 [some (.ref a0), some (va_rf r_1), some (.int x2), some (.int x3), some (.int (Int32.ofNat 1))] [] h Q)) ∧ (x2 = Int32.ofNat 0 → (Q (.inl (some (.int (Int32.ofNat 1)))) h))) : gm_G 393 0 [some (.ref a0), some (va_rf r_1), some (.int x2), some (.int x3)] [] h Q := by
  refine g_iload rfl rfl rfl (pc' := 1) ?_
  refine g_if_ne rfl (pc' := 4) (pt := 6) rfl rfl ⟨fun hc => ?_, fun hc => ?_⟩
  · replace H := H.1 hc
    refine g_iconst rfl rfl rfl (pc' := 7) ?_
    refine g_istore rfl rfl rfl (pc' := 9) ?_
    exact g_weak (show gm_Lle [some _, some _, some _, some _, some _] _ from ⟨rfl, ⟨rfl, ⟨rfl, ⟨rfl, ⟨rfl, trivial⟩⟩⟩⟩⟩) H
  · replace H := H.2 hc
    refine g_iconst rfl rfl rfl (pc' := 5) ?_
    exact g_ireturn rfl (Or.inr (by decide)) H
set_option maxRecDepth 20000 in
theorem w_393_9 {a0 : Nat} {r_1 : Option Nat} {x2 : Int32} {x3 : Int32} {x4 : Int32} {h : hh_T} {Q : Option Value ⊕ Nat → hh_T → Prop} (H : ((Int32.ofNat 4) < x4 → (Q (.inl (some (.int (Int32.ofNat 1)))) h)) ∧ (¬ (Int32.ofNat 4) < x4 → (((x3 &&& x4) = Int32.ofNat 0 → (gm_G 393 35 [some (.ref a0), some (va_rf r_1), some (.int x2), some (.int x3), some (.int x4)] [] h Q)) ∧ (¬ (x3 &&& x4) = Int32.ofNat 0 → (hh_tg h a0 = 1 ∧ (gm_G 335 0 [some (.ref a0), some (va_rf r_1), some (.int x2), some (.int x4)] [] h (pI (fun v3 h2 => (¬ v3 = Int32.ofNat 0 → (gm_G 393 35 [some (.ref a0), some (va_rf r_1), some (.int x2), some (.int x3), some (.int x4)] [] h2 Q)) ∧ (v3 = Int32.ofNat 0 → (Q (.inl (some (.int (Int32.ofNat 0)))) h2))) (fun e4 h5 => hh_tg h5 e4 = 21 ∧ Q (.inr e4) h5)))))))) : gm_G 393 9 [some (.ref a0), some (va_rf r_1), some (.int x2), some (.int x3), some (.int x4)] [] h Q := by
  refine g_iload rfl rfl rfl (pc' := 11) ?_
  refine g_iconst rfl rfl rfl (pc' := 12) ?_
  refine g_ic_gt rfl (pc' := 15) (pt := 44) rfl rfl ⟨fun hc => ?_, fun hc => ?_⟩
  · replace H := H.1 hc
    refine g_iconst rfl rfl rfl (pc' := 45) ?_
    exact g_ireturn rfl (Or.inr (by decide)) H
  · replace H := H.2 hc
    refine g_iload rfl rfl rfl (pc' := 16) ?_
    refine g_iload rfl rfl rfl (pc' := 18) ?_
    refine g_iand rfl rfl (pc' := 19) ?_
    refine g_if_eq rfl (pc' := 22) (pt := 35) rfl rfl ⟨fun hc => ?_, fun hc => ?_⟩
    · replace H := H.1 hc
      exact g_weak (show gm_Lle [some _, some _, some _, some _, some _] _ from ⟨rfl, ⟨rfl, ⟨rfl, ⟨rfl, ⟨rfl, trivial⟩⟩⟩⟩⟩) H
    · replace H := H.2 hc
      refine g_aload (r := some _) rfl rfl rfl (pc' := 23) ?_
      refine g_aload (r := _) rfl rfl rfl (pc' := 24) ?_
      refine g_iload rfl rfl rfl (pc' := 25) ?_
      refine g_iload rfl rfl rfl (pc' := 27) ?_
      obtain ⟨ht1, H⟩ := H
      refine g_call rfl (y := 335) (n := 4) (pc' := 30) (g_vt ht1 rfl rfl) (by cases r_1 <;> rfl) rfl ⟨(Nat.le_of_ble_eq_true rfl), (Nat.le_of_ble_eq_true rfl), (Nat.le_of_ble_eq_true rfl)⟩ rfl (gm_G.mono H (pI_elim (fun v3 h2 H' => ?_) (fun e4 h5 H => ?_)))
      · show gm_G _ 30 _ _ _ _
        replace H := H'
        clear H'
        refine g_if_ne rfl (pc' := 33) (pt := 35) rfl rfl ⟨fun hc => ?_, fun hc => ?_⟩
        · replace H := H.1 hc
          exact g_weak (show gm_Lle [some _, some _, some _, some _, some _] _ from ⟨rfl, ⟨rfl, ⟨rfl, ⟨rfl, ⟨rfl, trivial⟩⟩⟩⟩⟩) H
        · replace H := H.2 hc
          refine g_iconst rfl rfl rfl (pc' := 34) ?_
          exact g_ireturn rfl (Or.inr (by decide)) H
      · exact H
set_option maxRecDepth 20000 in
theorem w_393_35 {a0 : Nat} {r_1 : Option Nat} {x2 : Int32} {x3 : Int32} {x4 : Int32} {h : hh_T} {Q : Option Value ⊕ Nat → hh_T → Prop} (H : gm_G 393 9 [some (.ref a0), some (va_rf r_1), some (.int x2), some (.int x3), some (.int (x4 <<< ((Int32.ofNat 1) &&& 31)))] [] h Q) : gm_G 393 35 [some (.ref a0), some (va_rf r_1), some (.int x2), some (.int x3), some (.int x4)] [] h Q := by
  refine g_iload rfl rfl rfl (pc' := 37) ?_
  refine g_iconst rfl rfl rfl (pc' := 38) ?_
  refine g_ishl rfl rfl (pc' := 39) ?_
  refine g_istore rfl rfl rfl (pc' := 41) ?_
  refine g_goto rfl (pc' := 9) rfl ?_
  exact g_weak (show gm_Lle [some _, some _, some _, some _, some _] _ from ⟨rfl, ⟨rfl, ⟨rfl, ⟨rfl, ⟨rfl, trivial⟩⟩⟩⟩⟩) H
set_option maxRecDepth 20000 in
theorem w_394_0 {a0 : Nat} {x1 : Int32} {h : hh_T} {Q : Option Value ⊕ Nat → hh_T → Prop} (H : hh_tg h a0 = 1 ∧ (gm_G 220 0 [some (.ref a0)] [] h (pR (fun r3 h2 => (¬ x1 = Int32.ofNat 0 → (gm_G 394 15 [some (.ref a0), some (.int x1), some (va_rf r3)] [.int (Int32.ofNat 4), .ref a0] h2 Q)) ∧ (x1 = Int32.ofNat 0 → (gm_G 394 15 [some (.ref a0), some (.int x1), some (va_rf r3)] [.int (Int32.ofNat 2), .ref a0] h2 Q))) (fun e4 h5 => hh_tg h5 e4 = 21 ∧ Q (.inr e4) h5)))) : gm_G 394 0 [some (.ref a0), some (.int x1)] [] h Q := by
  refine g_aload (r := some _) rfl rfl rfl (pc' := 1) ?_
  obtain ⟨ht1, H⟩ := H
  refine g_call rfl (y := 220) (n := 1) (pc' := 4) (g_vt ht1 rfl rfl) rfl rfl ⟨(Nat.le_of_ble_eq_true rfl), (Nat.le_of_ble_eq_true rfl), (Nat.le_of_ble_eq_true rfl)⟩ rfl (gm_G.mono H (pR_elim (fun r3 h2 H' => ?_) (fun e4 h5 H => ?_)))
  · show gm_G _ 4 _ _ _ _
    replace H := H'
    clear H'
    refine g_astore (r := _) rfl rfl rfl (pc' := 5) ?_
    refine g_aload (r := some _) rfl rfl rfl (pc' := 6) ?_
    refine g_iload rfl rfl rfl (pc' := 7) ?_
    refine g_if_ne rfl (pc' := 10) (pt := 14) rfl rfl ⟨fun hc => ?_, fun hc => ?_⟩
    · replace H := H.1 hc
      refine g_iconst rfl rfl rfl (pc' := 15) ?_
      exact g_weak (show gm_Lle [some _, some _, some _] _ from ⟨rfl, ⟨rfl, ⟨rfl, trivial⟩⟩⟩) H
    · replace H := H.2 hc
      refine g_iconst rfl rfl rfl (pc' := 11) ?_
      refine g_goto rfl (pc' := 15) rfl ?_
      exact g_weak (show gm_Lle [some _, some _, some _] _ from ⟨rfl, ⟨rfl, ⟨rfl, trivial⟩⟩⟩) H
  · exact H
set_option maxRecDepth 20000 in
theorem w_394_15 {a0 : Nat} {x1 : Int32} {r_2 : Option Nat} {y0 : Int32} {q1 : Option Nat} {h : hh_T} {Q : Option Value ⊕ Nat → hh_T → Prop} (H : ∃ a1, q1 = some a1 ∧ (hh_tg h a1 = 1 ∧ (gm_G 345 0 [some (.ref a1), some (.int y0)] [] h (pR (fun r4 h3 => ∃ a5, r4 = some a5 ∧ (gm_sub (hh_tg h3 a5) 25 = true ∧ (∀ h7, h7 = hh_wi h3 a5 3 (Int32.ofNat 0) → (∀ h8, h8 = hh_wi h7 a5 4 (Int32.ofNat 0) → (∀ h9, h9 = hh_wi h8 a5 8 (Int32.ofNat 0) → ((¬ x1 = Int32.ofNat 0 → (gm_G 394 46 [some (.ref a0), some (.int x1), some (va_rf r_2), some (.ref a5)] [] h9 Q)) ∧ (x1 = Int32.ofNat 0 → (gm_sub (hh_tg h9 a5) 27 = true ∧ (∀ h11, h11 = hh_wi h9 a5 14 (Int32.ofNat 0) → (gm_G 394 46 [some (.ref a0), some (.int x1), some (va_rf r_2), some (.ref a5)] [] h11 Q)))))))))) (fun e12 h13 => hh_tg h13 e12 = 21 ∧ Q (.inr e12) h13))))) : gm_G 394 15 [some (.ref a0), some (.int x1), some (va_rf r_2)] [.int y0, va_rf q1] h Q := by
  obtain ⟨a1, rfl, H⟩ := H
  obtain ⟨ht2, H⟩ := H
  refine g_call rfl (y := 345) (n := 2) (pc' := 18) (g_vt ht2 rfl rfl) rfl rfl ⟨(Nat.le_of_ble_eq_true rfl), (Nat.le_of_ble_eq_true rfl), (Nat.le_of_ble_eq_true rfl)⟩ rfl (gm_G.mono H (pR_elim (fun r4 h3 H' => ?_) (fun e12 h13 H => ?_)))
  · show gm_G _ 18 _ _ _ _
    replace H := H'
    clear H'
    refine g_astore (r := _) rfl gm_sto_rf2 rfl (pc' := 19) ?_
    refine g_aload (r := _) rfl rfl rfl (pc' := 20) ?_
    refine g_iconst rfl rfl rfl (pc' := 21) ?_
    obtain ⟨a5, rfl, H⟩ := H
    obtain ⟨ht6, H⟩ := H
    refine g_putI rfl rfl rfl rfl ht6  (pc' := 24) rfl ?_
    replace H := H _ rfl
    refine g_aload (r := some _) rfl rfl rfl (pc' := 25) ?_
    refine g_iconst rfl rfl rfl (pc' := 26) ?_
    refine g_putI rfl rfl rfl rfl ht6  (pc' := 29) rfl ?_
    replace H := H _ rfl
    refine g_aload (r := some _) rfl rfl rfl (pc' := 30) ?_
    refine g_iconst rfl rfl rfl (pc' := 31) ?_
    refine g_putI rfl rfl rfl rfl ht6  (pc' := 34) rfl ?_
    replace H := H _ rfl
    refine g_iload rfl rfl rfl (pc' := 35) ?_
    refine g_if_ne rfl (pc' := 38) (pt := 46) rfl rfl ⟨fun hc => ?_, fun hc => ?_⟩
    · replace H := H.1 hc
      exact g_weak (show gm_Lle [some _, some _, some _, some _] _ from ⟨rfl, ⟨rfl, ⟨rfl, ⟨rfl, trivial⟩⟩⟩⟩) H
    · replace H := H.2 hc
      refine g_aload (r := some _) rfl rfl rfl (pc' := 39) ?_
      obtain ⟨ht10, H⟩ := H
      refine g_cast (r := some _) rfl (fun b hb => by cases hb; exact ht10) (pc' := 42) rfl ?_
      refine g_iconst rfl rfl rfl (pc' := 43) ?_
      refine g_putI rfl rfl rfl rfl ht10  (pc' := 46) rfl ?_
      replace H := H _ rfl
      exact g_weak (show gm_Lle [some _, some _, some _, some _] _ from ⟨rfl, ⟨rfl, ⟨rfl, ⟨rfl, trivial⟩⟩⟩⟩) H
  · exact H
set_option maxRecDepth 20000 in
theorem w_394_46 {a0 : Nat} {x1 : Int32} {r_2 : Option Nat} {r_3 : Option Nat} {h : hh_T} {Q : Option Value ⊕ Nat → hh_T → Prop} (H : ∃ a1, r_3 = some a1 ∧ (gm_sub (hh_tg h a1) 25 = true ∧ (∀ h3, h3 = hh_wi h a1 2 (Int32.ofNat 511) → (∀ h4, h4 = hh_wi h3 a1 5 (Int32.ofNat 1) → ((¬ x1 = Int32.ofNat 0 → (gm_G 394 71 [some (.ref a0), none, some (va_rf r_2), some (.ref a1)] [.int ((Int32.ofNat 32) * x1), .ref a1] h4 Q)) ∧ (x1 = Int32.ofNat 0 → (gm_G 394 71 [some (.ref a0), none, some (va_rf r_2), some (.ref a1)] [.int (Int32.ofNat 0), .ref a1] h4 Q))))))) : gm_G 394 46 [some (.ref a0), some (.int x1), some (va_rf r_2), some (va_rf r_3)] [] h Q := by
  refine g_aload (r := _) rfl rfl rfl (pc' := 47) ?_
  refine g_iconst rfl rfl rfl (pc' := 50) ?_
  obtain ⟨a1, rfl, H⟩ := H
  obtain ⟨ht2, H⟩ := H
  refine g_putI rfl rfl rfl rfl ht2  (pc' := 53) rfl ?_
  replace H := H _ rfl
  refine g_aload (r := some _) rfl rfl rfl (pc' := 54) ?_
  refine g_iconst rfl rfl rfl (pc' := 55) ?_
  refine g_putI rfl rfl rfl rfl ht2  (pc' := 58) rfl ?_
  replace H := H _ rfl
  refine g_aload (r := some _) rfl rfl rfl (pc' := 59) ?_
  refine g_iload rfl rfl rfl (pc' := 60) ?_
  refine g_if_ne rfl (pc' := 63) (pt := 67) rfl rfl ⟨fun hc => ?_, fun hc => ?_⟩
  · replace H := H.1 hc
    refine g_iconst rfl rfl rfl (pc' := 69) ?_
    refine g_iload rfl rfl rfl (pc' := 70) ?_
    refine g_imul rfl rfl (pc' := 71) ?_
    exact g_weak (show gm_Lle [some _, none, some _, some _] _ from ⟨rfl, ⟨rfl, ⟨rfl, trivial⟩⟩⟩) H
  · replace H := H.2 hc
    refine g_iconst rfl rfl rfl (pc' := 64) ?_
    refine g_goto rfl (pc' := 71) rfl ?_
    exact g_weak (show gm_Lle [some _, none, some _, some _] _ from ⟨rfl, ⟨rfl, ⟨rfl, trivial⟩⟩⟩) H
set_option maxRecDepth 20000 in
theorem w_394_71 {a0 : Nat} {r_2 : Option Nat} {r_3 : Option Nat} {y0 : Int32} {q1 : Option Nat} {h : hh_T} {Q : Option Value ⊕ Nat → hh_T → Prop} (H : ∃ a1, q1 = some a1 ∧ (gm_sub (hh_tg h a1) 25 = true ∧ (∀ h3, h3 = hh_wi h a1 6 y0 → (gm_sub (hh_tg h3 a0) 0 = true ∧ (∃ a5, r_3 = some a5 ∧ (gm_sub (hh_tg h3 a5) 25 = true ∧ (∀ h7, h7 = hh_wi h3 a5 7 (hh_i h3 a0 42) → (∃ a8, r_2 = some a8 ∧ (gm_sub (hh_tg h7 a8) 24 = true ∧ (∀ r10, r10 = hh_r h7 a8 2 → (∃ a11, r10 = some a11 ∧ (200 ≤ hh_tg h7 a11 ∧ (gm_as (hh_tg h7 a11) (hh_tg h7 a5) = true) ∧ (0 < hh_ln h7 a11 ∧ (∀ h13, h13 = hh_wr h7 a11 0 (some a5) → (∀ h14, h14 = hh_wi h13 a8 1 (Int32.ofNat 1) → (Q (.inl (some (.ref a8))) h14)))))))))))))))) : gm_G 394 71 [some (.ref a0), none, some (va_rf r_2), some (va_rf r_3)] [.int y0, va_rf q1] h Q := by
  obtain ⟨a1, rfl, H⟩ := H
  obtain ⟨ht2, H⟩ := H
  refine g_putI rfl rfl rfl rfl ht2  (pc' := 74) rfl ?_
  replace H := H _ rfl
  refine g_aload (r := _) rfl rfl rfl (pc' := 75) ?_
  refine g_aload (r := some _) rfl rfl rfl (pc' := 76) ?_
  obtain ⟨ht4, H⟩ := H
  refine g_getI rfl rfl rfl rfl ht4 (pc' := 79) rfl ?_
  obtain ⟨a5, rfl, H⟩ := H
  obtain ⟨ht6, H⟩ := H
  refine g_putI rfl rfl rfl rfl ht6  (pc' := 82) rfl ?_
  replace H := H _ rfl
  refine g_aload (r := _) rfl rfl rfl (pc' := 83) ?_
  obtain ⟨a8, rfl, H⟩ := H
  obtain ⟨ht9, H⟩ := H
  refine g_getRv rfl rfl rfl rfl ht9 (pc' := 86) rfl (fun r10 hr10 => ?_)
  replace H := H r10 hr10
  refine g_iconst rfl rfl rfl (pc' := 87) ?_
  refine g_aload (r := some _) rfl rfl rfl (pc' := 88) ?_
  obtain ⟨a11, rfl, H⟩ := H
  obtain ⟨Ha, Hb, H⟩ := H
  obtain ⟨hn12, H⟩ := H
  refine g_aastore (r := some _) rfl Ha (fun b hb => by cases hb; exact Hb) ⟨rfl, by decide, hn12⟩ (pc' := 89) rfl ?_
  replace H := H _ rfl
  refine g_aload (r := some _) rfl rfl rfl (pc' := 90) ?_
  refine g_iconst rfl rfl rfl (pc' := 91) ?_
  refine g_putI rfl rfl rfl rfl ht9  (pc' := 94) rfl ?_
  replace H := H _ rfl
  refine g_aload (r := some _) rfl rfl rfl (pc' := 95) ?_
  exact g_areturn (r := some _) rfl H
set_option maxRecDepth 20000 in
theorem w_395_0 {a0 : Nat} {r_1 : Option Nat} {x2 : Int32} {h : hh_T} {Q : Option Value ⊕ Nat → hh_T → Prop} (H : ∃ a1, r_1 = some a1 ∧ (gm_sub (hh_tg h a1) 24 = true ∧ (∀ r3, r3 = hh_r h a1 2 → (∃ a4, r3 = some a4 ∧ ((hh_tg h a4 = 104 ∨ 200 ≤ hh_tg h a4) ∧ (∃ n5, gm_ix x2 n5 (hh_ln h a4) ∧ (∀ r7, r7 = hh_r h a4 n5 → (∃ a8, r7 = some a8 ∧ (gm_sub (hh_tg h a8) 25 = true ∧ ((¬ (Int32.ofNat 1) < (hh_i h a8 0) → (Q (.inl (some (.ref a8))) h)) ∧ ((Int32.ofNat 1) < (hh_i h a8 0) → (∀ h10, h10 = hh_wi h a8 0 ((hh_i h a8 0) - (Int32.ofNat 1)) → (hh_tg h10 a0 = 1 ∧ (gm_G 345 0 [some (.ref a0), some (.int (hh_i h10 a8 1))] [] h10 (pR (fun r13 h12 => ∃ a14, r13 = some a14 ∧ ((hh_tg h12 a14 = 27 ∧ (gm_G 314 0 [some (.ref a14), some (.ref a8)] [] h12 (pV (fun h15 => gm_sub (hh_tg h15 a1) 24 = true ∧ (∀ r17, r17 = hh_r h15 a1 2 → (∃ a18, r17 = some a18 ∧ (200 ≤ hh_tg h15 a18 ∧ (gm_as (hh_tg h15 a18) (hh_tg h15 a14) = true) ∧ (∃ n19, gm_ix x2 n19 (hh_ln h15 a18) ∧ (∀ h20, h20 = hh_wr h15 a18 n19 (some a14) → (Q (.inl (some (.ref a14))) h20))))))) (fun e21 h22 => hh_tg h22 e21 = 21 ∧ Q (.inr e21) h22)))) ∨ (hh_tg h12 a14 = 28 ∧ (gm_G 316 0 [some (.ref a14), some (.ref a8)] [] h12 (pV (fun h23 => gm_sub (hh_tg h23 a1) 24 = true ∧ (∀ r25, r25 = hh_r h23 a1 2 → (∃ a26, r25 = some a26 ∧ (200 ≤ hh_tg h23 a26 ∧ (gm_as (hh_tg h23 a26) (hh_tg h23 a14) = true) ∧ (∃ n27, gm_ix x2 n27 (hh_ln h23 a26) ∧ (∀ h28, h28 = hh_wr h23 a26 n27 (some a14) → (Q (.inl (some (.ref a14))) h28))))))) (fun e29 h30 => hh_tg h30 e29 = 21 ∧ Q (.inr e29) h30)))) ∨ (hh_tg h12 a14 = 29 ∧ (gm_G 320 0 [some (.ref a14), some (.ref a8)] [] h12 (pV (fun h31 => gm_sub (hh_tg h31 a1) 24 = true ∧ (∀ r33, r33 = hh_r h31 a1 2 → (∃ a34, r33 = some a34 ∧ (200 ≤ hh_tg h31 a34 ∧ (gm_as (hh_tg h31 a34) (hh_tg h31 a14) = true) ∧ (∃ n35, gm_ix x2 n35 (hh_ln h31 a34) ∧ (∀ h36, h36 = hh_wr h31 a34 n35 (some a14) → (Q (.inl (some (.ref a14))) h36))))))) (fun e37 h38 => hh_tg h38 e37 = 21 ∧ Q (.inr e37) h38)))))) (fun e39 h40 => hh_tg h40 e39 = 21 ∧ Q (.inr e39) h40)))))))))))))))) : gm_G 395 0 [some (.ref a0), some (va_rf r_1), some (.int x2)] [] h Q := by
  refine g_aload (r := _) rfl rfl rfl (pc' := 1) ?_
  obtain ⟨a1, rfl, H⟩ := H
  obtain ⟨ht2, H⟩ := H
  refine g_getRv rfl rfl rfl rfl ht2 (pc' := 4) rfl (fun r3 hr3 => ?_)
  replace H := H r3 hr3
  refine g_iload rfl rfl rfl (pc' := 5) ?_
  obtain ⟨a4, rfl, H⟩ := H
  obtain ⟨ht6, H⟩ := H
  obtain ⟨n5, hn5, H⟩ := H
  refine g_aaloadv rfl ht6 hn5 (pc' := 6) rfl (fun r7 hr7 => ?_)
  replace H := H r7 hr7
  refine g_astore (r := _) rfl rfl rfl (pc' := 7) ?_
  refine g_aload (r := _) rfl rfl rfl (pc' := 8) ?_
  obtain ⟨a8, rfl, H⟩ := H
  obtain ⟨ht9, H⟩ := H
  refine g_getI rfl rfl rfl rfl ht9 (pc' := 11) rfl ?_
  refine g_iconst rfl rfl rfl (pc' := 12) ?_
  refine g_ic_le rfl (pc' := 15) (pt := 52) rfl rfl ⟨fun hc => ?_, fun hc => ?_⟩
  · replace H := H.1 hc
    refine g_aload (r := some _) rfl rfl rfl (pc' := 53) ?_
    exact g_areturn (r := some _) rfl H
  · replace H := H.2 hc
    refine g_aload (r := some _) rfl rfl rfl (pc' := 16) ?_
    refine g_dup_a (r := some _) rfl rfl (pc' := 17) ?_
    refine g_getI rfl rfl rfl rfl ht9 (pc' := 20) rfl ?_
    refine g_iconst rfl rfl rfl (pc' := 21) ?_
    refine g_isub rfl rfl (pc' := 22) ?_
    refine g_putI rfl rfl rfl rfl ht9  (pc' := 25) rfl ?_
    replace H := H _ rfl
    refine g_aload (r := some _) rfl rfl rfl (pc' := 26) ?_
    refine g_aload (r := some _) rfl rfl rfl (pc' := 27) ?_
    refine g_getI rfl rfl rfl rfl ht9 (pc' := 30) rfl ?_
    obtain ⟨ht11, H⟩ := H
    refine g_call rfl (y := 345) (n := 2) (pc' := 33) (g_vt ht11 rfl rfl) rfl rfl ⟨(Nat.le_of_ble_eq_true rfl), (Nat.le_of_ble_eq_true rfl), (Nat.le_of_ble_eq_true rfl)⟩ rfl (gm_G.mono H (pR_elim (fun r13 h12 H' => ?_) (fun e39 h40 H => ?_)))
    · show gm_G _ 33 _ _ _ _
      replace H := H'
      clear H'
      refine g_astore (r := _) rfl rfl rfl (pc' := 35) ?_
      refine g_aload (r := _) rfl rfl rfl (pc' := 37) ?_
      refine g_aload (r := some _) rfl rfl rfl (pc' := 38) ?_
      obtain ⟨a14, rfl, H⟩ := H
      rcases H with ⟨ht, H⟩ | ⟨ht, H⟩ | ⟨ht, H⟩
      · refine g_call rfl (y := 314) (n := 2) (pc' := 41) (g_vt ht rfl rfl) rfl rfl ⟨(Nat.le_of_ble_eq_true rfl), (Nat.le_of_ble_eq_true rfl), (Nat.le_of_ble_eq_true rfl)⟩ rfl (gm_G.mono H (pV_elim (fun h15 H' => ?_) (fun e21 h22 H => ?_)))
        · show gm_G _ 41 _ _ _ _
          replace H := H'
          clear H'
          refine g_aload (r := some _) rfl rfl rfl (pc' := 42) ?_
          obtain ⟨ht16, H⟩ := H
          refine g_getRv rfl rfl rfl rfl ht16 (pc' := 45) rfl (fun r17 hr17 => ?_)
          replace H := H r17 hr17
          refine g_iload rfl rfl rfl (pc' := 46) ?_
          refine g_aload (r := some _) rfl rfl rfl (pc' := 48) ?_
          obtain ⟨a18, rfl, H⟩ := H
          obtain ⟨Ha, Hb, H⟩ := H
          obtain ⟨n19, hn19, H⟩ := H
          refine g_aastore (r := some _) rfl Ha (fun b hb => by cases hb; exact Hb) hn19 (pc' := 49) rfl ?_
          replace H := H _ rfl
          refine g_aload (r := some _) rfl rfl rfl (pc' := 51) ?_
          exact g_areturn (r := some _) rfl H
        · exact H
      · refine g_call rfl (y := 316) (n := 2) (pc' := 41) (g_vt ht rfl rfl) rfl rfl ⟨(Nat.le_of_ble_eq_true rfl), (Nat.le_of_ble_eq_true rfl), (Nat.le_of_ble_eq_true rfl)⟩ rfl (gm_G.mono H (pV_elim (fun h23 H' => ?_) (fun e29 h30 H => ?_)))
        · show gm_G _ 41 _ _ _ _
          replace H := H'
          clear H'
          refine g_aload (r := some _) rfl rfl rfl (pc' := 42) ?_
          obtain ⟨ht24, H⟩ := H
          refine g_getRv rfl rfl rfl rfl ht24 (pc' := 45) rfl (fun r25 hr25 => ?_)
          replace H := H r25 hr25
          refine g_iload rfl rfl rfl (pc' := 46) ?_
          refine g_aload (r := some _) rfl rfl rfl (pc' := 48) ?_
          obtain ⟨a26, rfl, H⟩ := H
          obtain ⟨Ha, Hb, H⟩ := H
          obtain ⟨n27, hn27, H⟩ := H
          refine g_aastore (r := some _) rfl Ha (fun b hb => by cases hb; exact Hb) hn27 (pc' := 49) rfl ?_
          replace H := H _ rfl
          refine g_aload (r := some _) rfl rfl rfl (pc' := 51) ?_
          exact g_areturn (r := some _) rfl H
        · exact H
      · refine g_call rfl (y := 320) (n := 2) (pc' := 41) (g_vt ht rfl rfl) rfl rfl ⟨(Nat.le_of_ble_eq_true rfl), (Nat.le_of_ble_eq_true rfl), (Nat.le_of_ble_eq_true rfl)⟩ rfl (gm_G.mono H (pV_elim (fun h31 H' => ?_) (fun e37 h38 H => ?_)))
        · show gm_G _ 41 _ _ _ _
          replace H := H'
          clear H'
          refine g_aload (r := some _) rfl rfl rfl (pc' := 42) ?_
          obtain ⟨ht32, H⟩ := H
          refine g_getRv rfl rfl rfl rfl ht32 (pc' := 45) rfl (fun r33 hr33 => ?_)
          replace H := H r33 hr33
          refine g_iload rfl rfl rfl (pc' := 46) ?_
          refine g_aload (r := some _) rfl rfl rfl (pc' := 48) ?_
          obtain ⟨a34, rfl, H⟩ := H
          obtain ⟨Ha, Hb, H⟩ := H
          obtain ⟨n35, hn35, H⟩ := H
          refine g_aastore (r := some _) rfl Ha (fun b hb => by cases hb; exact Hb) hn35 (pc' := 49) rfl ?_
          replace H := H _ rfl
          refine g_aload (r := some _) rfl rfl rfl (pc' := 51) ?_
          exact g_areturn (r := some _) rfl H
        · exact H
    · exact H
set_option maxRecDepth 20000 in
theorem w_396_0 {a0 : Nat} {r_1 : Option Nat} {h : hh_T} {Q : Option Value ⊕ Nat → hh_T → Prop} (H : ∃ a1, r_1 = some a1 ∧ (gm_sub (hh_tg h a1) 23 = true ∧ (∀ r3, r3 = hh_r h a1 9 → (∃ a4, r3 = some a4 ∧ (gm_sub (hh_tg h a4) 24 = true ∧ ((¬ (Int32.ofNat 1) < (hh_i h a4 0) → (gm_G 396 36 [none, some (.ref a1)] [] h Q)) ∧ ((Int32.ofNat 1) < (hh_i h a4 0) → (∀ r6, r6 = hh_r h a1 9 → (∃ a7, r6 = some a7 ∧ (gm_sub (hh_tg h a7) 24 = true ∧ (∀ h9, h9 = hh_wi h a7 0 ((hh_i h a7 0) - (Int32.ofNat 1)) → (∀ r10, r10 = hh_r h9 a1 9 → (hh_tg h9 a0 = 1 ∧ (gm_G 337 0 [some (.ref a0), some (va_rf r10)] [] h9 (pR (fun r13 h12 => gm_sub (hh_tg h12 a1) 23 = true ∧ (∀ h15, h15 = hh_wr h12 a1 9 r13 → (gm_G 396 36 [none, some (.ref a1)] [] h15 Q))) (fun e16 h17 => hh_tg h17 e16 = 21 ∧ Q (.inr e16) h17)))))))))))))))) : gm_G 396 0 [some (.ref a0), some (va_rf r_1)] [] h Q := by
  refine g_aload (r := _) rfl rfl rfl (pc' := 1) ?_
  obtain ⟨a1, rfl, H⟩ := H
  obtain ⟨ht2, H⟩ := H
  refine g_getRv rfl rfl rfl rfl ht2 (pc' := 4) rfl (fun r3 hr3 => ?_)
  replace H := H r3 hr3
  obtain ⟨a4, rfl, H⟩ := H
  obtain ⟨ht5, H⟩ := H
  refine g_getI rfl rfl rfl rfl ht5 (pc' := 7) rfl ?_
  refine g_iconst rfl rfl rfl (pc' := 8) ?_
  refine g_ic_le rfl (pc' := 11) (pt := 36) rfl rfl ⟨fun hc => ?_, fun hc => ?_⟩
  · replace H := H.1 hc
    exact g_weak (show gm_Lle [none, some _] _ from ⟨rfl, trivial⟩) H
  · replace H := H.2 hc
    refine g_aload (r := some _) rfl rfl rfl (pc' := 12) ?_
    refine g_getRv rfl rfl rfl rfl ht2 (pc' := 15) rfl (fun r6 hr6 => ?_)
    replace H := H r6 hr6
    refine g_dup_a (r := _) rfl rfl (pc' := 16) ?_
    obtain ⟨a7, rfl, H⟩ := H
    obtain ⟨ht8, H⟩ := H
    refine g_getI rfl rfl rfl rfl ht8 (pc' := 19) rfl ?_
    refine g_iconst rfl rfl rfl (pc' := 20) ?_
    refine g_isub rfl rfl (pc' := 21) ?_
    refine g_putI rfl rfl rfl rfl ht8  (pc' := 24) rfl ?_
    replace H := H _ rfl
    refine g_aload (r := some _) rfl rfl rfl (pc' := 25) ?_
    refine g_aload (r := some _) rfl rfl rfl (pc' := 26) ?_
    refine g_aload (r := some _) rfl rfl rfl (pc' := 27) ?_
    refine g_getRv rfl rfl rfl rfl ht2 (pc' := 30) rfl (fun r10 hr10 => ?_)
    replace H := H r10 hr10
    obtain ⟨ht11, H⟩ := H
    refine g_call rfl (y := 337) (n := 2) (pc' := 33) (g_vt ht11 rfl rfl) (by cases r10 <;> rfl) rfl ⟨(Nat.le_of_ble_eq_true rfl), (Nat.le_of_ble_eq_true rfl), (Nat.le_of_ble_eq_true rfl)⟩ rfl (gm_G.mono H (pR_elim (fun r13 h12 H' => ?_) (fun e16 h17 H => ?_)))
    · show gm_G _ 33 _ _ _ _
      replace H := H'
      clear H'
      obtain ⟨ht14, H⟩ := H
      refine g_putR rfl rfl rfl rfl ht14  (pc' := 36) rfl ?_
      replace H := H _ rfl
      exact g_weak (show gm_Lle [none, some _] _ from ⟨rfl, trivial⟩) H
    · exact H
set_option maxRecDepth 20000 in
theorem w_396_36 {a0 : Nat} {r_1 : Option Nat} {h : hh_T} {Q : Option Value ⊕ Nat → hh_T → Prop} (H : ∃ a1, r_1 = some a1 ∧ (gm_sub (hh_tg h a1) 23 = true ∧ (∀ r3, r3 = hh_r h a1 9 → (Q (.inl (some (va_rf r3))) h)))) : gm_G 396 36 [none, some (va_rf r_1)] [] h Q := by
  refine g_aload (r := _) rfl rfl rfl (pc' := 37) ?_
  obtain ⟨a1, rfl, H⟩ := H
  obtain ⟨ht2, H⟩ := H
  refine g_getRv rfl rfl rfl rfl ht2 (pc' := 40) rfl (fun r3 hr3 => ?_)
  replace H := H r3 hr3
  exact g_areturn (r := _) rfl H
set_option maxRecDepth 20000 in
theorem w_397_0 {a0 : Nat} {r_1 : Option Nat} {h : hh_T} {Q : Option Value ⊕ Nat → hh_T → Prop} (H : (∀ a1, r_1 = some a1 → (gm_sub (hh_tg h a1) 31 = true ∧ (∀ h3, h3 = hh_wi h a1 6 ((hh_i h a1 6) - (Int32.ofNat 1)) → ((¬ Int32.ofNat 0 < (hh_i h3 a1 6) → (hh_tg h3 a0 = 1 ∧ (gm_G 342 0 [some (.ref a0), some (.ref a1)] [] h3 (pV (fun h5 => gm_sub (hh_tg h5 a0) 0 = true ∧ (∀ r7, r7 = hh_r h5 a0 18 → (∃ a8, r7 = some a8 ∧ (hh_tg h5 a8 = 12 ∧ (gm_G 256 0 [some (.ref a8), some (.ref a1)] [] h5 (pV (fun h10 => gm_sub (hh_tg h10 a1) 31 = true ∧ (((hh_i h10 a1 7) = Int32.ofNat 0 → (gm_G 397 51 [some (.ref a0), some (.ref a1)] [] h10 Q)) ∧ (¬ (hh_i h10 a1 7) = Int32.ofNat 0 → (gm_sub (hh_tg h10 a0) 0 = true ∧ (∀ r13, r13 = hh_r h10 a0 14 → (∃ a14, r13 = some a14 ∧ (hh_tg h10 a14 = 11 ∧ (gm_G 57 0 [some (.ref a14), some (.ref a1)] [] h10 (pV (fun h16 => gm_G 397 51 [some (.ref a0), some (.ref a1)] [] h16 Q) (fun e17 h18 => hh_tg h18 e17 = 21 ∧ Q (.inr e17) h18)))))))))) (fun e19 h20 => hh_tg h20 e19 = 21 ∧ Q (.inr e19) h20))))))) (fun e21 h22 => hh_tg h22 e21 = 21 ∧ Q (.inr e21) h22))))) ∧ (Int32.ofNat 0 < (hh_i h3 a1 6) → (Q (.inl none) h3)))))) ∧ (r_1 = none → (Q (.inl none) h))) : gm_G 397 0 [some (.ref a0), some (va_rf r_1)] [] h Q := by
  refine g_aload (r := _) rfl rfl rfl (pc' := 1) ?_
  refine g_ifnonnull rfl (pc' := 4) (pt := 5) rfl rfl ⟨fun a1 hc => ?_, fun hc => ?_⟩
  · replace H := H.1 a1 hc
    subst hc
    refine g_aload (r := some _) rfl rfl rfl (pc' := 6) ?_
    refine g_dup_a (r := some _) rfl rfl (pc' := 7) ?_
    obtain ⟨ht2, H⟩ := H
    refine g_getI rfl rfl rfl rfl ht2 (pc' := 10) rfl ?_
    refine g_iconst rfl rfl rfl (pc' := 11) ?_
    refine g_isub rfl rfl (pc' := 12) ?_
    refine g_putI rfl rfl rfl rfl ht2  (pc' := 15) rfl ?_
    replace H := H _ rfl
    refine g_aload (r := some _) rfl rfl rfl (pc' := 16) ?_
    refine g_getI rfl rfl rfl rfl ht2 (pc' := 19) rfl ?_
    refine g_if_le rfl (pc' := 22) (pt := 23) rfl rfl ⟨fun hc => ?_, fun hc => ?_⟩
    · replace H := H.1 hc
      refine g_aload (r := some _) rfl rfl rfl (pc' := 24) ?_
      refine g_aload (r := some _) rfl rfl rfl (pc' := 25) ?_
      obtain ⟨ht4, H⟩ := H
      refine g_call rfl (y := 342) (n := 2) (pc' := 28) (g_vt ht4 rfl rfl) rfl rfl ⟨(Nat.le_of_ble_eq_true rfl), (Nat.le_of_ble_eq_true rfl), (Nat.le_of_ble_eq_true rfl)⟩ rfl (gm_G.mono H (pV_elim (fun h5 H' => ?_) (fun e21 h22 H => ?_)))
      · show gm_G _ 28 _ _ _ _
        replace H := H'
        clear H'
        refine g_aload (r := some _) rfl rfl rfl (pc' := 29) ?_
        obtain ⟨ht6, H⟩ := H
        refine g_getRv rfl rfl rfl rfl ht6 (pc' := 32) rfl (fun r7 hr7 => ?_)
        replace H := H r7 hr7
        refine g_aload (r := some _) rfl rfl rfl (pc' := 33) ?_
        obtain ⟨a8, rfl, H⟩ := H
        obtain ⟨ht9, H⟩ := H
        refine g_call rfl (y := 256) (n := 2) (pc' := 36) (g_vt ht9 rfl rfl) rfl rfl ⟨(Nat.le_of_ble_eq_true rfl), (Nat.le_of_ble_eq_true rfl), (Nat.le_of_ble_eq_true rfl)⟩ rfl (gm_G.mono H (pV_elim (fun h10 H' => ?_) (fun e19 h20 H => ?_)))
        · show gm_G _ 36 _ _ _ _
          replace H := H'
          clear H'
          refine g_aload (r := some _) rfl rfl rfl (pc' := 37) ?_
          obtain ⟨ht11, H⟩ := H
          refine g_getZ rfl rfl rfl rfl ht11 (pc' := 40) rfl ?_
          refine g_if_eq rfl (pc' := 43) (pt := 51) rfl rfl ⟨fun hc => ?_, fun hc => ?_⟩
          · replace H := H.1 hc
            exact g_weak (show gm_Lle [some _, some _] _ from ⟨rfl, ⟨rfl, trivial⟩⟩) H
          · replace H := H.2 hc
            refine g_aload (r := some _) rfl rfl rfl (pc' := 44) ?_
            obtain ⟨ht12, H⟩ := H
            refine g_getRv rfl rfl rfl rfl ht12 (pc' := 47) rfl (fun r13 hr13 => ?_)
            replace H := H r13 hr13
            refine g_aload (r := some _) rfl rfl rfl (pc' := 48) ?_
            obtain ⟨a14, rfl, H⟩ := H
            obtain ⟨ht15, H⟩ := H
            refine g_call rfl (y := 57) (n := 2) (pc' := 51) (g_vt ht15 rfl rfl) rfl rfl ⟨(Nat.le_of_ble_eq_true rfl), (Nat.le_of_ble_eq_true rfl), (Nat.le_of_ble_eq_true rfl)⟩ rfl (gm_G.mono H (pV_elim (fun h16 H' => ?_) (fun e17 h18 H => ?_)))
            · show gm_G _ 51 _ _ _ _
              replace H := H'
              clear H'
              exact g_weak (show gm_Lle [some _, some _] _ from ⟨rfl, ⟨rfl, trivial⟩⟩) H
            · exact H
        · exact H
      · exact H
    · replace H := H.2 hc
      exact g_return rfl H
  · replace H := H.2 hc
    subst hc
    exact g_return rfl H
set_option maxRecDepth 20000 in
theorem w_397_51 {a0 : Nat} {r_1 : Option Nat} {h : hh_T} {Q : Option Value ⊕ Nat → hh_T → Prop} (H : gm_sub (hh_tg h a0) 0 = true ∧ (∀ h2, h2 = hh_wi h a0 15 ((hh_i h a0 15) - (Int32.ofNat 1)) → (hh_tg h2 a0 = 1 ∧ (gm_G 19 0 [some (.ref a0), some (va_rf r_1)] [] h2 (pV (fun h4 => Q (.inl none) h4) (fun e5 h6 => hh_tg h6 e5 = 21 ∧ Q (.inr e5) h6)))))) : gm_G 397 51 [some (.ref a0), some (va_rf r_1)] [] h Q := by
  refine g_aload (r := some _) rfl rfl rfl (pc' := 52) ?_
  refine g_dup_a (r := some _) rfl rfl (pc' := 53) ?_
  obtain ⟨ht1, H⟩ := H
  refine g_getI rfl rfl rfl rfl ht1 (pc' := 56) rfl ?_
  refine g_iconst rfl rfl rfl (pc' := 57) ?_
  refine g_isub rfl rfl (pc' := 58) ?_
  refine g_putI rfl rfl rfl rfl ht1  (pc' := 61) rfl ?_
  replace H := H _ rfl
  refine g_aload (r := some _) rfl rfl rfl (pc' := 62) ?_
  refine g_aload (r := _) rfl rfl rfl (pc' := 63) ?_
  obtain ⟨ht3, H⟩ := H
  refine g_call rfl (y := 19) (n := 2) (pc' := 66) (g_vt ht3 rfl rfl) (by cases r_1 <;> rfl) rfl ⟨(Nat.le_of_ble_eq_true rfl), (Nat.le_of_ble_eq_true rfl), (Nat.le_of_ble_eq_true rfl)⟩ rfl (gm_G.mono H (pV_elim (fun h4 H' => ?_) (fun e5 h6 H => ?_)))
  · show gm_G _ 66 _ _ _ _
    replace H := H'
    clear H'
    exact g_return rfl H
  · exact H
set_option maxRecDepth 20000 in
theorem w_398_0 {a0 : Nat} {x1 : Int32} {x2 : Int32} {x3 : Int32} {r_4 : Option Nat} {h : hh_T} {Q : Option Value ⊕ Nat → hh_T → Prop} (H : gm_sub (hh_tg h a0) 6 = true ∧ (∀ r2, r2 = hh_r h a0 14 → (∃ a3, r2 = some a3 ∧ (gm_sub (hh_tg h a3) 0 = true ∧ (∀ h5, h5 = hh_wi h a3 4 (Int32.ofNat 0) → (gm_G 398 14 [some (.ref a0), some (.int x1), none, some (.int x3), some (va_rf r_4), some (.int x2), some (.int (Int32.ofNat 0))] [] h5 Q)))))) : gm_G 398 0 [some (.ref a0), some (.int x1), some (.int x2), some (.int x3), some (va_rf r_4)] [] h Q := by
  refine g_aload (r := some _) rfl rfl rfl (pc' := 1) ?_
  obtain ⟨ht1, H⟩ := H
  refine g_getRv rfl rfl rfl rfl ht1 (pc' := 4) rfl (fun r2 hr2 => ?_)
  replace H := H r2 hr2
  refine g_iconst rfl rfl rfl (pc' := 5) ?_
  obtain ⟨a3, rfl, H⟩ := H
  obtain ⟨ht4, H⟩ := H
  refine g_putZ rfl rfl rfl rfl ht4 (by decide) (pc' := 8) rfl ?_
  replace H := H _ rfl
  refine g_iload rfl rfl rfl (pc' := 9) ?_
  refine g_istore rfl gm_sto_rf4 rfl (pc' := 11) ?_
  refine g_iconst rfl rfl rfl (pc' := 12) ?_
  refine g_istore rfl rfl rfl (pc' := 14) ?_
  exact g_weak (show gm_Lle [some _, some _, none, some _, some _, some _, some _] _ from ⟨rfl, ⟨rfl, ⟨rfl, ⟨rfl, ⟨rfl, ⟨rfl, trivial⟩⟩⟩⟩⟩⟩) H
set_option maxRecDepth 20000 in
theorem w_398_14 {a0 : Nat} {x1 : Int32} {x3 : Int32} {r_4 : Option Nat} {x5 : Int32} {x6 : Int32} {h : hh_T} {Q : Option Value ⊕ Nat → hh_T → Prop} (H : (¬ x6 < x3 → (Q (.inl (some (.int (Int32.ofNat 1)))) h)) ∧ (x6 < x3 → (gm_sub (hh_tg h a0) 3 = true ∧ (gm_sub (hh_tg h a0) 6 = true ∧ (∀ r3, r3 = hh_r h a0 9 → (∃ a4, r3 = some a4 ∧ ((hh_tg h a4 = 100 ∨ hh_tg h a4 = 105) ∧ (∃ n5, gm_ix x1 n5 (hh_ln h a4) ∧ (hh_tg h a0 = 7 ∧ (gm_G 357 0 [some (.ref a0), some (.int (hh_i h a4 n5)), some (.int x5), some (.int (if (x3 - x6) < ((hh_i h a0 2) - (hh_i h a0 8)) then (x3 - x6) else ((hh_i h a0 2) - (hh_i h a0 8)))), some (va_rf r_4), some (.int ((Int32.ofNat 8) * x6))] [] h (pI (fun v9 h8 => (¬ v9 = Int32.ofNat 0 → (gm_sub (hh_tg h8 a0) 6 = true ∧ (gm_G 398 14 [some (.ref a0), some (.int x1), none, some (.int x3), some (va_rf r_4), some (.int (x5 + ((hh_i h8 a0 8) + (if (x3 - x6) < ((hh_i h a0 2) - (hh_i h a0 8)) then (x3 - x6) else ((hh_i h a0 2) - (hh_i h a0 8)))))), some (.int (x6 + (if (x3 - x6) < ((hh_i h a0 2) - (hh_i h a0 8)) then (x3 - x6) else ((hh_i h a0 2) - (hh_i h a0 8)))))] [] h8 Q))) ∧ (v9 = Int32.ofNat 0 → (Q (.inl (some (.int (Int32.ofNat 0)))) h8))) (fun e11 h12 => hh_tg h12 e11 = 21 ∧ Q (.inr e11) h12)))))))))))) : gm_G 398 14 [some (.ref a0), some (.int x1), none, some (.int x3), some (va_rf r_4), some (.int x5), some (.int x6)] [] h Q := by
  refine g_iload rfl rfl rfl (pc' := 16) ?_
  refine g_iload rfl rfl rfl (pc' := 17) ?_
  refine g_ic_ge rfl (pc' := 20) (pt := 86) rfl rfl ⟨fun hc => ?_, fun hc => ?_⟩
  · replace H := H.1 hc
    refine g_iconst rfl rfl rfl (pc' := 87) ?_
    exact g_ireturn rfl (Or.inr (by decide)) H
  · replace H := H.2 hc
    refine g_aload (r := some _) rfl rfl rfl (pc' := 21) ?_
    obtain ⟨ht1, H⟩ := H
    refine g_getI rfl rfl rfl rfl ht1 (pc' := 24) rfl ?_
    refine g_aload (r := some _) rfl rfl rfl (pc' := 25) ?_
    obtain ⟨ht2, H⟩ := H
    refine g_getI rfl rfl rfl rfl ht2 (pc' := 28) rfl ?_
    refine g_isub rfl rfl (pc' := 29) ?_
    refine g_iload rfl rfl rfl (pc' := 30) ?_
    refine g_iload rfl rfl rfl (pc' := 32) ?_
    refine g_isub rfl rfl (pc' := 33) ?_
    refine g_dsub rfl (Nat.le_of_ble_eq_true rfl) rfl (pc' := 36) ?_
    refine g_istore rfl rfl rfl (pc' := 38) ?_
    refine g_aload (r := some _) rfl rfl rfl (pc' := 39) ?_
    refine g_aload (r := some _) rfl rfl rfl (pc' := 40) ?_
    refine g_getRv rfl rfl rfl rfl ht2 (pc' := 43) rfl (fun r3 hr3 => ?_)
    replace H := H r3 hr3
    refine g_iload rfl rfl rfl (pc' := 44) ?_
    obtain ⟨a4, rfl, H⟩ := H
    obtain ⟨ht6, H⟩ := H
    obtain ⟨n5, hn5, H⟩ := H
    refine g_iaload rfl ht6 hn5 (pc' := 45) rfl ?_
    refine g_iload rfl rfl rfl (pc' := 47) ?_
    refine g_iload rfl rfl rfl (pc' := 49) ?_
    refine g_aload (r := _) rfl rfl rfl (pc' := 51) ?_
    refine g_iconst rfl rfl rfl (pc' := 53) ?_
    refine g_iload rfl rfl rfl (pc' := 55) ?_
    refine g_imul rfl rfl (pc' := 56) ?_
    obtain ⟨ht7, H⟩ := H
    refine g_call rfl (y := 357) (n := 6) (pc' := 59) (g_vt ht7 rfl rfl) (by cases r_4 <;> rfl) rfl ⟨(Nat.le_of_ble_eq_true rfl), (Nat.le_of_ble_eq_true rfl), (Nat.le_of_ble_eq_true rfl)⟩ rfl (gm_G.mono H (pI_elim (fun v9 h8 H' => ?_) (fun e11 h12 H => ?_)))
    · show gm_G _ 59 _ _ _ _
      replace H := H'
      clear H'
      refine g_if_ne rfl (pc' := 62) (pt := 64) rfl rfl ⟨fun hc => ?_, fun hc => ?_⟩
      · replace H := H.1 hc
        refine g_iload rfl rfl rfl (pc' := 66) ?_
        refine g_aload (r := some _) rfl rfl rfl (pc' := 67) ?_
        obtain ⟨ht10, H⟩ := H
        refine g_getI rfl rfl rfl rfl ht10 (pc' := 70) rfl ?_
        refine g_iload rfl rfl rfl (pc' := 72) ?_
        refine g_iadd rfl rfl (pc' := 73) ?_
        refine g_iadd rfl rfl (pc' := 74) ?_
        refine g_istore rfl gm_sto_rf4 rfl (pc' := 76) ?_
        refine g_iload rfl rfl rfl (pc' := 78) ?_
        refine g_iload rfl rfl rfl (pc' := 80) ?_
        refine g_iadd rfl rfl (pc' := 81) ?_
        refine g_istore rfl rfl rfl (pc' := 83) ?_
        refine g_goto rfl (pc' := 14) rfl ?_
        exact g_weak (show gm_Lle [some _, some _, none, some _, some _, some _, some _] _ from ⟨rfl, ⟨rfl, ⟨rfl, ⟨rfl, ⟨rfl, ⟨rfl, trivial⟩⟩⟩⟩⟩⟩) H
      · replace H := H.2 hc
        refine g_iconst rfl rfl rfl (pc' := 63) ?_
        exact g_ireturn rfl (Or.inr (by decide)) H
    · exact H
set_option maxRecDepth 20000 in
theorem w_399_0 {a0 : Nat} {r_1 : Option Nat} {r_2 : Option Nat} {h : hh_T} {Q : Option Value ⊕ Nat → hh_T → Prop} (H : ∃ a1, r_1 = some a1 ∧ (gm_sub (hh_tg h a1) 31 = true ∧ ((¬ (hh_i h a1 10) = (Int32.ofNat 3) → ((¬ (hh_i h a1 10) = (Int32.ofNat 4) → (gm_sub (hh_tg h a0) 11 = true ∧ (∀ r4, r4 = hh_r h a0 2 → (∃ a5, r4 = some a5 ∧ ((hh_tg h a5 = 100 ∨ hh_tg h a5 = 105) ∧ (1 < hh_ln h a5 ∧ (∀ r8, r8 = hh_r h a0 2 → (∃ a9, r8 = some a9 ∧ ((hh_tg h a9 = 100 ∨ hh_tg h a9 = 105) ∧ (2 < hh_ln h a9 ∧ (∀ r12, r12 = hh_r h a0 2 → (∃ a13, r12 = some a13 ∧ ((hh_tg h a13 = 100 ∨ hh_tg h a13 = 105) ∧ (3 < hh_ln h a13 ∧ (∀ r16, r16 = hh_r h a0 2 → (∃ a17, r16 = some a17 ∧ ((hh_tg h a17 = 100 ∨ hh_tg h a17 = 105) ∧ (4 < hh_ln h a17 ∧ (∀ r20, r20 = hh_r h a0 2 → (∃ a21, r20 = some a21 ∧ ((hh_tg h a21 = 100 ∨ hh_tg h a21 = 105) ∧ (1 < hh_ln h a21 ∧ (∀ r24, r24 = hh_r h a0 2 → (∃ a25, r24 = some a25 ∧ ((hh_tg h a25 = 100 ∨ hh_tg h a25 = 105) ∧ (3 < hh_ln h a25 ∧ ((¬ ((hh_i h a21 1) + (hh_i h a25 3)) = (Int32.ofNat 6) → ((((((hh_i h a5 1) + (hh_i h a9 2)) + (hh_i h a13 3)) + (hh_i h a17 4)) < (Int32.ofNat 6) → (gm_G 399 213 [some (.ref a0), some (.ref a1), some (va_rf r_2), some (.int (Int32.ofNat 1))] [] h Q)) ∧ (¬ ((((hh_i h a5 1) + (hh_i h a9 2)) + (hh_i h a13 3)) + (hh_i h a17 4)) < (Int32.ofNat 6) → ((¬ ((((hh_i h a5 1) + (hh_i h a9 2)) + (hh_i h a13 3)) + (hh_i h a17 4)) = (Int32.ofNat 12) → (gm_G 399 208 [some (.ref a0), some (.ref a1), some (va_rf r_2), some (.int (Int32.ofNat 1))] [] h Q)) ∧ (((((hh_i h a5 1) + (hh_i h a9 2)) + (hh_i h a13 3)) + (hh_i h a17 4)) = (Int32.ofNat 12) → (∀ r28, r28 = hh_r h a0 0 → (∃ a29, r28 = some a29 ∧ ((hh_tg h a29 = 104 ∨ 200 ≤ hh_tg h a29) ∧ (4 < hh_ln h a29 ∧ (∀ r32, r32 = hh_r h a29 4 → (hh_tg h a0 = 12 ∧ (gm_G 256 0 [some (.ref a0), some (va_rf r32)] [] h (pV (fun h34 => gm_G 399 208 [some (.ref a0), some (.ref a1), some (va_rf r_2), some (.int (Int32.ofNat 1))] [] h34 Q) (fun e35 h36 => hh_tg h36 e35 = 21 ∧ Q (.inr e35) h36)))))))))))))) ∧ (((hh_i h a21 1) + (hh_i h a25 3)) = (Int32.ofNat 6) → (∀ r37, r37 = hh_r h a0 2 → (∃ a38, r37 = some a38 ∧ ((hh_tg h a38 = 100 ∨ hh_tg h a38 = 105) ∧ (3 < hh_ln h a38 ∧ ((¬ Int32.ofNat 0 < (hh_i h a38 3) → (∀ r41, r41 = hh_r h a0 0 → (∃ a42, r41 = some a42 ∧ ((hh_tg h a42 = 104 ∨ 200 ≤ hh_tg h a42) ∧ (1 < hh_ln h a42 ∧ (∀ r45, r45 = hh_r h a42 1 → (hh_tg h a0 = 12 ∧ (gm_G 256 0 [some (.ref a0), some (va_rf r45)] [] h (pV (fun h47 => gm_G 399 213 [some (.ref a0), some (.ref a1), some (va_rf r_2), some (.int (Int32.ofNat 1))] [] h47 Q) (fun e48 h49 => hh_tg h49 e48 = 21 ∧ Q (.inr e48) h49)))))))))) ∧ (Int32.ofNat 0 < (hh_i h a38 3) → (∀ r50, r50 = hh_r h a0 0 → (∃ a51, r50 = some a51 ∧ ((hh_tg h a51 = 104 ∨ 200 ≤ hh_tg h a51) ∧ (3 < hh_ln h a51 ∧ (∀ r54, r54 = hh_r h a51 3 → (hh_tg h a0 = 12 ∧ (gm_G 256 0 [some (.ref a0), some (va_rf r54)] [] h (pV (fun h56 => hh_tg h56 a0 = 12 ∧ (gm_G 360 0 [some (.ref a0), some (.ref a1)] [] h56 (pV (fun h58 => gm_G 399 213 [some (.ref a0), some (.ref a1), some (va_rf r_2), some (.int (Int32.ofNat 1))] [] h58 Q) (fun e59 h60 => hh_tg h60 e59 = 21 ∧ Q (.inr e59) h60)))) (fun e61 h62 => hh_tg h62 e61 = 21 ∧ Q (.inr e61) h62))))))))))))))))))))))))))))))))))))))))))) ∧ ((hh_i h a1 10) = (Int32.ofNat 4) → (gm_sub (hh_tg h a0) 11 = true ∧ (∀ r64, r64 = hh_r h a0 2 → (∃ a65, r64 = some a65 ∧ ((hh_tg h a65 = 100 ∨ hh_tg h a65 = 105) ∧ (3 < hh_ln h a65 ∧ (∀ r68, r68 = hh_r h a0 2 → (∃ a69, r68 = some a69 ∧ ((hh_tg h a69 = 100 ∨ hh_tg h a69 = 105) ∧ (4 < hh_ln h a69 ∧ ((hh_i h a69 4) ≠ 0 ∧ (∀ h72, h72 = hh_wi h a0 5 (if (Int32.ofNat 0) < ((hh_i h a0 5) - (if (Int32.ofNat 1) < ((hh_i h a65 3) / (hh_i h a69 4)) then ((hh_i h a65 3) / (hh_i h a69 4)) else (Int32.ofNat 1))) then ((hh_i h a0 5) - (if (Int32.ofNat 1) < ((hh_i h a65 3) / (hh_i h a69 4)) then ((hh_i h a65 3) / (hh_i h a69 4)) else (Int32.ofNat 1))) else (Int32.ofNat 0)) → (gm_G 399 87 [some (.ref a0), some (.ref a1), some (va_rf r_2), some (.int (Int32.ofNat 2))] [] h72 Q))))))))))))))) ∧ ((hh_i h a1 10) = (Int32.ofNat 3) → (gm_sub (hh_tg h a0) 11 = true ∧ (∀ r74, r74 = hh_r h a0 2 → (∃ a75, r74 = some a75 ∧ ((hh_tg h a75 = 100 ∨ hh_tg h a75 = 105) ∧ (4 < hh_ln h a75 ∧ (∀ r78, r78 = hh_r h a0 2 → (∃ a79, r78 = some a79 ∧ ((hh_tg h a79 = 100 ∨ hh_tg h a79 = 105) ∧ (3 < hh_ln h a79 ∧ ((hh_i h a79 3) ≠ 0 ∧ (∀ h82, h82 = hh_wi h a0 5 (if ((hh_i h a0 5) + (if (Int32.ofNat 1) < ((hh_i h a75 4) / (hh_i h a79 3)) then ((hh_i h a75 4) / (hh_i h a79 3)) else (Int32.ofNat 1))) < (Int32.ofNat 6) then ((hh_i h a0 5) + (if (Int32.ofNat 1) < ((hh_i h a75 4) / (hh_i h a79 3)) then ((hh_i h a75 4) / (hh_i h a79 3)) else (Int32.ofNat 1))) else (Int32.ofNat 6)) → (hh_tg h82 a0 = 12 ∧ (gm_G 360 0 [some (.ref a0), some (.ref a1)] [] h82 (pV (fun h84 => gm_G 399 213 [some (.ref a0), some (.ref a1), some (va_rf r_2), some (.int (Int32.ofNat 2))] [] h84 Q) (fun e85 h86 => hh_tg h86 e85 = 21 ∧ Q (.inr e85) h86))))))))))))))))))) : gm_G 399 0 [some (.ref a0), some (va_rf r_1), some (va_rf r_2)] [] h Q := by
  refine g_iconst rfl rfl rfl (pc' := 1) ?_
  refine g_istore rfl gm_sto_rf2 rfl (pc' := 2) ?_
  refine g_aload (r := _) rfl rfl rfl (pc' := 3) ?_
  obtain ⟨a1, rfl, H⟩ := H
  obtain ⟨ht2, H⟩ := H
  refine g_getI rfl rfl rfl rfl ht2 (pc' := 6) rfl ?_
  refine g_iconst rfl rfl rfl (pc' := 7) ?_
  refine g_ic_ne rfl (pc' := 10) (pt := 49) rfl rfl ⟨fun hc => ?_, fun hc => ?_⟩
  · replace H := H.1 hc
    refine g_aload (r := some _) rfl rfl rfl (pc' := 50) ?_
    refine g_getI rfl rfl rfl rfl ht2 (pc' := 53) rfl ?_
    refine g_iconst rfl rfl rfl (pc' := 54) ?_
    refine g_ic_ne rfl (pc' := 57) (pt := 95) rfl rfl ⟨fun hc => ?_, fun hc => ?_⟩
    · replace H := H.1 hc
      refine g_iconst rfl rfl rfl (pc' := 96) ?_
      refine g_istore rfl gm_sto_rf2 rfl (pc' := 97) ?_
      refine g_aload (r := some _) rfl rfl rfl (pc' := 98) ?_
      obtain ⟨ht3, H⟩ := H
      refine g_getRv rfl rfl rfl rfl ht3 (pc' := 101) rfl (fun r4 hr4 => ?_)
      replace H := H r4 hr4
      refine g_iconst rfl rfl rfl (pc' := 102) ?_
      obtain ⟨a5, rfl, H⟩ := H
      obtain ⟨ht7, H⟩ := H
      obtain ⟨hn6, H⟩ := H
      refine g_iaload rfl ht7 ⟨rfl, by decide, hn6⟩ (pc' := 103) rfl ?_
      refine g_aload (r := some _) rfl rfl rfl (pc' := 104) ?_
      refine g_getRv rfl rfl rfl rfl ht3 (pc' := 107) rfl (fun r8 hr8 => ?_)
      replace H := H r8 hr8
      refine g_iconst rfl rfl rfl (pc' := 108) ?_
      obtain ⟨a9, rfl, H⟩ := H
      obtain ⟨ht11, H⟩ := H
      obtain ⟨hn10, H⟩ := H
      refine g_iaload rfl ht11 ⟨rfl, by decide, hn10⟩ (pc' := 109) rfl ?_
      refine g_iadd rfl rfl (pc' := 110) ?_
      refine g_aload (r := some _) rfl rfl rfl (pc' := 111) ?_
      refine g_getRv rfl rfl rfl rfl ht3 (pc' := 114) rfl (fun r12 hr12 => ?_)
      replace H := H r12 hr12
      refine g_iconst rfl rfl rfl (pc' := 115) ?_
      obtain ⟨a13, rfl, H⟩ := H
      obtain ⟨ht15, H⟩ := H
      obtain ⟨hn14, H⟩ := H
      refine g_iaload rfl ht15 ⟨rfl, by decide, hn14⟩ (pc' := 116) rfl ?_
      refine g_iadd rfl rfl (pc' := 117) ?_
      refine g_aload (r := some _) rfl rfl rfl (pc' := 118) ?_
      refine g_getRv rfl rfl rfl rfl ht3 (pc' := 121) rfl (fun r16 hr16 => ?_)
      replace H := H r16 hr16
      refine g_iconst rfl rfl rfl (pc' := 122) ?_
      obtain ⟨a17, rfl, H⟩ := H
      obtain ⟨ht19, H⟩ := H
      obtain ⟨hn18, H⟩ := H
      refine g_iaload rfl ht19 ⟨rfl, by decide, hn18⟩ (pc' := 123) rfl ?_
      refine g_iadd rfl rfl (pc' := 124) ?_
      refine g_istore rfl rfl rfl (pc' := 126) ?_
      refine g_aload (r := some _) rfl rfl rfl (pc' := 127) ?_
      refine g_getRv rfl rfl rfl rfl ht3 (pc' := 130) rfl (fun r20 hr20 => ?_)
      replace H := H r20 hr20
      refine g_iconst rfl rfl rfl (pc' := 131) ?_
      obtain ⟨a21, rfl, H⟩ := H
      obtain ⟨ht23, H⟩ := H
      obtain ⟨hn22, H⟩ := H
      refine g_iaload rfl ht23 ⟨rfl, by decide, hn22⟩ (pc' := 132) rfl ?_
      refine g_aload (r := some _) rfl rfl rfl (pc' := 133) ?_
      refine g_getRv rfl rfl rfl rfl ht3 (pc' := 136) rfl (fun r24 hr24 => ?_)
      replace H := H r24 hr24
      refine g_iconst rfl rfl rfl (pc' := 137) ?_
      obtain ⟨a25, rfl, H⟩ := H
      obtain ⟨ht27, H⟩ := H
      obtain ⟨hn26, H⟩ := H
      refine g_iaload rfl ht27 ⟨rfl, by decide, hn26⟩ (pc' := 138) rfl ?_
      refine g_iadd rfl rfl (pc' := 139) ?_
      refine g_iconst rfl rfl rfl (pc' := 141) ?_
      refine g_ic_ne rfl (pc' := 144) (pt := 184) rfl rfl ⟨fun hc => ?_, fun hc => ?_⟩
      · replace H := H.1 hc
        refine g_iload rfl rfl rfl (pc' := 186) ?_
        refine g_iconst rfl rfl rfl (pc' := 188) ?_
        refine g_ic_lt rfl (pc' := 191) (pt := 213) rfl rfl ⟨fun hc => ?_, fun hc => ?_⟩
        · replace H := H.1 hc
          exact g_weak (show gm_Lle [some _, some _, some _, some _] _ from ⟨rfl, ⟨rfl, ⟨rfl, ⟨rfl, trivial⟩⟩⟩⟩) H
        · replace H := H.2 hc
          refine g_iload rfl rfl rfl (pc' := 193) ?_
          refine g_iconst rfl rfl rfl (pc' := 195) ?_
          refine g_ic_ne rfl (pc' := 198) (pt := 208) rfl rfl ⟨fun hc => ?_, fun hc => ?_⟩
          · replace H := H.1 hc
            exact g_weak (show gm_Lle [some _, some _, some _, some _] _ from ⟨rfl, ⟨rfl, ⟨rfl, ⟨rfl, trivial⟩⟩⟩⟩) H
          · replace H := H.2 hc
            refine g_aload (r := some _) rfl rfl rfl (pc' := 199) ?_
            refine g_aload (r := some _) rfl rfl rfl (pc' := 200) ?_
            refine g_getRv rfl rfl rfl rfl ht3 (pc' := 203) rfl (fun r28 hr28 => ?_)
            replace H := H r28 hr28
            refine g_iconst rfl rfl rfl (pc' := 204) ?_
            obtain ⟨a29, rfl, H⟩ := H
            obtain ⟨ht31, H⟩ := H
            obtain ⟨hn30, H⟩ := H
            refine g_aaloadv rfl ht31 ⟨rfl, by decide, hn30⟩ (pc' := 205) rfl (fun r32 hr32 => ?_)
            replace H := H r32 hr32
            obtain ⟨ht33, H⟩ := H
            refine g_call rfl (y := 256) (n := 2) (pc' := 208) (g_vt ht33 rfl rfl) (by cases r32 <;> rfl) rfl ⟨(Nat.le_of_ble_eq_true rfl), (Nat.le_of_ble_eq_true rfl), (Nat.le_of_ble_eq_true rfl)⟩ rfl (gm_G.mono H (pV_elim (fun h34 H' => ?_) (fun e35 h36 H => ?_)))
            · show gm_G _ 208 _ _ _ _
              replace H := H'
              clear H'
              exact g_weak (show gm_Lle [some _, some _, some _, some _] _ from ⟨rfl, ⟨rfl, ⟨rfl, ⟨rfl, trivial⟩⟩⟩⟩) H
            · exact H
      · replace H := H.2 hc
        refine g_aload (r := some _) rfl rfl rfl (pc' := 145) ?_
        refine g_getRv rfl rfl rfl rfl ht3 (pc' := 148) rfl (fun r37 hr37 => ?_)
        replace H := H r37 hr37
        refine g_iconst rfl rfl rfl (pc' := 149) ?_
        obtain ⟨a38, rfl, H⟩ := H
        obtain ⟨ht40, H⟩ := H
        obtain ⟨hn39, H⟩ := H
        refine g_iaload rfl ht40 ⟨rfl, by decide, hn39⟩ (pc' := 150) rfl ?_
        refine g_if_le rfl (pc' := 153) (pt := 171) rfl rfl ⟨fun hc => ?_, fun hc => ?_⟩
        · replace H := H.1 hc
          refine g_aload (r := some _) rfl rfl rfl (pc' := 172) ?_
          refine g_aload (r := some _) rfl rfl rfl (pc' := 173) ?_
          refine g_getRv rfl rfl rfl rfl ht3 (pc' := 176) rfl (fun r41 hr41 => ?_)
          replace H := H r41 hr41
          refine g_iconst rfl rfl rfl (pc' := 177) ?_
          obtain ⟨a42, rfl, H⟩ := H
          obtain ⟨ht44, H⟩ := H
          obtain ⟨hn43, H⟩ := H
          refine g_aaloadv rfl ht44 ⟨rfl, by decide, hn43⟩ (pc' := 178) rfl (fun r45 hr45 => ?_)
          replace H := H r45 hr45
          obtain ⟨ht46, H⟩ := H
          refine g_call rfl (y := 256) (n := 2) (pc' := 181) (g_vt ht46 rfl rfl) (by cases r45 <;> rfl) rfl ⟨(Nat.le_of_ble_eq_true rfl), (Nat.le_of_ble_eq_true rfl), (Nat.le_of_ble_eq_true rfl)⟩ rfl (gm_G.mono H (pV_elim (fun h47 H' => ?_) (fun e48 h49 H => ?_)))
          · show gm_G _ 181 _ _ _ _
            replace H := H'
            clear H'
            refine g_goto rfl (pc' := 213) rfl ?_
            exact g_weak (show gm_Lle [some _, some _, some _, some _] _ from ⟨rfl, ⟨rfl, ⟨rfl, ⟨rfl, trivial⟩⟩⟩⟩) H
          · exact H
        · replace H := H.2 hc
          refine g_aload (r := some _) rfl rfl rfl (pc' := 154) ?_
          refine g_aload (r := some _) rfl rfl rfl (pc' := 155) ?_
          refine g_getRv rfl rfl rfl rfl ht3 (pc' := 158) rfl (fun r50 hr50 => ?_)
          replace H := H r50 hr50
          refine g_iconst rfl rfl rfl (pc' := 159) ?_
          obtain ⟨a51, rfl, H⟩ := H
          obtain ⟨ht53, H⟩ := H
          obtain ⟨hn52, H⟩ := H
          refine g_aaloadv rfl ht53 ⟨rfl, by decide, hn52⟩ (pc' := 160) rfl (fun r54 hr54 => ?_)
          replace H := H r54 hr54
          obtain ⟨ht55, H⟩ := H
          refine g_call rfl (y := 256) (n := 2) (pc' := 163) (g_vt ht55 rfl rfl) (by cases r54 <;> rfl) rfl ⟨(Nat.le_of_ble_eq_true rfl), (Nat.le_of_ble_eq_true rfl), (Nat.le_of_ble_eq_true rfl)⟩ rfl (gm_G.mono H (pV_elim (fun h56 H' => ?_) (fun e61 h62 H => ?_)))
          · show gm_G _ 163 _ _ _ _
            replace H := H'
            clear H'
            refine g_aload (r := some _) rfl rfl rfl (pc' := 164) ?_
            refine g_aload (r := some _) rfl rfl rfl (pc' := 165) ?_
            obtain ⟨ht57, H⟩ := H
            refine g_call rfl (y := 360) (n := 2) (pc' := 168) (g_vt ht57 rfl rfl) rfl rfl ⟨(Nat.le_of_ble_eq_true rfl), (Nat.le_of_ble_eq_true rfl), (Nat.le_of_ble_eq_true rfl)⟩ rfl (gm_G.mono H (pV_elim (fun h58 H' => ?_) (fun e59 h60 H => ?_)))
            · show gm_G _ 168 _ _ _ _
              replace H := H'
              clear H'
              refine g_goto rfl (pc' := 213) rfl ?_
              exact g_weak (show gm_Lle [some _, some _, some _, some _] _ from ⟨rfl, ⟨rfl, ⟨rfl, ⟨rfl, trivial⟩⟩⟩⟩) H
            · exact H
          · exact H
    · replace H := H.2 hc
      refine g_aload (r := some _) rfl rfl rfl (pc' := 58) ?_
      refine g_iconst rfl rfl rfl (pc' := 59) ?_
      refine g_aload (r := some _) rfl rfl rfl (pc' := 60) ?_
      obtain ⟨ht63, H⟩ := H
      refine g_getI rfl rfl rfl rfl ht63 (pc' := 63) rfl ?_
      refine g_iconst rfl rfl rfl (pc' := 64) ?_
      refine g_aload (r := some _) rfl rfl rfl (pc' := 65) ?_
      refine g_getRv rfl rfl rfl rfl ht63 (pc' := 68) rfl (fun r64 hr64 => ?_)
      replace H := H r64 hr64
      refine g_iconst rfl rfl rfl (pc' := 69) ?_
      obtain ⟨a65, rfl, H⟩ := H
      obtain ⟨ht67, H⟩ := H
      obtain ⟨hn66, H⟩ := H
      refine g_iaload rfl ht67 ⟨rfl, by decide, hn66⟩ (pc' := 70) rfl ?_
      refine g_aload (r := some _) rfl rfl rfl (pc' := 71) ?_
      refine g_getRv rfl rfl rfl rfl ht63 (pc' := 74) rfl (fun r68 hr68 => ?_)
      replace H := H r68 hr68
      refine g_iconst rfl rfl rfl (pc' := 75) ?_
      obtain ⟨a69, rfl, H⟩ := H
      obtain ⟨ht71, H⟩ := H
      obtain ⟨hn70, H⟩ := H
      refine g_iaload rfl ht71 ⟨rfl, by decide, hn70⟩ (pc' := 76) rfl ?_
      obtain ⟨Hp, H⟩ := H
      refine g_idiv rfl Hp (pc' := 77) rfl ?_
      refine g_dadd rfl (Nat.le_of_ble_eq_true rfl) rfl (pc' := 80) ?_
      refine g_isub rfl rfl (pc' := 81) ?_
      refine g_dadd rfl (Nat.le_of_ble_eq_true rfl) rfl (pc' := 84) ?_
      refine g_putI rfl rfl rfl rfl ht63  (pc' := 87) rfl ?_
      replace H := H _ rfl
      exact g_weak (show gm_Lle [some _, some _, some _, some _] _ from ⟨rfl, ⟨rfl, ⟨rfl, ⟨rfl, trivial⟩⟩⟩⟩) H
  · replace H := H.2 hc
    refine g_aload (r := some _) rfl rfl rfl (pc' := 11) ?_
    refine g_iconst rfl rfl rfl (pc' := 13) ?_
    refine g_aload (r := some _) rfl rfl rfl (pc' := 14) ?_
    obtain ⟨ht73, H⟩ := H
    refine g_getI rfl rfl rfl rfl ht73 (pc' := 17) rfl ?_
    refine g_iconst rfl rfl rfl (pc' := 18) ?_
    refine g_aload (r := some _) rfl rfl rfl (pc' := 19) ?_
    refine g_getRv rfl rfl rfl rfl ht73 (pc' := 22) rfl (fun r74 hr74 => ?_)
    replace H := H r74 hr74
    refine g_iconst rfl rfl rfl (pc' := 23) ?_
    obtain ⟨a75, rfl, H⟩ := H
    obtain ⟨ht77, H⟩ := H
    obtain ⟨hn76, H⟩ := H
    refine g_iaload rfl ht77 ⟨rfl, by decide, hn76⟩ (pc' := 24) rfl ?_
    refine g_aload (r := some _) rfl rfl rfl (pc' := 25) ?_
    refine g_getRv rfl rfl rfl rfl ht73 (pc' := 28) rfl (fun r78 hr78 => ?_)
    replace H := H r78 hr78
    refine g_iconst rfl rfl rfl (pc' := 29) ?_
    obtain ⟨a79, rfl, H⟩ := H
    obtain ⟨ht81, H⟩ := H
    obtain ⟨hn80, H⟩ := H
    refine g_iaload rfl ht81 ⟨rfl, by decide, hn80⟩ (pc' := 30) rfl ?_
    obtain ⟨Hp, H⟩ := H
    refine g_idiv rfl Hp (pc' := 31) rfl ?_
    refine g_dadd rfl (Nat.le_of_ble_eq_true rfl) rfl (pc' := 34) ?_
    refine g_iadd rfl rfl (pc' := 35) ?_
    refine g_dsub rfl (Nat.le_of_ble_eq_true rfl) rfl (pc' := 38) ?_
    refine g_putI rfl rfl rfl rfl ht73  (pc' := 41) rfl ?_
    replace H := H _ rfl
    refine g_aload (r := some _) rfl rfl rfl (pc' := 42) ?_
    refine g_aload (r := some _) rfl rfl rfl (pc' := 43) ?_
    obtain ⟨ht83, H⟩ := H
    refine g_call rfl (y := 360) (n := 2) (pc' := 46) (g_vt ht83 rfl rfl) rfl rfl ⟨(Nat.le_of_ble_eq_true rfl), (Nat.le_of_ble_eq_true rfl), (Nat.le_of_ble_eq_true rfl)⟩ rfl (gm_G.mono H (pV_elim (fun h84 H' => ?_) (fun e85 h86 H => ?_)))
    · show gm_G _ 46 _ _ _ _
      replace H := H'
      clear H'
      refine g_goto rfl (pc' := 213) rfl ?_
      exact g_weak (show gm_Lle [some _, some _, some _, some _] _ from ⟨rfl, ⟨rfl, ⟨rfl, ⟨rfl, trivial⟩⟩⟩⟩) H
    · exact H
set_option maxRecDepth 20000 in
theorem w_399_87 {a0 : Nat} {r_1 : Option Nat} {r_2 : Option Nat} {x3 : Int32} {h : hh_T} {Q : Option Value ⊕ Nat → hh_T → Prop} (H : hh_tg h a0 = 12 ∧ (gm_G 360 0 [some (.ref a0), some (va_rf r_1)] [] h (pV (fun h2 => gm_G 399 213 [some (.ref a0), some (va_rf r_1), some (va_rf r_2), some (.int x3)] [] h2 Q) (fun e3 h4 => hh_tg h4 e3 = 21 ∧ Q (.inr e3) h4)))) : gm_G 399 87 [some (.ref a0), some (va_rf r_1), some (va_rf r_2), some (.int x3)] [] h Q := by
  refine g_aload (r := some _) rfl rfl rfl (pc' := 88) ?_
  refine g_aload (r := _) rfl rfl rfl (pc' := 89) ?_
  obtain ⟨ht1, H⟩ := H
  refine g_call rfl (y := 360) (n := 2) (pc' := 92) (g_vt ht1 rfl rfl) (by cases r_1 <;> rfl) rfl ⟨(Nat.le_of_ble_eq_true rfl), (Nat.le_of_ble_eq_true rfl), (Nat.le_of_ble_eq_true rfl)⟩ rfl (gm_G.mono H (pV_elim (fun h2 H' => ?_) (fun e3 h4 H => ?_)))
  · show gm_G _ 92 _ _ _ _
    replace H := H'
    clear H'
    refine g_goto rfl (pc' := 213) rfl ?_
    exact g_weak (show gm_Lle [some _, some _, some _, some _] _ from ⟨rfl, ⟨rfl, ⟨rfl, ⟨rfl, trivial⟩⟩⟩⟩) H
  · exact H
set_option maxRecDepth 20000 in
theorem w_399_208 {a0 : Nat} {r_1 : Option Nat} {r_2 : Option Nat} {x3 : Int32} {h : hh_T} {Q : Option Value ⊕ Nat → hh_T → Prop} (H : hh_tg h a0 = 12 ∧ (gm_G 360 0 [some (.ref a0), some (va_rf r_1)] [] h (pV (fun h2 => gm_G 399 213 [some (.ref a0), some (va_rf r_1), some (va_rf r_2), some (.int x3)] [] h2 Q) (fun e3 h4 => hh_tg h4 e3 = 21 ∧ Q (.inr e3) h4)))) : gm_G 399 208 [some (.ref a0), some (va_rf r_1), some (va_rf r_2), some (.int x3)] [] h Q := by
  refine g_aload (r := some _) rfl rfl rfl (pc' := 209) ?_
  refine g_aload (r := _) rfl rfl rfl (pc' := 210) ?_
  obtain ⟨ht1, H⟩ := H
  refine g_call rfl (y := 360) (n := 2) (pc' := 213) (g_vt ht1 rfl rfl) (by cases r_1 <;> rfl) rfl ⟨(Nat.le_of_ble_eq_true rfl), (Nat.le_of_ble_eq_true rfl), (Nat.le_of_ble_eq_true rfl)⟩ rfl (gm_G.mono H (pV_elim (fun h2 H' => ?_) (fun e3 h4 H => ?_)))
  · show gm_G _ 213 _ _ _ _
    replace H := H'
    clear H'
    exact g_weak (show gm_Lle [some _, some _, some _, some _] _ from ⟨rfl, ⟨rfl, ⟨rfl, ⟨rfl, trivial⟩⟩⟩⟩) H
  · exact H
set_option maxRecDepth 20000 in
theorem w_399_213 {a0 : Nat} {r_1 : Option Nat} {r_2 : Option Nat} {x3 : Int32} {h : hh_T} {Q : Option Value ⊕ Nat → hh_T → Prop} (H : hh_tg h a0 = 12 ∧ (gm_G 256 0 [some (.ref a0), some (va_rf r_1)] [] h (pV (fun h2 => hh_tg h2 a0 = 12 ∧ (gm_G 59 0 [some (.ref a0), some (va_rf r_1), some (.int x3)] [] h2 (pV (fun h4 => gm_G 399 227 [some (.ref a0), some (va_rf r_1), some (va_rf r_2), none, some (.int (Int32.ofNat 0))] [] h4 Q) (fun e5 h6 => hh_tg h6 e5 = 21 ∧ Q (.inr e5) h6)))) (fun e7 h8 => hh_tg h8 e7 = 21 ∧ Q (.inr e7) h8)))) : gm_G 399 213 [some (.ref a0), some (va_rf r_1), some (va_rf r_2), some (.int x3)] [] h Q := by
  refine g_aload (r := some _) rfl rfl rfl (pc' := 214) ?_
  refine g_aload (r := _) rfl rfl rfl (pc' := 215) ?_
  obtain ⟨ht1, H⟩ := H
  refine g_call rfl (y := 256) (n := 2) (pc' := 218) (g_vt ht1 rfl rfl) (by cases r_1 <;> rfl) rfl ⟨(Nat.le_of_ble_eq_true rfl), (Nat.le_of_ble_eq_true rfl), (Nat.le_of_ble_eq_true rfl)⟩ rfl (gm_G.mono H (pV_elim (fun h2 H' => ?_) (fun e7 h8 H => ?_)))
  · show gm_G _ 218 _ _ _ _
    replace H := H'
    clear H'
    refine g_aload (r := some _) rfl rfl rfl (pc' := 219) ?_
    refine g_aload (r := _) rfl rfl rfl (pc' := 220) ?_
    refine g_iload rfl rfl rfl (pc' := 221) ?_
    obtain ⟨ht3, H⟩ := H
    refine g_call rfl (y := 59) (n := 3) (pc' := 224) (g_vt ht3 rfl rfl) (by cases r_1 <;> rfl) rfl ⟨(Nat.le_of_ble_eq_true rfl), (Nat.le_of_ble_eq_true rfl), (Nat.le_of_ble_eq_true rfl)⟩ rfl (gm_G.mono H (pV_elim (fun h4 H' => ?_) (fun e5 h6 H => ?_)))
    · show gm_G _ 224 _ _ _ _
      replace H := H'
      clear H'
      refine g_iconst rfl rfl rfl (pc' := 225) ?_
      refine g_istore rfl rfl rfl (pc' := 227) ?_
      exact g_weak (show gm_Lle [some _, some _, some _, none, some _] _ from ⟨rfl, ⟨rfl, ⟨rfl, ⟨rfl, trivial⟩⟩⟩⟩) H
    · exact H
  · exact H
set_option maxRecDepth 20000 in
theorem w_399_227 {a0 : Nat} {r_1 : Option Nat} {r_2 : Option Nat} {x4 : Int32} {h : hh_T} {Q : Option Value ⊕ Nat → hh_T → Prop} (H : gm_sub (hh_tg h a0) 11 = true ∧ (∀ r2, r2 = hh_r h a0 4 → (∃ a3, r2 = some a3 ∧ ((hh_tg h a3 = 101 ∨ hh_tg h a3 = 102) ∧ (∃ n4, gm_ix x4 n4 (hh_ln h a3) ∧ (((hh_i h a3 n4) = Int32.ofNat 0 → (∀ r6, r6 = hh_r h a0 4 → (∃ a7, r6 = some a7 ∧ (hh_tg h a7 = 102 ∧ (∃ n8, gm_ix x4 n8 (hh_ln h a7) ∧ (∀ h9, h9 = hh_wi h a7 n8 (Int32.ofNat 1) → (∃ a10, r_1 = some a10 ∧ (gm_sub (hh_tg h9 a10) 31 = true ∧ (∀ h12, h12 = hh_wi h9 a10 11 x4 → (gm_G 399 260 [some (.ref a0), none, some (va_rf r_2), none, some (.int x4), some (.int (Int32.ofNat 0))] [] h12 Q)))))))))) ∧ (¬ (hh_i h a3 n4) = Int32.ofNat 0 → (gm_G 399 227 [some (.ref a0), some (va_rf r_1), some (va_rf r_2), none, some (.int (x4 + (Int32.ofNat 1)))] [] h Q)))))))) : gm_G 399 227 [some (.ref a0), some (va_rf r_1), some (va_rf r_2), none, some (.int x4)] [] h Q := by
  refine g_aload (r := some _) rfl rfl rfl (pc' := 228) ?_
  obtain ⟨ht1, H⟩ := H
  refine g_getRv rfl rfl rfl rfl ht1 (pc' := 231) rfl (fun r2 hr2 => ?_)
  replace H := H r2 hr2
  refine g_iload rfl rfl rfl (pc' := 233) ?_
  obtain ⟨a3, rfl, H⟩ := H
  obtain ⟨ht5, H⟩ := H
  obtain ⟨n4, hn4, H⟩ := H
  refine g_baload rfl ht5 hn4 (pc' := 234) rfl ?_
  refine g_if_eq rfl (pc' := 237) (pt := 243) rfl rfl ⟨fun hc => ?_, fun hc => ?_⟩
  · replace H := H.1 hc
    refine g_aload (r := some _) rfl rfl rfl (pc' := 244) ?_
    refine g_getRv rfl rfl rfl rfl ht1 (pc' := 247) rfl (fun r6 hr6 => ?_)
    replace H := H r6 hr6
    refine g_iload rfl rfl rfl (pc' := 249) ?_
    refine g_iconst rfl rfl rfl (pc' := 250) ?_
    obtain ⟨a7, rfl, H⟩ := H
    obtain ⟨ht13, H⟩ := H
    obtain ⟨n8, hn8, H⟩ := H
    refine g_zastore rfl ht13 hn8 (by decide) (pc' := 251) rfl ?_
    replace H := H _ rfl
    refine g_aload (r := _) rfl rfl rfl (pc' := 252) ?_
    refine g_iload rfl rfl rfl (pc' := 254) ?_
    obtain ⟨a10, rfl, H⟩ := H
    obtain ⟨ht11, H⟩ := H
    refine g_putI rfl rfl rfl rfl ht11  (pc' := 257) rfl ?_
    replace H := H _ rfl
    refine g_iconst rfl rfl rfl (pc' := 258) ?_
    refine g_istore rfl rfl rfl (pc' := 260) ?_
    exact g_weak (show gm_Lle [some _, none, some _, none, some _, some _] _ from ⟨rfl, ⟨rfl, ⟨rfl, ⟨rfl, trivial⟩⟩⟩⟩) H
  · replace H := H.2 hc
    refine g_iinc (c := (Int32.ofNat 1)) rfl rfl rfl rfl rfl (pc' := 240) ?_
    refine g_goto rfl (pc' := 227) rfl ?_
    exact g_weak (show gm_Lle [some _, some _, some _, none, some _] _ from ⟨rfl, ⟨rfl, ⟨rfl, ⟨rfl, trivial⟩⟩⟩⟩) H
set_option maxRecDepth 20000 in
theorem w_399_260 {a0 : Nat} {r_2 : Option Nat} {x4 : Int32} {x5 : Int32} {h : hh_T} {Q : Option Value ⊕ Nat → hh_T → Prop} (H : (¬ x5 < (Int32.ofNat 32) → (Q (.inl none) h)) ∧ (x5 < (Int32.ofNat 32) → (gm_sub (hh_tg h a0) 11 = true ∧ (∀ r2, r2 = hh_r h a0 3 → (∃ a3, r_2 = some a3 ∧ ((hh_tg h a3 = 101 ∨ hh_tg h a3 = 102) ∧ (∃ n4, gm_ix x5 n4 (hh_ln h a3) ∧ (∃ a6, r2 = some a6 ∧ (hh_tg h a6 = 101 ∧ (∃ n7, gm_ix (((Int32.ofNat 32) * x4) + x5) n7 (hh_ln h a6) ∧ (∀ h8, h8 = hh_wi h a6 n7 ((hh_i h a3 n4).toInt8.toInt32) → (gm_G 399 260 [some (.ref a0), none, some (.ref a3), none, some (.int x4), some (.int (x5 + (Int32.ofNat 1)))] [] h8 Q)))))))))))) : gm_G 399 260 [some (.ref a0), none, some (va_rf r_2), none, some (.int x4), some (.int x5)] [] h Q := by
  refine g_iload rfl rfl rfl (pc' := 262) ?_
  refine g_iconst rfl rfl rfl (pc' := 264) ?_
  refine g_ic_ge rfl (pc' := 267) (pt := 290) rfl rfl ⟨fun hc => ?_, fun hc => ?_⟩
  · replace H := H.1 hc
    exact g_return rfl H
  · replace H := H.2 hc
    refine g_aload (r := some _) rfl rfl rfl (pc' := 268) ?_
    obtain ⟨ht1, H⟩ := H
    refine g_getRv rfl rfl rfl rfl ht1 (pc' := 271) rfl (fun r2 hr2 => ?_)
    replace H := H r2 hr2
    refine g_iconst rfl rfl rfl (pc' := 273) ?_
    refine g_iload rfl rfl rfl (pc' := 275) ?_
    refine g_imul rfl rfl (pc' := 276) ?_
    refine g_iload rfl rfl rfl (pc' := 278) ?_
    refine g_iadd rfl rfl (pc' := 279) ?_
    refine g_aload (r := _) rfl rfl rfl (pc' := 280) ?_
    refine g_iload rfl rfl rfl (pc' := 282) ?_
    obtain ⟨a3, rfl, H⟩ := H
    obtain ⟨ht5, H⟩ := H
    obtain ⟨n4, hn4, H⟩ := H
    refine g_baload rfl ht5 hn4 (pc' := 283) rfl ?_
    obtain ⟨a6, rfl, H⟩ := H
    obtain ⟨ht9, H⟩ := H
    obtain ⟨n7, hn7, H⟩ := H
    refine g_bastore rfl ht9 hn7  (pc' := 284) rfl ?_
    replace H := H _ rfl
    refine g_iinc (c := (Int32.ofNat 1)) rfl rfl rfl rfl rfl (pc' := 287) ?_
    refine g_goto rfl (pc' := 260) rfl ?_
    exact g_weak (show gm_Lle [some _, none, some _, none, some _, some _] _ from ⟨rfl, ⟨rfl, ⟨rfl, ⟨rfl, trivial⟩⟩⟩⟩) H
set_option maxRecDepth 20000 in
theorem w_400_0 {a0 : Nat}  {h : hh_T} {Q : Option Value ⊕ Nat → hh_T → Prop} (H : gm_G 400 2 [some (.ref a0), some (.int (Int32.ofNat 0))] [] h Q) : gm_G 400 0 [some (.ref a0)] [] h Q := by
  refine g_iconst rfl rfl rfl (pc' := 1) ?_
  refine g_istore rfl rfl rfl (pc' := 2) ?_
  exact g_weak (show gm_Lle [some _, some _] _ from ⟨rfl, ⟨rfl, trivial⟩⟩) H
set_option maxRecDepth 20000 in
theorem w_400_2 {a0 : Nat} {x1 : Int32} {h : hh_T} {Q : Option Value ⊕ Nat → hh_T → Prop} (H : gm_sub (hh_tg h a0) 18 = true ∧ ((¬ x1 < (hh_i h a0 3) → (∀ r2, r2 = hh_r h a0 6 → (∃ a3, r2 = some a3 ∧ (gm_sub (hh_tg h a3) 0 = true ∧ (∀ h5, h5 = hh_wi h a3 8 (hh_i h a0 3) → (Q (.inl none) h5)))))) ∧ (x1 < (hh_i h a0 3) → (∀ r6, r6 = hh_r h a0 6 → (∃ a7, r6 = some a7 ∧ (gm_sub (hh_tg h a7) 0 = true ∧ (∀ r9, r9 = hh_r h a7 5 → (∃ a10, r9 = some a10 ∧ ((hh_tg h a10 = 104 ∨ 200 ≤ hh_tg h a10) ∧ (∃ n11, gm_ix x1 n11 (hh_ln h a10) ∧ (∀ r13, r13 = hh_r h a10 n11 → (∀ r14, r14 = hh_r h a0 0 → (∃ a15, r14 = some a15 ∧ ((hh_tg h a15 = 100 ∨ hh_tg h a15 = 105) ∧ (∃ n16, gm_ix x1 n16 (hh_ln h a15) ∧ ((¬ Int32.ofNat 0 < (hh_i h a15 n16) → (gm_G 400 57 [some (.ref a0), some (.int x1), some (va_rf r13)] [] h Q)) ∧ (Int32.ofNat 0 < (hh_i h a15 n16) → (∀ r18, r18 = hh_r h a0 6 → (∃ a19, r18 = some a19 ∧ (gm_sub (hh_tg h a19) 0 = true ∧ (∀ r21, r21 = hh_r h a19 6 → (∃ a22, r21 = some a22 ∧ ((hh_tg h a22 = 104 ∨ 200 ≤ hh_tg h a22) ∧ (∃ n23, gm_ix x1 n23 (hh_ln h a22) ∧ (∀ r25, r25 = hh_r h a22 n23 → (∀ r26, r26 = hh_r h a0 0 → (∃ a27, r26 = some a27 ∧ ((hh_tg h a27 = 100 ∨ hh_tg h a27 = 105) ∧ (∃ n28, gm_ix x1 n28 (hh_ln h a27) ∧ (∃ a30, r25 = some a30 ∧ (gm_sub (hh_tg h a30) 6 = true ∧ (∀ h32, h32 = hh_wi h a30 8 (hh_i h a27 n28) → (∀ r33, r33 = hh_r h32 a0 6 → (∃ a34, r33 = some a34 ∧ (gm_sub (hh_tg h32 a34) 0 = true ∧ (∀ r36, r36 = hh_r h32 a34 6 → (∃ a37, r36 = some a37 ∧ ((hh_tg h32 a37 = 104 ∨ 200 ≤ hh_tg h32 a37) ∧ (∃ n38, gm_ix x1 n38 (hh_ln h32 a37) ∧ (∀ r40, r40 = hh_r h32 a37 n38 → (gm_G 400 57 [some (.ref a0), some (.int x1), some (va_rf r40)] [] h32 Q))))))))))))))))))))))))))))))))))))))))) : gm_G 400 2 [some (.ref a0), some (.int x1)] [] h Q := by
  refine g_iload rfl rfl rfl (pc' := 3) ?_
  refine g_aload (r := some _) rfl rfl rfl (pc' := 4) ?_
  obtain ⟨ht1, H⟩ := H
  refine g_getI rfl rfl rfl rfl ht1 (pc' := 7) rfl ?_
  refine g_ic_ge rfl (pc' := 10) (pt := 123) rfl rfl ⟨fun hc => ?_, fun hc => ?_⟩
  · replace H := H.1 hc
    refine g_aload (r := some _) rfl rfl rfl (pc' := 124) ?_
    refine g_getRv rfl rfl rfl rfl ht1 (pc' := 127) rfl (fun r2 hr2 => ?_)
    replace H := H r2 hr2
    refine g_aload (r := some _) rfl rfl rfl (pc' := 128) ?_
    refine g_getI rfl rfl rfl rfl ht1 (pc' := 131) rfl ?_
    obtain ⟨a3, rfl, H⟩ := H
    obtain ⟨ht4, H⟩ := H
    refine g_putI rfl rfl rfl rfl ht4  (pc' := 134) rfl ?_
    replace H := H _ rfl
    exact g_return rfl H
  · replace H := H.2 hc
    refine g_aload (r := some _) rfl rfl rfl (pc' := 11) ?_
    refine g_getRv rfl rfl rfl rfl ht1 (pc' := 14) rfl (fun r6 hr6 => ?_)
    replace H := H r6 hr6
    obtain ⟨a7, rfl, H⟩ := H
    obtain ⟨ht8, H⟩ := H
    refine g_getRv rfl rfl rfl rfl ht8 (pc' := 17) rfl (fun r9 hr9 => ?_)
    replace H := H r9 hr9
    refine g_iload rfl rfl rfl (pc' := 18) ?_
    obtain ⟨a10, rfl, H⟩ := H
    obtain ⟨ht12, H⟩ := H
    obtain ⟨n11, hn11, H⟩ := H
    refine g_aaloadv rfl ht12 hn11 (pc' := 19) rfl (fun r13 hr13 => ?_)
    replace H := H r13 hr13
    refine g_astore (r := _) rfl rfl rfl (pc' := 20) ?_
    refine g_aload (r := some _) rfl rfl rfl (pc' := 21) ?_
    refine g_getRv rfl rfl rfl rfl ht1 (pc' := 24) rfl (fun r14 hr14 => ?_)
    replace H := H r14 hr14
    refine g_iload rfl rfl rfl (pc' := 25) ?_
    obtain ⟨a15, rfl, H⟩ := H
    obtain ⟨ht17, H⟩ := H
    obtain ⟨n16, hn16, H⟩ := H
    refine g_iaload rfl ht17 hn16 (pc' := 26) rfl ?_
    refine g_if_le rfl (pc' := 29) (pt := 57) rfl rfl ⟨fun hc => ?_, fun hc => ?_⟩
    · replace H := H.1 hc
      exact g_weak (show gm_Lle [some _, some _, some _] _ from ⟨rfl, ⟨rfl, ⟨rfl, trivial⟩⟩⟩) H
    · replace H := H.2 hc
      refine g_aload (r := some _) rfl rfl rfl (pc' := 30) ?_
      refine g_getRv rfl rfl rfl rfl ht1 (pc' := 33) rfl (fun r18 hr18 => ?_)
      replace H := H r18 hr18
      obtain ⟨a19, rfl, H⟩ := H
      obtain ⟨ht20, H⟩ := H
      refine g_getRv rfl rfl rfl rfl ht20 (pc' := 36) rfl (fun r21 hr21 => ?_)
      replace H := H r21 hr21
      refine g_iload rfl rfl rfl (pc' := 37) ?_
      obtain ⟨a22, rfl, H⟩ := H
      obtain ⟨ht24, H⟩ := H
      obtain ⟨n23, hn23, H⟩ := H
      refine g_aaloadv rfl ht24 hn23 (pc' := 38) rfl (fun r25 hr25 => ?_)
      replace H := H r25 hr25
      refine g_aload (r := some _) rfl rfl rfl (pc' := 39) ?_
      refine g_getRv rfl rfl rfl rfl ht1 (pc' := 42) rfl (fun r26 hr26 => ?_)
      replace H := H r26 hr26
      refine g_iload rfl rfl rfl (pc' := 43) ?_
      obtain ⟨a27, rfl, H⟩ := H
      obtain ⟨ht29, H⟩ := H
      obtain ⟨n28, hn28, H⟩ := H
      refine g_iaload rfl ht29 hn28 (pc' := 44) rfl ?_
      obtain ⟨a30, rfl, H⟩ := H
      obtain ⟨ht31, H⟩ := H
      refine g_putI rfl rfl rfl rfl ht31  (pc' := 47) rfl ?_
      replace H := H _ rfl
      refine g_aload (r := some _) rfl rfl rfl (pc' := 48) ?_
      refine g_getRv rfl rfl rfl rfl ht1 (pc' := 51) rfl (fun r33 hr33 => ?_)
      replace H := H r33 hr33
      obtain ⟨a34, rfl, H⟩ := H
      obtain ⟨ht35, H⟩ := H
      refine g_getRv rfl rfl rfl rfl ht35 (pc' := 54) rfl (fun r36 hr36 => ?_)
      replace H := H r36 hr36
      refine g_iload rfl rfl rfl (pc' := 55) ?_
      obtain ⟨a37, rfl, H⟩ := H
      obtain ⟨ht39, H⟩ := H
      obtain ⟨n38, hn38, H⟩ := H
      refine g_aaloadv rfl ht39 hn38 (pc' := 56) rfl (fun r40 hr40 => ?_)
      replace H := H r40 hr40
      refine g_astore (r := _) rfl rfl rfl (pc' := 57) ?_
      exact g_weak (show gm_Lle [some _, some _, some _] _ from ⟨rfl, ⟨rfl, ⟨rfl, trivial⟩⟩⟩) H
set_option maxRecDepth 20000 in
theorem w_400_57 {a0 : Nat} {x1 : Int32} {r_2 : Option Nat} {h : hh_T} {Q : Option Value ⊕ Nat → hh_T → Prop} (H : ∃ a1, r_2 = some a1 ∧ (gm_sub (hh_tg h a1) 3 = true ∧ (∀ h3, h3 = hh_wi h a1 2 (Int32.ofNat 0) → (gm_G 400 64 [some (.ref a0), some (.int x1), some (.ref a1), some (.int (Int32.ofNat 0))] [] h3 Q)))) : gm_G 400 57 [some (.ref a0), some (.int x1), some (va_rf r_2)] [] h Q := by
  refine g_aload (r := _) rfl rfl rfl (pc' := 58) ?_
  refine g_iconst rfl rfl rfl (pc' := 59) ?_
  obtain ⟨a1, rfl, H⟩ := H
  obtain ⟨ht2, H⟩ := H
  refine g_putI rfl rfl rfl rfl ht2  (pc' := 62) rfl ?_
  replace H := H _ rfl
  refine g_iconst rfl rfl rfl (pc' := 63) ?_
  refine g_istore rfl rfl rfl (pc' := 64) ?_
  exact g_weak (show gm_Lle [some _, some _, some _, some _] _ from ⟨rfl, ⟨rfl, ⟨rfl, ⟨rfl, trivial⟩⟩⟩⟩) H
set_option maxRecDepth 20000 in
theorem w_400_64 {a0 : Nat} {x1 : Int32} {r_2 : Option Nat} {x3 : Int32} {h : hh_T} {Q : Option Value ⊕ Nat → hh_T → Prop} (H : gm_sub (hh_tg h a0) 18 = true ∧ (∀ r2, r2 = hh_r h a0 1 → (∃ a3, r2 = some a3 ∧ ((hh_tg h a3 = 100 ∨ hh_tg h a3 = 105) ∧ (∃ n4, gm_ix x1 n4 (hh_ln h a3) ∧ ((¬ x3 < (hh_i h a3 n4) → (∃ a6, r_2 = some a6 ∧ ((hh_tg h a6 = 5 ∧ (gm_G 354 0 [some (.ref a6)] [] h (pV (fun h7 => gm_sub (hh_tg h7 a0) 18 = true ∧ (∀ r9, r9 = hh_r h7 a0 6 → (∃ a10, r9 = some a10 ∧ (gm_sub (hh_tg h7 a10) 0 = true ∧ (∀ r12, r12 = hh_r h7 a10 7 → (∃ a13, r12 = some a13 ∧ (200 ≤ hh_tg h7 a13 ∧ (gm_as (hh_tg h7 a13) (hh_tg h7 a6) = true) ∧ (∃ n14, gm_ix x1 n14 (hh_ln h7 a13) ∧ (∀ h15, h15 = hh_wr h7 a13 n14 (some a6) → (gm_G 400 2 [some (.ref a0), some (.int (x1 + (Int32.ofNat 1)))] [] h15 Q)))))))))) (fun e16 h17 => hh_tg h17 e16 = 21 ∧ Q (.inr e16) h17)))) ∨ (hh_tg h a6 = 7 ∧ (gm_G 354 0 [some (.ref a6)] [] h (pV (fun h18 => gm_sub (hh_tg h18 a0) 18 = true ∧ (∀ r20, r20 = hh_r h18 a0 6 → (∃ a21, r20 = some a21 ∧ (gm_sub (hh_tg h18 a21) 0 = true ∧ (∀ r23, r23 = hh_r h18 a21 7 → (∃ a24, r23 = some a24 ∧ (200 ≤ hh_tg h18 a24 ∧ (gm_as (hh_tg h18 a24) (hh_tg h18 a6) = true) ∧ (∃ n25, gm_ix x1 n25 (hh_ln h18 a24) ∧ (∀ h26, h26 = hh_wr h18 a24 n25 (some a6) → (gm_G 400 2 [some (.ref a0), some (.int (x1 + (Int32.ofNat 1)))] [] h26 Q)))))))))) (fun e27 h28 => hh_tg h28 e27 = 21 ∧ Q (.inr e27) h28))))))) ∧ (x3 < (hh_i h a3 n4) → (∀ r29, r29 = hh_r h a0 6 → (∃ a30, r29 = some a30 ∧ (gm_sub (hh_tg h a30) 0 = true ∧ (∀ r32, r32 = hh_r h a30 0 → (∀ r33, r33 = hh_r h a0 2 → (∃ a34, r33 = some a34 ∧ ((hh_tg h a34 = 100 ∨ hh_tg h a34 = 105) ∧ (∃ n35, gm_ix (((Int32.ofNat 6) * x1) + x3) n35 (hh_ln h a34) ∧ (∃ a37, r32 = some a37 ∧ ((hh_tg h a37 = 104 ∨ 200 ≤ hh_tg h a37) ∧ (∃ n38, gm_ix (hh_i h a34 n35) n38 (hh_ln h a37) ∧ (∀ r40, r40 = hh_r h a37 n38 → (∃ a41, r_2 = some a41 ∧ ((hh_tg h a41 = 5 ∧ (gm_G 28 0 [some (.ref a41), some (va_rf r40)] [] h (pV (fun h42 => gm_G 400 64 [some (.ref a0), some (.int x1), some (.ref a41), some (.int (x3 + (Int32.ofNat 1)))] [] h42 Q) (fun e43 h44 => hh_tg h44 e43 = 21 ∧ Q (.inr e43) h44)))) ∨ (hh_tg h a41 = 7 ∧ (gm_G 28 0 [some (.ref a41), some (va_rf r40)] [] h (pV (fun h45 => gm_G 400 64 [some (.ref a0), some (.int x1), some (.ref a41), some (.int (x3 + (Int32.ofNat 1)))] [] h45 Q) (fun e46 h47 => hh_tg h47 e46 = 21 ∧ Q (.inr e46) h47))))))))))))))))))))))))) : gm_G 400 64 [some (.ref a0), some (.int x1), some (va_rf r_2), some (.int x3)] [] h Q := by
  refine g_iload rfl rfl rfl (pc' := 65) ?_
  refine g_aload (r := some _) rfl rfl rfl (pc' := 66) ?_
  obtain ⟨ht1, H⟩ := H
  refine g_getRv rfl rfl rfl rfl ht1 (pc' := 69) rfl (fun r2 hr2 => ?_)
  replace H := H r2 hr2
  refine g_iload rfl rfl rfl (pc' := 70) ?_
  obtain ⟨a3, rfl, H⟩ := H
  obtain ⟨ht5, H⟩ := H
  obtain ⟨n4, hn4, H⟩ := H
  refine g_iaload rfl ht5 hn4 (pc' := 71) rfl ?_
  refine g_ic_ge rfl (pc' := 74) (pt := 103) rfl rfl ⟨fun hc => ?_, fun hc => ?_⟩
  · replace H := H.1 hc
    refine g_aload (r := _) rfl rfl rfl (pc' := 104) ?_
    obtain ⟨a6, rfl, H⟩ := H
    rcases H with ⟨ht, H⟩ | ⟨ht, H⟩
    · refine g_call rfl (y := 354) (n := 1) (pc' := 107) (g_vt ht rfl rfl) rfl rfl ⟨(Nat.le_of_ble_eq_true rfl), (Nat.le_of_ble_eq_true rfl), (Nat.le_of_ble_eq_true rfl)⟩ rfl (gm_G.mono H (pV_elim (fun h7 H' => ?_) (fun e16 h17 H => ?_)))
      · show gm_G _ 107 _ _ _ _
        replace H := H'
        clear H'
        refine g_aload (r := some _) rfl rfl rfl (pc' := 108) ?_
        obtain ⟨ht8, H⟩ := H
        refine g_getRv rfl rfl rfl rfl ht8 (pc' := 111) rfl (fun r9 hr9 => ?_)
        replace H := H r9 hr9
        obtain ⟨a10, rfl, H⟩ := H
        obtain ⟨ht11, H⟩ := H
        refine g_getRv rfl rfl rfl rfl ht11 (pc' := 114) rfl (fun r12 hr12 => ?_)
        replace H := H r12 hr12
        refine g_iload rfl rfl rfl (pc' := 115) ?_
        refine g_aload (r := some _) rfl rfl rfl (pc' := 116) ?_
        obtain ⟨a13, rfl, H⟩ := H
        obtain ⟨Ha, Hb, H⟩ := H
        obtain ⟨n14, hn14, H⟩ := H
        refine g_aastore (r := some _) rfl Ha (fun b hb => by cases hb; exact Hb) hn14 (pc' := 117) rfl ?_
        replace H := H _ rfl
        refine g_iinc (c := (Int32.ofNat 1)) rfl rfl rfl rfl rfl (pc' := 120) ?_
        refine g_goto rfl (pc' := 2) rfl ?_
        exact g_weak (show gm_Lle [some _, some _] _ from ⟨rfl, ⟨rfl, trivial⟩⟩) H
      · exact H
    · refine g_call rfl (y := 354) (n := 1) (pc' := 107) (g_vt ht rfl rfl) rfl rfl ⟨(Nat.le_of_ble_eq_true rfl), (Nat.le_of_ble_eq_true rfl), (Nat.le_of_ble_eq_true rfl)⟩ rfl (gm_G.mono H (pV_elim (fun h18 H' => ?_) (fun e27 h28 H => ?_)))
      · show gm_G _ 107 _ _ _ _
        replace H := H'
        clear H'
        refine g_aload (r := some _) rfl rfl rfl (pc' := 108) ?_
        obtain ⟨ht19, H⟩ := H
        refine g_getRv rfl rfl rfl rfl ht19 (pc' := 111) rfl (fun r20 hr20 => ?_)
        replace H := H r20 hr20
        obtain ⟨a21, rfl, H⟩ := H
        obtain ⟨ht22, H⟩ := H
        refine g_getRv rfl rfl rfl rfl ht22 (pc' := 114) rfl (fun r23 hr23 => ?_)
        replace H := H r23 hr23
        refine g_iload rfl rfl rfl (pc' := 115) ?_
        refine g_aload (r := some _) rfl rfl rfl (pc' := 116) ?_
        obtain ⟨a24, rfl, H⟩ := H
        obtain ⟨Ha, Hb, H⟩ := H
        obtain ⟨n25, hn25, H⟩ := H
        refine g_aastore (r := some _) rfl Ha (fun b hb => by cases hb; exact Hb) hn25 (pc' := 117) rfl ?_
        replace H := H _ rfl
        refine g_iinc (c := (Int32.ofNat 1)) rfl rfl rfl rfl rfl (pc' := 120) ?_
        refine g_goto rfl (pc' := 2) rfl ?_
        exact g_weak (show gm_Lle [some _, some _] _ from ⟨rfl, ⟨rfl, trivial⟩⟩) H
      · exact H
  · replace H := H.2 hc
    refine g_aload (r := _) rfl rfl rfl (pc' := 75) ?_
    refine g_aload (r := some _) rfl rfl rfl (pc' := 76) ?_
    refine g_getRv rfl rfl rfl rfl ht1 (pc' := 79) rfl (fun r29 hr29 => ?_)
    replace H := H r29 hr29
    obtain ⟨a30, rfl, H⟩ := H
    obtain ⟨ht31, H⟩ := H
    refine g_getRv rfl rfl rfl rfl ht31 (pc' := 82) rfl (fun r32 hr32 => ?_)
    replace H := H r32 hr32
    refine g_aload (r := some _) rfl rfl rfl (pc' := 83) ?_
    refine g_getRv rfl rfl rfl rfl ht1 (pc' := 86) rfl (fun r33 hr33 => ?_)
    replace H := H r33 hr33
    refine g_iconst rfl rfl rfl (pc' := 88) ?_
    refine g_iload rfl rfl rfl (pc' := 89) ?_
    refine g_imul rfl rfl (pc' := 90) ?_
    refine g_iload rfl rfl rfl (pc' := 91) ?_
    refine g_iadd rfl rfl (pc' := 92) ?_
    obtain ⟨a34, rfl, H⟩ := H
    obtain ⟨ht36, H⟩ := H
    obtain ⟨n35, hn35, H⟩ := H
    refine g_iaload rfl ht36 hn35 (pc' := 93) rfl ?_
    obtain ⟨a37, rfl, H⟩ := H
    obtain ⟨ht39, H⟩ := H
    obtain ⟨n38, hn38, H⟩ := H
    refine g_aaloadv rfl ht39 hn38 (pc' := 94) rfl (fun r40 hr40 => ?_)
    replace H := H r40 hr40
    obtain ⟨a41, rfl, H⟩ := H
    rcases H with ⟨ht, H⟩ | ⟨ht, H⟩
    · refine g_call rfl (y := 28) (n := 2) (pc' := 97) (g_vt ht rfl rfl) (by cases r40 <;> rfl) rfl ⟨(Nat.le_of_ble_eq_true rfl), (Nat.le_of_ble_eq_true rfl), (Nat.le_of_ble_eq_true rfl)⟩ rfl (gm_G.mono H (pV_elim (fun h42 H' => ?_) (fun e43 h44 H => ?_)))
      · show gm_G _ 97 _ _ _ _
        replace H := H'
        clear H'
        refine g_iinc (c := (Int32.ofNat 1)) rfl rfl rfl rfl rfl (pc' := 100) ?_
        refine g_goto rfl (pc' := 64) rfl ?_
        exact g_weak (show gm_Lle [some _, some _, some _, some _] _ from ⟨rfl, ⟨rfl, ⟨rfl, ⟨rfl, trivial⟩⟩⟩⟩) H
      · exact H
    · refine g_call rfl (y := 28) (n := 2) (pc' := 97) (g_vt ht rfl rfl) (by cases r40 <;> rfl) rfl ⟨(Nat.le_of_ble_eq_true rfl), (Nat.le_of_ble_eq_true rfl), (Nat.le_of_ble_eq_true rfl)⟩ rfl (gm_G.mono H (pV_elim (fun h45 H' => ?_) (fun e46 h47 H => ?_)))
      · show gm_G _ 97 _ _ _ _
        replace H := H'
        clear H'
        refine g_iinc (c := (Int32.ofNat 1)) rfl rfl rfl rfl rfl (pc' := 100) ?_
        refine g_goto rfl (pc' := 64) rfl ?_
        exact g_weak (show gm_Lle [some _, some _, some _, some _] _ from ⟨rfl, ⟨rfl, ⟨rfl, ⟨rfl, trivial⟩⟩⟩⟩) H
      · exact H
set_option maxRecDepth 20000 in
theorem w_401_0 {a0 : Nat}  {h : hh_T} {Q : Option Value ⊕ Nat → hh_T → Prop} (H : gm_sub (hh_tg h a0) 18 = true ∧ (∀ h2, h2 = hh_wi h a0 3 (Int32.ofNat 0) → (∀ h3, h3 = hh_wi h2 a0 4 (Int32.ofNat 0) → (gm_G 401 12 [some (.ref a0), some (.int (Int32.ofNat 0))] [] h3 Q)))) : gm_G 401 0 [some (.ref a0)] [] h Q := by
  refine g_aload (r := some _) rfl rfl rfl (pc' := 1) ?_
  refine g_iconst rfl rfl rfl (pc' := 2) ?_
  obtain ⟨ht1, H⟩ := H
  refine g_putI rfl rfl rfl rfl ht1  (pc' := 5) rfl ?_
  replace H := H _ rfl
  refine g_aload (r := some _) rfl rfl rfl (pc' := 6) ?_
  refine g_iconst rfl rfl rfl (pc' := 7) ?_
  refine g_putI rfl rfl rfl rfl ht1  (pc' := 10) rfl ?_
  replace H := H _ rfl
  refine g_iconst rfl rfl rfl (pc' := 11) ?_
  refine g_istore rfl rfl rfl (pc' := 12) ?_
  exact g_weak (show gm_Lle [some _, some _] _ from ⟨rfl, ⟨rfl, trivial⟩⟩) H
set_option maxRecDepth 20000 in
theorem w_401_12 {a0 : Nat} {x1 : Int32} {h : hh_T} {Q : Option Value ⊕ Nat → hh_T → Prop} (H : (¬ x1 < (Int32.ofNat 8) → (gm_G 401 31 [some (.ref a0)] [] h Q)) ∧ (x1 < (Int32.ofNat 8) → (gm_sub (hh_tg h a0) 18 = true ∧ (∀ r2, r2 = hh_r h a0 5 → (∃ a3, r2 = some a3 ∧ (hh_tg h a3 = 102 ∧ (∃ n4, gm_ix x1 n4 (hh_ln h a3) ∧ (∀ h5, h5 = hh_wi h a3 n4 (Int32.ofNat 0) → (gm_G 401 12 [some (.ref a0), some (.int (x1 + (Int32.ofNat 1)))] [] h5 Q))))))))) : gm_G 401 12 [some (.ref a0), some (.int x1)] [] h Q := by
  refine g_iload rfl rfl rfl (pc' := 13) ?_
  refine g_iconst rfl rfl rfl (pc' := 15) ?_
  refine g_ic_ge rfl (pc' := 18) (pt := 31) rfl rfl ⟨fun hc => ?_, fun hc => ?_⟩
  · replace H := H.1 hc
    exact g_weak (show gm_Lle [some _] _ from ⟨rfl, trivial⟩) H
  · replace H := H.2 hc
    refine g_aload (r := some _) rfl rfl rfl (pc' := 19) ?_
    obtain ⟨ht1, H⟩ := H
    refine g_getRv rfl rfl rfl rfl ht1 (pc' := 22) rfl (fun r2 hr2 => ?_)
    replace H := H r2 hr2
    refine g_iload rfl rfl rfl (pc' := 23) ?_
    refine g_iconst rfl rfl rfl (pc' := 24) ?_
    obtain ⟨a3, rfl, H⟩ := H
    obtain ⟨ht6, H⟩ := H
    obtain ⟨n4, hn4, H⟩ := H
    refine g_zastore rfl ht6 hn4 (by decide) (pc' := 25) rfl ?_
    replace H := H _ rfl
    refine g_iinc (c := (Int32.ofNat 1)) rfl rfl rfl rfl rfl (pc' := 28) ?_
    refine g_goto rfl (pc' := 12) rfl ?_
    exact g_weak (show gm_Lle [some _, some _] _ from ⟨rfl, ⟨rfl, trivial⟩⟩) H
set_option maxRecDepth 20000 in
theorem w_401_31 {a0 : Nat}  {h : hh_T} {Q : Option Value ⊕ Nat → hh_T → Prop} (H : gm_sub (hh_tg h a0) 18 = true ∧ (∀ r2, r2 = hh_r h a0 6 → (∃ a3, r2 = some a3 ∧ (gm_sub (hh_tg h a3) 0 = true ∧ (∀ r5, r5 = hh_r h a3 58 → (∃ a6, r5 = some a6 ∧ (gm_sub (hh_tg h a6) 12 = true ∧ ((¬ (hh_i h a0 4) < (hh_i h a6 1) → (gm_G 401 66 [some (.ref a0)] [.int (Int32.ofNat 0)] h Q)) ∧ ((hh_i h a0 4) < (hh_i h a6 1) → (∀ r8, r8 = hh_r h a0 6 → (∃ a9, r8 = some a9 ∧ (gm_sub (hh_tg h a9) 0 = true ∧ (∀ r11, r11 = hh_r h a9 58 → (∃ a12, r11 = some a12 ∧ (hh_tg h a12 = 13 ∧ (gm_G 63 0 [some (.ref a12), some (.int (hh_i h a0 4))] [] h (pI (fun v15 h14 => gm_G 401 66 [some (.ref a0)] [.int v15] h14 Q) (fun e16 h17 => hh_tg h17 e16 = 21 ∧ Q (.inr e16) h17)))))))))))))))))) : gm_G 401 31 [some (.ref a0)] [] h Q := by
  refine g_aload (r := some _) rfl rfl rfl (pc' := 32) ?_
  obtain ⟨ht1, H⟩ := H
  refine g_getI rfl rfl rfl rfl ht1 (pc' := 35) rfl ?_
  refine g_aload (r := some _) rfl rfl rfl (pc' := 36) ?_
  refine g_getRv rfl rfl rfl rfl ht1 (pc' := 39) rfl (fun r2 hr2 => ?_)
  replace H := H r2 hr2
  obtain ⟨a3, rfl, H⟩ := H
  obtain ⟨ht4, H⟩ := H
  refine g_getRv rfl rfl rfl rfl ht4 (pc' := 42) rfl (fun r5 hr5 => ?_)
  replace H := H r5 hr5
  obtain ⟨a6, rfl, H⟩ := H
  obtain ⟨ht7, H⟩ := H
  refine g_getI rfl rfl rfl rfl ht7 (pc' := 45) rfl ?_
  refine g_ic_ge rfl (pc' := 48) (pt := 65) rfl rfl ⟨fun hc => ?_, fun hc => ?_⟩
  · replace H := H.1 hc
    refine g_iconst rfl rfl rfl (pc' := 66) ?_
    exact g_weak (show gm_Lle [some _] _ from ⟨rfl, trivial⟩) H
  · replace H := H.2 hc
    refine g_aload (r := some _) rfl rfl rfl (pc' := 49) ?_
    refine g_getRv rfl rfl rfl rfl ht1 (pc' := 52) rfl (fun r8 hr8 => ?_)
    replace H := H r8 hr8
    obtain ⟨a9, rfl, H⟩ := H
    obtain ⟨ht10, H⟩ := H
    refine g_getRv rfl rfl rfl rfl ht10 (pc' := 55) rfl (fun r11 hr11 => ?_)
    replace H := H r11 hr11
    refine g_aload (r := some _) rfl rfl rfl (pc' := 56) ?_
    refine g_getI rfl rfl rfl rfl ht1 (pc' := 59) rfl ?_
    obtain ⟨a12, rfl, H⟩ := H
    obtain ⟨ht13, H⟩ := H
    refine g_call rfl (y := 63) (n := 2) (pc' := 62) (g_vt ht13 rfl rfl) rfl rfl ⟨(Nat.le_of_ble_eq_true rfl), (Nat.le_of_ble_eq_true rfl), (Nat.le_of_ble_eq_true rfl)⟩ rfl (gm_G.mono H (pI_elim (fun v15 h14 H' => ?_) (fun e16 h17 H => ?_)))
    · show gm_G _ 62 _ _ _ _
      replace H := H'
      clear H'
      refine g_goto rfl (pc' := 66) rfl ?_
      exact g_weak (show gm_Lle [some _] _ from ⟨rfl, trivial⟩) H
    · exact H
set_option maxRecDepth 20000 in
theorem w_401_66 {a0 : Nat} {y0 : Int32} {h : hh_T} {Q : Option Value ⊕ Nat → hh_T → Prop} (H : (¬ y0 = (Int32.ofNat 120) → ((¬ y0 = (Int32.ofNat 121) → ((¬ y0 = (Int32.ofNat 122) → (gm_G 401 98 [some (.ref a0), some (.int y0)] [.int (Int32.ofNat 0)] h Q)) ∧ (y0 = (Int32.ofNat 122) → (gm_G 401 98 [some (.ref a0), some (.int y0)] [.int (Int32.ofNat 3)] h Q)))) ∧ (y0 = (Int32.ofNat 121) → (gm_G 401 98 [some (.ref a0), some (.int y0)] [.int (Int32.ofNat 2)] h Q)))) ∧ (y0 = (Int32.ofNat 120) → (gm_G 401 98 [some (.ref a0), some (.int y0)] [.int (Int32.ofNat 1)] h Q))) : gm_G 401 66 [some (.ref a0)] [.int y0] h Q := by
  refine g_istore rfl rfl rfl (pc' := 67) ?_
  refine g_iload rfl rfl rfl (pc' := 68) ?_
  refine g_iconst rfl rfl rfl (pc' := 70) ?_
  refine g_ic_ne rfl (pc' := 73) (pt := 77) rfl rfl ⟨fun hc => ?_, fun hc => ?_⟩
  · replace H := H.1 hc
    refine g_iload rfl rfl rfl (pc' := 78) ?_
    refine g_iconst rfl rfl rfl (pc' := 80) ?_
    refine g_ic_ne rfl (pc' := 83) (pt := 87) rfl rfl ⟨fun hc => ?_, fun hc => ?_⟩
    · replace H := H.1 hc
      refine g_iload rfl rfl rfl (pc' := 88) ?_
      refine g_iconst rfl rfl rfl (pc' := 90) ?_
      refine g_ic_ne rfl (pc' := 93) (pt := 97) rfl rfl ⟨fun hc => ?_, fun hc => ?_⟩
      · replace H := H.1 hc
        refine g_iconst rfl rfl rfl (pc' := 98) ?_
        exact g_weak (show gm_Lle [some _, some _] _ from ⟨rfl, ⟨rfl, trivial⟩⟩) H
      · replace H := H.2 hc
        refine g_iconst rfl rfl rfl (pc' := 94) ?_
        refine g_goto rfl (pc' := 98) rfl ?_
        exact g_weak (show gm_Lle [some _, some _] _ from ⟨rfl, ⟨rfl, trivial⟩⟩) H
    · replace H := H.2 hc
      refine g_iconst rfl rfl rfl (pc' := 84) ?_
      refine g_goto rfl (pc' := 98) rfl ?_
      exact g_weak (show gm_Lle [some _, some _] _ from ⟨rfl, ⟨rfl, trivial⟩⟩) H
  · replace H := H.2 hc
    refine g_iconst rfl rfl rfl (pc' := 74) ?_
    refine g_goto rfl (pc' := 98) rfl ?_
    exact g_weak (show gm_Lle [some _, some _] _ from ⟨rfl, ⟨rfl, trivial⟩⟩) H
set_option maxRecDepth 20000 in
theorem w_401_98 {a0 : Nat} {x1 : Int32} {y0 : Int32} {h : hh_T} {Q : Option Value ⊕ Nat → hh_T → Prop} (H : (¬ y0 = Int32.ofNat 0 → (gm_G 401 120 [some (.ref a0), some (.int x1), some (.int y0)] [] h Q)) ∧ (y0 = Int32.ofNat 0 → ((x1 = (Int32.ofNat 112) → (gm_G 401 120 [some (.ref a0), some (.int x1), some (.int y0)] [] h Q)) ∧ (¬ x1 = (Int32.ofNat 112) → ((x1 = (Int32.ofNat 109) → (gm_G 401 120 [some (.ref a0), some (.int x1), some (.int y0)] [] h Q)) ∧ (¬ x1 = (Int32.ofNat 109) → (gm_sub (hh_tg h a0) 18 = true ∧ (Q (.inl (some (.int (hh_i h a0 4)))) h)))))))) : gm_G 401 98 [some (.ref a0), some (.int x1)] [.int y0] h Q := by
  refine g_istore rfl rfl rfl (pc' := 99) ?_
  refine g_iload rfl rfl rfl (pc' := 100) ?_
  refine g_if_ne rfl (pc' := 103) (pt := 120) rfl rfl ⟨fun hc => ?_, fun hc => ?_⟩
  · replace H := H.1 hc
    exact g_weak (show gm_Lle [some _, some _, some _] _ from ⟨rfl, ⟨rfl, ⟨rfl, trivial⟩⟩⟩) H
  · replace H := H.2 hc
    refine g_iload rfl rfl rfl (pc' := 104) ?_
    refine g_iconst rfl rfl rfl (pc' := 106) ?_
    refine g_ic_eq rfl (pc' := 109) (pt := 120) rfl rfl ⟨fun hc => ?_, fun hc => ?_⟩
    · replace H := H.1 hc
      exact g_weak (show gm_Lle [some _, some _, some _] _ from ⟨rfl, ⟨rfl, ⟨rfl, trivial⟩⟩⟩) H
    · replace H := H.2 hc
      refine g_iload rfl rfl rfl (pc' := 110) ?_
      refine g_iconst rfl rfl rfl (pc' := 112) ?_
      refine g_ic_eq rfl (pc' := 115) (pt := 120) rfl rfl ⟨fun hc => ?_, fun hc => ?_⟩
      · replace H := H.1 hc
        exact g_weak (show gm_Lle [some _, some _, some _] _ from ⟨rfl, ⟨rfl, ⟨rfl, trivial⟩⟩⟩) H
      · replace H := H.2 hc
        refine g_aload (r := some _) rfl rfl rfl (pc' := 116) ?_
        obtain ⟨ht1, H⟩ := H
        refine g_getI rfl rfl rfl rfl ht1 (pc' := 119) rfl ?_
        exact g_ireturn rfl (Or.inl rfl) H
set_option maxRecDepth 20000 in
theorem w_401_120 {a0 : Nat} {x1 : Int32} {x2 : Int32} {h : hh_T} {Q : Option Value ⊕ Nat → hh_T → Prop} (H : gm_sub (hh_tg h a0) 18 = true ∧ (∀ h2, h2 = hh_wi h a0 4 ((hh_i h a0 4) + (Int32.ofNat 1)) → ((¬ x1 = (Int32.ofNat 112) → ((¬ x1 = (Int32.ofNat 109) → (gm_G 401 153 [some (.ref a0), some (.int x1), some (.int x2)] [.int (x2 + (Int32.ofNat 1))] h2 Q)) ∧ (x1 = (Int32.ofNat 109) → (gm_G 401 153 [some (.ref a0), some (.int x1), some (.int x2)] [.int (Int32.ofNat 2)] h2 Q)))) ∧ (x1 = (Int32.ofNat 112) → (gm_G 401 153 [some (.ref a0), some (.int x1), some (.int x2)] [.int (Int32.ofNat 1)] h2 Q))))) : gm_G 401 120 [some (.ref a0), some (.int x1), some (.int x2)] [] h Q := by
  refine g_aload (r := some _) rfl rfl rfl (pc' := 121) ?_
  refine g_dup_a (r := some _) rfl rfl (pc' := 122) ?_
  obtain ⟨ht1, H⟩ := H
  refine g_getI rfl rfl rfl rfl ht1 (pc' := 125) rfl ?_
  refine g_iconst rfl rfl rfl (pc' := 126) ?_
  refine g_iadd rfl rfl (pc' := 127) ?_
  refine g_putI rfl rfl rfl rfl ht1  (pc' := 130) rfl ?_
  replace H := H _ rfl
  refine g_iload rfl rfl rfl (pc' := 131) ?_
  refine g_iconst rfl rfl rfl (pc' := 133) ?_
  refine g_ic_ne rfl (pc' := 136) (pt := 140) rfl rfl ⟨fun hc => ?_, fun hc => ?_⟩
  · replace H := H.1 hc
    refine g_iload rfl rfl rfl (pc' := 141) ?_
    refine g_iconst rfl rfl rfl (pc' := 143) ?_
    refine g_ic_ne rfl (pc' := 146) (pt := 150) rfl rfl ⟨fun hc => ?_, fun hc => ?_⟩
    · replace H := H.1 hc
      refine g_iload rfl rfl rfl (pc' := 151) ?_
      refine g_iconst rfl rfl rfl (pc' := 152) ?_
      refine g_iadd rfl rfl (pc' := 153) ?_
      exact g_weak (show gm_Lle [some _, some _, some _] _ from ⟨rfl, ⟨rfl, ⟨rfl, trivial⟩⟩⟩) H
    · replace H := H.2 hc
      refine g_iconst rfl rfl rfl (pc' := 147) ?_
      refine g_goto rfl (pc' := 153) rfl ?_
      exact g_weak (show gm_Lle [some _, some _, some _] _ from ⟨rfl, ⟨rfl, ⟨rfl, trivial⟩⟩⟩) H
  · replace H := H.2 hc
    refine g_iconst rfl rfl rfl (pc' := 137) ?_
    refine g_goto rfl (pc' := 153) rfl ?_
    exact g_weak (show gm_Lle [some _, some _, some _] _ from ⟨rfl, ⟨rfl, ⟨rfl, trivial⟩⟩⟩) H
set_option maxRecDepth 20000 in
theorem w_401_153 {a0 : Nat} {x1 : Int32} {x2 : Int32} {y0 : Int32} {h : hh_T} {Q : Option Value ⊕ Nat → hh_T → Prop} (H : (¬ x1 = (Int32.ofNat 112) → ((¬ x1 = (Int32.ofNat 109) → (gm_G 401 176 [some (.ref a0), none, some (.int x2), some (.int y0)] [.int (Int32.ofNat 6)] h Q)) ∧ (x1 = (Int32.ofNat 109) → (gm_G 401 176 [some (.ref a0), none, some (.int x2), some (.int y0)] [.int (Int32.ofNat 3)] h Q)))) ∧ (x1 = (Int32.ofNat 112) → (gm_G 401 176 [some (.ref a0), none, some (.int x2), some (.int y0)] [.int (Int32.ofNat 1)] h Q))) : gm_G 401 153 [some (.ref a0), some (.int x1), some (.int x2)] [.int y0] h Q := by
  refine g_istore rfl rfl rfl (pc' := 154) ?_
  refine g_iload rfl rfl rfl (pc' := 155) ?_
  refine g_iconst rfl rfl rfl (pc' := 157) ?_
  refine g_ic_ne rfl (pc' := 160) (pt := 164) rfl rfl ⟨fun hc => ?_, fun hc => ?_⟩
  · replace H := H.1 hc
    refine g_iload rfl rfl rfl (pc' := 165) ?_
    refine g_iconst rfl rfl rfl (pc' := 167) ?_
    refine g_ic_ne rfl (pc' := 170) (pt := 174) rfl rfl ⟨fun hc => ?_, fun hc => ?_⟩
    · replace H := H.1 hc
      refine g_iconst rfl rfl rfl (pc' := 176) ?_
      exact g_weak (show gm_Lle [some _, none, some _, some _] _ from ⟨rfl, ⟨rfl, ⟨rfl, trivial⟩⟩⟩) H
    · replace H := H.2 hc
      refine g_iconst rfl rfl rfl (pc' := 171) ?_
      refine g_goto rfl (pc' := 176) rfl ?_
      exact g_weak (show gm_Lle [some _, none, some _, some _] _ from ⟨rfl, ⟨rfl, ⟨rfl, trivial⟩⟩⟩) H
  · replace H := H.2 hc
    refine g_iconst rfl rfl rfl (pc' := 161) ?_
    refine g_goto rfl (pc' := 176) rfl ?_
    exact g_weak (show gm_Lle [some _, none, some _, some _] _ from ⟨rfl, ⟨rfl, ⟨rfl, trivial⟩⟩⟩) H
set_option maxRecDepth 20000 in
theorem w_401_176 {a0 : Nat} {x2 : Int32} {x3 : Int32} {y0 : Int32} {h : hh_T} {Q : Option Value ⊕ Nat → hh_T → Prop} (H : gm_G 401 181 [some (.ref a0), none, some (.int x2), some (.int x3), some (.int y0), some (.int (Int32.ofNat 0))] [] h Q) : gm_G 401 176 [some (.ref a0), none, some (.int x2), some (.int x3)] [.int y0] h Q := by
  refine g_istore rfl rfl rfl (pc' := 178) ?_
  refine g_iconst rfl rfl rfl (pc' := 179) ?_
  refine g_istore rfl rfl rfl (pc' := 181) ?_
  exact g_weak (show gm_Lle [some _, none, some _, some _, some _, some _] _ from ⟨rfl, ⟨rfl, ⟨rfl, ⟨rfl, ⟨rfl, trivial⟩⟩⟩⟩⟩) H
set_option maxRecDepth 20000 in
theorem w_401_181 {a0 : Nat} {x2 : Int32} {x3 : Int32} {x4 : Int32} {x5 : Int32} {h : hh_T} {Q : Option Value ⊕ Nat → hh_T → Prop} (H : (¬ x5 < x4 → (gm_G 401 266 [some (.ref a0), none, some (.int x2), some (.int x3), none, some (.int x5)] [] h Q)) ∧ (x5 < x4 → (hh_tg h a0 = 19 ∧ (gm_G 362 0 [some (.ref a0)] [] h (pI (fun v3 h2 => (v3 = Int32.ofNat 0 → (gm_G 401 266 [some (.ref a0), none, some (.int x2), some (.int x3), none, some (.int x5)] [] h2 Q)) ∧ (¬ v3 = Int32.ofNat 0 → (gm_sub (hh_tg h2 a0) 18 = true ∧ (∀ r5, r5 = hh_r h2 a0 2 → (∀ r6, r6 = hh_r h2 a0 6 → (∃ a7, r6 = some a7 ∧ (gm_sub (hh_tg h2 a7) 0 = true ∧ (∀ r9, r9 = hh_r h2 a7 58 → (∃ a10, r9 = some a10 ∧ (hh_tg h2 a10 = 13 ∧ (gm_G 63 0 [some (.ref a10), some (.int (hh_i h2 a0 4))] [] h2 (pI (fun v13 h12 => ∃ a14, r5 = some a14 ∧ (hh_tg h12 a14 = 100 ∧ (∃ n15, gm_ix (((Int32.ofNat 6) * (hh_i h2 a0 3)) + x5) n15 (hh_ln h12 a14) ∧ (∀ h16, h16 = hh_wi h12 a14 n15 (v13 - (Int32.ofNat 48)) → (gm_sub (hh_tg h16 a0) 18 = true ∧ (∀ r18, r18 = hh_r h16 a0 5 → (∀ r19, r19 = hh_r h16 a0 6 → (∃ a20, r19 = some a20 ∧ (gm_sub (hh_tg h16 a20) 0 = true ∧ (∀ r22, r22 = hh_r h16 a20 58 → (∃ a23, r22 = some a23 ∧ (hh_tg h16 a23 = 13 ∧ (gm_G 63 0 [some (.ref a23), some (.int (hh_i h16 a0 4))] [] h16 (pI (fun v26 h25 => ∃ a27, r18 = some a27 ∧ (hh_tg h25 a27 = 102 ∧ (∃ n28, gm_ix (v26 - (Int32.ofNat 48)) n28 (hh_ln h25 a27) ∧ (∀ h29, h29 = hh_wi h25 a27 n28 (Int32.ofNat 1) → (gm_G 401 250 [some (.ref a0), none, some (.int x2), some (.int x3), some (.int x4), some (.int x5)] [] h29 Q))))) (fun e31 h32 => hh_tg h32 e31 = 21 ∧ Q (.inr e31) h32))))))))))))))) (fun e34 h35 => hh_tg h35 e34 = 21 ∧ Q (.inr e34) h35))))))))))))) (fun e36 h37 => hh_tg h37 e36 = 21 ∧ Q (.inr e36) h37)))))) : gm_G 401 181 [some (.ref a0), none, some (.int x2), some (.int x3), some (.int x4), some (.int x5)] [] h Q := by
  refine g_iload rfl rfl rfl (pc' := 183) ?_
  refine g_iload rfl rfl rfl (pc' := 185) ?_
  refine g_ic_ge rfl (pc' := 188) (pt := 266) rfl rfl ⟨fun hc => ?_, fun hc => ?_⟩
  · replace H := H.1 hc
    exact g_weak (show gm_Lle [some _, none, some _, some _, none, some _] _ from ⟨rfl, ⟨rfl, ⟨rfl, ⟨rfl, trivial⟩⟩⟩⟩) H
  · replace H := H.2 hc
    refine g_aload (r := some _) rfl rfl rfl (pc' := 189) ?_
    obtain ⟨ht1, H⟩ := H
    refine g_call rfl (y := 362) (n := 1) (pc' := 192) (g_vt ht1 rfl rfl) rfl rfl ⟨(Nat.le_of_ble_eq_true rfl), (Nat.le_of_ble_eq_true rfl), (Nat.le_of_ble_eq_true rfl)⟩ rfl (gm_G.mono H (pI_elim (fun v3 h2 H' => ?_) (fun e36 h37 H => ?_)))
    · show gm_G _ 192 _ _ _ _
      replace H := H'
      clear H'
      refine g_if_eq rfl (pc' := 195) (pt := 266) rfl rfl ⟨fun hc => ?_, fun hc => ?_⟩
      · replace H := H.1 hc
        exact g_weak (show gm_Lle [some _, none, some _, some _, none, some _] _ from ⟨rfl, ⟨rfl, ⟨rfl, ⟨rfl, trivial⟩⟩⟩⟩) H
      · replace H := H.2 hc
        refine g_aload (r := some _) rfl rfl rfl (pc' := 196) ?_
        obtain ⟨ht4, H⟩ := H
        refine g_getRv rfl rfl rfl rfl ht4 (pc' := 199) rfl (fun r5 hr5 => ?_)
        replace H := H r5 hr5
        refine g_iconst rfl rfl rfl (pc' := 201) ?_
        refine g_aload (r := some _) rfl rfl rfl (pc' := 202) ?_
        refine g_getI rfl rfl rfl rfl ht4 (pc' := 205) rfl ?_
        refine g_imul rfl rfl (pc' := 206) ?_
        refine g_iload rfl rfl rfl (pc' := 208) ?_
        refine g_iadd rfl rfl (pc' := 209) ?_
        refine g_aload (r := some _) rfl rfl rfl (pc' := 210) ?_
        refine g_getRv rfl rfl rfl rfl ht4 (pc' := 213) rfl (fun r6 hr6 => ?_)
        replace H := H r6 hr6
        obtain ⟨a7, rfl, H⟩ := H
        obtain ⟨ht8, H⟩ := H
        refine g_getRv rfl rfl rfl rfl ht8 (pc' := 216) rfl (fun r9 hr9 => ?_)
        replace H := H r9 hr9
        refine g_aload (r := some _) rfl rfl rfl (pc' := 217) ?_
        refine g_getI rfl rfl rfl rfl ht4 (pc' := 220) rfl ?_
        obtain ⟨a10, rfl, H⟩ := H
        obtain ⟨ht11, H⟩ := H
        refine g_call rfl (y := 63) (n := 2) (pc' := 223) (g_vt ht11 rfl rfl) rfl rfl ⟨(Nat.le_of_ble_eq_true rfl), (Nat.le_of_ble_eq_true rfl), (Nat.le_of_ble_eq_true rfl)⟩ rfl (gm_G.mono H (pI_elim (fun v13 h12 H' => ?_) (fun e34 h35 H => ?_)))
        · show gm_G _ 223 _ _ _ _
          replace H := H'
          clear H'
          refine g_iconst rfl rfl rfl (pc' := 225) ?_
          refine g_isub rfl rfl (pc' := 226) ?_
          obtain ⟨a14, rfl, H⟩ := H
          obtain ⟨ht33, H⟩ := H
          obtain ⟨n15, hn15, H⟩ := H
          refine g_iastore rfl ht33 hn15  (pc' := 227) rfl ?_
          replace H := H _ rfl
          refine g_aload (r := some _) rfl rfl rfl (pc' := 228) ?_
          obtain ⟨ht17, H⟩ := H
          refine g_getRv rfl rfl rfl rfl ht17 (pc' := 231) rfl (fun r18 hr18 => ?_)
          replace H := H r18 hr18
          refine g_aload (r := some _) rfl rfl rfl (pc' := 232) ?_
          refine g_getRv rfl rfl rfl rfl ht17 (pc' := 235) rfl (fun r19 hr19 => ?_)
          replace H := H r19 hr19
          obtain ⟨a20, rfl, H⟩ := H
          obtain ⟨ht21, H⟩ := H
          refine g_getRv rfl rfl rfl rfl ht21 (pc' := 238) rfl (fun r22 hr22 => ?_)
          replace H := H r22 hr22
          refine g_aload (r := some _) rfl rfl rfl (pc' := 239) ?_
          refine g_getI rfl rfl rfl rfl ht17 (pc' := 242) rfl ?_
          obtain ⟨a23, rfl, H⟩ := H
          obtain ⟨ht24, H⟩ := H
          refine g_call rfl (y := 63) (n := 2) (pc' := 245) (g_vt ht24 rfl rfl) rfl rfl ⟨(Nat.le_of_ble_eq_true rfl), (Nat.le_of_ble_eq_true rfl), (Nat.le_of_ble_eq_true rfl)⟩ rfl (gm_G.mono H (pI_elim (fun v26 h25 H' => ?_) (fun e31 h32 H => ?_)))
          · show gm_G _ 245 _ _ _ _
            replace H := H'
            clear H'
            refine g_iconst rfl rfl rfl (pc' := 247) ?_
            refine g_isub rfl rfl (pc' := 248) ?_
            refine g_iconst rfl rfl rfl (pc' := 249) ?_
            obtain ⟨a27, rfl, H⟩ := H
            obtain ⟨ht30, H⟩ := H
            obtain ⟨n28, hn28, H⟩ := H
            refine g_zastore rfl ht30 hn28 (by decide) (pc' := 250) rfl ?_
            replace H := H _ rfl
            exact g_weak (show gm_Lle [some _, none, some _, some _, some _, some _] _ from ⟨rfl, ⟨rfl, ⟨rfl, ⟨rfl, ⟨rfl, trivial⟩⟩⟩⟩⟩) H
          · exact H
        · exact H
    · exact H
set_option maxRecDepth 20000 in
theorem w_401_250 {a0 : Nat} {x2 : Int32} {x3 : Int32} {x4 : Int32} {x5 : Int32} {h : hh_T} {Q : Option Value ⊕ Nat → hh_T → Prop} (H : gm_sub (hh_tg h a0) 18 = true ∧ (∀ h2, h2 = hh_wi h a0 4 ((hh_i h a0 4) + (Int32.ofNat 1)) → (gm_G 401 181 [some (.ref a0), none, some (.int x2), some (.int x3), some (.int x4), some (.int (x5 + (Int32.ofNat 1)))] [] h2 Q))) : gm_G 401 250 [some (.ref a0), none, some (.int x2), some (.int x3), some (.int x4), some (.int x5)] [] h Q := by
  refine g_iinc (c := (Int32.ofNat 1)) rfl rfl rfl rfl rfl (pc' := 253) ?_
  refine g_aload (r := some _) rfl rfl rfl (pc' := 254) ?_
  refine g_dup_a (r := some _) rfl rfl (pc' := 255) ?_
  obtain ⟨ht1, H⟩ := H
  refine g_getI rfl rfl rfl rfl ht1 (pc' := 258) rfl ?_
  refine g_iconst rfl rfl rfl (pc' := 259) ?_
  refine g_iadd rfl rfl (pc' := 260) ?_
  refine g_putI rfl rfl rfl rfl ht1  (pc' := 263) rfl ?_
  replace H := H _ rfl
  refine g_goto rfl (pc' := 181) rfl ?_
  exact g_weak (show gm_Lle [some _, none, some _, some _, some _, some _] _ from ⟨rfl, ⟨rfl, ⟨rfl, ⟨rfl, ⟨rfl, trivial⟩⟩⟩⟩⟩) H
set_option maxRecDepth 20000 in
theorem w_401_266 {a0 : Nat} {x2 : Int32} {x3 : Int32} {x5 : Int32} {h : hh_T} {Q : Option Value ⊕ Nat → hh_T → Prop} (H : (¬ x5 < x3 → (gm_sub (hh_tg h a0) 18 = true ∧ (∀ r2, r2 = hh_r h a0 0 → (∃ a3, r2 = some a3 ∧ (hh_tg h a3 = 100 ∧ (∃ n4, gm_ix (hh_i h a0 3) n4 (hh_ln h a3) ∧ (∀ h5, h5 = hh_wi h a3 n4 x2 → (∀ r6, r6 = hh_r h5 a0 1 → (∃ a7, r6 = some a7 ∧ (hh_tg h5 a7 = 100 ∧ (∃ n8, gm_ix (hh_i h5 a0 3) n8 (hh_ln h5 a7) ∧ (∀ h9, h9 = hh_wi h5 a7 n8 x5 → (∀ h10, h10 = hh_wi h9 a0 3 ((hh_i h9 a0 3) + (Int32.ofNat 1)) → (∀ r11, r11 = hh_r h10 a0 6 → (∃ a12, r11 = some a12 ∧ (gm_sub (hh_tg h10 a12) 0 = true ∧ (∀ r14, r14 = hh_r h10 a12 58 → (∃ a15, r14 = some a15 ∧ (gm_sub (hh_tg h10 a15) 12 = true ∧ ((¬ (hh_i h10 a0 4) = (hh_i h10 a15 1) → (∀ r17, r17 = hh_r h10 a0 6 → (∃ a18, r17 = some a18 ∧ (gm_sub (hh_tg h10 a18) 0 = true ∧ (∀ r20, r20 = hh_r h10 a18 58 → (∃ a21, r20 = some a21 ∧ (hh_tg h10 a21 = 13 ∧ (gm_G 63 0 [some (.ref a21), some (.int (hh_i h10 a0 4))] [] h10 (pI (fun v24 h23 => (¬ v24 = (Int32.ofNat 32) → (gm_G 401 354 [some (.ref a0)] [] h23 Q)) ∧ (v24 = (Int32.ofNat 32) → (gm_sub (hh_tg h23 a0) 18 = true ∧ ((¬ (hh_i h23 a0 3) = (Int32.ofNat 3) → (∀ h26, h26 = hh_wi h23 a0 4 ((hh_i h23 a0 4) + (Int32.ofNat 1)) → (gm_G 401 31 [some (.ref a0)] [] h26 Q))) ∧ ((hh_i h23 a0 3) = (Int32.ofNat 3) → (gm_G 401 354 [some (.ref a0)] [] h23 Q)))))) (fun e27 h28 => hh_tg h28 e27 = 21 ∧ Q (.inr e27) h28)))))))))) ∧ ((hh_i h10 a0 4) = (hh_i h10 a15 1) → (Q (.inl (some (.int (Int32.ofInt (-1))))) h10)))))))))))))))))))))) ∧ (x5 < x3 → (gm_sub (hh_tg h a0) 18 = true ∧ (Q (.inl (some (.int (hh_i h a0 4)))) h)))) : gm_G 401 266 [some (.ref a0), none, some (.int x2), some (.int x3), none, some (.int x5)] [] h Q := by
  refine g_iload rfl rfl rfl (pc' := 268) ?_
  refine g_iload rfl rfl rfl (pc' := 269) ?_
  refine g_ic_ge rfl (pc' := 272) (pt := 277) rfl rfl ⟨fun hc => ?_, fun hc => ?_⟩
  · replace H := H.1 hc
    refine g_aload (r := some _) rfl rfl rfl (pc' := 278) ?_
    obtain ⟨ht1, H⟩ := H
    refine g_getRv rfl rfl rfl rfl ht1 (pc' := 281) rfl (fun r2 hr2 => ?_)
    replace H := H r2 hr2
    refine g_aload (r := some _) rfl rfl rfl (pc' := 282) ?_
    refine g_getI rfl rfl rfl rfl ht1 (pc' := 285) rfl ?_
    refine g_iload rfl rfl rfl (pc' := 286) ?_
    obtain ⟨a3, rfl, H⟩ := H
    obtain ⟨ht30, H⟩ := H
    obtain ⟨n4, hn4, H⟩ := H
    refine g_iastore rfl ht30 hn4  (pc' := 287) rfl ?_
    replace H := H _ rfl
    refine g_aload (r := some _) rfl rfl rfl (pc' := 288) ?_
    refine g_getRv rfl rfl rfl rfl ht1 (pc' := 291) rfl (fun r6 hr6 => ?_)
    replace H := H r6 hr6
    refine g_aload (r := some _) rfl rfl rfl (pc' := 292) ?_
    refine g_getI rfl rfl rfl rfl ht1 (pc' := 295) rfl ?_
    refine g_iload rfl rfl rfl (pc' := 297) ?_
    obtain ⟨a7, rfl, H⟩ := H
    obtain ⟨ht29, H⟩ := H
    obtain ⟨n8, hn8, H⟩ := H
    refine g_iastore rfl ht29 hn8  (pc' := 298) rfl ?_
    replace H := H _ rfl
    refine g_aload (r := some _) rfl rfl rfl (pc' := 299) ?_
    refine g_dup_a (r := some _) rfl rfl (pc' := 300) ?_
    refine g_getI rfl rfl rfl rfl ht1 (pc' := 303) rfl ?_
    refine g_iconst rfl rfl rfl (pc' := 304) ?_
    refine g_iadd rfl rfl (pc' := 305) ?_
    refine g_putI rfl rfl rfl rfl ht1  (pc' := 308) rfl ?_
    replace H := H _ rfl
    refine g_aload (r := some _) rfl rfl rfl (pc' := 309) ?_
    refine g_getI rfl rfl rfl rfl ht1 (pc' := 312) rfl ?_
    refine g_aload (r := some _) rfl rfl rfl (pc' := 313) ?_
    refine g_getRv rfl rfl rfl rfl ht1 (pc' := 316) rfl (fun r11 hr11 => ?_)
    replace H := H r11 hr11
    obtain ⟨a12, rfl, H⟩ := H
    obtain ⟨ht13, H⟩ := H
    refine g_getRv rfl rfl rfl rfl ht13 (pc' := 319) rfl (fun r14 hr14 => ?_)
    replace H := H r14 hr14
    obtain ⟨a15, rfl, H⟩ := H
    obtain ⟨ht16, H⟩ := H
    refine g_getI rfl rfl rfl rfl ht16 (pc' := 322) rfl ?_
    refine g_ic_ne rfl (pc' := 325) (pt := 327) rfl rfl ⟨fun hc => ?_, fun hc => ?_⟩
    · replace H := H.1 hc
      refine g_aload (r := some _) rfl rfl rfl (pc' := 328) ?_
      refine g_getRv rfl rfl rfl rfl ht1 (pc' := 331) rfl (fun r17 hr17 => ?_)
      replace H := H r17 hr17
      obtain ⟨a18, rfl, H⟩ := H
      obtain ⟨ht19, H⟩ := H
      refine g_getRv rfl rfl rfl rfl ht19 (pc' := 334) rfl (fun r20 hr20 => ?_)
      replace H := H r20 hr20
      refine g_aload (r := some _) rfl rfl rfl (pc' := 335) ?_
      refine g_getI rfl rfl rfl rfl ht1 (pc' := 338) rfl ?_
      obtain ⟨a21, rfl, H⟩ := H
      obtain ⟨ht22, H⟩ := H
      refine g_call rfl (y := 63) (n := 2) (pc' := 341) (g_vt ht22 rfl rfl) rfl rfl ⟨(Nat.le_of_ble_eq_true rfl), (Nat.le_of_ble_eq_true rfl), (Nat.le_of_ble_eq_true rfl)⟩ rfl (gm_G.mono H (pI_elim (fun v24 h23 H' => ?_) (fun e27 h28 H => ?_)))
      · show gm_G _ 341 _ _ _ _
        replace H := H'
        clear H'
        refine g_iconst rfl rfl rfl (pc' := 343) ?_
        refine g_ic_ne rfl (pc' := 346) (pt := 354) rfl rfl ⟨fun hc => ?_, fun hc => ?_⟩
        · replace H := H.1 hc
          exact g_weak (show gm_Lle [some _] _ from ⟨rfl, trivial⟩) H
        · replace H := H.2 hc
          refine g_aload (r := some _) rfl rfl rfl (pc' := 347) ?_
          obtain ⟨ht25, H⟩ := H
          refine g_getI rfl rfl rfl rfl ht25 (pc' := 350) rfl ?_
          refine g_iconst rfl rfl rfl (pc' := 351) ?_
          refine g_ic_ne rfl (pc' := 354) (pt := 359) rfl rfl ⟨fun hc => ?_, fun hc => ?_⟩
          · replace H := H.1 hc
            refine g_aload (r := some _) rfl rfl rfl (pc' := 360) ?_
            refine g_dup_a (r := some _) rfl rfl (pc' := 361) ?_
            refine g_getI rfl rfl rfl rfl ht25 (pc' := 364) rfl ?_
            refine g_iconst rfl rfl rfl (pc' := 365) ?_
            refine g_iadd rfl rfl (pc' := 366) ?_
            refine g_putI rfl rfl rfl rfl ht25  (pc' := 369) rfl ?_
            replace H := H _ rfl
            refine g_goto rfl (pc' := 31) rfl ?_
            exact g_weak (show gm_Lle [some _] _ from ⟨rfl, trivial⟩) H
          · replace H := H.2 hc
            exact g_weak (show gm_Lle [some _] _ from ⟨rfl, trivial⟩) H
      · exact H
    · replace H := H.2 hc
      refine g_iconst rfl rfl rfl (pc' := 326) ?_
      exact g_ireturn rfl (Or.inl rfl) H
  · replace H := H.2 hc
    refine g_aload (r := some _) rfl rfl rfl (pc' := 273) ?_
    obtain ⟨ht31, H⟩ := H
    refine g_getI rfl rfl rfl rfl ht31 (pc' := 276) rfl ?_
    exact g_ireturn rfl (Or.inl rfl) H
set_option maxRecDepth 20000 in
theorem w_401_354 {a0 : Nat}  {h : hh_T} {Q : Option Value ⊕ Nat → hh_T → Prop} (H : gm_sub (hh_tg h a0) 18 = true ∧ (Q (.inl (some (.int (hh_i h a0 4)))) h)) : gm_G 401 354 [some (.ref a0)] [] h Q := by
  refine g_aload (r := some _) rfl rfl rfl (pc' := 355) ?_
  obtain ⟨ht1, H⟩ := H
  refine g_getI rfl rfl rfl rfl ht1 (pc' := 358) rfl ?_
  exact g_ireturn rfl (Or.inl rfl) H
set_option maxRecDepth 20000 in
theorem w_414_0 {a0 : Nat}  {h : hh_T} {Q : Option Value ⊕ Nat → hh_T → Prop} (H : gm_G 414 2 [some (.ref a0), some (.int (Int32.ofNat 0))] [] h Q) : gm_G 414 0 [some (.ref a0)] [] h Q := by
  refine g_iconst rfl rfl rfl (pc' := 1) ?_
  refine g_istore rfl rfl rfl (pc' := 2) ?_
  exact g_weak (show gm_Lle [some _, some _] _ from ⟨rfl, ⟨rfl, trivial⟩⟩) H
set_option maxRecDepth 20000 in
theorem w_414_2 {a0 : Nat} {x1 : Int32} {h : hh_T} {Q : Option Value ⊕ Nat → hh_T → Prop} (H : gm_sub (hh_tg h a0) 0 = true ∧ ((¬ x1 < (hh_i h a0 28) → (∀ h2, h2 = hh_wi h a0 28 (Int32.ofNat 0) → (∀ h3, h3 = hh_wi h2 a0 25 (Int32.ofNat 0) → (∀ h4, h4 = hh_wi h3 a0 17 (hh_i h3 a0 29) → (Q (.inl none) h4))))) ∧ (x1 < (hh_i h a0 28) → (∀ r5, r5 = hh_r h a0 27 → (∃ a6, r5 = some a6 ∧ ((hh_tg h a6 = 104 ∨ 200 ≤ hh_tg h a6) ∧ (∃ n7, gm_ix x1 n7 (hh_ln h a6) ∧ (∀ r9, r9 = hh_r h a6 n7 → (hh_tg h a0 = 1 ∧ (gm_G 397 0 [some (.ref a0), some (va_rf r9)] [] h (pV (fun h11 => gm_G 414 2 [some (.ref a0), some (.int (x1 + (Int32.ofNat 1)))] [] h11 Q) (fun e12 h13 => hh_tg h13 e12 = 21 ∧ Q (.inr e12) h13)))))))))))) : gm_G 414 2 [some (.ref a0), some (.int x1)] [] h Q := by
  refine g_iload rfl rfl rfl (pc' := 3) ?_
  refine g_aload (r := some _) rfl rfl rfl (pc' := 4) ?_
  obtain ⟨ht1, H⟩ := H
  refine g_getI rfl rfl rfl rfl ht1 (pc' := 7) rfl ?_
  refine g_ic_ge rfl (pc' := 10) (pt := 26) rfl rfl ⟨fun hc => ?_, fun hc => ?_⟩
  · replace H := H.1 hc
    refine g_aload (r := some _) rfl rfl rfl (pc' := 27) ?_
    refine g_iconst rfl rfl rfl (pc' := 28) ?_
    refine g_putI rfl rfl rfl rfl ht1  (pc' := 31) rfl ?_
    replace H := H _ rfl
    refine g_aload (r := some _) rfl rfl rfl (pc' := 32) ?_
    refine g_iconst rfl rfl rfl (pc' := 33) ?_
    refine g_putI rfl rfl rfl rfl ht1  (pc' := 36) rfl ?_
    replace H := H _ rfl
    refine g_aload (r := some _) rfl rfl rfl (pc' := 37) ?_
    refine g_aload (r := some _) rfl rfl rfl (pc' := 38) ?_
    refine g_getI rfl rfl rfl rfl ht1 (pc' := 41) rfl ?_
    refine g_putI rfl rfl rfl rfl ht1  (pc' := 44) rfl ?_
    replace H := H _ rfl
    exact g_return rfl H
  · replace H := H.2 hc
    refine g_aload (r := some _) rfl rfl rfl (pc' := 11) ?_
    refine g_aload (r := some _) rfl rfl rfl (pc' := 12) ?_
    refine g_getRv rfl rfl rfl rfl ht1 (pc' := 15) rfl (fun r5 hr5 => ?_)
    replace H := H r5 hr5
    refine g_iload rfl rfl rfl (pc' := 16) ?_
    obtain ⟨a6, rfl, H⟩ := H
    obtain ⟨ht8, H⟩ := H
    obtain ⟨n7, hn7, H⟩ := H
    refine g_aaloadv rfl ht8 hn7 (pc' := 17) rfl (fun r9 hr9 => ?_)
    replace H := H r9 hr9
    obtain ⟨ht10, H⟩ := H
    refine g_call rfl (y := 397) (n := 2) (pc' := 20) (g_vt ht10 rfl rfl) (by cases r9 <;> rfl) rfl ⟨(Nat.le_of_ble_eq_true rfl), (Nat.le_of_ble_eq_true rfl), (Nat.le_of_ble_eq_true rfl)⟩ rfl (gm_G.mono H (pV_elim (fun h11 H' => ?_) (fun e12 h13 H => ?_)))
    · show gm_G _ 20 _ _ _ _
      replace H := H'
      clear H'
      refine g_iinc (c := (Int32.ofNat 1)) rfl rfl rfl rfl rfl (pc' := 23) ?_
      refine g_goto rfl (pc' := 2) rfl ?_
      exact g_weak (show gm_Lle [some _, some _] _ from ⟨rfl, ⟨rfl, trivial⟩⟩) H
    · exact H
set_option maxRecDepth 20000 in
theorem w_415_0 {a0 : Nat} {r_1 : Option Nat} {h : hh_T} {Q : Option Value ⊕ Nat → hh_T → Prop} (H : ∃ a1, r_1 = some a1 ∧ (gm_sub (hh_tg h a1) 25 = true ∧ (∀ h3, h3 = hh_wi h a1 0 ((hh_i h a1 0) - (Int32.ofNat 1)) → ((¬ Int32.ofNat 0 < (hh_i h3 a1 0) → ((hh_tg h3 a1 = 27 ∧ (gm_G 194 0 [some (.ref a1)] [] h3 (pR (fun r5 h4 => gm_G 415 25 [some (.ref a0), some (.ref a1), some (va_rf r5), some (.int (Int32.ofNat 0))] [] h4 Q) (fun e6 h7 => hh_tg h7 e6 = 21 ∧ Q (.inr e6) h7)))) ∨ (hh_tg h3 a1 = 28 ∧ (gm_G 191 0 [some (.ref a1)] [] h3 (pR (fun r9 h8 => gm_G 415 25 [some (.ref a0), some (.ref a1), some (va_rf r9), some (.int (Int32.ofNat 0))] [] h8 Q) (fun e10 h11 => hh_tg h11 e10 = 21 ∧ Q (.inr e10) h11)))) ∨ (hh_tg h3 a1 = 29 ∧ (gm_G 191 0 [some (.ref a1)] [] h3 (pR (fun r13 h12 => gm_G 415 25 [some (.ref a0), some (.ref a1), some (va_rf r13), some (.int (Int32.ofNat 0))] [] h12 Q) (fun e14 h15 => hh_tg h15 e14 = 21 ∧ Q (.inr e14) h15)))))) ∧ (Int32.ofNat 0 < (hh_i h3 a1 0) → (Q (.inl none) h3)))))) : gm_G 415 0 [some (.ref a0), some (va_rf r_1)] [] h Q := by
  refine g_aload (r := _) rfl rfl rfl (pc' := 1) ?_
  refine g_dup_a (r := _) rfl rfl (pc' := 2) ?_
  obtain ⟨a1, rfl, H⟩ := H
  obtain ⟨ht2, H⟩ := H
  refine g_getI rfl rfl rfl rfl ht2 (pc' := 5) rfl ?_
  refine g_iconst rfl rfl rfl (pc' := 6) ?_
  refine g_isub rfl rfl (pc' := 7) ?_
  refine g_putI rfl rfl rfl rfl ht2  (pc' := 10) rfl ?_
  replace H := H _ rfl
  refine g_aload (r := some _) rfl rfl rfl (pc' := 11) ?_
  refine g_getI rfl rfl rfl rfl ht2 (pc' := 14) rfl ?_
  refine g_if_le rfl (pc' := 17) (pt := 18) rfl rfl ⟨fun hc => ?_, fun hc => ?_⟩
  · replace H := H.1 hc
    refine g_aload (r := some _) rfl rfl rfl (pc' := 19) ?_
    rcases H with ⟨ht, H⟩ | ⟨ht, H⟩ | ⟨ht, H⟩
    · refine g_call rfl (y := 194) (n := 1) (pc' := 22) (g_vt ht rfl rfl) rfl rfl ⟨(Nat.le_of_ble_eq_true rfl), (Nat.le_of_ble_eq_true rfl), (Nat.le_of_ble_eq_true rfl)⟩ rfl (gm_G.mono H (pR_elim (fun r5 h4 H' => ?_) (fun e6 h7 H => ?_)))
      · show gm_G _ 22 _ _ _ _
        replace H := H'
        clear H'
        refine g_astore (r := _) rfl rfl rfl (pc' := 23) ?_
        refine g_iconst rfl rfl rfl (pc' := 24) ?_
        refine g_istore rfl gm_sto_rf2 rfl (pc' := 25) ?_
        exact g_weak (show gm_Lle [some _, some _, some _, some _] _ from ⟨rfl, ⟨rfl, ⟨rfl, ⟨rfl, trivial⟩⟩⟩⟩) H
      · exact H
    · refine g_call rfl (y := 191) (n := 1) (pc' := 22) (g_vt ht rfl rfl) rfl rfl ⟨(Nat.le_of_ble_eq_true rfl), (Nat.le_of_ble_eq_true rfl), (Nat.le_of_ble_eq_true rfl)⟩ rfl (gm_G.mono H (pR_elim (fun r9 h8 H' => ?_) (fun e10 h11 H => ?_)))
      · show gm_G _ 22 _ _ _ _
        replace H := H'
        clear H'
        refine g_astore (r := _) rfl rfl rfl (pc' := 23) ?_
        refine g_iconst rfl rfl rfl (pc' := 24) ?_
        refine g_istore rfl gm_sto_rf2 rfl (pc' := 25) ?_
        exact g_weak (show gm_Lle [some _, some _, some _, some _] _ from ⟨rfl, ⟨rfl, ⟨rfl, ⟨rfl, trivial⟩⟩⟩⟩) H
      · exact H
    · refine g_call rfl (y := 191) (n := 1) (pc' := 22) (g_vt ht rfl rfl) rfl rfl ⟨(Nat.le_of_ble_eq_true rfl), (Nat.le_of_ble_eq_true rfl), (Nat.le_of_ble_eq_true rfl)⟩ rfl (gm_G.mono H (pR_elim (fun r13 h12 H' => ?_) (fun e14 h15 H => ?_)))
      · show gm_G _ 22 _ _ _ _
        replace H := H'
        clear H'
        refine g_astore (r := _) rfl rfl rfl (pc' := 23) ?_
        refine g_iconst rfl rfl rfl (pc' := 24) ?_
        refine g_istore rfl gm_sto_rf2 rfl (pc' := 25) ?_
        exact g_weak (show gm_Lle [some _, some _, some _, some _] _ from ⟨rfl, ⟨rfl, ⟨rfl, ⟨rfl, trivial⟩⟩⟩⟩) H
      · exact H
  · replace H := H.2 hc
    exact g_return rfl H
set_option maxRecDepth 20000 in
theorem w_415_25 {a0 : Nat} {r_1 : Option Nat} {r_2 : Option Nat} {x3 : Int32} {h : hh_T} {Q : Option Value ⊕ Nat → hh_T → Prop} (H : (r_2 = none → (gm_G 415 52 [some (.ref a0), some (va_rf r_1)] [] h Q)) ∧ (∀ a1, r_2 = some a1 → ((¬ x3 < (Int32.ofNat 8) → (gm_G 415 52 [some (.ref a0), some (va_rf r_1)] [] h Q)) ∧ (x3 < (Int32.ofNat 8) → ((hh_tg h a1 = 104 ∨ 200 ≤ hh_tg h a1) ∧ (∃ n2, gm_ix x3 n2 (hh_ln h a1) ∧ (∀ r4, r4 = hh_r h a1 n2 → (hh_tg h a0 = 1 ∧ (gm_G 397 0 [some (.ref a0), some (va_rf r4)] [] h (pV (fun h6 => 200 ≤ hh_tg h6 a1 ∧ (True) ∧ (∃ n7, gm_ix x3 n7 (hh_ln h6 a1) ∧ (∀ h8, h8 = hh_wr h6 a1 n7 none → (gm_G 415 25 [some (.ref a0), some (va_rf r_1), some (.ref a1), some (.int (x3 + (Int32.ofNat 1)))] [] h8 Q)))) (fun e9 h10 => hh_tg h10 e9 = 21 ∧ Q (.inr e9) h10))))))))))) : gm_G 415 25 [some (.ref a0), some (va_rf r_1), some (va_rf r_2), some (.int x3)] [] h Q := by
  refine g_aload (r := _) rfl rfl rfl (pc' := 26) ?_
  refine g_ifnull rfl (pc' := 29) (pt := 52) rfl rfl ⟨fun hc => ?_, fun a1 hc => ?_⟩
  · replace H := H.1 hc
    subst hc
    exact g_weak (show gm_Lle [some _, some _] _ from ⟨rfl, ⟨rfl, trivial⟩⟩) H
  · replace H := H.2 a1 hc
    subst hc
    refine g_iload rfl rfl rfl (pc' := 30) ?_
    refine g_iconst rfl rfl rfl (pc' := 32) ?_
    refine g_ic_ge rfl (pc' := 35) (pt := 52) rfl rfl ⟨fun hc => ?_, fun hc => ?_⟩
    · replace H := H.1 hc
      exact g_weak (show gm_Lle [some _, some _] _ from ⟨rfl, ⟨rfl, trivial⟩⟩) H
    · replace H := H.2 hc
      refine g_aload (r := some _) rfl rfl rfl (pc' := 36) ?_
      refine g_aload (r := some _) rfl rfl rfl (pc' := 37) ?_
      refine g_iload rfl rfl rfl (pc' := 38) ?_
      obtain ⟨ht3, H⟩ := H
      obtain ⟨n2, hn2, H⟩ := H
      refine g_aaloadv rfl ht3 hn2 (pc' := 39) rfl (fun r4 hr4 => ?_)
      replace H := H r4 hr4
      obtain ⟨ht5, H⟩ := H
      refine g_call rfl (y := 397) (n := 2) (pc' := 42) (g_vt ht5 rfl rfl) (by cases r4 <;> rfl) rfl ⟨(Nat.le_of_ble_eq_true rfl), (Nat.le_of_ble_eq_true rfl), (Nat.le_of_ble_eq_true rfl)⟩ rfl (gm_G.mono H (pV_elim (fun h6 H' => ?_) (fun e9 h10 H => ?_)))
      · show gm_G _ 42 _ _ _ _
        replace H := H'
        clear H'
        refine g_aload (r := some _) rfl rfl rfl (pc' := 43) ?_
        refine g_iload rfl rfl rfl (pc' := 44) ?_
        refine g_null rfl rfl (pc' := 45) ?_
        obtain ⟨Ha, Hb, H⟩ := H
        obtain ⟨n7, hn7, H⟩ := H
        refine g_aastore (r := _) rfl Ha (fun b hb => by cases hb) hn7 (pc' := 46) rfl ?_
        replace H := H _ rfl
        refine g_iinc (c := (Int32.ofNat 1)) rfl rfl rfl rfl rfl (pc' := 49) ?_
        refine g_goto rfl (pc' := 25) rfl ?_
        exact g_weak (show gm_Lle [some _, some _, some _, some _] _ from ⟨rfl, ⟨rfl, ⟨rfl, ⟨rfl, trivial⟩⟩⟩⟩) H
      · exact H
set_option maxRecDepth 20000 in
theorem w_415_52 {a0 : Nat} {r_1 : Option Nat} {h : hh_T} {Q : Option Value ⊕ Nat → hh_T → Prop} (H : ∃ a1, r_1 = some a1 ∧ (gm_sub (hh_tg h a1) 25 = true ∧ (gm_G 20 0 [some (.int (hh_i h a1 1))] [] h (pI (fun v4 h3 => gm_sub (hh_tg h3 a0) 0 = true ∧ (∀ r6, r6 = hh_r h3 a0 31 → (∃ a7, r6 = some a7 ∧ ((hh_tg h3 a7 = 104 ∨ 200 ≤ hh_tg h3 a7) ∧ (∃ n8, gm_ix v4 n8 (hh_ln h3 a7) ∧ (∀ r10, r10 = hh_r h3 a7 n8 → (gm_sub (hh_tg h3 a1) 25 = true ∧ (∀ h12, h12 = hh_wr h3 a1 11 r10 → (∀ r13, r13 = hh_r h12 a0 31 → (∃ a14, r13 = some a14 ∧ (200 ≤ hh_tg h12 a14 ∧ (gm_as (hh_tg h12 a14) (hh_tg h12 a1) = true) ∧ (∃ n15, gm_ix v4 n15 (hh_ln h12 a14) ∧ (∀ h16, h16 = hh_wr h12 a14 n15 (some a1) → (Q (.inl none) h16)))))))))))))) (fun e17 h18 => hh_tg h18 e17 = 21 ∧ Q (.inr e17) h18))))) : gm_G 415 52 [some (.ref a0), some (va_rf r_1)] [] h Q := by
  refine g_aload (r := _) rfl rfl rfl (pc' := 53) ?_
  obtain ⟨a1, rfl, H⟩ := H
  obtain ⟨ht2, H⟩ := H
  refine g_getI rfl rfl rfl rfl ht2 (pc' := 56) rfl ?_
  refine g_call rfl (y := 20) (n := 1) (pc' := 59) (fun _ => rfl) rfl rfl ⟨(Nat.le_of_ble_eq_true rfl), (Nat.le_of_ble_eq_true rfl), (Nat.le_of_ble_eq_true rfl)⟩ rfl (gm_G.mono H (pI_elim (fun v4 h3 H' => ?_) (fun e17 h18 H => ?_)))
  · show gm_G _ 59 _ _ _ _
    replace H := H'
    clear H'
    refine g_istore rfl rfl rfl (pc' := 60) ?_
    refine g_aload (r := some _) rfl rfl rfl (pc' := 61) ?_
    refine g_aload (r := some _) rfl rfl rfl (pc' := 62) ?_
    obtain ⟨ht5, H⟩ := H
    refine g_getRv rfl rfl rfl rfl ht5 (pc' := 65) rfl (fun r6 hr6 => ?_)
    replace H := H r6 hr6
    refine g_iload rfl rfl rfl (pc' := 66) ?_
    obtain ⟨a7, rfl, H⟩ := H
    obtain ⟨ht9, H⟩ := H
    obtain ⟨n8, hn8, H⟩ := H
    refine g_aaloadv rfl ht9 hn8 (pc' := 67) rfl (fun r10 hr10 => ?_)
    replace H := H r10 hr10
    obtain ⟨ht11, H⟩ := H
    refine g_putR rfl rfl rfl rfl ht11  (pc' := 70) rfl ?_
    replace H := H _ rfl
    refine g_aload (r := some _) rfl rfl rfl (pc' := 71) ?_
    refine g_getRv rfl rfl rfl rfl ht5 (pc' := 74) rfl (fun r13 hr13 => ?_)
    replace H := H r13 hr13
    refine g_iload rfl rfl rfl (pc' := 75) ?_
    refine g_aload (r := some _) rfl rfl rfl (pc' := 76) ?_
    obtain ⟨a14, rfl, H⟩ := H
    obtain ⟨Ha, Hb, H⟩ := H
    obtain ⟨n15, hn15, H⟩ := H
    refine g_aastore (r := some _) rfl Ha (fun b hb => by cases hb; exact Hb) hn15 (pc' := 77) rfl ?_
    replace H := H _ rfl
    exact g_return rfl H
  · exact H
set_option maxRecDepth 20000 in
theorem w_425_0 {a0 : Nat} {x1 : Int32} {h : hh_T} {Q : Option Value ⊕ Nat → hh_T → Prop} (H : hh_tg h a0 = 21 ∧ hh_r h a0 1 = none ∧ (gm_sub (hh_tg h a0) 20 = true ∧ (∀ h2, h2 = hh_wi h a0 0 x1 → (Q (.inl none) h2)))) : gm_G 425 0 [some (.ref a0), some (.int x1)] [] h Q := by
  refine g_aload (r := some _) rfl rfl rfl (pc' := 1) ?_
  obtain ⟨Ht, Hr, H⟩ := H
  refine g_rteinit rfl (Nat.le_of_ble_eq_true rfl) Ht Hr (pc' := 4) rfl ?_
  refine g_aload (r := some _) rfl rfl rfl (pc' := 5) ?_
  refine g_iload rfl rfl rfl (pc' := 6) ?_
  obtain ⟨ht1, H⟩ := H
  refine g_putI rfl rfl rfl rfl ht1  (pc' := 9) rfl ?_
  replace H := H _ rfl
  exact g_return rfl H
set_option maxRecDepth 20000 in
theorem w_426_0 {a0 : Nat} {r_1 : Option Nat} {x2 : Int32} {h : hh_T} {Q : Option Value ⊕ Nat → hh_T → Prop} (H : gm_sub (hh_tg h a0) 34 = true ∧ (∀ r2, r2 = hh_r h a0 9 → (∃ a3, r2 = some a3 ∧ (hh_tg h a3 = 1 ∧ (gm_G 396 0 [some (.ref a3), some (va_rf r_1)] [] h (pR (fun r6 h5 => gm_sub (hh_tg h5 a0) 34 = true ∧ (∀ r8, r8 = hh_r h5 a0 9 → (∃ a9, r8 = some a9 ∧ (hh_tg h5 a9 = 1 ∧ (gm_G 395 0 [some (.ref a9), some (va_rf r6), some (.int (hh_i h5 a0 3))] [] h5 (pR (fun r12 h11 => (∀ b, r12 = some b → gm_sub (hh_tg h11 b) 27 = true) ∧ (∃ a13, r6 = some a13 ∧ (hh_tg h11 a13 = 25 ∧ (gm_G 188 0 [some (.ref a13)] [] h11 (pI (fun v16 h15 => gm_sub (hh_tg h15 a0) 34 = true ∧ (∀ h18, h18 = hh_wi h15 a0 8 v16 → (∀ r19, r19 = hh_r h18 a0 9 → (∃ a20, r19 = some a20 ∧ (hh_tg h18 a20 = 1 ∧ (gm_G 345 0 [some (.ref a20), some (.int (hh_i h18 a0 4))] [] h18 (pR (fun r23 h22 => gm_G 426 47 [some (.ref a0), none, none, some (.ref a13), some (va_rf r12), some (va_rf r23)] [] h22 Q) (fun e24 h25 => hh_tg h25 e24 = 21 ∧ Q (.inr e24) h25)))))))) (fun e26 h27 => hh_tg h27 e26 = 21 ∧ Q (.inr e26) h27)))))) (fun e28 h29 => hh_tg h29 e28 = 21 ∧ Q (.inr e28) h29))))))) (fun e30 h31 => hh_tg h31 e30 = 21 ∧ Q (.inr e30) h31))))))) : gm_G 426 0 [some (.ref a0), some (va_rf r_1), some (.int x2)] [] h Q := by
  refine g_aload (r := some _) rfl rfl rfl (pc' := 1) ?_
  obtain ⟨ht1, H⟩ := H
  refine g_getRv rfl rfl rfl rfl ht1 (pc' := 4) rfl (fun r2 hr2 => ?_)
  replace H := H r2 hr2
  refine g_aload (r := _) rfl rfl rfl (pc' := 5) ?_
  obtain ⟨a3, rfl, H⟩ := H
  obtain ⟨ht4, H⟩ := H
  refine g_call rfl (y := 396) (n := 2) (pc' := 8) (g_vt ht4 rfl rfl) (by cases r_1 <;> rfl) rfl ⟨(Nat.le_of_ble_eq_true rfl), (Nat.le_of_ble_eq_true rfl), (Nat.le_of_ble_eq_true rfl)⟩ rfl (gm_G.mono H (pR_elim (fun r6 h5 H' => ?_) (fun e30 h31 H => ?_)))
  · show gm_G _ 8 _ _ _ _
    replace H := H'
    clear H'
    refine g_astore (r := _) rfl rfl rfl (pc' := 9) ?_
    refine g_aload (r := some _) rfl rfl rfl (pc' := 10) ?_
    obtain ⟨ht7, H⟩ := H
    refine g_getRv rfl rfl rfl rfl ht7 (pc' := 13) rfl (fun r8 hr8 => ?_)
    replace H := H r8 hr8
    refine g_aload (r := _) rfl rfl rfl (pc' := 14) ?_
    refine g_aload (r := some _) rfl rfl rfl (pc' := 15) ?_
    refine g_getI rfl rfl rfl rfl ht7 (pc' := 18) rfl ?_
    obtain ⟨a9, rfl, H⟩ := H
    obtain ⟨ht10, H⟩ := H
    refine g_call rfl (y := 395) (n := 3) (pc' := 21) (g_vt ht10 rfl rfl) (by cases r6 <;> rfl) rfl ⟨(Nat.le_of_ble_eq_true rfl), (Nat.le_of_ble_eq_true rfl), (Nat.le_of_ble_eq_true rfl)⟩ rfl (gm_G.mono H (pR_elim (fun r12 h11 H' => ?_) (fun e28 h29 H => ?_)))
    · show gm_G _ 21 _ _ _ _
      replace H := H'
      clear H'
      obtain ⟨Hc, H⟩ := H
      refine g_cast rfl Hc (pc' := 24) rfl ?_
      refine g_astore (r := _) rfl gm_sto_rf3 rfl (pc' := 26) ?_
      refine g_aload (r := some _) rfl rfl rfl (pc' := 27) ?_
      refine g_aload (r := _) rfl rfl rfl (pc' := 28) ?_
      obtain ⟨a13, rfl, H⟩ := H
      obtain ⟨ht14, H⟩ := H
      refine g_call rfl (y := 188) (n := 1) (pc' := 31) (g_vt ht14 rfl rfl) rfl rfl ⟨(Nat.le_of_ble_eq_true rfl), (Nat.le_of_ble_eq_true rfl), (Nat.le_of_ble_eq_true rfl)⟩ rfl (gm_G.mono H (pI_elim (fun v16 h15 H' => ?_) (fun e26 h27 H => ?_)))
      · show gm_G _ 31 _ _ _ _
        replace H := H'
        clear H'
        obtain ⟨ht17, H⟩ := H
        refine g_putI rfl rfl rfl rfl ht17  (pc' := 34) rfl ?_
        replace H := H _ rfl
        refine g_aload (r := some _) rfl rfl rfl (pc' := 35) ?_
        refine g_getRv rfl rfl rfl rfl ht17 (pc' := 38) rfl (fun r19 hr19 => ?_)
        replace H := H r19 hr19
        refine g_aload (r := some _) rfl rfl rfl (pc' := 39) ?_
        refine g_getI rfl rfl rfl rfl ht17 (pc' := 42) rfl ?_
        obtain ⟨a20, rfl, H⟩ := H
        obtain ⟨ht21, H⟩ := H
        refine g_call rfl (y := 345) (n := 2) (pc' := 45) (g_vt ht21 rfl rfl) rfl rfl ⟨(Nat.le_of_ble_eq_true rfl), (Nat.le_of_ble_eq_true rfl), (Nat.le_of_ble_eq_true rfl)⟩ rfl (gm_G.mono H (pR_elim (fun r23 h22 H' => ?_) (fun e24 h25 H => ?_)))
        · show gm_G _ 45 _ _ _ _
          replace H := H'
          clear H'
          refine g_astore (r := _) rfl gm_sto_rf4 rfl (pc' := 47) ?_
          exact g_weak (show gm_Lle [some _, none, none, some _, some _, some _] _ from ⟨rfl, ⟨rfl, ⟨rfl, ⟨rfl, trivial⟩⟩⟩⟩) H
        · exact H
      · exact H
    · exact H
  · exact H
set_option maxRecDepth 20000 in
theorem w_426_47 {a0 : Nat} {r_3 : Option Nat} {r_4 : Option Nat} {r_5 : Option Nat} {h : hh_T} {Q : Option Value ⊕ Nat → hh_T → Prop} (H : gm_sub (hh_tg h a0) 34 = true ∧ ((¬ (hh_i h a0 4) = (Int32.ofNat 2) → (gm_G 426 67 [some (.ref a0), none, none, some (va_rf r_3), some (va_rf r_4), some (va_rf r_5)] [] h Q)) ∧ ((hh_i h a0 4) = (Int32.ofNat 2) → ((∀ b, r_5 = some b → gm_sub (hh_tg h b) 27 = true) ∧ (∃ a2, r_5 = some a2 ∧ (gm_sub (hh_tg h a2) 27 = true ∧ (∀ h4, h4 = hh_wi h a2 14 (hh_i h a0 3) → (gm_G 426 67 [some (.ref a0), none, none, some (va_rf r_3), some (va_rf r_4), some (.ref a2)] [] h4 Q)))))))) : gm_G 426 47 [some (.ref a0), none, none, some (va_rf r_3), some (va_rf r_4), some (va_rf r_5)] [] h Q := by
  refine g_aload (r := some _) rfl rfl rfl (pc' := 48) ?_
  obtain ⟨ht1, H⟩ := H
  refine g_getI rfl rfl rfl rfl ht1 (pc' := 51) rfl ?_
  refine g_iconst rfl rfl rfl (pc' := 52) ?_
  refine g_ic_ne rfl (pc' := 55) (pt := 67) rfl rfl ⟨fun hc => ?_, fun hc => ?_⟩
  · replace H := H.1 hc
    exact g_weak (show gm_Lle [some _, none, none, some _, some _, some _] _ from ⟨rfl, ⟨rfl, ⟨rfl, ⟨rfl, trivial⟩⟩⟩⟩) H
  · replace H := H.2 hc
    refine g_aload (r := _) rfl rfl rfl (pc' := 57) ?_
    obtain ⟨Hc, H⟩ := H
    refine g_cast rfl Hc (pc' := 60) rfl ?_
    refine g_aload (r := some _) rfl rfl rfl (pc' := 61) ?_
    refine g_getI rfl rfl rfl rfl ht1 (pc' := 64) rfl ?_
    obtain ⟨a2, rfl, H⟩ := H
    obtain ⟨ht3, H⟩ := H
    refine g_putI rfl rfl rfl rfl ht3  (pc' := 67) rfl ?_
    replace H := H _ rfl
    exact g_weak (show gm_Lle [some _, none, none, some _, some _, some _] _ from ⟨rfl, ⟨rfl, ⟨rfl, ⟨rfl, trivial⟩⟩⟩⟩) H
set_option maxRecDepth 20000 in
theorem w_426_67 {a0 : Nat} {r_3 : Option Nat} {r_4 : Option Nat} {r_5 : Option Nat} {h : hh_T} {Q : Option Value ⊕ Nat → hh_T → Prop} (H : gm_sub (hh_tg h a0) 34 = true ∧ ((¬ (hh_i h a0 4) = (Int32.ofNat 3) → (gm_G 426 122 [some (.ref a0), none, none, some (va_rf r_3), some (va_rf r_4), some (va_rf r_5)] [] h Q)) ∧ ((hh_i h a0 4) = (Int32.ofNat 3) → (∀ r2, r2 = hh_r h a0 7 → (∃ a3, r2 = some a3 ∧ (100 ≤ hh_tg h a3 ∧ (∃ a4, r_5 = some a4 ∧ (gm_sub (hh_tg h a4) 25 = true ∧ (∀ h6, h6 = hh_wi h a4 6 (Int32.ofNat (hh_ln h a3)) → (gm_G 426 88 [some (.ref a0), none, none, some (va_rf r_3), some (va_rf r_4), some (.ref a4), some (.int (Int32.ofNat 0))] [] h6 Q)))))))))) : gm_G 426 67 [some (.ref a0), none, none, some (va_rf r_3), some (va_rf r_4), some (va_rf r_5)] [] h Q := by
  refine g_aload (r := some _) rfl rfl rfl (pc' := 68) ?_
  obtain ⟨ht1, H⟩ := H
  refine g_getI rfl rfl rfl rfl ht1 (pc' := 71) rfl ?_
  refine g_iconst rfl rfl rfl (pc' := 72) ?_
  refine g_ic_ne rfl (pc' := 75) (pt := 122) rfl rfl ⟨fun hc => ?_, fun hc => ?_⟩
  · replace H := H.1 hc
    exact g_weak (show gm_Lle [some _, none, none, some _, some _, some _] _ from ⟨rfl, ⟨rfl, ⟨rfl, ⟨rfl, trivial⟩⟩⟩⟩) H
  · replace H := H.2 hc
    refine g_aload (r := _) rfl rfl rfl (pc' := 77) ?_
    refine g_aload (r := some _) rfl rfl rfl (pc' := 78) ?_
    refine g_getRv rfl rfl rfl rfl ht1 (pc' := 81) rfl (fun r2 hr2 => ?_)
    replace H := H r2 hr2
    obtain ⟨a3, rfl, H⟩ := H
    obtain ⟨Hp, H⟩ := H
    refine g_alen rfl Hp (pc' := 82) rfl ?_
    obtain ⟨a4, rfl, H⟩ := H
    obtain ⟨ht5, H⟩ := H
    refine g_putI rfl rfl rfl rfl ht5  (pc' := 85) rfl ?_
    replace H := H _ rfl
    refine g_iconst rfl rfl rfl (pc' := 86) ?_
    refine g_istore rfl rfl rfl (pc' := 88) ?_
    exact g_weak (show gm_Lle [some _, none, none, some _, some _, some _, some _] _ from ⟨rfl, ⟨rfl, ⟨rfl, ⟨rfl, ⟨rfl, trivial⟩⟩⟩⟩⟩) H
set_option maxRecDepth 20000 in
theorem w_426_88 {a0 : Nat} {r_3 : Option Nat} {r_4 : Option Nat} {r_5 : Option Nat} {x6 : Int32} {h : hh_T} {Q : Option Value ⊕ Nat → hh_T → Prop} (H : ∃ a1, r_5 = some a1 ∧ (gm_sub (hh_tg h a1) 25 = true ∧ ((¬ x6 < (hh_i h a1 6) → (gm_G 426 122 [some (.ref a0), none, none, some (va_rf r_3), some (va_rf r_4), some (.ref a1)] [] h Q)) ∧ (x6 < (hh_i h a1 6) → (gm_sub (hh_tg h a1) 28 = true ∧ (∀ r4, r4 = hh_r h a1 12 → (gm_sub (hh_tg h a0) 34 = true ∧ (∀ r6, r6 = hh_r h a0 7 → (∃ a7, r6 = some a7 ∧ ((hh_tg h a7 = 101 ∨ hh_tg h a7 = 102) ∧ (∃ n8, gm_ix x6 n8 (hh_ln h a7) ∧ (∃ a10, r4 = some a10 ∧ (hh_tg h a10 = 101 ∧ (∃ n11, gm_ix x6 n11 (hh_ln h a10) ∧ (∀ h12, h12 = hh_wi h a10 n11 ((hh_i h a7 n8).toInt8.toInt32) → (gm_G 426 88 [some (.ref a0), none, none, some (va_rf r_3), some (va_rf r_4), some (.ref a1), some (.int (x6 + (Int32.ofNat 1)))] [] h12 Q)))))))))))))))) : gm_G 426 88 [some (.ref a0), none, none, some (va_rf r_3), some (va_rf r_4), some (va_rf r_5), some (.int x6)] [] h Q := by
  refine g_iload rfl rfl rfl (pc' := 90) ?_
  refine g_aload (r := _) rfl rfl rfl (pc' := 92) ?_
  obtain ⟨a1, rfl, H⟩ := H
  obtain ⟨ht2, H⟩ := H
  refine g_getI rfl rfl rfl rfl ht2 (pc' := 95) rfl ?_
  refine g_ic_ge rfl (pc' := 98) (pt := 122) rfl rfl ⟨fun hc => ?_, fun hc => ?_⟩
  · replace H := H.1 hc
    exact g_weak (show gm_Lle [some _, none, none, some _, some _, some _] _ from ⟨rfl, ⟨rfl, ⟨rfl, ⟨rfl, trivial⟩⟩⟩⟩) H
  · replace H := H.2 hc
    refine g_aload (r := some _) rfl rfl rfl (pc' := 100) ?_
    obtain ⟨ht3, H⟩ := H
    refine g_cast (r := some _) rfl (fun b hb => by cases hb; exact ht3) (pc' := 103) rfl ?_
    refine g_getRv rfl rfl rfl rfl ht3 (pc' := 106) rfl (fun r4 hr4 => ?_)
    replace H := H r4 hr4
    refine g_iload rfl rfl rfl (pc' := 108) ?_
    refine g_aload (r := some _) rfl rfl rfl (pc' := 109) ?_
    obtain ⟨ht5, H⟩ := H
    refine g_getRv rfl rfl rfl rfl ht5 (pc' := 112) rfl (fun r6 hr6 => ?_)
    replace H := H r6 hr6
    refine g_iload rfl rfl rfl (pc' := 114) ?_
    obtain ⟨a7, rfl, H⟩ := H
    obtain ⟨ht9, H⟩ := H
    obtain ⟨n8, hn8, H⟩ := H
    refine g_baload rfl ht9 hn8 (pc' := 115) rfl ?_
    obtain ⟨a10, rfl, H⟩ := H
    obtain ⟨ht13, H⟩ := H
    obtain ⟨n11, hn11, H⟩ := H
    refine g_bastore rfl ht13 hn11  (pc' := 116) rfl ?_
    replace H := H _ rfl
    refine g_iinc (c := (Int32.ofNat 1)) rfl rfl rfl rfl rfl (pc' := 119) ?_
    refine g_goto rfl (pc' := 88) rfl ?_
    exact g_weak (show gm_Lle [some _, none, none, some _, some _, some _, some _] _ from ⟨rfl, ⟨rfl, ⟨rfl, ⟨rfl, ⟨rfl, trivial⟩⟩⟩⟩⟩) H
set_option maxRecDepth 20000 in
theorem w_426_122 {a0 : Nat} {r_3 : Option Nat} {r_4 : Option Nat} {r_5 : Option Nat} {h : hh_T} {Q : Option Value ⊕ Nat → hh_T → Prop} (H : gm_sub (hh_tg h a0) 34 = true ∧ (∃ a2, r_5 = some a2 ∧ (gm_sub (hh_tg h a2) 25 = true ∧ (∀ h4, h4 = hh_wi h a2 2 (hh_i h a0 5) → (gm_sub (hh_tg h4 a0) 33 = true ∧ (∀ h6, h6 = hh_wi h4 a2 3 (hh_i h4 a0 1) → (∃ a7, r_4 = some a7 ∧ (gm_sub (hh_tg h6 a7) 25 = true ∧ (∀ h9, h9 = hh_wi h6 a2 4 (hh_i h6 a7 4) → (∀ h10, h10 = hh_wi h9 a2 5 (Int32.ofNat 1) → (∃ a11, r_3 = some a11 ∧ (gm_sub (hh_tg h10 a11) 24 = true ∧ (∀ h13, h13 = hh_wi h10 a2 8 (hh_i h10 a11 1) → (gm_G 426 165 [some (.ref a0), none, none, some (.ref a11), some (.ref a7), some (.ref a2)] [] h13 Q)))))))))))))) : gm_G 426 122 [some (.ref a0), none, none, some (va_rf r_3), some (va_rf r_4), some (va_rf r_5)] [] h Q := by
  refine g_aload (r := _) rfl rfl rfl (pc' := 124) ?_
  refine g_aload (r := some _) rfl rfl rfl (pc' := 125) ?_
  obtain ⟨ht1, H⟩ := H
  refine g_getI rfl rfl rfl rfl ht1 (pc' := 128) rfl ?_
  obtain ⟨a2, rfl, H⟩ := H
  obtain ⟨ht3, H⟩ := H
  refine g_putI rfl rfl rfl rfl ht3  (pc' := 131) rfl ?_
  replace H := H _ rfl
  refine g_aload (r := some _) rfl rfl rfl (pc' := 133) ?_
  refine g_aload (r := some _) rfl rfl rfl (pc' := 134) ?_
  obtain ⟨ht5, H⟩ := H
  refine g_getI rfl rfl rfl rfl ht5 (pc' := 137) rfl ?_
  refine g_putI rfl rfl rfl rfl ht3  (pc' := 140) rfl ?_
  replace H := H _ rfl
  refine g_aload (r := some _) rfl rfl rfl (pc' := 142) ?_
  refine g_aload (r := _) rfl rfl rfl (pc' := 144) ?_
  obtain ⟨a7, rfl, H⟩ := H
  obtain ⟨ht8, H⟩ := H
  refine g_getI rfl rfl rfl rfl ht8 (pc' := 147) rfl ?_
  refine g_putI rfl rfl rfl rfl ht3  (pc' := 150) rfl ?_
  replace H := H _ rfl
  refine g_aload (r := some _) rfl rfl rfl (pc' := 152) ?_
  refine g_iconst rfl rfl rfl (pc' := 153) ?_
  refine g_putI rfl rfl rfl rfl ht3  (pc' := 156) rfl ?_
  replace H := H _ rfl
  refine g_aload (r := some _) rfl rfl rfl (pc' := 158) ?_
  refine g_aload (r := _) rfl rfl rfl (pc' := 159) ?_
  obtain ⟨a11, rfl, H⟩ := H
  obtain ⟨ht12, H⟩ := H
  refine g_getI rfl rfl rfl rfl ht12 (pc' := 162) rfl ?_
  refine g_putI rfl rfl rfl rfl ht3  (pc' := 165) rfl ?_
  replace H := H _ rfl
  exact g_weak (show gm_Lle [some _, none, none, some _, some _, some _] _ from ⟨rfl, ⟨rfl, ⟨rfl, ⟨rfl, trivial⟩⟩⟩⟩) H
set_option maxRecDepth 20000 in
theorem w_426_165 {a0 : Nat} {r_3 : Option Nat} {r_4 : Option Nat} {r_5 : Option Nat} {h : hh_T} {Q : Option Value ⊕ Nat → hh_T → Prop} (H : ∃ a1, r_3 = some a1 ∧ (gm_sub (hh_tg h a1) 24 = true ∧ (∀ h3, h3 = hh_wi h a1 1 ((hh_i h a1 1) + (Int32.ofNat 1)) → (∀ r4, r4 = hh_r h3 a1 2 → (gm_sub (hh_tg h3 a0) 34 = true ∧ (∃ a6, r4 = some a6 ∧ (200 ≤ hh_tg h3 a6 ∧ (∀ b, r_5 = some b → gm_as (hh_tg h3 a6) (hh_tg h3 b) = true) ∧ (∃ n7, gm_ix (hh_i h3 a0 8) n7 (hh_ln h3 a6) ∧ (∀ h8, h8 = hh_wr h3 a6 n7 r_5 → (∃ a9, r_4 = some a9 ∧ (hh_tg h8 a9 = 28 ∧ (gm_G 195 0 [some (.ref a9), some (.long (hh_j h8 a0 6)), none, some (.int (hh_i h8 a0 8))] [] h8 (pV (fun h11 => hh_tg h11 a0 = 35 ∧ (gm_G 206 0 [some (.ref a0), some (va_rf r_5)] [] h11 (pV (fun h13 => hh_tg h13 a0 = 35 ∧ (gm_G 206 0 [some (.ref a0), some (.ref a9)] [] h13 (pV (fun h15 => gm_G 426 211 [] [] h15 Q) (fun e16 h17 => hh_tg h17 e16 = 21 ∧ Q (.inr e16) h17)))) (fun e18 h19 => hh_tg h19 e18 = 21 ∧ Q (.inr e18) h19)))) (fun e20 h21 => hh_tg h21 e20 = 21 ∧ Q (.inr e20) h21)))))))))))))) : gm_G 426 165 [some (.ref a0), none, none, some (va_rf r_3), some (va_rf r_4), some (va_rf r_5)] [] h Q := by
  refine g_aload (r := _) rfl rfl rfl (pc' := 166) ?_
  refine g_dup_a (r := _) rfl rfl (pc' := 167) ?_
  obtain ⟨a1, rfl, H⟩ := H
  obtain ⟨ht2, H⟩ := H
  refine g_getI rfl rfl rfl rfl ht2 (pc' := 170) rfl ?_
  refine g_iconst rfl rfl rfl (pc' := 171) ?_
  refine g_iadd rfl rfl (pc' := 172) ?_
  refine g_putI rfl rfl rfl rfl ht2  (pc' := 175) rfl ?_
  replace H := H _ rfl
  refine g_aload (r := some _) rfl rfl rfl (pc' := 176) ?_
  refine g_getRv rfl rfl rfl rfl ht2 (pc' := 179) rfl (fun r4 hr4 => ?_)
  replace H := H r4 hr4
  refine g_aload (r := some _) rfl rfl rfl (pc' := 180) ?_
  obtain ⟨ht5, H⟩ := H
  refine g_getI rfl rfl rfl rfl ht5 (pc' := 183) rfl ?_
  refine g_aload (r := _) rfl rfl rfl (pc' := 185) ?_
  obtain ⟨a6, rfl, H⟩ := H
  obtain ⟨Ha, Hb, H⟩ := H
  obtain ⟨n7, hn7, H⟩ := H
  refine g_aastore (r := _) rfl Ha Hb hn7 (pc' := 186) rfl ?_
  replace H := H _ rfl
  refine g_aload (r := _) rfl rfl rfl (pc' := 188) ?_
  refine g_aload (r := some _) rfl rfl rfl (pc' := 189) ?_
  refine g_getJ rfl rfl rfl rfl ht5 (pc' := 192) rfl ?_
  refine g_aload (r := some _) rfl rfl rfl (pc' := 193) ?_
  refine g_getI rfl rfl rfl rfl ht5 (pc' := 196) rfl ?_
  obtain ⟨a9, rfl, H⟩ := H
  obtain ⟨ht10, H⟩ := H
  refine g_call rfl (y := 195) (n := 3) (pc' := 199) (g_vt ht10 rfl rfl) rfl rfl ⟨(Nat.le_of_ble_eq_true rfl), (Nat.le_of_ble_eq_true rfl), (Nat.le_of_ble_eq_true rfl)⟩ rfl (gm_G.mono H (pV_elim (fun h11 H' => ?_) (fun e20 h21 H => ?_)))
  · show gm_G _ 199 _ _ _ _
    replace H := H'
    clear H'
    refine g_aload (r := some _) rfl rfl rfl (pc' := 200) ?_
    refine g_aload (r := _) rfl rfl rfl (pc' := 202) ?_
    obtain ⟨ht12, H⟩ := H
    refine g_call rfl (y := 206) (n := 2) (pc' := 205) (g_vt ht12 rfl rfl) (by cases r_5 <;> rfl) rfl ⟨(Nat.le_of_ble_eq_true rfl), (Nat.le_of_ble_eq_true rfl), (Nat.le_of_ble_eq_true rfl)⟩ rfl (gm_G.mono H (pV_elim (fun h13 H' => ?_) (fun e18 h19 H => ?_)))
    · show gm_G _ 205 _ _ _ _
      replace H := H'
      clear H'
      refine g_aload (r := some _) rfl rfl rfl (pc' := 206) ?_
      refine g_aload (r := some _) rfl rfl rfl (pc' := 208) ?_
      obtain ⟨ht14, H⟩ := H
      refine g_call rfl (y := 206) (n := 2) (pc' := 211) (g_vt ht14 rfl rfl) rfl rfl ⟨(Nat.le_of_ble_eq_true rfl), (Nat.le_of_ble_eq_true rfl), (Nat.le_of_ble_eq_true rfl)⟩ rfl (gm_G.mono H (pV_elim (fun h15 H' => ?_) (fun e16 h17 H => ?_)))
      · show gm_G _ 211 _ _ _ _
        replace H := H'
        clear H'
        exact g_weak (show gm_Lle [] _ from trivial) H
      · exact H
    · exact H
  · exact H
set_option maxRecDepth 20000 in
theorem w_426_211 {a0 : Nat}  {h : hh_T} {Q : Option Value ⊕ Nat → hh_T → Prop} (H : Q (.inl none) h) : gm_G 426 211 [] [] h Q := by
  exact g_return rfl H
set_option maxRecDepth 20000 in
theorem w_427_0 {a0 : Nat} {r_1 : Option Nat} {x2 : Int32} {h : hh_T} {Q : Option Value ⊕ Nat → hh_T → Prop} (H : gm_sub (hh_tg h a0) 35 = true ∧ (∀ r2, r2 = hh_r h a0 6 → (∃ a3, r2 = some a3 ∧ (hh_tg h a3 = 1 ∧ (gm_G 396 0 [some (.ref a3), some (va_rf r_1)] [] h (pR (fun r6 h5 => gm_sub (hh_tg h5 a0) 35 = true ∧ (∀ r8, r8 = hh_r h5 a0 6 → (∃ a9, r8 = some a9 ∧ (hh_tg h5 a9 = 1 ∧ (gm_G 395 0 [some (.ref a9), some (va_rf r6), some (.int (hh_i h5 a0 3))] [] h5 (pR (fun r12 h11 => (∀ b, r12 = some b → gm_sub (hh_tg h11 b) 27 = true) ∧ (gm_sub (hh_tg h11 a0) 35 = true ∧ (∃ a14, r12 = some a14 ∧ (hh_tg h11 a14 = 28 ∧ (gm_G 195 0 [some (.ref a14), some (.long (hh_j h11 a0 5)), none, some (.int (hh_i h11 a0 4))] [] h11 (pV (fun h16 => gm_sub (hh_tg h16 a0) 35 = true ∧ (∀ r18, r18 = hh_r h16 a0 6 → (∃ a19, r18 = some a19 ∧ (hh_tg h16 a19 = 1 ∧ (gm_G 395 0 [some (.ref a19), some (va_rf r6), some (.int (hh_i h16 a0 4))] [] h16 (pR (fun r22 h21 => ∃ a23, r22 = some a23 ∧ (gm_sub (hh_tg h21 a23) 25 = true ∧ (∀ h25, h25 = hh_wi h21 a23 5 ((hh_i h21 a23 5) + (Int32.ofNat 1)) → (gm_G 427 64 [some (.ref a0), none, none, none, some (.ref a14), some (.ref a23)] [] h25 Q)))) (fun e26 h27 => hh_tg h27 e26 = 21 ∧ Q (.inr e26) h27))))))) (fun e28 h29 => hh_tg h29 e28 = 21 ∧ Q (.inr e28) h29))))))) (fun e30 h31 => hh_tg h31 e30 = 21 ∧ Q (.inr e30) h31))))))) (fun e32 h33 => hh_tg h33 e32 = 21 ∧ Q (.inr e32) h33))))))) : gm_G 427 0 [some (.ref a0), some (va_rf r_1), some (.int x2)] [] h Q := by
  refine g_aload (r := some _) rfl rfl rfl (pc' := 1) ?_
  obtain ⟨ht1, H⟩ := H
  refine g_getRv rfl rfl rfl rfl ht1 (pc' := 4) rfl (fun r2 hr2 => ?_)
  replace H := H r2 hr2
  refine g_aload (r := _) rfl rfl rfl (pc' := 5) ?_
  obtain ⟨a3, rfl, H⟩ := H
  obtain ⟨ht4, H⟩ := H
  refine g_call rfl (y := 396) (n := 2) (pc' := 8) (g_vt ht4 rfl rfl) (by cases r_1 <;> rfl) rfl ⟨(Nat.le_of_ble_eq_true rfl), (Nat.le_of_ble_eq_true rfl), (Nat.le_of_ble_eq_true rfl)⟩ rfl (gm_G.mono H (pR_elim (fun r6 h5 H' => ?_) (fun e32 h33 H => ?_)))
  · show gm_G _ 8 _ _ _ _
    replace H := H'
    clear H'
    refine g_astore (r := _) rfl rfl rfl (pc' := 9) ?_
    refine g_aload (r := some _) rfl rfl rfl (pc' := 10) ?_
    obtain ⟨ht7, H⟩ := H
    refine g_getRv rfl rfl rfl rfl ht7 (pc' := 13) rfl (fun r8 hr8 => ?_)
    replace H := H r8 hr8
    refine g_aload (r := _) rfl rfl rfl (pc' := 14) ?_
    refine g_aload (r := some _) rfl rfl rfl (pc' := 15) ?_
    refine g_getI rfl rfl rfl rfl ht7 (pc' := 18) rfl ?_
    obtain ⟨a9, rfl, H⟩ := H
    obtain ⟨ht10, H⟩ := H
    refine g_call rfl (y := 395) (n := 3) (pc' := 21) (g_vt ht10 rfl rfl) (by cases r6 <;> rfl) rfl ⟨(Nat.le_of_ble_eq_true rfl), (Nat.le_of_ble_eq_true rfl), (Nat.le_of_ble_eq_true rfl)⟩ rfl (gm_G.mono H (pR_elim (fun r12 h11 H' => ?_) (fun e30 h31 H => ?_)))
    · show gm_G _ 21 _ _ _ _
      replace H := H'
      clear H'
      obtain ⟨Hc, H⟩ := H
      refine g_cast rfl Hc (pc' := 24) rfl ?_
      refine g_astore (r := _) rfl gm_sto_rf3 rfl (pc' := 26) ?_
      refine g_aload (r := _) rfl rfl rfl (pc' := 28) ?_
      refine g_aload (r := some _) rfl rfl rfl (pc' := 29) ?_
      obtain ⟨ht13, H⟩ := H
      refine g_getJ rfl rfl rfl rfl ht13 (pc' := 32) rfl ?_
      refine g_aload (r := some _) rfl rfl rfl (pc' := 33) ?_
      refine g_getI rfl rfl rfl rfl ht13 (pc' := 36) rfl ?_
      obtain ⟨a14, rfl, H⟩ := H
      obtain ⟨ht15, H⟩ := H
      refine g_call rfl (y := 195) (n := 3) (pc' := 39) (g_vt ht15 rfl rfl) rfl rfl ⟨(Nat.le_of_ble_eq_true rfl), (Nat.le_of_ble_eq_true rfl), (Nat.le_of_ble_eq_true rfl)⟩ rfl (gm_G.mono H (pV_elim (fun h16 H' => ?_) (fun e28 h29 H => ?_)))
      · show gm_G _ 39 _ _ _ _
        replace H := H'
        clear H'
        refine g_aload (r := some _) rfl rfl rfl (pc' := 40) ?_
        obtain ⟨ht17, H⟩ := H
        refine g_getRv rfl rfl rfl rfl ht17 (pc' := 43) rfl (fun r18 hr18 => ?_)
        replace H := H r18 hr18
        refine g_aload (r := _) rfl rfl rfl (pc' := 44) ?_
        refine g_aload (r := some _) rfl rfl rfl (pc' := 45) ?_
        refine g_getI rfl rfl rfl rfl ht17 (pc' := 48) rfl ?_
        obtain ⟨a19, rfl, H⟩ := H
        obtain ⟨ht20, H⟩ := H
        refine g_call rfl (y := 395) (n := 3) (pc' := 51) (g_vt ht20 rfl rfl) (by cases r6 <;> rfl) rfl ⟨(Nat.le_of_ble_eq_true rfl), (Nat.le_of_ble_eq_true rfl), (Nat.le_of_ble_eq_true rfl)⟩ rfl (gm_G.mono H (pR_elim (fun r22 h21 H' => ?_) (fun e26 h27 H => ?_)))
        · show gm_G _ 51 _ _ _ _
          replace H := H'
          clear H'
          refine g_astore (r := _) rfl rfl rfl (pc' := 53) ?_
          refine g_aload (r := _) rfl rfl rfl (pc' := 55) ?_
          refine g_dup_a (r := _) rfl rfl (pc' := 56) ?_
          obtain ⟨a23, rfl, H⟩ := H
          obtain ⟨ht24, H⟩ := H
          refine g_getI rfl rfl rfl rfl ht24 (pc' := 59) rfl ?_
          refine g_iconst rfl rfl rfl (pc' := 60) ?_
          refine g_iadd rfl rfl (pc' := 61) ?_
          refine g_putI rfl rfl rfl rfl ht24  (pc' := 64) rfl ?_
          replace H := H _ rfl
          exact g_weak (show gm_Lle [some _, none, none, none, some _, some _] _ from ⟨rfl, ⟨rfl, ⟨rfl, trivial⟩⟩⟩) H
        · exact H
      · exact H
    · exact H
  · exact H
set_option maxRecDepth 20000 in
theorem w_427_64 {a0 : Nat} {r_4 : Option Nat} {r_5 : Option Nat} {h : hh_T} {Q : Option Value ⊕ Nat → hh_T → Prop} (H : hh_tg h a0 = 36 ∧ (gm_G 206 0 [some (.ref a0), some (va_rf r_4)] [] h (pV (fun h2 => hh_tg h2 a0 = 36 ∧ (gm_G 206 0 [some (.ref a0), some (va_rf r_5)] [] h2 (pV (fun h4 => Q (.inl none) h4) (fun e5 h6 => hh_tg h6 e5 = 21 ∧ Q (.inr e5) h6)))) (fun e7 h8 => hh_tg h8 e7 = 21 ∧ Q (.inr e7) h8)))) : gm_G 427 64 [some (.ref a0), none, none, none, some (va_rf r_4), some (va_rf r_5)] [] h Q := by
  refine g_aload (r := some _) rfl rfl rfl (pc' := 65) ?_
  refine g_aload (r := _) rfl rfl rfl (pc' := 67) ?_
  obtain ⟨ht1, H⟩ := H
  refine g_call rfl (y := 206) (n := 2) (pc' := 70) (g_vt ht1 rfl rfl) (by cases r_4 <;> rfl) rfl ⟨(Nat.le_of_ble_eq_true rfl), (Nat.le_of_ble_eq_true rfl), (Nat.le_of_ble_eq_true rfl)⟩ rfl (gm_G.mono H (pV_elim (fun h2 H' => ?_) (fun e7 h8 H => ?_)))
  · show gm_G _ 70 _ _ _ _
    replace H := H'
    clear H'
    refine g_aload (r := some _) rfl rfl rfl (pc' := 71) ?_
    refine g_aload (r := _) rfl rfl rfl (pc' := 73) ?_
    obtain ⟨ht3, H⟩ := H
    refine g_call rfl (y := 206) (n := 2) (pc' := 76) (g_vt ht3 rfl rfl) (by cases r_5 <;> rfl) rfl ⟨(Nat.le_of_ble_eq_true rfl), (Nat.le_of_ble_eq_true rfl), (Nat.le_of_ble_eq_true rfl)⟩ rfl (gm_G.mono H (pV_elim (fun h4 H' => ?_) (fun e5 h6 H => ?_)))
    · show gm_G _ 76 _ _ _ _
      replace H := H'
      clear H'
      exact g_return rfl H
    · exact H
  · exact H
set_option maxRecDepth 20000 in
theorem w_428_0 {a0 : Nat} {r_1 : Option Nat} {x2 : Int32} {h : hh_T} {Q : Option Value ⊕ Nat → hh_T → Prop} (H : gm_sub (hh_tg h a0) 37 = true ∧ (∀ r2, r2 = hh_r h a0 7 → (∃ a3, r2 = some a3 ∧ (hh_tg h a3 = 1 ∧ (gm_G 396 0 [some (.ref a3), some (va_rf r_1)] [] h (pR (fun r6 h5 => gm_sub (hh_tg h5 a0) 37 = true ∧ (∀ r8, r8 = hh_r h5 a0 7 → (∃ a9, r8 = some a9 ∧ (hh_tg h5 a9 = 1 ∧ (gm_G 395 0 [some (.ref a9), some (va_rf r6), some (.int (hh_i h5 a0 3))] [] h5 (pR (fun r12 h11 => (∀ b, r12 = some b → gm_sub (hh_tg h11 b) 27 = true) ∧ (∃ a13, r12 = some a13 ∧ (gm_sub (hh_tg h11 a13) 27 = true ∧ (∀ r15, r15 = hh_r h11 a13 13 → (gm_sub (hh_tg h11 a0) 37 = true ∧ (hh_tg h11 a13 = 28 ∧ (gm_G 196 0 [some (.ref a13), some (.long (hh_j h11 a0 5)), none] [] h11 (pI (fun v19 h18 => ∃ a20, r15 = some a20 ∧ ((hh_tg h18 a20 = 100 ∨ hh_tg h18 a20 = 105) ∧ (∃ n21, gm_ix v19 n21 (hh_ln h18 a20) ∧ (gm_sub (hh_tg h18 a0) 37 = true ∧ (hh_tg h18 a13 = 28 ∧ (gm_G 317 0 [some (.ref a13), some (.long (hh_j h18 a0 5)), none] [] h18 (pV (fun h25 => hh_tg h25 a0 = 38 ∧ (gm_G 206 0 [some (.ref a0), some (.ref a13)] [] h25 (pV (fun h27 => gm_G 428 58 [some (.ref a0), none, none, some (va_rf r6), none, some (.int (hh_i h18 a20 n21))] [] h27 Q) (fun e28 h29 => hh_tg h29 e28 = 21 ∧ Q (.inr e28) h29)))) (fun e30 h31 => hh_tg h31 e30 = 21 ∧ Q (.inr e30) h31)))))))) (fun e32 h33 => hh_tg h33 e32 = 21 ∧ Q (.inr e32) h33))))))))) (fun e34 h35 => hh_tg h35 e34 = 21 ∧ Q (.inr e34) h35))))))) (fun e36 h37 => hh_tg h37 e36 = 21 ∧ Q (.inr e36) h37))))))) : gm_G 428 0 [some (.ref a0), some (va_rf r_1), some (.int x2)] [] h Q := by
  refine g_aload (r := some _) rfl rfl rfl (pc' := 1) ?_
  obtain ⟨ht1, H⟩ := H
  refine g_getRv rfl rfl rfl rfl ht1 (pc' := 4) rfl (fun r2 hr2 => ?_)
  replace H := H r2 hr2
  refine g_aload (r := _) rfl rfl rfl (pc' := 5) ?_
  obtain ⟨a3, rfl, H⟩ := H
  obtain ⟨ht4, H⟩ := H
  refine g_call rfl (y := 396) (n := 2) (pc' := 8) (g_vt ht4 rfl rfl) (by cases r_1 <;> rfl) rfl ⟨(Nat.le_of_ble_eq_true rfl), (Nat.le_of_ble_eq_true rfl), (Nat.le_of_ble_eq_true rfl)⟩ rfl (gm_G.mono H (pR_elim (fun r6 h5 H' => ?_) (fun e36 h37 H => ?_)))
  · show gm_G _ 8 _ _ _ _
    replace H := H'
    clear H'
    refine g_astore (r := _) rfl rfl rfl (pc' := 9) ?_
    refine g_aload (r := some _) rfl rfl rfl (pc' := 10) ?_
    obtain ⟨ht7, H⟩ := H
    refine g_getRv rfl rfl rfl rfl ht7 (pc' := 13) rfl (fun r8 hr8 => ?_)
    replace H := H r8 hr8
    refine g_aload (r := _) rfl rfl rfl (pc' := 14) ?_
    refine g_aload (r := some _) rfl rfl rfl (pc' := 15) ?_
    refine g_getI rfl rfl rfl rfl ht7 (pc' := 18) rfl ?_
    obtain ⟨a9, rfl, H⟩ := H
    obtain ⟨ht10, H⟩ := H
    refine g_call rfl (y := 395) (n := 3) (pc' := 21) (g_vt ht10 rfl rfl) (by cases r6 <;> rfl) rfl ⟨(Nat.le_of_ble_eq_true rfl), (Nat.le_of_ble_eq_true rfl), (Nat.le_of_ble_eq_true rfl)⟩ rfl (gm_G.mono H (pR_elim (fun r12 h11 H' => ?_) (fun e34 h35 H => ?_)))
    · show gm_G _ 21 _ _ _ _
      replace H := H'
      clear H'
      obtain ⟨Hc, H⟩ := H
      refine g_cast rfl Hc (pc' := 24) rfl ?_
      refine g_astore (r := _) rfl gm_sto_rf3 rfl (pc' := 26) ?_
      refine g_aload (r := _) rfl rfl rfl (pc' := 28) ?_
      obtain ⟨a13, rfl, H⟩ := H
      obtain ⟨ht14, H⟩ := H
      refine g_getRv rfl rfl rfl rfl ht14 (pc' := 31) rfl (fun r15 hr15 => ?_)
      replace H := H r15 hr15
      refine g_aload (r := some _) rfl rfl rfl (pc' := 33) ?_
      refine g_aload (r := some _) rfl rfl rfl (pc' := 34) ?_
      obtain ⟨ht16, H⟩ := H
      refine g_getJ rfl rfl rfl rfl ht16 (pc' := 37) rfl ?_
      obtain ⟨ht17, H⟩ := H
      refine g_call rfl (y := 196) (n := 2) (pc' := 40) (g_vt ht17 rfl rfl) rfl rfl ⟨(Nat.le_of_ble_eq_true rfl), (Nat.le_of_ble_eq_true rfl), (Nat.le_of_ble_eq_true rfl)⟩ rfl (gm_G.mono H (pI_elim (fun v19 h18 H' => ?_) (fun e32 h33 H => ?_)))
      · show gm_G _ 40 _ _ _ _
        replace H := H'
        clear H'
        obtain ⟨a20, rfl, H⟩ := H
        obtain ⟨ht22, H⟩ := H
        obtain ⟨n21, hn21, H⟩ := H
        refine g_iaload rfl ht22 hn21 (pc' := 41) rfl ?_
        refine g_istore rfl rfl rfl (pc' := 43) ?_
        refine g_aload (r := some _) rfl rfl rfl (pc' := 45) ?_
        refine g_aload (r := some _) rfl rfl rfl (pc' := 46) ?_
        obtain ⟨ht23, H⟩ := H
        refine g_getJ rfl rfl rfl rfl ht23 (pc' := 49) rfl ?_
        obtain ⟨ht24, H⟩ := H
        refine g_call rfl (y := 317) (n := 2) (pc' := 52) (g_vt ht24 rfl rfl) rfl rfl ⟨(Nat.le_of_ble_eq_true rfl), (Nat.le_of_ble_eq_true rfl), (Nat.le_of_ble_eq_true rfl)⟩ rfl (gm_G.mono H (pV_elim (fun h25 H' => ?_) (fun e30 h31 H => ?_)))
        · show gm_G _ 52 _ _ _ _
          replace H := H'
          clear H'
          refine g_aload (r := some _) rfl rfl rfl (pc' := 53) ?_
          refine g_aload (r := some _) rfl rfl rfl (pc' := 55) ?_
          obtain ⟨ht26, H⟩ := H
          refine g_call rfl (y := 206) (n := 2) (pc' := 58) (g_vt ht26 rfl rfl) rfl rfl ⟨(Nat.le_of_ble_eq_true rfl), (Nat.le_of_ble_eq_true rfl), (Nat.le_of_ble_eq_true rfl)⟩ rfl (gm_G.mono H (pV_elim (fun h27 H' => ?_) (fun e28 h29 H => ?_)))
          · show gm_G _ 58 _ _ _ _
            replace H := H'
            clear H'
            exact g_weak (show gm_Lle [some _, none, none, some _, none, some _] _ from ⟨rfl, ⟨rfl, ⟨rfl, trivial⟩⟩⟩) H
          · exact H
        · exact H
      · exact H
    · exact H
  · exact H
set_option maxRecDepth 20000 in
theorem w_428_58 {a0 : Nat} {r_3 : Option Nat} {x5 : Int32} {h : hh_T} {Q : Option Value ⊕ Nat → hh_T → Prop} (H : gm_sub (hh_tg h a0) 37 = true ∧ (∀ r2, r2 = hh_r h a0 7 → (∃ a3, r2 = some a3 ∧ (hh_tg h a3 = 1 ∧ (gm_G 395 0 [some (.ref a3), some (va_rf r_3), some (.int (hh_i h a0 4))] [] h (pR (fun r6 h5 => (∀ b, r6 = some b → gm_sub (hh_tg h5 b) 27 = true) ∧ (gm_sub (hh_tg h5 a0) 37 = true ∧ (∃ a8, r6 = some a8 ∧ (hh_tg h5 a8 = 28 ∧ (gm_G 195 0 [some (.ref a8), some (.long (hh_j h5 a0 6)), none, some (.int x5)] [] h5 (pV (fun h10 => hh_tg h10 a0 = 38 ∧ (gm_G 206 0 [some (.ref a0), some (.ref a8)] [] h10 (pV (fun h12 => gm_sub (hh_tg h12 a0) 37 = true ∧ (∀ r14, r14 = hh_r h12 a0 7 → (∃ a15, r14 = some a15 ∧ (hh_tg h12 a15 = 1 ∧ (gm_G 395 0 [some (.ref a15), some (va_rf r_3), some (.int x5)] [] h12 (pR (fun r18 h17 => ∃ a19, r18 = some a19 ∧ (gm_sub (hh_tg h17 a19) 25 = true ∧ ((¬ (hh_i h17 a19 1) = (Int32.ofNat 2) → (gm_G 428 125 [some (.ref a0), none, none, none, none, none, none, some (.ref a19)] [] h17 Q)) ∧ ((hh_i h17 a19 1) = (Int32.ofNat 2) → (gm_sub (hh_tg h17 a19) 27 = true ∧ (gm_sub (hh_tg h17 a0) 37 = true ∧ (∀ h23, h23 = hh_wi h17 a19 14 (hh_i h17 a0 4) → (gm_G 428 125 [some (.ref a0), none, none, none, none, none, none, some (.ref a19)] [] h23 Q)))))))) (fun e24 h25 => hh_tg h25 e24 = 21 ∧ Q (.inr e24) h25))))))) (fun e26 h27 => hh_tg h27 e26 = 21 ∧ Q (.inr e26) h27)))) (fun e28 h29 => hh_tg h29 e28 = 21 ∧ Q (.inr e28) h29))))))) (fun e30 h31 => hh_tg h31 e30 = 21 ∧ Q (.inr e30) h31))))))) : gm_G 428 58 [some (.ref a0), none, none, some (va_rf r_3), none, some (.int x5)] [] h Q := by
  refine g_aload (r := some _) rfl rfl rfl (pc' := 59) ?_
  obtain ⟨ht1, H⟩ := H
  refine g_getRv rfl rfl rfl rfl ht1 (pc' := 62) rfl (fun r2 hr2 => ?_)
  replace H := H r2 hr2
  refine g_aload (r := _) rfl rfl rfl (pc' := 63) ?_
  refine g_aload (r := some _) rfl rfl rfl (pc' := 64) ?_
  refine g_getI rfl rfl rfl rfl ht1 (pc' := 67) rfl ?_
  obtain ⟨a3, rfl, H⟩ := H
  obtain ⟨ht4, H⟩ := H
  refine g_call rfl (y := 395) (n := 3) (pc' := 70) (g_vt ht4 rfl rfl) (by cases r_3 <;> rfl) rfl ⟨(Nat.le_of_ble_eq_true rfl), (Nat.le_of_ble_eq_true rfl), (Nat.le_of_ble_eq_true rfl)⟩ rfl (gm_G.mono H (pR_elim (fun r6 h5 H' => ?_) (fun e30 h31 H => ?_)))
  · show gm_G _ 70 _ _ _ _
    replace H := H'
    clear H'
    obtain ⟨Hc, H⟩ := H
    refine g_cast rfl Hc (pc' := 73) rfl ?_
    refine g_astore (r := _) rfl rfl rfl (pc' := 75) ?_
    refine g_aload (r := _) rfl rfl rfl (pc' := 77) ?_
    refine g_aload (r := some _) rfl rfl rfl (pc' := 78) ?_
    obtain ⟨ht7, H⟩ := H
    refine g_getJ rfl rfl rfl rfl ht7 (pc' := 81) rfl ?_
    refine g_iload rfl rfl rfl (pc' := 83) ?_
    obtain ⟨a8, rfl, H⟩ := H
    obtain ⟨ht9, H⟩ := H
    refine g_call rfl (y := 195) (n := 3) (pc' := 86) (g_vt ht9 rfl rfl) rfl rfl ⟨(Nat.le_of_ble_eq_true rfl), (Nat.le_of_ble_eq_true rfl), (Nat.le_of_ble_eq_true rfl)⟩ rfl (gm_G.mono H (pV_elim (fun h10 H' => ?_) (fun e28 h29 H => ?_)))
    · show gm_G _ 86 _ _ _ _
      replace H := H'
      clear H'
      refine g_aload (r := some _) rfl rfl rfl (pc' := 87) ?_
      refine g_aload (r := some _) rfl rfl rfl (pc' := 89) ?_
      obtain ⟨ht11, H⟩ := H
      refine g_call rfl (y := 206) (n := 2) (pc' := 92) (g_vt ht11 rfl rfl) rfl rfl ⟨(Nat.le_of_ble_eq_true rfl), (Nat.le_of_ble_eq_true rfl), (Nat.le_of_ble_eq_true rfl)⟩ rfl (gm_G.mono H (pV_elim (fun h12 H' => ?_) (fun e26 h27 H => ?_)))
      · show gm_G _ 92 _ _ _ _
        replace H := H'
        clear H'
        refine g_aload (r := some _) rfl rfl rfl (pc' := 93) ?_
        obtain ⟨ht13, H⟩ := H
        refine g_getRv rfl rfl rfl rfl ht13 (pc' := 96) rfl (fun r14 hr14 => ?_)
        replace H := H r14 hr14
        refine g_aload (r := _) rfl rfl rfl (pc' := 97) ?_
        refine g_iload rfl rfl rfl (pc' := 99) ?_
        obtain ⟨a15, rfl, H⟩ := H
        obtain ⟨ht16, H⟩ := H
        refine g_call rfl (y := 395) (n := 3) (pc' := 102) (g_vt ht16 rfl rfl) (by cases r_3 <;> rfl) rfl ⟨(Nat.le_of_ble_eq_true rfl), (Nat.le_of_ble_eq_true rfl), (Nat.le_of_ble_eq_true rfl)⟩ rfl (gm_G.mono H (pR_elim (fun r18 h17 H' => ?_) (fun e24 h25 H => ?_)))
        · show gm_G _ 102 _ _ _ _
          replace H := H'
          clear H'
          refine g_astore (r := _) rfl rfl rfl (pc' := 104) ?_
          refine g_aload (r := _) rfl rfl rfl (pc' := 106) ?_
          obtain ⟨a19, rfl, H⟩ := H
          obtain ⟨ht20, H⟩ := H
          refine g_getI rfl rfl rfl rfl ht20 (pc' := 109) rfl ?_
          refine g_iconst rfl rfl rfl (pc' := 110) ?_
          refine g_ic_ne rfl (pc' := 113) (pt := 125) rfl rfl ⟨fun hc => ?_, fun hc => ?_⟩
          · replace H := H.1 hc
            exact g_weak (show gm_Lle [some _, none, none, none, none, none, none, some _] _ from ⟨rfl, ⟨rfl, trivial⟩⟩) H
          · replace H := H.2 hc
            refine g_aload (r := some _) rfl rfl rfl (pc' := 115) ?_
            obtain ⟨ht21, H⟩ := H
            refine g_cast (r := some _) rfl (fun b hb => by cases hb; exact ht21) (pc' := 118) rfl ?_
            refine g_aload (r := some _) rfl rfl rfl (pc' := 119) ?_
            obtain ⟨ht22, H⟩ := H
            refine g_getI rfl rfl rfl rfl ht22 (pc' := 122) rfl ?_
            refine g_putI rfl rfl rfl rfl ht21  (pc' := 125) rfl ?_
            replace H := H _ rfl
            exact g_weak (show gm_Lle [some _, none, none, none, none, none, none, some _] _ from ⟨rfl, ⟨rfl, trivial⟩⟩) H
        · exact H
      · exact H
    · exact H
  · exact H
set_option maxRecDepth 20000 in
theorem w_428_125 {a0 : Nat} {r_7 : Option Nat} {h : hh_T} {Q : Option Value ⊕ Nat → hh_T → Prop} (H : hh_tg h a0 = 38 ∧ (gm_G 206 0 [some (.ref a0), some (va_rf r_7)] [] h (pV (fun h2 => Q (.inl none) h2) (fun e3 h4 => hh_tg h4 e3 = 21 ∧ Q (.inr e3) h4)))) : gm_G 428 125 [some (.ref a0), none, none, none, none, none, none, some (va_rf r_7)] [] h Q := by
  refine g_aload (r := some _) rfl rfl rfl (pc' := 126) ?_
  refine g_aload (r := _) rfl rfl rfl (pc' := 128) ?_
  obtain ⟨ht1, H⟩ := H
  refine g_call rfl (y := 206) (n := 2) (pc' := 131) (g_vt ht1 rfl rfl) (by cases r_7 <;> rfl) rfl ⟨(Nat.le_of_ble_eq_true rfl), (Nat.le_of_ble_eq_true rfl), (Nat.le_of_ble_eq_true rfl)⟩ rfl (gm_G.mono H (pV_elim (fun h2 H' => ?_) (fun e3 h4 H => ?_)))
  · show gm_G _ 131 _ _ _ _
    replace H := H'
    clear H'
    exact g_return rfl H
  · exact H
set_option maxRecDepth 20000 in
theorem w_429_0 {a0 : Nat} {r_1 : Option Nat} {x2 : Int32} {h : hh_T} {Q : Option Value ⊕ Nat → hh_T → Prop} (H : gm_sub (hh_tg h a0) 38 = true ∧ (∀ r2, r2 = hh_r h a0 6 → (∀ r3, r3 = hh_r h a0 6 → (∃ a4, r3 = some a4 ∧ (hh_tg h a4 = 1 ∧ (gm_G 396 0 [some (.ref a4), some (va_rf r_1)] [] h (pR (fun r7 h6 => gm_sub (hh_tg h6 a0) 38 = true ∧ (∃ a9, r2 = some a9 ∧ (hh_tg h6 a9 = 1 ∧ (gm_G 395 0 [some (.ref a9), some (va_rf r7), some (.int (hh_i h6 a0 3))] [] h6 (pR (fun r12 h11 => gm_sub (hh_tg h11 a0) 38 = true ∧ ((¬ (hh_i h11 a0 4) = (Int32.ofNat 1) → ((¬ (hh_i h11 a0 4) = (Int32.ofNat 2) → (∃ a14, r12 = some a14 ∧ (gm_sub (hh_tg h11 a14) 25 = true ∧ (∀ h16, h16 = hh_wi h11 a14 4 (hh_i h11 a0 5) → (gm_G 429 66 [some (.ref a0), none, none, some (.ref a14)] [] h16 Q))))) ∧ ((hh_i h11 a0 4) = (Int32.ofNat 2) → (∃ a17, r12 = some a17 ∧ (gm_sub (hh_tg h11 a17) 25 = true ∧ (∀ h19, h19 = hh_wi h11 a17 3 (hh_i h11 a0 5) → (gm_G 429 66 [some (.ref a0), none, none, some (.ref a17)] [] h19 Q))))))) ∧ ((hh_i h11 a0 4) = (Int32.ofNat 1) → (∃ a20, r12 = some a20 ∧ (gm_sub (hh_tg h11 a20) 25 = true ∧ (∀ h22, h22 = hh_wi h11 a20 2 (hh_i h11 a0 5) → (gm_G 429 66 [some (.ref a0), none, none, some (.ref a20)] [] h22 Q))))))) (fun e23 h24 => hh_tg h24 e23 = 21 ∧ Q (.inr e23) h24)))))) (fun e25 h26 => hh_tg h26 e25 = 21 ∧ Q (.inr e25) h26)))))))) : gm_G 429 0 [some (.ref a0), some (va_rf r_1), some (.int x2)] [] h Q := by
  refine g_aload (r := some _) rfl rfl rfl (pc' := 1) ?_
  obtain ⟨ht1, H⟩ := H
  refine g_getRv rfl rfl rfl rfl ht1 (pc' := 4) rfl (fun r2 hr2 => ?_)
  replace H := H r2 hr2
  refine g_aload (r := some _) rfl rfl rfl (pc' := 5) ?_
  refine g_getRv rfl rfl rfl rfl ht1 (pc' := 8) rfl (fun r3 hr3 => ?_)
  replace H := H r3 hr3
  refine g_aload (r := _) rfl rfl rfl (pc' := 9) ?_
  obtain ⟨a4, rfl, H⟩ := H
  obtain ⟨ht5, H⟩ := H
  refine g_call rfl (y := 396) (n := 2) (pc' := 12) (g_vt ht5 rfl rfl) (by cases r_1 <;> rfl) rfl ⟨(Nat.le_of_ble_eq_true rfl), (Nat.le_of_ble_eq_true rfl), (Nat.le_of_ble_eq_true rfl)⟩ rfl (gm_G.mono H (pR_elim (fun r7 h6 H' => ?_) (fun e25 h26 H => ?_)))
  · show gm_G _ 12 _ _ _ _
    replace H := H'
    clear H'
    refine g_aload (r := some _) rfl rfl rfl (pc' := 13) ?_
    obtain ⟨ht8, H⟩ := H
    refine g_getI rfl rfl rfl rfl ht8 (pc' := 16) rfl ?_
    obtain ⟨a9, rfl, H⟩ := H
    obtain ⟨ht10, H⟩ := H
    refine g_call rfl (y := 395) (n := 3) (pc' := 19) (g_vt ht10 rfl rfl) (by cases r7 <;> rfl) rfl ⟨(Nat.le_of_ble_eq_true rfl), (Nat.le_of_ble_eq_true rfl), (Nat.le_of_ble_eq_true rfl)⟩ rfl (gm_G.mono H (pR_elim (fun r12 h11 H' => ?_) (fun e23 h24 H => ?_)))
    · show gm_G _ 19 _ _ _ _
      replace H := H'
      clear H'
      refine g_astore (r := _) rfl rfl rfl (pc' := 20) ?_
      refine g_aload (r := some _) rfl rfl rfl (pc' := 21) ?_
      obtain ⟨ht13, H⟩ := H
      refine g_getI rfl rfl rfl rfl ht13 (pc' := 24) rfl ?_
      refine g_iconst rfl rfl rfl (pc' := 25) ?_
      refine g_ic_ne rfl (pc' := 28) (pt := 39) rfl rfl ⟨fun hc => ?_, fun hc => ?_⟩
      · replace H := H.1 hc
        refine g_aload (r := some _) rfl rfl rfl (pc' := 40) ?_
        refine g_getI rfl rfl rfl rfl ht13 (pc' := 43) rfl ?_
        refine g_iconst rfl rfl rfl (pc' := 44) ?_
        refine g_ic_ne rfl (pc' := 47) (pt := 58) rfl rfl ⟨fun hc => ?_, fun hc => ?_⟩
        · replace H := H.1 hc
          refine g_aload (r := _) rfl rfl rfl (pc' := 59) ?_
          refine g_aload (r := some _) rfl rfl rfl (pc' := 60) ?_
          refine g_getI rfl rfl rfl rfl ht13 (pc' := 63) rfl ?_
          obtain ⟨a14, rfl, H⟩ := H
          obtain ⟨ht15, H⟩ := H
          refine g_putI rfl rfl rfl rfl ht15  (pc' := 66) rfl ?_
          replace H := H _ rfl
          exact g_weak (show gm_Lle [some _, none, none, some _] _ from ⟨rfl, ⟨rfl, trivial⟩⟩) H
        · replace H := H.2 hc
          refine g_aload (r := _) rfl rfl rfl (pc' := 48) ?_
          refine g_aload (r := some _) rfl rfl rfl (pc' := 49) ?_
          refine g_getI rfl rfl rfl rfl ht13 (pc' := 52) rfl ?_
          obtain ⟨a17, rfl, H⟩ := H
          obtain ⟨ht18, H⟩ := H
          refine g_putI rfl rfl rfl rfl ht18  (pc' := 55) rfl ?_
          replace H := H _ rfl
          refine g_goto rfl (pc' := 66) rfl ?_
          exact g_weak (show gm_Lle [some _, none, none, some _] _ from ⟨rfl, ⟨rfl, trivial⟩⟩) H
      · replace H := H.2 hc
        refine g_aload (r := _) rfl rfl rfl (pc' := 29) ?_
        refine g_aload (r := some _) rfl rfl rfl (pc' := 30) ?_
        refine g_getI rfl rfl rfl rfl ht13 (pc' := 33) rfl ?_
        obtain ⟨a20, rfl, H⟩ := H
        obtain ⟨ht21, H⟩ := H
        refine g_putI rfl rfl rfl rfl ht21  (pc' := 36) rfl ?_
        replace H := H _ rfl
        refine g_goto rfl (pc' := 66) rfl ?_
        exact g_weak (show gm_Lle [some _, none, none, some _] _ from ⟨rfl, ⟨rfl, trivial⟩⟩) H
    · exact H
  · exact H
set_option maxRecDepth 20000 in
theorem w_429_66 {a0 : Nat} {r_3 : Option Nat} {h : hh_T} {Q : Option Value ⊕ Nat → hh_T → Prop} (H : hh_tg h a0 = 39 ∧ (gm_G 206 0 [some (.ref a0), some (va_rf r_3)] [] h (pV (fun h2 => Q (.inl none) h2) (fun e3 h4 => hh_tg h4 e3 = 21 ∧ Q (.inr e3) h4)))) : gm_G 429 66 [some (.ref a0), none, none, some (va_rf r_3)] [] h Q := by
  refine g_aload (r := some _) rfl rfl rfl (pc' := 67) ?_
  refine g_aload (r := _) rfl rfl rfl (pc' := 68) ?_
  obtain ⟨ht1, H⟩ := H
  refine g_call rfl (y := 206) (n := 2) (pc' := 71) (g_vt ht1 rfl rfl) (by cases r_3 <;> rfl) rfl ⟨(Nat.le_of_ble_eq_true rfl), (Nat.le_of_ble_eq_true rfl), (Nat.le_of_ble_eq_true rfl)⟩ rfl (gm_G.mono H (pV_elim (fun h2 H' => ?_) (fun e3 h4 H => ?_)))
  · show gm_G _ 71 _ _ _ _
    replace H := H'
    clear H'
    exact g_return rfl H
  · exact H
set_option maxRecDepth 20000 in
theorem w_430_0 {a0 : Nat} {r_1 : Option Nat} {x2 : Int32} {h : hh_T} {Q : Option Value ⊕ Nat → hh_T → Prop} (H : gm_sub (hh_tg h a0) 39 = true ∧ (∀ r2, r2 = hh_r h a0 5 → (∀ r3, r3 = hh_r h a0 5 → (∃ a4, r3 = some a4 ∧ (hh_tg h a4 = 1 ∧ (gm_G 396 0 [some (.ref a4), some (va_rf r_1)] [] h (pR (fun r7 h6 => gm_sub (hh_tg h6 a0) 39 = true ∧ (∃ a9, r2 = some a9 ∧ (hh_tg h6 a9 = 1 ∧ (gm_G 395 0 [some (.ref a9), some (va_rf r7), some (.int (hh_i h6 a0 3))] [] h6 (pR (fun r12 h11 => gm_sub (hh_tg h11 a0) 39 = true ∧ ((¬ (hh_i h11 a0 4) < Int32.ofNat 0 → (∃ a14, r12 = some a14 ∧ (gm_sub (hh_tg h11 a14) 25 = true ∧ (∀ r16, r16 = hh_r h11 a14 10 → (∃ a17, r16 = some a17 ∧ (hh_tg h11 a17 = 100 ∧ (∃ n18, gm_ix (hh_i h11 a14 9) n18 (hh_ln h11 a17) ∧ (∀ h19, h19 = hh_wi h11 a17 n18 (hh_i h11 a0 4) → (∀ h20, h20 = hh_wi h19 a14 9 ((hh_i h19 a14 9) + (Int32.ofNat 1)) → (gm_G 430 58 [some (.ref a0), none, none, some (.ref a14)] [] h20 Q)))))))))) ∧ ((hh_i h11 a0 4) < Int32.ofNat 0 → (∃ a22, r12 = some a22 ∧ (gm_sub (hh_tg h11 a22) 25 = true ∧ (∀ h24, h24 = hh_wi h11 a22 9 (Int32.ofNat 0) → (gm_G 430 58 [some (.ref a0), none, none, some (.ref a22)] [] h24 Q))))))) (fun e25 h26 => hh_tg h26 e25 = 21 ∧ Q (.inr e25) h26)))))) (fun e27 h28 => hh_tg h28 e27 = 21 ∧ Q (.inr e27) h28)))))))) : gm_G 430 0 [some (.ref a0), some (va_rf r_1), some (.int x2)] [] h Q := by
  refine g_aload (r := some _) rfl rfl rfl (pc' := 1) ?_
  obtain ⟨ht1, H⟩ := H
  refine g_getRv rfl rfl rfl rfl ht1 (pc' := 4) rfl (fun r2 hr2 => ?_)
  replace H := H r2 hr2
  refine g_aload (r := some _) rfl rfl rfl (pc' := 5) ?_
  refine g_getRv rfl rfl rfl rfl ht1 (pc' := 8) rfl (fun r3 hr3 => ?_)
  replace H := H r3 hr3
  refine g_aload (r := _) rfl rfl rfl (pc' := 9) ?_
  obtain ⟨a4, rfl, H⟩ := H
  obtain ⟨ht5, H⟩ := H
  refine g_call rfl (y := 396) (n := 2) (pc' := 12) (g_vt ht5 rfl rfl) (by cases r_1 <;> rfl) rfl ⟨(Nat.le_of_ble_eq_true rfl), (Nat.le_of_ble_eq_true rfl), (Nat.le_of_ble_eq_true rfl)⟩ rfl (gm_G.mono H (pR_elim (fun r7 h6 H' => ?_) (fun e27 h28 H => ?_)))
  · show gm_G _ 12 _ _ _ _
    replace H := H'
    clear H'
    refine g_aload (r := some _) rfl rfl rfl (pc' := 13) ?_
    obtain ⟨ht8, H⟩ := H
    refine g_getI rfl rfl rfl rfl ht8 (pc' := 16) rfl ?_
    obtain ⟨a9, rfl, H⟩ := H
    obtain ⟨ht10, H⟩ := H
    refine g_call rfl (y := 395) (n := 3) (pc' := 19) (g_vt ht10 rfl rfl) (by cases r7 <;> rfl) rfl ⟨(Nat.le_of_ble_eq_true rfl), (Nat.le_of_ble_eq_true rfl), (Nat.le_of_ble_eq_true rfl)⟩ rfl (gm_G.mono H (pR_elim (fun r12 h11 H' => ?_) (fun e25 h26 H => ?_)))
    · show gm_G _ 19 _ _ _ _
      replace H := H'
      clear H'
      refine g_astore (r := _) rfl rfl rfl (pc' := 20) ?_
      refine g_aload (r := some _) rfl rfl rfl (pc' := 21) ?_
      obtain ⟨ht13, H⟩ := H
      refine g_getI rfl rfl rfl rfl ht13 (pc' := 24) rfl ?_
      refine g_if_ge rfl (pc' := 27) (pt := 35) rfl rfl ⟨fun hc => ?_, fun hc => ?_⟩
      · replace H := H.1 hc
        refine g_aload (r := _) rfl rfl rfl (pc' := 36) ?_
        obtain ⟨a14, rfl, H⟩ := H
        obtain ⟨ht15, H⟩ := H
        refine g_getRv rfl rfl rfl rfl ht15 (pc' := 39) rfl (fun r16 hr16 => ?_)
        replace H := H r16 hr16
        refine g_aload (r := some _) rfl rfl rfl (pc' := 40) ?_
        refine g_getI rfl rfl rfl rfl ht15 (pc' := 43) rfl ?_
        refine g_aload (r := some _) rfl rfl rfl (pc' := 44) ?_
        refine g_getI rfl rfl rfl rfl ht13 (pc' := 47) rfl ?_
        obtain ⟨a17, rfl, H⟩ := H
        obtain ⟨ht21, H⟩ := H
        obtain ⟨n18, hn18, H⟩ := H
        refine g_iastore rfl ht21 hn18  (pc' := 48) rfl ?_
        replace H := H _ rfl
        refine g_aload (r := some _) rfl rfl rfl (pc' := 49) ?_
        refine g_dup_a (r := some _) rfl rfl (pc' := 50) ?_
        refine g_getI rfl rfl rfl rfl ht15 (pc' := 53) rfl ?_
        refine g_iconst rfl rfl rfl (pc' := 54) ?_
        refine g_iadd rfl rfl (pc' := 55) ?_
        refine g_putI rfl rfl rfl rfl ht15  (pc' := 58) rfl ?_
        replace H := H _ rfl
        exact g_weak (show gm_Lle [some _, none, none, some _] _ from ⟨rfl, ⟨rfl, trivial⟩⟩) H
      · replace H := H.2 hc
        refine g_aload (r := _) rfl rfl rfl (pc' := 28) ?_
        refine g_iconst rfl rfl rfl (pc' := 29) ?_
        obtain ⟨a22, rfl, H⟩ := H
        obtain ⟨ht23, H⟩ := H
        refine g_putI rfl rfl rfl rfl ht23  (pc' := 32) rfl ?_
        replace H := H _ rfl
        refine g_goto rfl (pc' := 58) rfl ?_
        exact g_weak (show gm_Lle [some _, none, none, some _] _ from ⟨rfl, ⟨rfl, trivial⟩⟩) H
    · exact H
  · exact H
