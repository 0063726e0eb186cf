/-! STAGE 2, 7: the component, label by label (printed) -/
set_option maxRecDepth 20000 in
theorem w_312_0 {a0 : Nat} {x1 : Int32} {h : hh_T} {Q : Option Value ⊕ Nat → hh_T → Prop} (H : (¬ x1 < Int32.ofNat 0 → ((¬ (x1 - x1 / (Int32.ofNat 2) * (Int32.ofNat 2)) = Int32.ofNat 0 → (hh_tg h a0 = 23 ∧ (gm_G 179 0 [some (.ref a0), some (.int (x1 / (Int32.ofNat 2)))] [] h (pR (fun r3 h2 => (∀ a4, r3 = some a4 → (gm_sub (hh_tg h2 a4) 29 = true ∧ (∀ r6, r6 = hh_r h2 a4 5 → (Q (.inl (some (va_rf r6))) h2)))) ∧ (r3 = none → (Q (.inl (some (va_rf none))) h2))) (fun e7 h8 => hh_tg h8 e7 = 21 ∧ Q (.inr e7) h8))))) ∧ ((x1 - x1 / (Int32.ofNat 2) * (Int32.ofNat 2)) = Int32.ofNat 0 → (hh_tg h a0 = 23 ∧ (gm_G 178 0 [some (.ref a0), some (.int (x1 / (Int32.ofNat 2)))] [] h (pR (fun r11 h10 => (∀ a12, r11 = some a12 → (gm_sub (hh_tg h10 a12) 23 = true ∧ (∀ r14, r14 = hh_r h10 a12 9 → (Q (.inl (some (va_rf r14))) h10)))) ∧ (r11 = none → (Q (.inl (some (va_rf none))) h10))) (fun e15 h16 => hh_tg h16 e15 = 21 ∧ Q (.inr e15) h16))))))) ∧ (x1 < Int32.ofNat 0 → (Q (.inl (some (va_rf none))) h))) : gm_G 312 0 [some (.ref a0), some (.int x1)] [] h Q := by
  refine g_iload rfl rfl rfl (pc' := 1) ?_
  refine g_if_ge rfl (pc' := 4) (pt := 6) rfl rfl ⟨fun hc => ?_, fun hc => ?_⟩
  · replace H := H.1 hc
    refine g_iload rfl rfl rfl (pc' := 7) ?_
    refine g_iconst rfl rfl rfl (pc' := 8) ?_
    refine g_irem rfl (by decide) (pc' := 9) rfl ?_
    refine g_if_ne rfl (pc' := 12) (pt := 33) rfl rfl ⟨fun hc => ?_, fun hc => ?_⟩
    · replace H := H.1 hc
      refine g_aload (r := some _) rfl rfl rfl (pc' := 34) ?_
      refine g_iload rfl rfl rfl (pc' := 35) ?_
      refine g_iconst rfl rfl rfl (pc' := 36) ?_
      refine g_idiv rfl (by decide) (pc' := 37) rfl ?_
      obtain ⟨ht1, H⟩ := H
      refine g_call rfl (y := 179) (n := 2) (pc' := 40) (g_vt ht1 rfl rfl) rfl rfl ⟨(Nat.le_of_ble_eq_true rfl), (Nat.le_of_ble_eq_true rfl), (Nat.le_of_ble_eq_true rfl)⟩ rfl (gm_G.mono H (pR_elim (fun r3 h2 H' => ?_) (fun e7 h8 H => ?_)))
      · show gm_G _ 40 _ _ _ _
        replace H := H'
        clear H'
        refine g_astore (r := _) rfl rfl rfl (pc' := 41) ?_
        refine g_aload (r := _) rfl rfl rfl (pc' := 42) ?_
        refine g_ifnonnull rfl (pc' := 45) (pt := 49) rfl rfl ⟨fun a4 hc => ?_, fun hc => ?_⟩
        · replace H := H.1 a4 hc
          subst hc
          refine g_aload (r := some _) rfl rfl rfl (pc' := 50) ?_
          obtain ⟨ht5, H⟩ := H
          refine g_getRv rfl rfl rfl rfl ht5 (pc' := 53) rfl (fun r6 hr6 => ?_)
          replace H := H r6 hr6
          exact g_areturn (r := _) rfl H
        · replace H := H.2 hc
          subst hc
          refine g_null rfl rfl (pc' := 46) ?_
          refine g_goto rfl (pc' := 53) rfl ?_
          exact g_areturn (r := _) rfl H
      · exact H
    · replace H := H.2 hc
      refine g_aload (r := some _) rfl rfl rfl (pc' := 13) ?_
      refine g_iload rfl rfl rfl (pc' := 14) ?_
      refine g_iconst rfl rfl rfl (pc' := 15) ?_
      refine g_idiv rfl (by decide) (pc' := 16) rfl ?_
      obtain ⟨ht9, H⟩ := H
      refine g_call rfl (y := 178) (n := 2) (pc' := 19) (g_vt ht9 rfl rfl) rfl rfl ⟨(Nat.le_of_ble_eq_true rfl), (Nat.le_of_ble_eq_true rfl), (Nat.le_of_ble_eq_true rfl)⟩ rfl (gm_G.mono H (pR_elim (fun r11 h10 H' => ?_) (fun e15 h16 H => ?_)))
      · show gm_G _ 19 _ _ _ _
        replace H := H'
        clear H'
        refine g_astore (r := _) rfl rfl rfl (pc' := 20) ?_
        refine g_aload (r := _) rfl rfl rfl (pc' := 21) ?_
        refine g_ifnonnull rfl (pc' := 24) (pt := 28) rfl rfl ⟨fun a12 hc => ?_, fun hc => ?_⟩
        · replace H := H.1 a12 hc
          subst hc
          refine g_aload (r := some _) rfl rfl rfl (pc' := 29) ?_
          obtain ⟨ht13, H⟩ := H
          refine g_getRv rfl rfl rfl rfl ht13 (pc' := 32) rfl (fun r14 hr14 => ?_)
          replace H := H r14 hr14
          exact g_areturn (r := _) rfl H
        · replace H := H.2 hc
          subst hc
          refine g_null rfl rfl (pc' := 25) ?_
          refine g_goto rfl (pc' := 32) rfl ?_
          exact g_areturn (r := _) rfl H
      · exact H
  · replace H := H.2 hc
    refine g_null rfl rfl (pc' := 5) ?_
    exact g_areturn (r := _) rfl H
set_option maxRecDepth 20000 in
theorem w_313_0 {a0 : Nat}  {h : hh_T} {Q : Option Value ⊕ Nat → hh_T → Prop} (H : gm_G 190 0 [some (.ref a0)] [] h (pV (fun h1 => ∀ a2 h3, a2 = hh_sz h1 → h3 = hh_al h1 231 8 8 → (gm_sub (hh_tg h3 a0) 26 = true ∧ (∀ h5, h5 = hh_wr h3 a0 12 (some a2) → (Q (.inl none) h5)))) (fun e6 h7 => hh_tg h7 e6 = 21 ∧ Q (.inr e6) h7))) : gm_G 313 0 [some (.ref a0)] [] h Q := by
  refine g_aload (r := some _) rfl rfl rfl (pc' := 1) ?_
  refine g_call rfl (y := 190) (n := 1) (pc' := 4) (fun _ => rfl) rfl rfl ⟨(Nat.le_of_ble_eq_true rfl), (Nat.le_of_ble_eq_true rfl), (Nat.le_of_ble_eq_true rfl)⟩ rfl (gm_G.mono H (pV_elim (fun h1 H' => ?_) (fun e6 h7 H => ?_)))
  · show gm_G _ 4 _ _ _ _
    replace H := H'
    clear H'
    refine g_aload (r := some _) rfl rfl rfl (pc' := 5) ?_
    refine g_iconst rfl rfl rfl (pc' := 7) ?_
    refine g_anewarray rfl (n := 8) rfl (by decide) (pc' := 10) rfl ?_
    replace H := H _ _ rfl rfl
    obtain ⟨ht4, H⟩ := H
    refine g_putR (x := some _) rfl rfl rfl rfl ht4  (pc' := 13) rfl ?_
    replace H := H _ rfl
    exact g_return rfl H
  · exact H
set_option maxRecDepth 20000 in
theorem w_314_0 {a0 : Nat} {r_1 : Option Nat} {h : hh_T} {Q : Option Value ⊕ Nat → hh_T → Prop} (H : gm_sub (hh_tg h a0) 25 = true ∧ (gm_G 192 0 [some (.ref a0), some (va_rf r_1)] [] h (pV (fun h2 => gm_G 314 7 [some (.ref a0), some (va_rf r_1), some (.int (Int32.ofNat 0))] [] h2 Q) (fun e3 h4 => hh_tg h4 e3 = 21 ∧ Q (.inr e3) h4)))) : gm_G 314 0 [some (.ref a0), some (va_rf r_1)] [] h Q := by
  refine g_aload (r := some _) rfl rfl rfl (pc' := 1) ?_
  refine g_aload (r := _) rfl rfl rfl (pc' := 2) ?_
  obtain ⟨ht1, H⟩ := H
  refine g_call rfl (y := 192) (n := 2) (pc' := 5) (fun _ => if_pos ht1) (by cases r_1 <;> rfl) rfl ⟨(Nat.le_of_ble_eq_true rfl), (Nat.le_of_ble_eq_true rfl), (Nat.le_of_ble_eq_true rfl)⟩ rfl (gm_G.mono H (pV_elim (fun h2 H' => ?_) (fun e3 h4 H => ?_)))
  · show gm_G _ 5 _ _ _ _
    replace H := H'
    clear H'
    refine g_iconst rfl rfl rfl (pc' := 6) ?_
    refine g_istore rfl gm_sto_rf1 rfl (pc' := 7) ?_
    exact g_weak (show gm_Lle [some _, some _, some _] _ from ⟨rfl, ⟨rfl, ⟨rfl, trivial⟩⟩⟩) H
  · exact H
set_option maxRecDepth 20000 in
theorem w_314_7 {a0 : Nat} {r_1 : Option Nat} {x2 : Int32} {h : hh_T} {Q : Option Value ⊕ Nat → hh_T → Prop} (H : (¬ x2 < (Int32.ofNat 8) → (Q (.inl none) h)) ∧ (x2 < (Int32.ofNat 8) → (gm_sub (hh_tg h a0) 26 = true ∧ (∀ r2, r2 = hh_r h a0 12 → (∃ a3, r_1 = some a3 ∧ ((hh_tg h a3 = 27 ∧ (gm_G 194 0 [some (.ref a3)] [] h (pR (fun r5 h4 => ∃ a6, r5 = some a6 ∧ ((hh_tg h4 a6 = 104 ∨ 200 ≤ hh_tg h4 a6) ∧ (∃ n7, gm_ix x2 n7 (hh_ln h4 a6) ∧ (∀ r9, r9 = hh_r h4 a6 n7 → (∃ a10, r2 = some a10 ∧ (200 ≤ hh_tg h4 a10 ∧ (∀ b, r9 = some b → gm_as (hh_tg h4 a10) (hh_tg h4 b) = true) ∧ (∃ n11, gm_ix x2 n11 (hh_ln h4 a10) ∧ (∀ h12, h12 = hh_wr h4 a10 n11 r9 → (gm_sub (hh_tg h12 a0) 26 = true ∧ (∀ r14, r14 = hh_r h12 a0 12 → (∃ a15, r14 = some a15 ∧ ((hh_tg h12 a15 = 104 ∨ 200 ≤ hh_tg h12 a15) ∧ (∃ n16, gm_ix x2 n16 (hh_ln h12 a15) ∧ (∀ r18, r18 = hh_r h12 a15 n16 → ((r18 = none → (gm_G 314 49 [some (.ref a0), some (.ref a3), some (.int x2)] [] h12 Q)) ∧ (∀ a19, r18 = some a19 → (∀ r20, r20 = hh_r h12 a0 12 → (∃ a21, r20 = some a21 ∧ ((hh_tg h12 a21 = 104 ∨ 200 ≤ hh_tg h12 a21) ∧ (∃ n22, gm_ix x2 n22 (hh_ln h12 a21) ∧ (∀ r24, r24 = hh_r h12 a21 n22 → (∃ a25, r24 = some a25 ∧ (gm_sub (hh_tg h12 a25) 31 = true ∧ (∀ h27, h27 = hh_wi h12 a25 6 ((hh_i h12 a25 6) + (Int32.ofNat 1)) → (gm_G 314 49 [some (.ref a0), some (.ref a3), some (.int x2)] [] h27 Q))))))))))))))))))))))))) (fun e28 h29 => hh_tg h29 e28 = 21 ∧ Q (.inr e28) h29)))) ∨ (hh_tg h a3 = 28 ∧ (gm_G 191 0 [some (.ref a3)] [] h (pR (fun r31 h30 => ∃ a32, r31 = some a32 ∧ ((hh_tg h30 a32 = 104 ∨ 200 ≤ hh_tg h30 a32) ∧ (∃ n33, gm_ix x2 n33 (hh_ln h30 a32) ∧ (∀ r35, r35 = hh_r h30 a32 n33 → (∃ a36, r2 = some a36 ∧ (200 ≤ hh_tg h30 a36 ∧ (∀ b, r35 = some b → gm_as (hh_tg h30 a36) (hh_tg h30 b) = true) ∧ (∃ n37, gm_ix x2 n37 (hh_ln h30 a36) ∧ (∀ h38, h38 = hh_wr h30 a36 n37 r35 → (gm_sub (hh_tg h38 a0) 26 = true ∧ (∀ r40, r40 = hh_r h38 a0 12 → (∃ a41, r40 = some a41 ∧ ((hh_tg h38 a41 = 104 ∨ 200 ≤ hh_tg h38 a41) ∧ (∃ n42, gm_ix x2 n42 (hh_ln h38 a41) ∧ (∀ r44, r44 = hh_r h38 a41 n42 → ((r44 = none → (gm_G 314 49 [some (.ref a0), some (.ref a3), some (.int x2)] [] h38 Q)) ∧ (∀ a45, r44 = some a45 → (∀ r46, r46 = hh_r h38 a0 12 → (∃ a47, r46 = some a47 ∧ ((hh_tg h38 a47 = 104 ∨ 200 ≤ hh_tg h38 a47) ∧ (∃ n48, gm_ix x2 n48 (hh_ln h38 a47) ∧ (∀ r50, r50 = hh_r h38 a47 n48 → (∃ a51, r50 = some a51 ∧ (gm_sub (hh_tg h38 a51) 31 = true ∧ (∀ h53, h53 = hh_wi h38 a51 6 ((hh_i h38 a51 6) + (Int32.ofNat 1)) → (gm_G 314 49 [some (.ref a0), some (.ref a3), some (.int x2)] [] h53 Q))))))))))))))))))))))))) (fun e54 h55 => hh_tg h55 e54 = 21 ∧ Q (.inr e54) h55)))) ∨ (hh_tg h a3 = 29 ∧ (gm_G 191 0 [some (.ref a3)] [] h (pR (fun r57 h56 => ∃ a58, r57 = some a58 ∧ ((hh_tg h56 a58 = 104 ∨ 200 ≤ hh_tg h56 a58) ∧ (∃ n59, gm_ix x2 n59 (hh_ln h56 a58) ∧ (∀ r61, r61 = hh_r h56 a58 n59 → (∃ a62, r2 = some a62 ∧ (200 ≤ hh_tg h56 a62 ∧ (∀ b, r61 = some b → gm_as (hh_tg h56 a62) (hh_tg h56 b) = true) ∧ (∃ n63, gm_ix x2 n63 (hh_ln h56 a62) ∧ (∀ h64, h64 = hh_wr h56 a62 n63 r61 → (gm_sub (hh_tg h64 a0) 26 = true ∧ (∀ r66, r66 = hh_r h64 a0 12 → (∃ a67, r66 = some a67 ∧ ((hh_tg h64 a67 = 104 ∨ 200 ≤ hh_tg h64 a67) ∧ (∃ n68, gm_ix x2 n68 (hh_ln h64 a67) ∧ (∀ r70, r70 = hh_r h64 a67 n68 → ((r70 = none → (gm_G 314 49 [some (.ref a0), some (.ref a3), some (.int x2)] [] h64 Q)) ∧ (∀ a71, r70 = some a71 → (∀ r72, r72 = hh_r h64 a0 12 → (∃ a73, r72 = some a73 ∧ ((hh_tg h64 a73 = 104 ∨ 200 ≤ hh_tg h64 a73) ∧ (∃ n74, gm_ix x2 n74 (hh_ln h64 a73) ∧ (∀ r76, r76 = hh_r h64 a73 n74 → (∃ a77, r76 = some a77 ∧ (gm_sub (hh_tg h64 a77) 31 = true ∧ (∀ h79, h79 = hh_wi h64 a77 6 ((hh_i h64 a77 6) + (Int32.ofNat 1)) → (gm_G 314 49 [some (.ref a0), some (.ref a3), some (.int x2)] [] h79 Q))))))))))))))))))))))))) (fun e80 h81 => hh_tg h81 e80 = 21 ∧ Q (.inr e80) h81)))))))))) : gm_G 314 7 [some (.ref a0), some (va_rf r_1), some (.int x2)] [] h Q := by
  refine g_iload rfl rfl rfl (pc' := 8) ?_
  refine g_iconst rfl rfl rfl (pc' := 10) ?_
  refine g_ic_ge rfl (pc' := 13) (pt := 55) rfl rfl ⟨fun hc => ?_, fun hc => ?_⟩
  · replace H := H.1 hc
    exact g_return rfl H
  · replace H := H.2 hc
    refine g_aload (r := some _) rfl rfl rfl (pc' := 14) ?_
    obtain ⟨ht1, H⟩ := H
    refine g_getRv rfl rfl rfl rfl ht1 (pc' := 17) rfl (fun r2 hr2 => ?_)
    replace H := H r2 hr2
    refine g_iload rfl rfl rfl (pc' := 18) ?_
    refine g_aload (r := _) rfl rfl rfl (pc' := 19) ?_
    obtain ⟨a3, rfl, H⟩ := H
    rcases H with ⟨ht, H⟩ | ⟨ht, H⟩ | ⟨ht, H⟩
    · refine g_call rfl (y := 194) (n := 1) (pc' := 22) (g_vt ht rfl rfl) rfl rfl ⟨(Nat.le_of_ble_eq_true rfl), (Nat.le_of_ble_eq_true rfl), (Nat.le_of_ble_eq_true rfl)⟩ rfl (gm_G.mono H (pR_elim (fun r5 h4 H' => ?_) (fun e28 h29 H => ?_)))
      · show gm_G _ 22 _ _ _ _
        replace H := H'
        clear H'
        refine g_iload rfl rfl rfl (pc' := 23) ?_
        obtain ⟨a6, rfl, H⟩ := H
        obtain ⟨ht8, H⟩ := H
        obtain ⟨n7, hn7, H⟩ := H
        refine g_aaloadv rfl ht8 hn7 (pc' := 24) rfl (fun r9 hr9 => ?_)
        replace H := H r9 hr9
        obtain ⟨a10, rfl, H⟩ := H
        obtain ⟨Ha, Hb, H⟩ := H
        obtain ⟨n11, hn11, H⟩ := H
        refine g_aastore (r := _) rfl Ha Hb hn11 (pc' := 25) rfl ?_
        replace H := H _ rfl
        refine g_aload (r := some _) rfl rfl rfl (pc' := 26) ?_
        obtain ⟨ht13, H⟩ := H
        refine g_getRv rfl rfl rfl rfl ht13 (pc' := 29) rfl (fun r14 hr14 => ?_)
        replace H := H r14 hr14
        refine g_iload rfl rfl rfl (pc' := 30) ?_
        obtain ⟨a15, rfl, H⟩ := H
        obtain ⟨ht17, H⟩ := H
        obtain ⟨n16, hn16, H⟩ := H
        refine g_aaloadv rfl ht17 hn16 (pc' := 31) rfl (fun r18 hr18 => ?_)
        replace H := H r18 hr18
        refine g_ifnull rfl (pc' := 34) (pt := 49) rfl rfl ⟨fun hc => ?_, fun a19 hc => ?_⟩
        · replace H := H.1 hc
          subst hc
          exact g_weak (show gm_Lle [some _, some _, some _] _ from ⟨rfl, ⟨rfl, ⟨rfl, trivial⟩⟩⟩) H
        · replace H := H.2 a19 hc
          subst hc
          refine g_aload (r := some _) rfl rfl rfl (pc' := 35) ?_
          refine g_getRv rfl rfl rfl rfl ht13 (pc' := 38) rfl (fun r20 hr20 => ?_)
          replace H := H r20 hr20
          refine g_iload rfl rfl rfl (pc' := 39) ?_
          obtain ⟨a21, rfl, H⟩ := H
          obtain ⟨ht23, H⟩ := H
          obtain ⟨n22, hn22, H⟩ := H
          refine g_aaloadv rfl ht23 hn22 (pc' := 40) rfl (fun r24 hr24 => ?_)
          replace H := H r24 hr24
          refine g_dup_a (r := _) rfl rfl (pc' := 41) ?_
          obtain ⟨a25, rfl, H⟩ := H
          obtain ⟨ht26, H⟩ := H
          refine g_getI rfl rfl rfl rfl ht26 (pc' := 44) rfl ?_
          refine g_iconst rfl rfl rfl (pc' := 45) ?_
          refine g_iadd rfl rfl (pc' := 46) ?_
          refine g_putI rfl rfl rfl rfl ht26  (pc' := 49) rfl ?_
          replace H := H _ rfl
          exact g_weak (show gm_Lle [some _, some _, some _] _ from ⟨rfl, ⟨rfl, ⟨rfl, trivial⟩⟩⟩) H
      · exact H
    · refine g_call rfl (y := 191) (n := 1) (pc' := 22) (g_vt ht rfl rfl) rfl rfl ⟨(Nat.le_of_ble_eq_true rfl), (Nat.le_of_ble_eq_true rfl), (Nat.le_of_ble_eq_true rfl)⟩ rfl (gm_G.mono H (pR_elim (fun r31 h30 H' => ?_) (fun e54 h55 H => ?_)))
      · show gm_G _ 22 _ _ _ _
        replace H := H'
        clear H'
        refine g_iload rfl rfl rfl (pc' := 23) ?_
        obtain ⟨a32, rfl, H⟩ := H
        obtain ⟨ht34, H⟩ := H
        obtain ⟨n33, hn33, H⟩ := H
        refine g_aaloadv rfl ht34 hn33 (pc' := 24) rfl (fun r35 hr35 => ?_)
        replace H := H r35 hr35
        obtain ⟨a36, rfl, H⟩ := H
        obtain ⟨Ha, Hb, H⟩ := H
        obtain ⟨n37, hn37, H⟩ := H
        refine g_aastore (r := _) rfl Ha Hb hn37 (pc' := 25) rfl ?_
        replace H := H _ rfl
        refine g_aload (r := some _) rfl rfl rfl (pc' := 26) ?_
        obtain ⟨ht39, H⟩ := H
        refine g_getRv rfl rfl rfl rfl ht39 (pc' := 29) rfl (fun r40 hr40 => ?_)
        replace H := H r40 hr40
        refine g_iload rfl rfl rfl (pc' := 30) ?_
        obtain ⟨a41, rfl, H⟩ := H
        obtain ⟨ht43, H⟩ := H
        obtain ⟨n42, hn42, H⟩ := H
        refine g_aaloadv rfl ht43 hn42 (pc' := 31) rfl (fun r44 hr44 => ?_)
        replace H := H r44 hr44
        refine g_ifnull rfl (pc' := 34) (pt := 49) rfl rfl ⟨fun hc => ?_, fun a45 hc => ?_⟩
        · replace H := H.1 hc
          subst hc
          exact g_weak (show gm_Lle [some _, some _, some _] _ from ⟨rfl, ⟨rfl, ⟨rfl, trivial⟩⟩⟩) H
        · replace H := H.2 a45 hc
          subst hc
          refine g_aload (r := some _) rfl rfl rfl (pc' := 35) ?_
          refine g_getRv rfl rfl rfl rfl ht39 (pc' := 38) rfl (fun r46 hr46 => ?_)
          replace H := H r46 hr46
          refine g_iload rfl rfl rfl (pc' := 39) ?_
          obtain ⟨a47, rfl, H⟩ := H
          obtain ⟨ht49, H⟩ := H
          obtain ⟨n48, hn48, H⟩ := H
          refine g_aaloadv rfl ht49 hn48 (pc' := 40) rfl (fun r50 hr50 => ?_)
          replace H := H r50 hr50
          refine g_dup_a (r := _) rfl rfl (pc' := 41) ?_
          obtain ⟨a51, rfl, H⟩ := H
          obtain ⟨ht52, H⟩ := H
          refine g_getI rfl rfl rfl rfl ht52 (pc' := 44) rfl ?_
          refine g_iconst rfl rfl rfl (pc' := 45) ?_
          refine g_iadd rfl rfl (pc' := 46) ?_
          refine g_putI rfl rfl rfl rfl ht52  (pc' := 49) rfl ?_
          replace H := H _ rfl
          exact g_weak (show gm_Lle [some _, some _, some _] _ from ⟨rfl, ⟨rfl, ⟨rfl, trivial⟩⟩⟩) H
      · exact H
    · refine g_call rfl (y := 191) (n := 1) (pc' := 22) (g_vt ht rfl rfl) rfl rfl ⟨(Nat.le_of_ble_eq_true rfl), (Nat.le_of_ble_eq_true rfl), (Nat.le_of_ble_eq_true rfl)⟩ rfl (gm_G.mono H (pR_elim (fun r57 h56 H' => ?_) (fun e80 h81 H => ?_)))
      · show gm_G _ 22 _ _ _ _
        replace H := H'
        clear H'
        refine g_iload rfl rfl rfl (pc' := 23) ?_
        obtain ⟨a58, rfl, H⟩ := H
        obtain ⟨ht60, H⟩ := H
        obtain ⟨n59, hn59, H⟩ := H
        refine g_aaloadv rfl ht60 hn59 (pc' := 24) rfl (fun r61 hr61 => ?_)
        replace H := H r61 hr61
        obtain ⟨a62, rfl, H⟩ := H
        obtain ⟨Ha, Hb, H⟩ := H
        obtain ⟨n63, hn63, H⟩ := H
        refine g_aastore (r := _) rfl Ha Hb hn63 (pc' := 25) rfl ?_
        replace H := H _ rfl
        refine g_aload (r := some _) rfl rfl rfl (pc' := 26) ?_
        obtain ⟨ht65, H⟩ := H
        refine g_getRv rfl rfl rfl rfl ht65 (pc' := 29) rfl (fun r66 hr66 => ?_)
        replace H := H r66 hr66
        refine g_iload rfl rfl rfl (pc' := 30) ?_
        obtain ⟨a67, rfl, H⟩ := H
        obtain ⟨ht69, H⟩ := H
        obtain ⟨n68, hn68, H⟩ := H
        refine g_aaloadv rfl ht69 hn68 (pc' := 31) rfl (fun r70 hr70 => ?_)
        replace H := H r70 hr70
        refine g_ifnull rfl (pc' := 34) (pt := 49) rfl rfl ⟨fun hc => ?_, fun a71 hc => ?_⟩
        · replace H := H.1 hc
          subst hc
          exact g_weak (show gm_Lle [some _, some _, some _] _ from ⟨rfl, ⟨rfl, ⟨rfl, trivial⟩⟩⟩) H
        · replace H := H.2 a71 hc
          subst hc
          refine g_aload (r := some _) rfl rfl rfl (pc' := 35) ?_
          refine g_getRv rfl rfl rfl rfl ht65 (pc' := 38) rfl (fun r72 hr72 => ?_)
          replace H := H r72 hr72
          refine g_iload rfl rfl rfl (pc' := 39) ?_
          obtain ⟨a73, rfl, H⟩ := H
          obtain ⟨ht75, H⟩ := H
          obtain ⟨n74, hn74, H⟩ := H
          refine g_aaloadv rfl ht75 hn74 (pc' := 40) rfl (fun r76 hr76 => ?_)
          replace H := H r76 hr76
          refine g_dup_a (r := _) rfl rfl (pc' := 41) ?_
          obtain ⟨a77, rfl, H⟩ := H
          obtain ⟨ht78, H⟩ := H
          refine g_getI rfl rfl rfl rfl ht78 (pc' := 44) rfl ?_
          refine g_iconst rfl rfl rfl (pc' := 45) ?_
          refine g_iadd rfl rfl (pc' := 46) ?_
          refine g_putI rfl rfl rfl rfl ht78  (pc' := 49) rfl ?_
          replace H := H _ rfl
          exact g_weak (show gm_Lle [some _, some _, some _] _ from ⟨rfl, ⟨rfl, ⟨rfl, trivial⟩⟩⟩) H
      · exact H
set_option maxRecDepth 20000 in
theorem w_314_49 {a0 : Nat} {r_1 : Option Nat} {x2 : Int32} {h : hh_T} {Q : Option Value ⊕ Nat → hh_T → Prop} (H : gm_G 314 7 [some (.ref a0), some (va_rf r_1), some (.int (x2 + (Int32.ofNat 1)))] [] h Q) : gm_G 314 49 [some (.ref a0), some (va_rf r_1), some (.int x2)] [] h Q := by
  refine g_iinc (c := (Int32.ofNat 1)) rfl rfl rfl gm_sto_rf1 rfl (pc' := 52) ?_
  refine g_goto rfl (pc' := 7) rfl ?_
  exact g_weak (show gm_Lle [some _, some _, some _] _ from ⟨rfl, ⟨rfl, ⟨rfl, trivial⟩⟩⟩) H
set_option maxRecDepth 20000 in
theorem w_315_0 {a0 : Nat}  {h : hh_T} {Q : Option Value ⊕ Nat → hh_T → Prop} (H : gm_G 190 0 [some (.ref a0)] [] h (pV (fun h1 => ∀ a2 h3, a2 = hh_sz h1 → h3 = hh_al h1 103 8 8 → (gm_sub (hh_tg h3 a0) 27 = true ∧ (∀ h5, h5 = hh_wr h3 a0 12 (some a2) → (∀ a6 h7, a6 = hh_sz h5 → h7 = hh_al h5 100 8 8 → (gm_sub (hh_tg h7 a0) 27 = true ∧ (∀ h9, h9 = hh_wr h7 a0 13 (some a6) → (gm_G 315 20 [] [] h9 Q))))))) (fun e10 h11 => hh_tg h11 e10 = 21 ∧ Q (.inr e10) h11))) : gm_G 315 0 [some (.ref a0)] [] h Q := by
  refine g_aload (r := some _) rfl rfl rfl (pc' := 1) ?_
  refine g_call rfl (y := 190) (n := 1) (pc' := 4) (fun _ => rfl) rfl rfl ⟨(Nat.le_of_ble_eq_true rfl), (Nat.le_of_ble_eq_true rfl), (Nat.le_of_ble_eq_true rfl)⟩ rfl (gm_G.mono H (pV_elim (fun h1 H' => ?_) (fun e10 h11 H => ?_)))
  · show gm_G _ 4 _ _ _ _
    replace H := H'
    clear H'
    refine g_aload (r := some _) rfl rfl rfl (pc' := 5) ?_
    refine g_iconst rfl rfl rfl (pc' := 7) ?_
    refine g_newarray rfl (u := 103) (n := 8) rfl (by decide) rfl (by decide) (pc' := 9) rfl ?_
    replace H := H _ _ rfl rfl
    obtain ⟨ht4, H⟩ := H
    refine g_putR (x := some _) rfl rfl rfl rfl ht4  (pc' := 12) rfl ?_
    replace H := H _ rfl
    refine g_aload (r := some _) rfl rfl rfl (pc' := 13) ?_
    refine g_iconst rfl rfl rfl (pc' := 15) ?_
    refine g_newarray rfl (u := 100) (n := 8) rfl (by decide) rfl (by decide) (pc' := 17) rfl ?_
    replace H := H _ _ rfl rfl
    obtain ⟨ht8, H⟩ := H
    refine g_putR (x := some _) rfl rfl rfl rfl ht8  (pc' := 20) rfl ?_
    replace H := H _ rfl
    exact g_weak (show gm_Lle [] _ from trivial) H
  · exact H
set_option maxRecDepth 20000 in
theorem w_315_20 {a0 : Nat}  {h : hh_T} {Q : Option Value ⊕ Nat → hh_T → Prop} (H : Q (.inl none) h) : gm_G 315 20 [] [] h Q := by
  exact g_return rfl H
set_option maxRecDepth 20000 in
theorem w_316_0 {a0 : Nat} {r_1 : Option Nat} {h : hh_T} {Q : Option Value ⊕ Nat → hh_T → Prop} (H : gm_sub (hh_tg h a0) 25 = true ∧ (gm_G 192 0 [some (.ref a0), some (va_rf r_1)] [] h (pV (fun h2 => (∀ b, r_1 = some b → gm_sub (hh_tg h2 b) 27 = true) ∧ (∃ a3, r_1 = some a3 ∧ (gm_sub (hh_tg h2 a3) 27 = true ∧ (gm_sub (hh_tg h2 a0) 27 = true ∧ (∀ h6, h6 = hh_wi h2 a0 14 (hh_i h2 a3 14) → (gm_G 316 20 [some (.ref a0), none, some (.ref a3), some (.int (Int32.ofNat 0))] [] h6 Q)))))) (fun e7 h8 => hh_tg h8 e7 = 21 ∧ Q (.inr e7) h8)))) : gm_G 316 0 [some (.ref a0), some (va_rf r_1)] [] h Q := by
  refine g_aload (r := some _) rfl rfl rfl (pc' := 1) ?_
  refine g_aload (r := _) rfl rfl rfl (pc' := 2) ?_
  obtain ⟨ht1, H⟩ := H
  refine g_call rfl (y := 192) (n := 2) (pc' := 5) (fun _ => if_pos ht1) (by cases r_1 <;> rfl) rfl ⟨(Nat.le_of_ble_eq_true rfl), (Nat.le_of_ble_eq_true rfl), (Nat.le_of_ble_eq_true rfl)⟩ rfl (gm_G.mono H (pV_elim (fun h2 H' => ?_) (fun e7 h8 H => ?_)))
  · show gm_G _ 5 _ _ _ _
    replace H := H'
    clear H'
    refine g_aload (r := _) rfl rfl rfl (pc' := 6) ?_
    obtain ⟨Hc, H⟩ := H
    refine g_cast rfl Hc (pc' := 9) rfl ?_
    refine g_astore (r := _) rfl gm_sto_rf1 rfl (pc' := 10) ?_
    refine g_aload (r := some _) rfl rfl rfl (pc' := 11) ?_
    refine g_aload (r := _) rfl rfl rfl (pc' := 12) ?_
    obtain ⟨a3, rfl, H⟩ := H
    obtain ⟨ht4, H⟩ := H
    refine g_getI rfl rfl rfl rfl ht4 (pc' := 15) rfl ?_
    obtain ⟨ht5, H⟩ := H
    refine g_putI rfl rfl rfl rfl ht5  (pc' := 18) rfl ?_
    replace H := H _ rfl
    refine g_iconst rfl rfl rfl (pc' := 19) ?_
    refine g_istore rfl rfl rfl (pc' := 20) ?_
    exact g_weak (show gm_Lle [some _, none, some _, some _] _ from ⟨rfl, ⟨rfl, ⟨rfl, trivial⟩⟩⟩) H
  · exact H
set_option maxRecDepth 20000 in
theorem w_316_20 {a0 : Nat} {r_2 : Option Nat} {x3 : Int32} {h : hh_T} {Q : Option Value ⊕ Nat → hh_T → Prop} (H : gm_sub (hh_tg h a0) 25 = true ∧ ((¬ x3 < (hh_i h a0 6) → (Q (.inl none) h)) ∧ (x3 < (hh_i h a0 6) → (gm_sub (hh_tg h a0) 27 = true ∧ (∀ r3, r3 = hh_r h a0 12 → (∃ a4, r_2 = some a4 ∧ (gm_sub (hh_tg h a4) 27 = true ∧ (∀ r6, r6 = hh_r h a4 12 → (∃ a7, r6 = some a7 ∧ ((hh_tg h a7 = 103) ∧ (∃ n8, gm_ix x3 n8 (hh_ln h a7) ∧ (∃ a10, r3 = some a10 ∧ (hh_tg h a10 = 103 ∧ (∃ n11, gm_ix x3 n11 (hh_ln h a10) ∧ (∀ h12, h12 = hh_wj h a10 n11 (hh_j h a7 n8) → (∀ r13, r13 = hh_r h12 a0 13 → (∀ r14, r14 = hh_r h12 a4 13 → (∃ a15, r14 = some a15 ∧ ((hh_tg h12 a15 = 100 ∨ hh_tg h12 a15 = 105) ∧ (∃ n16, gm_ix x3 n16 (hh_ln h12 a15) ∧ (∃ a18, r13 = some a18 ∧ (hh_tg h12 a18 = 100 ∧ (∃ n19, gm_ix x3 n19 (hh_ln h12 a18) ∧ (∀ h20, h20 = hh_wi h12 a18 n19 (hh_i h12 a15 n16) → (gm_G 316 20 [some (.ref a0), none, some (.ref a4), some (.int (x3 + (Int32.ofNat 1)))] [] h20 Q))))))))))))))))))))))))) : gm_G 316 20 [some (.ref a0), none, some (va_rf r_2), some (.int x3)] [] h Q := by
  refine g_iload rfl rfl rfl (pc' := 21) ?_
  refine g_aload (r := some _) rfl rfl rfl (pc' := 22) ?_
  obtain ⟨ht1, H⟩ := H
  refine g_getI rfl rfl rfl rfl ht1 (pc' := 25) rfl ?_
  refine g_ic_ge rfl (pc' := 28) (pt := 58) rfl rfl ⟨fun hc => ?_, fun hc => ?_⟩
  · replace H := H.1 hc
    exact g_return rfl H
  · replace H := H.2 hc
    refine g_aload (r := some _) rfl rfl rfl (pc' := 29) ?_
    obtain ⟨ht2, H⟩ := H
    refine g_getRv rfl rfl rfl rfl ht2 (pc' := 32) rfl (fun r3 hr3 => ?_)
    replace H := H r3 hr3
    refine g_iload rfl rfl rfl (pc' := 33) ?_
    refine g_aload (r := _) rfl rfl rfl (pc' := 34) ?_
    obtain ⟨a4, rfl, H⟩ := H
    obtain ⟨ht5, H⟩ := H
    refine g_getRv rfl rfl rfl rfl ht5 (pc' := 37) rfl (fun r6 hr6 => ?_)
    replace H := H r6 hr6
    refine g_iload rfl rfl rfl (pc' := 38) ?_
    obtain ⟨a7, rfl, H⟩ := H
    obtain ⟨ht9, H⟩ := H
    obtain ⟨n8, hn8, H⟩ := H
    refine g_laload rfl ht9 hn8 (pc' := 39) rfl ?_
    obtain ⟨a10, rfl, H⟩ := H
    obtain ⟨ht22, H⟩ := H
    obtain ⟨n11, hn11, H⟩ := H
    refine g_lastore rfl ht22 hn11  (pc' := 40) rfl ?_
    replace H := H _ rfl
    refine g_aload (r := some _) rfl rfl rfl (pc' := 41) ?_
    refine g_getRv rfl rfl rfl rfl ht2 (pc' := 44) rfl (fun r13 hr13 => ?_)
    replace H := H r13 hr13
    refine g_iload rfl rfl rfl (pc' := 45) ?_
    refine g_aload (r := some _) rfl rfl rfl (pc' := 46) ?_
    refine g_getRv rfl rfl rfl rfl ht5 (pc' := 49) rfl (fun r14 hr14 => ?_)
    replace H := H r14 hr14
    refine g_iload rfl rfl rfl (pc' := 50) ?_
    obtain ⟨a15, rfl, H⟩ := H
    obtain ⟨ht17, H⟩ := H
    obtain ⟨n16, hn16, H⟩ := H
    refine g_iaload rfl ht17 hn16 (pc' := 51) rfl ?_
    obtain ⟨a18, rfl, H⟩ := H
    obtain ⟨ht21, H⟩ := H
    obtain ⟨n19, hn19, H⟩ := H
    refine g_iastore rfl ht21 hn19  (pc' := 52) rfl ?_
    replace H := H _ rfl
    refine g_iinc (c := (Int32.ofNat 1)) rfl rfl rfl rfl rfl (pc' := 55) ?_
    refine g_goto rfl (pc' := 20) rfl ?_
    exact g_weak (show gm_Lle [some _, none, some _, some _] _ from ⟨rfl, ⟨rfl, ⟨rfl, trivial⟩⟩⟩) H
set_option maxRecDepth 20000 in
theorem w_317_0 {a0 : Nat} {j1 : Int64} {h : hh_T} {Q : Option Value ⊕ Nat → hh_T → Prop} (H : gm_sub (hh_tg h a0) 25 = true ∧ (∀ h2, h2 = hh_wi h a0 6 ((hh_i h a0 6) - (Int32.ofNat 1)) → (hh_tg h2 a0 = 28 ∧ (gm_G 197 0 [some (.ref a0), some (.long j1), none, some (.int ((hh_i h2 a0 6) + (Int32.ofNat 1)))] [] h2 (pI (fun v5 h4 => gm_G 317 22 [some (.ref a0), none, none, some (.int v5)] [] h4 Q) (fun e6 h7 => hh_tg h7 e6 = 21 ∧ Q (.inr e6) h7)))))) : gm_G 317 0 [some (.ref a0), some (.long j1), none] [] h Q := by
  refine g_aload (r := some _) rfl rfl rfl (pc' := 1) ?_
  refine g_dup_a (r := some _) rfl rfl (pc' := 2) ?_
  obtain ⟨ht1, H⟩ := H
  refine g_getI rfl rfl rfl rfl ht1 (pc' := 5) rfl ?_
  refine g_iconst rfl rfl rfl (pc' := 6) ?_
  refine g_isub rfl rfl (pc' := 7) ?_
  refine g_putI rfl rfl rfl rfl ht1  (pc' := 10) rfl ?_
  replace H := H _ rfl
  refine g_aload (r := some _) rfl rfl rfl (pc' := 11) ?_
  refine g_lload rfl rfl rfl (pc' := 12) ?_
  refine g_aload (r := some _) rfl rfl rfl (pc' := 13) ?_
  refine g_getI rfl rfl rfl rfl ht1 (pc' := 16) rfl ?_
  refine g_iconst rfl rfl rfl (pc' := 17) ?_
  refine g_iadd rfl rfl (pc' := 18) ?_
  obtain ⟨ht3, H⟩ := H
  refine g_call rfl (y := 197) (n := 3) (pc' := 21) (g_vt ht3 rfl rfl) rfl rfl ⟨(Nat.le_of_ble_eq_true rfl), (Nat.le_of_ble_eq_true rfl), (Nat.le_of_ble_eq_true rfl)⟩ rfl (gm_G.mono H (pI_elim (fun v5 h4 H' => ?_) (fun e6 h7 H => ?_)))
  · show gm_G _ 21 _ _ _ _
    replace H := H'
    clear H'
    refine g_istore rfl rfl rfl (pc' := 22) ?_
    exact g_weak (show gm_Lle [some _, none, none, some _] _ from ⟨rfl, ⟨rfl, trivial⟩⟩) H
  · exact H
set_option maxRecDepth 20000 in
theorem w_317_22 {a0 : Nat} {x3 : Int32} {h : hh_T} {Q : Option Value ⊕ Nat → hh_T → Prop} (H : gm_sub (hh_tg h a0) 25 = true ∧ ((¬ x3 < (hh_i h a0 6) → (Q (.inl none) h)) ∧ (x3 < (hh_i h a0 6) → (gm_sub (hh_tg h a0) 27 = true ∧ (∀ r3, r3 = hh_r h a0 12 → (∀ r4, r4 = hh_r h a0 12 → (∃ a5, r4 = some a5 ∧ ((hh_tg h a5 = 103) ∧ (∃ n6, gm_ix (x3 + (Int32.ofNat 1)) n6 (hh_ln h a5) ∧ (∃ a8, r3 = some a8 ∧ (hh_tg h a8 = 103 ∧ (∃ n9, gm_ix x3 n9 (hh_ln h a8) ∧ (∀ h10, h10 = hh_wj h a8 n9 (hh_j h a5 n6) → (∀ r11, r11 = hh_r h10 a0 13 → (∀ r12, r12 = hh_r h10 a0 13 → (∃ a13, r12 = some a13 ∧ ((hh_tg h10 a13 = 100 ∨ hh_tg h10 a13 = 105) ∧ (∃ n14, gm_ix (x3 + (Int32.ofNat 1)) n14 (hh_ln h10 a13) ∧ (∃ a16, r11 = some a16 ∧ (hh_tg h10 a16 = 100 ∧ (∃ n17, gm_ix x3 n17 (hh_ln h10 a16) ∧ (∀ h18, h18 = hh_wi h10 a16 n17 (hh_i h10 a13 n14) → (gm_G 317 22 [some (.ref a0), none, none, some (.int (x3 + (Int32.ofNat 1)))] [] h18 Q))))))))))))))))))))))) : gm_G 317 22 [some (.ref a0), none, none, some (.int x3)] [] h Q := by
  refine g_iload rfl rfl rfl (pc' := 23) ?_
  refine g_aload (r := some _) rfl rfl rfl (pc' := 24) ?_
  obtain ⟨ht1, H⟩ := H
  refine g_getI rfl rfl rfl rfl ht1 (pc' := 27) rfl ?_
  refine g_ic_ge rfl (pc' := 30) (pt := 64) rfl rfl ⟨fun hc => ?_, fun hc => ?_⟩
  · replace H := H.1 hc
    exact g_return rfl H
  · replace H := H.2 hc
    refine g_aload (r := some _) rfl rfl rfl (pc' := 31) ?_
    obtain ⟨ht2, H⟩ := H
    refine g_getRv rfl rfl rfl rfl ht2 (pc' := 34) rfl (fun r3 hr3 => ?_)
    replace H := H r3 hr3
    refine g_iload rfl rfl rfl (pc' := 35) ?_
    refine g_aload (r := some _) rfl rfl rfl (pc' := 36) ?_
    refine g_getRv rfl rfl rfl rfl ht2 (pc' := 39) rfl (fun r4 hr4 => ?_)
    replace H := H r4 hr4
    refine g_iload rfl rfl rfl (pc' := 40) ?_
    refine g_iconst rfl rfl rfl (pc' := 41) ?_
    refine g_iadd rfl rfl (pc' := 42) ?_
    obtain ⟨a5, rfl, H⟩ := H
    obtain ⟨ht7, H⟩ := H
    obtain ⟨n6, hn6, H⟩ := H
    refine g_laload rfl ht7 hn6 (pc' := 43) rfl ?_
    obtain ⟨a8, rfl, H⟩ := H
    obtain ⟨ht20, H⟩ := H
    obtain ⟨n9, hn9, H⟩ := H
    refine g_lastore rfl ht20 hn9  (pc' := 44) rfl ?_
    replace H := H _ rfl
    refine g_aload (r := some _) rfl rfl rfl (pc' := 45) ?_
    refine g_getRv rfl rfl rfl rfl ht2 (pc' := 48) rfl (fun r11 hr11 => ?_)
    replace H := H r11 hr11
    refine g_iload rfl rfl rfl (pc' := 49) ?_
    refine g_aload (r := some _) rfl rfl rfl (pc' := 50) ?_
    refine g_getRv rfl rfl rfl rfl ht2 (pc' := 53) rfl (fun r12 hr12 => ?_)
    replace H := H r12 hr12
    refine g_iload rfl rfl rfl (pc' := 54) ?_
    refine g_iconst rfl rfl rfl (pc' := 55) ?_
    refine g_iadd rfl rfl (pc' := 56) ?_
    obtain ⟨a13, rfl, H⟩ := H
    obtain ⟨ht15, H⟩ := H
    obtain ⟨n14, hn14, H⟩ := H
    refine g_iaload rfl ht15 hn14 (pc' := 57) rfl ?_
    obtain ⟨a16, rfl, H⟩ := H
    obtain ⟨ht19, H⟩ := H
    obtain ⟨n17, hn17, H⟩ := H
    refine g_iastore rfl ht19 hn17  (pc' := 58) rfl ?_
    replace H := H _ rfl
    refine g_iinc (c := (Int32.ofNat 1)) rfl rfl rfl rfl rfl (pc' := 61) ?_
    refine g_goto rfl (pc' := 22) rfl ?_
    exact g_weak (show gm_Lle [some _, none, none, some _] _ from ⟨rfl, ⟨rfl, trivial⟩⟩) H
set_option maxRecDepth 20000 in
theorem w_318_0 {a0 : Nat} {r_1 : Option Nat} {h : hh_T} {Q : Option Value ⊕ Nat → hh_T → Prop} (H : gm_sub (hh_tg h a0) 25 = true ∧ (gm_G 193 0 [some (.ref a0), some (va_rf r_1)] [] h (pI (fun v3 h2 => (¬ v3 = Int32.ofNat 0 → ((∀ b, r_1 = some b → gm_sub (hh_tg h2 b) 27 = true) ∧ (gm_sub (hh_tg h2 a0) 27 = true ∧ (∃ a5, r_1 = some a5 ∧ (gm_sub (hh_tg h2 a5) 27 = true ∧ (((hh_i h2 a0 14) = (hh_i h2 a5 14) → (gm_G 318 30 [some (.ref a0), none, some (.ref a5), some (.int (Int32.ofNat 0))] [] h2 Q)) ∧ (¬ (hh_i h2 a0 14) = (hh_i h2 a5 14) → (Q (.inl (some (.int (Int32.ofNat 0)))) h2)))))))) ∧ (v3 = Int32.ofNat 0 → (Q (.inl (some (.int (Int32.ofNat 0)))) h2))) (fun e7 h8 => hh_tg h8 e7 = 21 ∧ Q (.inr e7) h8)))) : gm_G 318 0 [some (.ref a0), some (va_rf r_1)] [] h Q := by
  refine g_aload (r := some _) rfl rfl rfl (pc' := 1) ?_
  refine g_aload (r := _) rfl rfl rfl (pc' := 2) ?_
  obtain ⟨ht1, H⟩ := H
  refine g_call rfl (y := 193) (n := 2) (pc' := 5) (fun _ => if_pos ht1) (by cases r_1 <;> rfl) rfl ⟨(Nat.le_of_ble_eq_true rfl), (Nat.le_of_ble_eq_true rfl), (Nat.le_of_ble_eq_true rfl)⟩ rfl (gm_G.mono H (pI_elim (fun v3 h2 H' => ?_) (fun e7 h8 H => ?_)))
  · show gm_G _ 5 _ _ _ _
    replace H := H'
    clear H'
    refine g_if_ne rfl (pc' := 8) (pt := 10) rfl rfl ⟨fun hc => ?_, fun hc => ?_⟩
    · replace H := H.1 hc
      refine g_aload (r := _) rfl rfl rfl (pc' := 11) ?_
      obtain ⟨Hc, H⟩ := H
      refine g_cast rfl Hc (pc' := 14) rfl ?_
      refine g_astore (r := _) rfl gm_sto_rf1 rfl (pc' := 15) ?_
      refine g_aload (r := some _) rfl rfl rfl (pc' := 16) ?_
      obtain ⟨ht4, H⟩ := H
      refine g_getI rfl rfl rfl rfl ht4 (pc' := 19) rfl ?_
      refine g_aload (r := _) rfl rfl rfl (pc' := 20) ?_
      obtain ⟨a5, rfl, H⟩ := H
      obtain ⟨ht6, H⟩ := H
      refine g_getI rfl rfl rfl rfl ht6 (pc' := 23) rfl ?_
      refine g_ic_eq rfl (pc' := 26) (pt := 28) rfl rfl ⟨fun hc => ?_, fun hc => ?_⟩
      · replace H := H.1 hc
        refine g_iconst rfl rfl rfl (pc' := 29) ?_
        refine g_istore rfl rfl rfl (pc' := 30) ?_
        exact g_weak (show gm_Lle [some _, none, some _, some _] _ from ⟨rfl, ⟨rfl, ⟨rfl, trivial⟩⟩⟩) H
      · replace H := H.2 hc
        refine g_iconst rfl rfl rfl (pc' := 27) ?_
        exact g_ireturn rfl (Or.inr (by decide)) H
    · replace H := H.2 hc
      refine g_iconst rfl rfl rfl (pc' := 9) ?_
      exact g_ireturn rfl (Or.inr (by decide)) H
  · exact H
set_option maxRecDepth 20000 in
theorem w_318_30 {a0 : Nat} {r_2 : Option Nat} {x3 : Int32} {h : hh_T} {Q : Option Value ⊕ Nat → hh_T → Prop} (H : gm_sub (hh_tg h a0) 25 = true ∧ ((¬ x3 < (hh_i h a0 6) → (Q (.inl (some (.int (Int32.ofNat 1)))) h)) ∧ (x3 < (hh_i h a0 6) → (gm_sub (hh_tg h a0) 27 = true ∧ (∀ r3, r3 = hh_r h a0 12 → (∃ a4, r3 = some a4 ∧ ((hh_tg h a4 = 103) ∧ (∃ n5, gm_ix x3 n5 (hh_ln h a4) ∧ (∃ a7, r_2 = some a7 ∧ (gm_sub (hh_tg h a7) 27 = true ∧ (∀ r9, r9 = hh_r h a7 12 → (∃ a10, r9 = some a10 ∧ ((hh_tg h a10 = 103) ∧ (∃ n11, gm_ix x3 n11 (hh_ln h a10) ∧ ((¬ (lg_cmp (hh_j h a4 n5) (hh_j h a10 n11)) = Int32.ofNat 0 → (Q (.inl (some (.int (Int32.ofNat 0)))) h)) ∧ ((lg_cmp (hh_j h a4 n5) (hh_j h a10 n11)) = Int32.ofNat 0 → (∀ r13, r13 = hh_r h a0 13 → (∃ a14, r13 = some a14 ∧ ((hh_tg h a14 = 100 ∨ hh_tg h a14 = 105) ∧ (∃ n15, gm_ix x3 n15 (hh_ln h a14) ∧ (∀ r17, r17 = hh_r h a7 13 → (∃ a18, r17 = some a18 ∧ ((hh_tg h a18 = 100 ∨ hh_tg h a18 = 105) ∧ (∃ n19, gm_ix x3 n19 (hh_ln h a18) ∧ (((hh_i h a14 n15) = (hh_i h a18 n19) → (gm_G 318 30 [some (.ref a0), none, some (.ref a7), some (.int (x3 + (Int32.ofNat 1)))] [] h Q)) ∧ (¬ (hh_i h a14 n15) = (hh_i h a18 n19) → (Q (.inl (some (.int (Int32.ofNat 0)))) h))))))))))))))))))))))))))) : gm_G 318 30 [some (.ref a0), none, some (va_rf r_2), some (.int x3)] [] h Q := by
  refine g_iload rfl rfl rfl (pc' := 31) ?_
  refine g_aload (r := some _) rfl rfl rfl (pc' := 32) ?_
  obtain ⟨ht1, H⟩ := H
  refine g_getI rfl rfl rfl rfl ht1 (pc' := 35) rfl ?_
  refine g_ic_ge rfl (pc' := 38) (pt := 77) rfl rfl ⟨fun hc => ?_, fun hc => ?_⟩
  · replace H := H.1 hc
    refine g_iconst rfl rfl rfl (pc' := 78) ?_
    exact g_ireturn rfl (Or.inr (by decide)) H
  · replace H := H.2 hc
    refine g_aload (r := some _) rfl rfl rfl (pc' := 39) ?_
    obtain ⟨ht2, H⟩ := H
    refine g_getRv rfl rfl rfl rfl ht2 (pc' := 42) rfl (fun r3 hr3 => ?_)
    replace H := H r3 hr3
    refine g_iload rfl rfl rfl (pc' := 43) ?_
    obtain ⟨a4, rfl, H⟩ := H
    obtain ⟨ht6, H⟩ := H
    obtain ⟨n5, hn5, H⟩ := H
    refine g_laload rfl ht6 hn5 (pc' := 44) rfl ?_
    refine g_aload (r := _) rfl rfl rfl (pc' := 45) ?_
    obtain ⟨a7, rfl, H⟩ := H
    obtain ⟨ht8, H⟩ := H
    refine g_getRv rfl rfl rfl rfl ht8 (pc' := 48) rfl (fun r9 hr9 => ?_)
    replace H := H r9 hr9
    refine g_iload rfl rfl rfl (pc' := 49) ?_
    obtain ⟨a10, rfl, H⟩ := H
    obtain ⟨ht12, H⟩ := H
    obtain ⟨n11, hn11, H⟩ := H
    refine g_laload rfl ht12 hn11 (pc' := 50) rfl ?_
    refine g_lcmp rfl rfl (pc' := 51) ?_
    refine g_if_ne rfl (pc' := 54) (pt := 69) rfl rfl ⟨fun hc => ?_, fun hc => ?_⟩
    · replace H := H.1 hc
      refine g_iconst rfl rfl rfl (pc' := 70) ?_
      exact g_ireturn rfl (Or.inr (by decide)) H
    · replace H := H.2 hc
      refine g_aload (r := some _) rfl rfl rfl (pc' := 55) ?_
      refine g_getRv rfl rfl rfl rfl ht2 (pc' := 58) rfl (fun r13 hr13 => ?_)
      replace H := H r13 hr13
      refine g_iload rfl rfl rfl (pc' := 59) ?_
      obtain ⟨a14, rfl, H⟩ := H
      obtain ⟨ht16, H⟩ := H
      obtain ⟨n15, hn15, H⟩ := H
      refine g_iaload rfl ht16 hn15 (pc' := 60) rfl ?_
      refine g_aload (r := some _) rfl rfl rfl (pc' := 61) ?_
      refine g_getRv rfl rfl rfl rfl ht8 (pc' := 64) rfl (fun r17 hr17 => ?_)
      replace H := H r17 hr17
      refine g_iload rfl rfl rfl (pc' := 65) ?_
      obtain ⟨a18, rfl, H⟩ := H
      obtain ⟨ht20, H⟩ := H
      obtain ⟨n19, hn19, H⟩ := H
      refine g_iaload rfl ht20 hn19 (pc' := 66) rfl ?_
      refine g_ic_eq rfl (pc' := 69) (pt := 71) rfl rfl ⟨fun hc => ?_, fun hc => ?_⟩
      · replace H := H.1 hc
        refine g_iinc (c := (Int32.ofNat 1)) rfl rfl rfl rfl rfl (pc' := 74) ?_
        refine g_goto rfl (pc' := 30) rfl ?_
        exact g_weak (show gm_Lle [some _, none, some _, some _] _ from ⟨rfl, ⟨rfl, ⟨rfl, trivial⟩⟩⟩) H
      · replace H := H.2 hc
        refine g_iconst rfl rfl rfl (pc' := 70) ?_
        exact g_ireturn rfl (Or.inr (by decide)) H
set_option maxRecDepth 20000 in
theorem w_319_0 {a0 : Nat}  {h : hh_T} {Q : Option Value ⊕ Nat → hh_T → Prop} (H : gm_G 190 0 [some (.ref a0)] [] h (pV (fun h1 => ∀ a2 h3, a2 = hh_sz h1 → h3 = hh_al h1 101 24 24 → (gm_sub (hh_tg h3 a0) 28 = true ∧ (∀ h5, h5 = hh_wr h3 a0 12 (some a2) → (Q (.inl none) h5)))) (fun e6 h7 => hh_tg h7 e6 = 21 ∧ Q (.inr e6) h7))) : gm_G 319 0 [some (.ref a0)] [] h Q := by
  refine g_aload (r := some _) rfl rfl rfl (pc' := 1) ?_
  refine g_call rfl (y := 190) (n := 1) (pc' := 4) (fun _ => rfl) rfl rfl ⟨(Nat.le_of_ble_eq_true rfl), (Nat.le_of_ble_eq_true rfl), (Nat.le_of_ble_eq_true rfl)⟩ rfl (gm_G.mono H (pV_elim (fun h1 H' => ?_) (fun e6 h7 H => ?_)))
  · show gm_G _ 4 _ _ _ _
    replace H := H'
    clear H'
    refine g_aload (r := some _) rfl rfl rfl (pc' := 5) ?_
    refine g_iconst rfl rfl rfl (pc' := 7) ?_
    refine g_newarray rfl (u := 101) (n := 24) rfl (by decide) rfl (by decide) (pc' := 9) rfl ?_
    replace H := H _ _ rfl rfl
    obtain ⟨ht4, H⟩ := H
    refine g_putR (x := some _) rfl rfl rfl rfl ht4  (pc' := 12) rfl ?_
    replace H := H _ rfl
    exact g_return rfl H
  · exact H
set_option maxRecDepth 20000 in
theorem w_320_0 {a0 : Nat} {r_1 : Option Nat} {h : hh_T} {Q : Option Value ⊕ Nat → hh_T → Prop} (H : gm_sub (hh_tg h a0) 25 = true ∧ (gm_G 192 0 [some (.ref a0), some (va_rf r_1)] [] h (pV (fun h2 => gm_G 320 7 [some (.ref a0), some (va_rf r_1), some (.int (Int32.ofNat 0))] [] h2 Q) (fun e3 h4 => hh_tg h4 e3 = 21 ∧ Q (.inr e3) h4)))) : gm_G 320 0 [some (.ref a0), some (va_rf r_1)] [] h Q := by
  refine g_aload (r := some _) rfl rfl rfl (pc' := 1) ?_
  refine g_aload (r := _) rfl rfl rfl (pc' := 2) ?_
  obtain ⟨ht1, H⟩ := H
  refine g_call rfl (y := 192) (n := 2) (pc' := 5) (fun _ => if_pos ht1) (by cases r_1 <;> rfl) rfl ⟨(Nat.le_of_ble_eq_true rfl), (Nat.le_of_ble_eq_true rfl), (Nat.le_of_ble_eq_true rfl)⟩ rfl (gm_G.mono H (pV_elim (fun h2 H' => ?_) (fun e3 h4 H => ?_)))
  · show gm_G _ 5 _ _ _ _
    replace H := H'
    clear H'
    refine g_iconst rfl rfl rfl (pc' := 6) ?_
    refine g_istore rfl gm_sto_rf1 rfl (pc' := 7) ?_
    exact g_weak (show gm_Lle [some _, some _, some _] _ from ⟨rfl, ⟨rfl, ⟨rfl, trivial⟩⟩⟩) H
  · exact H
set_option maxRecDepth 20000 in
theorem w_320_7 {a0 : Nat} {r_1 : Option Nat} {x2 : Int32} {h : hh_T} {Q : Option Value ⊕ Nat → hh_T → Prop} (H : gm_sub (hh_tg h a0) 25 = true ∧ ((¬ x2 < (hh_i h a0 6) → (Q (.inl none) h)) ∧ (x2 < (hh_i h a0 6) → (gm_sub (hh_tg h a0) 28 = true ∧ (∀ r3, r3 = hh_r h a0 12 → ((∀ b, r_1 = some b → gm_sub (hh_tg h b) 28 = true) ∧ (∃ a4, r_1 = some a4 ∧ (gm_sub (hh_tg h a4) 28 = true ∧ (∀ r6, r6 = hh_r h a4 12 → (∃ a7, r6 = some a7 ∧ ((hh_tg h a7 = 101 ∨ hh_tg h a7 = 102) ∧ (∃ n8, gm_ix x2 n8 (hh_ln h a7) ∧ (∃ a10, r3 = some a10 ∧ (hh_tg h a10 = 101 ∧ (∃ n11, gm_ix x2 n11 (hh_ln h a10) ∧ (∀ h12, h12 = hh_wi h a10 n11 ((hh_i h a7 n8).toInt8.toInt32) → (gm_G 320 7 [some (.ref a0), some (.ref a4), some (.int (x2 + (Int32.ofNat 1)))] [] h12 Q))))))))))))))))) : gm_G 320 7 [some (.ref a0), some (va_rf r_1), some (.int x2)] [] h Q := by
  refine g_iload rfl rfl rfl (pc' := 8) ?_
  refine g_aload (r := some _) rfl rfl rfl (pc' := 9) ?_
  obtain ⟨ht1, H⟩ := H
  refine g_getI rfl rfl rfl rfl ht1 (pc' := 12) rfl ?_
  refine g_ic_ge rfl (pc' := 15) (pt := 36) rfl rfl ⟨fun hc => ?_, fun hc => ?_⟩
  · replace H := H.1 hc
    exact g_return rfl H
  · replace H := H.2 hc
    refine g_aload (r := some _) rfl rfl rfl (pc' := 16) ?_
    obtain ⟨ht2, H⟩ := H
    refine g_getRv rfl rfl rfl rfl ht2 (pc' := 19) rfl (fun r3 hr3 => ?_)
    replace H := H r3 hr3
    refine g_iload rfl rfl rfl (pc' := 20) ?_
    refine g_aload (r := _) rfl rfl rfl (pc' := 21) ?_
    obtain ⟨Hc, H⟩ := H
    refine g_cast rfl Hc (pc' := 24) rfl ?_
    obtain ⟨a4, rfl, H⟩ := H
    obtain ⟨ht5, H⟩ := H
    refine g_getRv rfl rfl rfl rfl ht5 (pc' := 27) rfl (fun r6 hr6 => ?_)
    replace H := H r6 hr6
    refine g_iload rfl rfl rfl (pc' := 28) ?_
    obtain ⟨a7, rfl, H⟩ := H
    obtain ⟨ht9, H⟩ := H
    obtain ⟨n8, hn8, H⟩ := H
    refine g_baload rfl ht9 hn8 (pc' := 29) rfl ?_
    obtain ⟨a10, rfl, H⟩ := H
    obtain ⟨ht13, H⟩ := H
    obtain ⟨n11, hn11, H⟩ := H
    refine g_bastore rfl ht13 hn11  (pc' := 30) rfl ?_
    replace H := H _ rfl
    refine g_iinc (c := (Int32.ofNat 1)) rfl rfl rfl rfl rfl (pc' := 33) ?_
    refine g_goto rfl (pc' := 7) rfl ?_
    exact g_weak (show gm_Lle [some _, some _, some _] _ from ⟨rfl, ⟨rfl, ⟨rfl, trivial⟩⟩⟩) H
set_option maxRecDepth 20000 in
theorem w_321_0 {a0 : Nat} {r_1 : Option Nat} {h : hh_T} {Q : Option Value ⊕ Nat → hh_T → Prop} (H : gm_sub (hh_tg h a0) 25 = true ∧ (gm_G 193 0 [some (.ref a0), some (va_rf r_1)] [] h (pI (fun v3 h2 => (¬ v3 = Int32.ofNat 0 → ((∀ b, r_1 = some b → gm_sub (hh_tg h2 b) 28 = true) ∧ (∃ a4, r_1 = some a4 ∧ (gm_sub (hh_tg h2 a4) 28 = true ∧ (∀ r6, r6 = hh_r h2 a4 12 → (gm_G 321 20 [some (.ref a0), none, some (va_rf r6), some (.int (Int32.ofNat 0))] [] h2 Q)))))) ∧ (v3 = Int32.ofNat 0 → (Q (.inl (some (.int (Int32.ofNat 0)))) h2))) (fun e7 h8 => hh_tg h8 e7 = 21 ∧ Q (.inr e7) h8)))) : gm_G 321 0 [some (.ref a0), some (va_rf r_1)] [] h Q := by
  refine g_aload (r := some _) rfl rfl rfl (pc' := 1) ?_
  refine g_aload (r := _) rfl rfl rfl (pc' := 2) ?_
  obtain ⟨ht1, H⟩ := H
  refine g_call rfl (y := 193) (n := 2) (pc' := 5) (fun _ => if_pos ht1) (by cases r_1 <;> rfl) rfl ⟨(Nat.le_of_ble_eq_true rfl), (Nat.le_of_ble_eq_true rfl), (Nat.le_of_ble_eq_true rfl)⟩ rfl (gm_G.mono H (pI_elim (fun v3 h2 H' => ?_) (fun e7 h8 H => ?_)))
  · show gm_G _ 5 _ _ _ _
    replace H := H'
    clear H'
    refine g_if_ne rfl (pc' := 8) (pt := 10) rfl rfl ⟨fun hc => ?_, fun hc => ?_⟩
    · replace H := H.1 hc
      refine g_aload (r := _) rfl rfl rfl (pc' := 11) ?_
      obtain ⟨Hc, H⟩ := H
      refine g_cast rfl Hc (pc' := 14) rfl ?_
      obtain ⟨a4, rfl, H⟩ := H
      obtain ⟨ht5, H⟩ := H
      refine g_getRv rfl rfl rfl rfl ht5 (pc' := 17) rfl (fun r6 hr6 => ?_)
      replace H := H r6 hr6
      refine g_astore (r := _) rfl rfl rfl (pc' := 18) ?_
      refine g_iconst rfl rfl rfl (pc' := 19) ?_
      refine g_istore rfl gm_sto_rf2 rfl (pc' := 20) ?_
      exact g_weak (show gm_Lle [some _, none, some _, some _] _ from ⟨rfl, ⟨rfl, ⟨rfl, trivial⟩⟩⟩) H
    · replace H := H.2 hc
      refine g_iconst rfl rfl rfl (pc' := 9) ?_
      exact g_ireturn rfl (Or.inr (by decide)) H
  · exact H
set_option maxRecDepth 20000 in
theorem w_321_20 {a0 : Nat} {r_2 : Option Nat} {x3 : Int32} {h : hh_T} {Q : Option Value ⊕ Nat → hh_T → Prop} (H : gm_sub (hh_tg h a0) 25 = true ∧ ((¬ x3 < (hh_i h a0 6) → (Q (.inl (some (.int (Int32.ofNat 1)))) h)) ∧ (x3 < (hh_i h a0 6) → (gm_sub (hh_tg h a0) 28 = true ∧ (∀ r3, r3 = hh_r h a0 12 → (∃ a4, r3 = some a4 ∧ ((hh_tg h a4 = 101 ∨ hh_tg h a4 = 102) ∧ (∃ n5, gm_ix x3 n5 (hh_ln h a4) ∧ (∃ a7, r_2 = some a7 ∧ ((hh_tg h a7 = 101 ∨ hh_tg h a7 = 102) ∧ (∃ n8, gm_ix x3 n8 (hh_ln h a7) ∧ (((hh_i h a4 n5) = (hh_i h a7 n8) → (gm_G 321 20 [some (.ref a0), none, some (.ref a7), some (.int (x3 + (Int32.ofNat 1)))] [] h Q)) ∧ (¬ (hh_i h a4 n5) = (hh_i h a7 n8) → (Q (.inl (some (.int (Int32.ofNat 0)))) h)))))))))))))) : gm_G 321 20 [some (.ref a0), none, some (va_rf r_2), some (.int x3)] [] h Q := by
  refine g_iload rfl rfl rfl (pc' := 21) ?_
  refine g_aload (r := some _) rfl rfl rfl (pc' := 22) ?_
  obtain ⟨ht1, H⟩ := H
  refine g_getI rfl rfl rfl rfl ht1 (pc' := 25) rfl ?_
  refine g_ic_ge rfl (pc' := 28) (pt := 48) rfl rfl ⟨fun hc => ?_, fun hc => ?_⟩
  · replace H := H.1 hc
    refine g_iconst rfl rfl rfl (pc' := 49) ?_
    exact g_ireturn rfl (Or.inr (by decide)) H
  · replace H := H.2 hc
    refine g_aload (r := some _) rfl rfl rfl (pc' := 29) ?_
    obtain ⟨ht2, H⟩ := H
    refine g_getRv rfl rfl rfl rfl ht2 (pc' := 32) rfl (fun r3 hr3 => ?_)
    replace H := H r3 hr3
    refine g_iload rfl rfl rfl (pc' := 33) ?_
    obtain ⟨a4, rfl, H⟩ := H
    obtain ⟨ht6, H⟩ := H
    obtain ⟨n5, hn5, H⟩ := H
    refine g_baload rfl ht6 hn5 (pc' := 34) rfl ?_
    refine g_aload (r := _) rfl rfl rfl (pc' := 35) ?_
    refine g_iload rfl rfl rfl (pc' := 36) ?_
    obtain ⟨a7, rfl, H⟩ := H
    obtain ⟨ht9, H⟩ := H
    obtain ⟨n8, hn8, H⟩ := H
    refine g_baload rfl ht9 hn8 (pc' := 37) rfl ?_
    refine g_ic_eq rfl (pc' := 40) (pt := 42) rfl rfl ⟨fun hc => ?_, fun hc => ?_⟩
    · replace H := H.1 hc
      refine g_iinc (c := (Int32.ofNat 1)) rfl rfl rfl rfl rfl (pc' := 45) ?_
      refine g_goto rfl (pc' := 20) rfl ?_
      exact g_weak (show gm_Lle [some _, none, some _, some _] _ from ⟨rfl, ⟨rfl, ⟨rfl, trivial⟩⟩⟩) H
    · replace H := H.2 hc
      refine g_iconst rfl rfl rfl (pc' := 41) ?_
      exact g_ireturn rfl (Or.inr (by decide)) H
set_option maxRecDepth 20000 in
theorem w_322_0 {a0 : Nat}  {h : hh_T} {Q : Option Value ⊕ Nat → hh_T → Prop} (H : gm_sub (hh_tg h a0) 32 = true ∧ (∀ h2, h2 = hh_wi h a0 1 ((hh_i h a0 1) + (Int32.ofNat 1)) → (∀ r3, r3 = hh_r h2 a0 0 → (∃ a4, r3 = some a4 ∧ (hh_tg h2 a4 = 13 ∧ (gm_G 63 0 [some (.ref a4), some (.int ((hh_i h2 a0 1) - (Int32.ofNat 1)))] [] h2 (pI (fun v7 h6 => Q (.inl (some (.int v7))) h6) (fun e8 h9 => hh_tg h9 e8 = 21 ∧ Q (.inr e8) h9)))))))) : gm_G 322 0 [some (.ref a0)] [] h Q := by
  refine g_aload (r := some _) rfl rfl rfl (pc' := 1) ?_
  refine g_dup_a (r := some _) rfl rfl (pc' := 2) ?_
  obtain ⟨ht1, H⟩ := H
  refine g_getI rfl rfl rfl rfl ht1 (pc' := 5) rfl ?_
  refine g_iconst rfl rfl rfl (pc' := 6) ?_
  refine g_iadd rfl rfl (pc' := 7) ?_
  refine g_putI rfl rfl rfl rfl ht1  (pc' := 10) rfl ?_
  replace H := H _ rfl
  refine g_aload (r := some _) rfl rfl rfl (pc' := 11) ?_
  refine g_getRv rfl rfl rfl rfl ht1 (pc' := 14) rfl (fun r3 hr3 => ?_)
  replace H := H r3 hr3
  refine g_aload (r := some _) rfl rfl rfl (pc' := 15) ?_
  refine g_getI rfl rfl rfl rfl ht1 (pc' := 18) rfl ?_
  refine g_iconst rfl rfl rfl (pc' := 19) ?_
  refine g_isub rfl rfl (pc' := 20) ?_
  obtain ⟨a4, rfl, H⟩ := H
  obtain ⟨ht5, H⟩ := H
  refine g_call rfl (y := 63) (n := 2) (pc' := 23) (g_vt ht5 rfl rfl) rfl rfl ⟨(Nat.le_of_ble_eq_true rfl), (Nat.le_of_ble_eq_true rfl), (Nat.le_of_ble_eq_true rfl)⟩ rfl (gm_G.mono H (pI_elim (fun v7 h6 H' => ?_) (fun e8 h9 H => ?_)))
  · show gm_G _ 23 _ _ _ _
    replace H := H'
    clear H'
    exact g_ireturn rfl (Or.inl rfl) H
  · exact H
set_option maxRecDepth 20000 in
theorem w_323_0 {a0 : Nat} {r_1 : Option Nat} {x2 : Int32} {x3 : Int32} {x4 : Int32} {x5 : Int32} {j6 : Int64} {r_8 : Option Nat} {h : hh_T} {Q : Option Value ⊕ Nat → hh_T → Prop} (H : gm_sub (hh_tg h a0) 34 = true ∧ (∀ h2, h2 = hh_wr h a0 9 r_1 → (gm_G 205 0 [some (.ref a0), some (va_rf r_1), some (.int x2)] [] h2 (pV (fun h3 => gm_sub (hh_tg h3 a0) 34 = true ∧ (∀ h5, h5 = hh_wi h3 a0 3 x3 → (∀ h6, h6 = hh_wi h5 a0 4 x4 → (∀ h7, h7 = hh_wi h6 a0 5 x5 → (gm_G 323 28 [some (.ref a0), none, none, none, none, none, some (.long j6), none, some (va_rf r_8)] [] h7 Q))))) (fun e8 h9 => hh_tg h9 e8 = 21 ∧ Q (.inr e8) h9))))) : gm_G 323 0 [some (.ref a0), some (va_rf r_1), some (.int x2), some (.int x3), some (.int x4), some (.int x5), some (.long j6), none, some (va_rf r_8)] [] h Q := by
  refine g_aload (r := some _) rfl rfl rfl (pc' := 1) ?_
  refine g_aload (r := _) rfl rfl rfl (pc' := 2) ?_
  obtain ⟨ht1, H⟩ := H
  refine g_putR rfl rfl rfl rfl ht1  (pc' := 5) rfl ?_
  replace H := H _ rfl
  refine g_aload (r := some _) rfl rfl rfl (pc' := 6) ?_
  refine g_aload (r := _) rfl rfl rfl (pc' := 7) ?_
  refine g_iload rfl rfl rfl (pc' := 8) ?_
  refine g_call rfl (y := 205) (n := 3) (pc' := 11) (fun _ => rfl) (by cases r_1 <;> rfl) rfl ⟨(Nat.le_of_ble_eq_true rfl), (Nat.le_of_ble_eq_true rfl), (Nat.le_of_ble_eq_true rfl)⟩ rfl (gm_G.mono H (pV_elim (fun h3 H' => ?_) (fun e8 h9 H => ?_)))
  · show gm_G _ 11 _ _ _ _
    replace H := H'
    clear H'
    refine g_aload (r := some _) rfl rfl rfl (pc' := 12) ?_
    refine g_iload rfl rfl rfl (pc' := 13) ?_
    obtain ⟨ht4, H⟩ := H
    refine g_putI rfl rfl rfl rfl ht4  (pc' := 16) rfl ?_
    replace H := H _ rfl
    refine g_aload (r := some _) rfl rfl rfl (pc' := 17) ?_
    refine g_iload rfl rfl rfl (pc' := 19) ?_
    refine g_putI rfl rfl rfl rfl ht4  (pc' := 22) rfl ?_
    replace H := H _ rfl
    refine g_aload (r := some _) rfl rfl rfl (pc' := 23) ?_
    refine g_iload rfl rfl rfl (pc' := 25) ?_
    refine g_putI rfl rfl rfl rfl ht4  (pc' := 28) rfl ?_
    replace H := H _ rfl
    exact g_weak (show gm_Lle [some _, none, none, none, none, none, some _, none, some _] _ from ⟨rfl, ⟨rfl, ⟨rfl, trivial⟩⟩⟩) H
  · exact H
set_option maxRecDepth 20000 in
theorem w_323_28 {a0 : Nat} {j6 : Int64} {r_8 : Option Nat} {h : hh_T} {Q : Option Value ⊕ Nat → hh_T → Prop} (H : gm_sub (hh_tg h a0) 34 = true ∧ (∀ h2, h2 = hh_wj h a0 6 j6 → (∀ h3, h3 = hh_wr h2 a0 7 r_8 → (Q (.inl none) h3)))) : gm_G 323 28 [some (.ref a0), none, none, none, none, none, some (.long j6), none, some (va_rf r_8)] [] h Q := by
  refine g_aload (r := some _) rfl rfl rfl (pc' := 29) ?_
  refine g_lload rfl rfl rfl (pc' := 31) ?_
  obtain ⟨ht1, H⟩ := H
  refine g_putJ rfl rfl rfl rfl ht1  (pc' := 34) rfl ?_
  replace H := H _ rfl
  refine g_aload (r := some _) rfl rfl rfl (pc' := 35) ?_
  refine g_aload (r := _) rfl rfl rfl (pc' := 37) ?_
  refine g_putR rfl rfl rfl rfl ht1  (pc' := 40) rfl ?_
  replace H := H _ rfl
  exact g_return rfl H
set_option maxRecDepth 20000 in
theorem w_324_0 {a0 : Nat} {r_1 : Option Nat} {x2 : Int32} {j3 : Int64} {x5 : Int32} {h : hh_T} {Q : Option Value ⊕ Nat → hh_T → Prop} (H : gm_sub (hh_tg h a0) 35 = true ∧ (∀ h2, h2 = hh_wr h a0 6 r_1 → (∃ a3, r_1 = some a3 ∧ (gm_sub (hh_tg h2 a3) 0 = true ∧ (gm_G 205 0 [some (.ref a0), some (.ref a3), some (.int (hh_i h2 a3 41))] [] h2 (pV (fun h5 => gm_sub (hh_tg h5 a0) 35 = true ∧ (∀ h7, h7 = hh_wi h5 a0 3 x2 → (∀ h8, h8 = hh_wj h7 a0 5 j3 → (∀ h9, h9 = hh_wi h8 a0 4 x5 → (gm_G 324 30 [] [] h9 Q))))) (fun e10 h11 => hh_tg h11 e10 = 21 ∧ Q (.inr e10) h11))))))) : gm_G 324 0 [some (.ref a0), some (va_rf r_1), some (.int x2), some (.long j3), none, some (.int x5)] [] h Q := by
  refine g_aload (r := some _) rfl rfl rfl (pc' := 1) ?_
  refine g_aload (r := _) rfl rfl rfl (pc' := 2) ?_
  obtain ⟨ht1, H⟩ := H
  refine g_putR rfl rfl rfl rfl ht1  (pc' := 5) rfl ?_
  replace H := H _ rfl
  refine g_aload (r := some _) rfl rfl rfl (pc' := 6) ?_
  refine g_aload (r := _) rfl rfl rfl (pc' := 7) ?_
  refine g_aload (r := _) rfl rfl rfl (pc' := 8) ?_
  obtain ⟨a3, rfl, H⟩ := H
  obtain ⟨ht4, H⟩ := H
  refine g_getI rfl rfl rfl rfl ht4 (pc' := 11) rfl ?_
  refine g_call rfl (y := 205) (n := 3) (pc' := 14) (fun _ => rfl) rfl rfl ⟨(Nat.le_of_ble_eq_true rfl), (Nat.le_of_ble_eq_true rfl), (Nat.le_of_ble_eq_true rfl)⟩ rfl (gm_G.mono H (pV_elim (fun h5 H' => ?_) (fun e10 h11 H => ?_)))
  · show gm_G _ 14 _ _ _ _
    replace H := H'
    clear H'
    refine g_aload (r := some _) rfl rfl rfl (pc' := 15) ?_
    refine g_iload rfl rfl rfl (pc' := 16) ?_
    obtain ⟨ht6, H⟩ := H
    refine g_putI rfl rfl rfl rfl ht6  (pc' := 19) rfl ?_
    replace H := H _ rfl
    refine g_aload (r := some _) rfl rfl rfl (pc' := 20) ?_
    refine g_lload rfl rfl rfl (pc' := 21) ?_
    refine g_putJ rfl rfl rfl rfl ht6  (pc' := 24) rfl ?_
    replace H := H _ rfl
    refine g_aload (r := some _) rfl rfl rfl (pc' := 25) ?_
    refine g_iload rfl rfl rfl (pc' := 27) ?_
    refine g_putI rfl rfl rfl rfl ht6  (pc' := 30) rfl ?_
    replace H := H _ rfl
    exact g_weak (show gm_Lle [] _ from trivial) H
  · exact H
set_option maxRecDepth 20000 in
theorem w_324_30 {a0 : Nat}  {h : hh_T} {Q : Option Value ⊕ Nat → hh_T → Prop} (H : Q (.inl none) h) : gm_G 324 30 [] [] h Q := by
  exact g_return rfl H
set_option maxRecDepth 20000 in
theorem w_325_0 {a0 : Nat} {r_1 : Option Nat} {x2 : Int32} {j3 : Int64} {h : hh_T} {Q : Option Value ⊕ Nat → hh_T → Prop} (H : gm_sub (hh_tg h a0) 36 = true ∧ (∀ h2, h2 = hh_wr h a0 5 r_1 → (∃ a3, r_1 = some a3 ∧ (gm_sub (hh_tg h2 a3) 0 = true ∧ (gm_G 205 0 [some (.ref a0), some (.ref a3), some (.int (hh_i h2 a3 41))] [] h2 (pV (fun h5 => gm_sub (hh_tg h5 a0) 36 = true ∧ (∀ h7, h7 = hh_wi h5 a0 3 x2 → (∀ h8, h8 = hh_wj h7 a0 4 j3 → (Q (.inl none) h8)))) (fun e9 h10 => hh_tg h10 e9 = 21 ∧ Q (.inr e9) h10))))))) : gm_G 325 0 [some (.ref a0), some (va_rf r_1), some (.int x2), some (.long j3), none] [] h Q := by
  refine g_aload (r := some _) rfl rfl rfl (pc' := 1) ?_
  refine g_aload (r := _) rfl rfl rfl (pc' := 2) ?_
  obtain ⟨ht1, H⟩ := H
  refine g_putR rfl rfl rfl rfl ht1  (pc' := 5) rfl ?_
  replace H := H _ rfl
  refine g_aload (r := some _) rfl rfl rfl (pc' := 6) ?_
  refine g_aload (r := _) rfl rfl rfl (pc' := 7) ?_
  refine g_aload (r := _) rfl rfl rfl (pc' := 8) ?_
  obtain ⟨a3, rfl, H⟩ := H
  obtain ⟨ht4, H⟩ := H
  refine g_getI rfl rfl rfl rfl ht4 (pc' := 11) rfl ?_
  refine g_call rfl (y := 205) (n := 3) (pc' := 14) (fun _ => rfl) rfl rfl ⟨(Nat.le_of_ble_eq_true rfl), (Nat.le_of_ble_eq_true rfl), (Nat.le_of_ble_eq_true rfl)⟩ rfl (gm_G.mono H (pV_elim (fun h5 H' => ?_) (fun e9 h10 H => ?_)))
  · show gm_G _ 14 _ _ _ _
    replace H := H'
    clear H'
    refine g_aload (r := some _) rfl rfl rfl (pc' := 15) ?_
    refine g_iload rfl rfl rfl (pc' := 16) ?_
    obtain ⟨ht6, H⟩ := H
    refine g_putI rfl rfl rfl rfl ht6  (pc' := 19) rfl ?_
    replace H := H _ rfl
    refine g_aload (r := some _) rfl rfl rfl (pc' := 20) ?_
    refine g_lload rfl rfl rfl (pc' := 21) ?_
    refine g_putJ rfl rfl rfl rfl ht6  (pc' := 24) rfl ?_
    replace H := H _ rfl
    exact g_return rfl H
  · exact H
set_option maxRecDepth 20000 in
theorem w_326_0 {a0 : Nat} {r_1 : Option Nat} {x2 : Int32} {j3 : Int64} {x5 : Int32} {j6 : Int64} {h : hh_T} {Q : Option Value ⊕ Nat → hh_T → Prop} (H : gm_sub (hh_tg h a0) 37 = true ∧ (∀ h2, h2 = hh_wr h a0 7 r_1 → (∃ a3, r_1 = some a3 ∧ (gm_sub (hh_tg h2 a3) 0 = true ∧ (gm_G 205 0 [some (.ref a0), some (.ref a3), some (.int (hh_i h2 a3 41))] [] h2 (pV (fun h5 => gm_sub (hh_tg h5 a0) 37 = true ∧ (∀ h7, h7 = hh_wi h5 a0 3 x2 → (∀ h8, h8 = hh_wj h7 a0 5 j3 → (∀ h9, h9 = hh_wi h8 a0 4 x5 → (gm_G 326 30 [some (.ref a0), none, none, none, none, none, some (.long j6)] [] h9 Q))))) (fun e10 h11 => hh_tg h11 e10 = 21 ∧ Q (.inr e10) h11))))))) : gm_G 326 0 [some (.ref a0), some (va_rf r_1), some (.int x2), some (.long j3), none, some (.int x5), some (.long j6), none] [] h Q := by
  refine g_aload (r := some _) rfl rfl rfl (pc' := 1) ?_
  refine g_aload (r := _) rfl rfl rfl (pc' := 2) ?_
  obtain ⟨ht1, H⟩ := H
  refine g_putR rfl rfl rfl rfl ht1  (pc' := 5) rfl ?_
  replace H := H _ rfl
  refine g_aload (r := some _) rfl rfl rfl (pc' := 6) ?_
  refine g_aload (r := _) rfl rfl rfl (pc' := 7) ?_
  refine g_aload (r := _) rfl rfl rfl (pc' := 8) ?_
  obtain ⟨a3, rfl, H⟩ := H
  obtain ⟨ht4, H⟩ := H
  refine g_getI rfl rfl rfl rfl ht4 (pc' := 11) rfl ?_
  refine g_call rfl (y := 205) (n := 3) (pc' := 14) (fun _ => rfl) rfl rfl ⟨(Nat.le_of_ble_eq_true rfl), (Nat.le_of_ble_eq_true rfl), (Nat.le_of_ble_eq_true rfl)⟩ rfl (gm_G.mono H (pV_elim (fun h5 H' => ?_) (fun e10 h11 H => ?_)))
  · show gm_G _ 14 _ _ _ _
    replace H := H'
    clear H'
    refine g_aload (r := some _) rfl rfl rfl (pc' := 15) ?_
    refine g_iload rfl rfl rfl (pc' := 16) ?_
    obtain ⟨ht6, H⟩ := H
    refine g_putI rfl rfl rfl rfl ht6  (pc' := 19) rfl ?_
    replace H := H _ rfl
    refine g_aload (r := some _) rfl rfl rfl (pc' := 20) ?_
    refine g_lload rfl rfl rfl (pc' := 21) ?_
    refine g_putJ rfl rfl rfl rfl ht6  (pc' := 24) rfl ?_
    replace H := H _ rfl
    refine g_aload (r := some _) rfl rfl rfl (pc' := 25) ?_
    refine g_iload rfl rfl rfl (pc' := 27) ?_
    refine g_putI rfl rfl rfl rfl ht6  (pc' := 30) rfl ?_
    replace H := H _ rfl
    exact g_weak (show gm_Lle [some _, none, none, none, none, none, some _] _ from ⟨rfl, ⟨rfl, trivial⟩⟩) H
  · exact H
set_option maxRecDepth 20000 in
theorem w_326_30 {a0 : Nat} {j6 : Int64} {h : hh_T} {Q : Option Value ⊕ Nat → hh_T → Prop} (H : gm_sub (hh_tg h a0) 37 = true ∧ (∀ h2, h2 = hh_wj h a0 6 j6 → (Q (.inl none) h2))) : gm_G 326 30 [some (.ref a0), none, none, none, none, none, some (.long j6)] [] h Q := by
  refine g_aload (r := some _) rfl rfl rfl (pc' := 31) ?_
  refine g_lload rfl rfl rfl (pc' := 33) ?_
  obtain ⟨ht1, H⟩ := H
  refine g_putJ rfl rfl rfl rfl ht1  (pc' := 36) rfl ?_
  replace H := H _ rfl
  exact g_return rfl H
set_option maxRecDepth 20000 in
theorem w_327_0 {a0 : Nat} {r_1 : Option Nat} {x2 : Int32} {x3 : Int32} {x4 : Int32} {h : hh_T} {Q : Option Value ⊕ Nat → hh_T → Prop} (H : gm_sub (hh_tg h a0) 38 = true ∧ (∀ h2, h2 = hh_wr h a0 6 r_1 → (∃ a3, r_1 = some a3 ∧ (gm_sub (hh_tg h2 a3) 0 = true ∧ (gm_G 205 0 [some (.ref a0), some (.ref a3), some (.int (hh_i h2 a3 41))] [] h2 (pV (fun h5 => gm_sub (hh_tg h5 a0) 38 = true ∧ (∀ h7, h7 = hh_wi h5 a0 3 x2 → (∀ h8, h8 = hh_wi h7 a0 4 x3 → (∀ h9, h9 = hh_wi h8 a0 5 x4 → (gm_G 327 30 [] [] h9 Q))))) (fun e10 h11 => hh_tg h11 e10 = 21 ∧ Q (.inr e10) h11))))))) : gm_G 327 0 [some (.ref a0), some (va_rf r_1), some (.int x2), some (.int x3), some (.int x4)] [] h Q := by
  refine g_aload (r := some _) rfl rfl rfl (pc' := 1) ?_
  refine g_aload (r := _) rfl rfl rfl (pc' := 2) ?_
  obtain ⟨ht1, H⟩ := H
  refine g_putR rfl rfl rfl rfl ht1  (pc' := 5) rfl ?_
  replace H := H _ rfl
  refine g_aload (r := some _) rfl rfl rfl (pc' := 6) ?_
  refine g_aload (r := _) rfl rfl rfl (pc' := 7) ?_
  refine g_aload (r := _) rfl rfl rfl (pc' := 8) ?_
  obtain ⟨a3, rfl, H⟩ := H
  obtain ⟨ht4, H⟩ := H
  refine g_getI rfl rfl rfl rfl ht4 (pc' := 11) rfl ?_
  refine g_call rfl (y := 205) (n := 3) (pc' := 14) (fun _ => rfl) rfl rfl ⟨(Nat.le_of_ble_eq_true rfl), (Nat.le_of_ble_eq_true rfl), (Nat.le_of_ble_eq_true rfl)⟩ rfl (gm_G.mono H (pV_elim (fun h5 H' => ?_) (fun e10 h11 H => ?_)))
  · show gm_G _ 14 _ _ _ _
    replace H := H'
    clear H'
    refine g_aload (r := some _) rfl rfl rfl (pc' := 15) ?_
    refine g_iload rfl rfl rfl (pc' := 16) ?_
    obtain ⟨ht6, H⟩ := H
    refine g_putI rfl rfl rfl rfl ht6  (pc' := 19) rfl ?_
    replace H := H _ rfl
    refine g_aload (r := some _) rfl rfl rfl (pc' := 20) ?_
    refine g_iload rfl rfl rfl (pc' := 21) ?_
    refine g_putI rfl rfl rfl rfl ht6  (pc' := 24) rfl ?_
    replace H := H _ rfl
    refine g_aload (r := some _) rfl rfl rfl (pc' := 25) ?_
    refine g_iload rfl rfl rfl (pc' := 27) ?_
    refine g_putI rfl rfl rfl rfl ht6  (pc' := 30) rfl ?_
    replace H := H _ rfl
    exact g_weak (show gm_Lle [] _ from trivial) H
  · exact H
set_option maxRecDepth 20000 in
theorem w_327_30 {a0 : Nat}  {h : hh_T} {Q : Option Value ⊕ Nat → hh_T → Prop} (H : Q (.inl none) h) : gm_G 327 30 [] [] h Q := by
  exact g_return rfl H
set_option maxRecDepth 20000 in
theorem w_328_0 {a0 : Nat} {r_1 : Option Nat} {x2 : Int32} {x3 : Int32} {h : hh_T} {Q : Option Value ⊕ Nat → hh_T → Prop} (H : gm_sub (hh_tg h a0) 39 = true ∧ (∀ h2, h2 = hh_wr h a0 5 r_1 → (∃ a3, r_1 = some a3 ∧ (gm_sub (hh_tg h2 a3) 0 = true ∧ (gm_G 205 0 [some (.ref a0), some (.ref a3), some (.int (hh_i h2 a3 41))] [] h2 (pV (fun h5 => gm_sub (hh_tg h5 a0) 39 = true ∧ (∀ h7, h7 = hh_wi h5 a0 3 x2 → (∀ h8, h8 = hh_wi h7 a0 4 x3 → (Q (.inl none) h8)))) (fun e9 h10 => hh_tg h10 e9 = 21 ∧ Q (.inr e9) h10))))))) : gm_G 328 0 [some (.ref a0), some (va_rf r_1), some (.int x2), some (.int x3)] [] h Q := by
  refine g_aload (r := some _) rfl rfl rfl (pc' := 1) ?_
  refine g_aload (r := _) rfl rfl rfl (pc' := 2) ?_
  obtain ⟨ht1, H⟩ := H
  refine g_putR rfl rfl rfl rfl ht1  (pc' := 5) rfl ?_
  replace H := H _ rfl
  refine g_aload (r := some _) rfl rfl rfl (pc' := 6) ?_
  refine g_aload (r := _) rfl rfl rfl (pc' := 7) ?_
  refine g_aload (r := _) rfl rfl rfl (pc' := 8) ?_
  obtain ⟨a3, rfl, H⟩ := H
  obtain ⟨ht4, H⟩ := H
  refine g_getI rfl rfl rfl rfl ht4 (pc' := 11) rfl ?_
  refine g_call rfl (y := 205) (n := 3) (pc' := 14) (fun _ => rfl) rfl rfl ⟨(Nat.le_of_ble_eq_true rfl), (Nat.le_of_ble_eq_true rfl), (Nat.le_of_ble_eq_true rfl)⟩ rfl (gm_G.mono H (pV_elim (fun h5 H' => ?_) (fun e9 h10 H => ?_)))
  · show gm_G _ 14 _ _ _ _
    replace H := H'
    clear H'
    refine g_aload (r := some _) rfl rfl rfl (pc' := 15) ?_
    refine g_iload rfl rfl rfl (pc' := 16) ?_
    obtain ⟨ht6, H⟩ := H
    refine g_putI rfl rfl rfl rfl ht6  (pc' := 19) rfl ?_
    replace H := H _ rfl
    refine g_aload (r := some _) rfl rfl rfl (pc' := 20) ?_
    refine g_iload rfl rfl rfl (pc' := 21) ?_
    refine g_putI rfl rfl rfl rfl ht6  (pc' := 24) rfl ?_
    replace H := H _ rfl
    exact g_return rfl H
  · exact H
set_option maxRecDepth 20000 in
theorem w_329_0 {a0 : Nat} {r_1 : Option Nat} {x2 : Int32} {x3 : Int32} {h : hh_T} {Q : Option Value ⊕ Nat → hh_T → Prop} (H : gm_sub (hh_tg h a0) 40 = true ∧ (∀ h2, h2 = hh_wr h a0 4 r_1 → (gm_G 205 0 [some (.ref a0), some (va_rf r_1), some (.int x2)] [] h2 (pV (fun h3 => gm_sub (hh_tg h3 a0) 40 = true ∧ (∀ h5, h5 = hh_wi h3 a0 3 x3 → (Q (.inl none) h5))) (fun e6 h7 => hh_tg h7 e6 = 21 ∧ Q (.inr e6) h7))))) : gm_G 329 0 [some (.ref a0), some (va_rf r_1), some (.int x2), some (.int x3)] [] h Q := by
  refine g_aload (r := some _) rfl rfl rfl (pc' := 1) ?_
  refine g_aload (r := _) rfl rfl rfl (pc' := 2) ?_
  obtain ⟨ht1, H⟩ := H
  refine g_putR rfl rfl rfl rfl ht1  (pc' := 5) rfl ?_
  replace H := H _ rfl
  refine g_aload (r := some _) rfl rfl rfl (pc' := 6) ?_
  refine g_aload (r := _) rfl rfl rfl (pc' := 7) ?_
  refine g_iload rfl rfl rfl (pc' := 8) ?_
  refine g_call rfl (y := 205) (n := 3) (pc' := 11) (fun _ => rfl) (by cases r_1 <;> rfl) rfl ⟨(Nat.le_of_ble_eq_true rfl), (Nat.le_of_ble_eq_true rfl), (Nat.le_of_ble_eq_true rfl)⟩ rfl (gm_G.mono H (pV_elim (fun h3 H' => ?_) (fun e6 h7 H => ?_)))
  · show gm_G _ 11 _ _ _ _
    replace H := H'
    clear H'
    refine g_aload (r := some _) rfl rfl rfl (pc' := 12) ?_
    refine g_iload rfl rfl rfl (pc' := 13) ?_
    obtain ⟨ht4, H⟩ := H
    refine g_putI rfl rfl rfl rfl ht4  (pc' := 16) rfl ?_
    replace H := H _ rfl
    exact g_return rfl H
  · exact H
set_option maxRecDepth 20000 in
theorem w_330_0 {a0 : Nat}  {h : hh_T} {Q : Option Value ⊕ Nat → hh_T → Prop} (H : gm_sub (hh_tg h a0) 40 = true ∧ (∀ r2, r2 = hh_r h a0 4 → (∃ a3, r2 = some a3 ∧ (hh_tg h a3 = 1 ∧ (gm_G 2 0 [some (.ref a3)] [] h (pV (fun h5 => gm_G 330 9 [some (.ref a0), some (.int (Int32.ofNat 0))] [] h5 Q) (fun e6 h7 => hh_tg h7 e6 = 21 ∧ Q (.inr e6) h7))))))) : gm_G 330 0 [some (.ref a0)] [] h Q := by
  refine g_aload (r := some _) rfl rfl rfl (pc' := 1) ?_
  obtain ⟨ht1, H⟩ := H
  refine g_getRv rfl rfl rfl rfl ht1 (pc' := 4) rfl (fun r2 hr2 => ?_)
  replace H := H r2 hr2
  obtain ⟨a3, rfl, H⟩ := H
  obtain ⟨ht4, H⟩ := H
  refine g_call rfl (y := 2) (n := 1) (pc' := 7) (g_vt ht4 rfl rfl) rfl rfl ⟨(Nat.le_of_ble_eq_true rfl), (Nat.le_of_ble_eq_true rfl), (Nat.le_of_ble_eq_true rfl)⟩ rfl (gm_G.mono H (pV_elim (fun h5 H' => ?_) (fun e6 h7 H => ?_)))
  · show gm_G _ 7 _ _ _ _
    replace H := H'
    clear H'
    refine g_iconst rfl rfl rfl (pc' := 8) ?_
    refine g_istore rfl rfl rfl (pc' := 9) ?_
    exact g_weak (show gm_Lle [some _, some _] _ from ⟨rfl, ⟨rfl, trivial⟩⟩) H
  · exact H
set_option maxRecDepth 20000 in
theorem w_330_9 {a0 : Nat} {x1 : Int32} {h : hh_T} {Q : Option Value ⊕ Nat → hh_T → Prop} (H : (¬ x1 < (Int32.ofNat 8) → (Q (.inl none) h)) ∧ (x1 < (Int32.ofNat 8) → (gm_sub (hh_tg h a0) 40 = true ∧ (∀ r2, r2 = hh_r h a0 4 → (∃ a3, r2 = some a3 ∧ (gm_sub (hh_tg h a3) 0 = true ∧ (∀ r5, r5 = hh_r h a3 48 → (∃ a6, r5 = some a6 ∧ (hh_tg h a6 = 102 ∧ (∃ n7, gm_ix x1 n7 (hh_ln h a6) ∧ (∀ h8, h8 = hh_wi h a6 n7 (Int32.ofNat 0) → (∀ r9, r9 = hh_r h8 a0 4 → (∃ a10, r9 = some a10 ∧ (gm_sub (hh_tg h8 a10) 0 = true ∧ (∀ r12, r12 = hh_r h8 a10 47 → (∃ a13, r12 = some a13 ∧ (200 ≤ hh_tg h8 a13 ∧ (True) ∧ (∃ n14, gm_ix x1 n14 (hh_ln h8 a13) ∧ (∀ h15, h15 = hh_wr h8 a13 n14 none → (gm_G 330 9 [some (.ref a0), some (.int (x1 + (Int32.ofNat 1)))] [] h15 Q)))))))))))))))))))) : gm_G 330 9 [some (.ref a0), some (.int x1)] [] h Q := by
  refine g_iload rfl rfl rfl (pc' := 10) ?_
  refine g_iconst rfl rfl rfl (pc' := 12) ?_
  refine g_ic_ge rfl (pc' := 15) (pt := 41) rfl rfl ⟨fun hc => ?_, fun hc => ?_⟩
  · replace H := H.1 hc
    exact g_return rfl H
  · replace H := H.2 hc
    refine g_aload (r := some _) rfl rfl rfl (pc' := 16) ?_
    obtain ⟨ht1, H⟩ := H
    refine g_getRv rfl rfl rfl rfl ht1 (pc' := 19) rfl (fun r2 hr2 => ?_)
    replace H := H r2 hr2
    obtain ⟨a3, rfl, H⟩ := H
    obtain ⟨ht4, H⟩ := H
    refine g_getRv rfl rfl rfl rfl ht4 (pc' := 22) rfl (fun r5 hr5 => ?_)
    replace H := H r5 hr5
    refine g_iload rfl rfl rfl (pc' := 23) ?_
    refine g_iconst rfl rfl rfl (pc' := 24) ?_
    obtain ⟨a6, rfl, H⟩ := H
    obtain ⟨ht16, H⟩ := H
    obtain ⟨n7, hn7, H⟩ := H
    refine g_zastore rfl ht16 hn7 (by decide) (pc' := 25) rfl ?_
    replace H := H _ rfl
    refine g_aload (r := some _) rfl rfl rfl (pc' := 26) ?_
    refine g_getRv rfl rfl rfl rfl ht1 (pc' := 29) rfl (fun r9 hr9 => ?_)
    replace H := H r9 hr9
    obtain ⟨a10, rfl, H⟩ := H
    obtain ⟨ht11, H⟩ := H
    refine g_getRv rfl rfl rfl rfl ht11 (pc' := 32) rfl (fun r12 hr12 => ?_)
    replace H := H r12 hr12
    refine g_iload rfl rfl rfl (pc' := 33) ?_
    refine g_null rfl rfl (pc' := 34) ?_
    obtain ⟨a13, rfl, H⟩ := H
    obtain ⟨Ha, Hb, H⟩ := H
    obtain ⟨n14, hn14, H⟩ := H
    refine g_aastore (r := _) rfl Ha (fun b hb => by cases hb) hn14 (pc' := 35) rfl ?_
    replace H := H _ rfl
    refine g_iinc (c := (Int32.ofNat 1)) rfl rfl rfl rfl rfl (pc' := 38) ?_
    refine g_goto rfl (pc' := 9) rfl ?_
    exact g_weak (show gm_Lle [some _, some _] _ from ⟨rfl, ⟨rfl, trivial⟩⟩) H
set_option maxRecDepth 20000 in
theorem w_331_0 {a0 : Nat} {x1 : Int32} {x2 : Int32} {x3 : Int32} {h : hh_T} {Q : Option Value ⊕ Nat → hh_T → Prop} (H : ∀ a1 h2, a1 = hh_sz h → h2 = hh_al h 44 0 7 → (gm_G 210 0 [some (.ref a1)] [] h2 (pV (fun h3 => gm_sub (hh_tg h3 a0) 42 = true ∧ (∀ h5, h5 = hh_wr h3 a0 7 (some a1) → (∀ h6, h6 = hh_wi h5 a0 0 x1 → (gm_G 331 20 [some (.ref a0), none, some (.int x2), some (.int x3)] [] h6 Q)))) (fun e7 h8 => hh_tg h8 e7 = 21 ∧ Q (.inr e7) h8)))) : gm_G 331 0 [some (.ref a0), some (.int x1), some (.int x2), some (.int x3)] [] h Q := by
  refine g_aload (r := some _) rfl rfl rfl (pc' := 1) ?_
  refine g_objinit rfl (Nat.le_of_ble_eq_true rfl) (pc' := 4) rfl ?_
  refine g_aload (r := some _) rfl rfl rfl (pc' := 5) ?_
  refine g_new rfl (t := 44) (s := 7) rfl rfl (pc' := 8) rfl ?_
  replace H := H _ _ rfl rfl
  refine g_dup_a (r := some _) rfl rfl (pc' := 9) ?_
  refine g_call rfl (y := 210) (n := 1) (pc' := 12) (fun _ => rfl) rfl rfl ⟨(Nat.le_of_ble_eq_true rfl), (Nat.le_of_ble_eq_true rfl), (Nat.le_of_ble_eq_true rfl)⟩ rfl (gm_G.mono H (pV_elim (fun h3 H' => ?_) (fun e7 h8 H => ?_)))
  · show gm_G _ 12 _ _ _ _
    replace H := H'
    clear H'
    obtain ⟨ht4, H⟩ := H
    refine g_putR (x := some _) rfl rfl rfl rfl ht4  (pc' := 15) rfl ?_
    replace H := H _ rfl
    refine g_aload (r := some _) rfl rfl rfl (pc' := 16) ?_
    refine g_iload rfl rfl rfl (pc' := 17) ?_
    refine g_putI rfl rfl rfl rfl ht4  (pc' := 20) rfl ?_
    replace H := H _ rfl
    exact g_weak (show gm_Lle [some _, none, some _, some _] _ from ⟨rfl, ⟨rfl, ⟨rfl, trivial⟩⟩⟩) H
  · exact H
set_option maxRecDepth 20000 in
theorem w_331_20 {a0 : Nat} {x2 : Int32} {x3 : Int32} {h : hh_T} {Q : Option Value ⊕ Nat → hh_T → Prop} (H : gm_sub (hh_tg h a0) 42 = true ∧ (∀ h2, h2 = hh_wi h a0 1 x2 → (∀ h3, h3 = hh_wi h2 a0 2 x3 → (Q (.inl none) h3)))) : gm_G 331 20 [some (.ref a0), none, some (.int x2), some (.int x3)] [] h Q := by
  refine g_aload (r := some _) rfl rfl rfl (pc' := 21) ?_
  refine g_iload rfl rfl rfl (pc' := 22) ?_
  obtain ⟨ht1, H⟩ := H
  refine g_putI rfl rfl rfl rfl ht1  (pc' := 25) rfl ?_
  replace H := H _ rfl
  refine g_aload (r := some _) rfl rfl rfl (pc' := 26) ?_
  refine g_iload rfl rfl rfl (pc' := 27) ?_
  refine g_putI rfl rfl rfl rfl ht1  (pc' := 30) rfl ?_
  replace H := H _ rfl
  exact g_return rfl H
set_option maxRecDepth 20000 in
theorem w_332_0 {a0 : Nat} {x1 : Int32} {x2 : Int32} {h : hh_T} {Q : Option Value ⊕ Nat → hh_T → Prop} (H : hh_tg h a0 = 1 ∧ (gm_G 228 0 [some (.ref a0), some (.int x1)] [] h (pI (fun v3 h2 => (¬ v3 = Int32.ofNat 0 → (gm_sub (hh_tg h2 a0) 0 = true ∧ (∀ r5, r5 = hh_r h2 a0 0 → (∃ a6, r5 = some a6 ∧ ((hh_tg h2 a6 = 104 ∨ 200 ≤ hh_tg h2 a6) ∧ (∃ n7, gm_ix x1 n7 (hh_ln h2 a6) ∧ (∀ r9, r9 = hh_r h2 a6 n7 → ((¬ (0 ≤ x2.toInt ∧ x2.toInt ≤ 5) → (Q (.inl (some (.int (Int32.ofInt (-2))))) h2)) ∧ (x2.toInt = 0 → (∃ a10, r9 = some a10 ∧ (gm_sub (hh_tg h2 a10) 21 = true ∧ (Q (.inl (some (.int (hh_i h2 a10 0)))) h2)))) ∧ (x2.toInt = 1 → (∃ a12, r9 = some a12 ∧ (gm_sub (hh_tg h2 a12) 21 = true ∧ (((hh_i h2 a12 4) = Int32.ofNat 0 → (Q (.inl (some (.int (Int32.ofNat 0)))) h2)) ∧ (¬ (hh_i h2 a12 4) = Int32.ofNat 0 → (Q (.inl (some (.int (Int32.ofNat 1)))) h2)))))) ∧ (x2.toInt = 2 → (∃ a14, r9 = some a14 ∧ (gm_sub (hh_tg h2 a14) 21 = true ∧ (∀ r16, r16 = hh_r h2 a14 5 → ((∀ a17, r16 = some a17 → (∀ r18, r18 = hh_r h2 a14 5 → (∃ a19, r18 = some a19 ∧ (gm_sub (hh_tg h2 a19) 3 = true ∧ (Q (.inl (some (.int (hh_i h2 a19 0)))) h2))))) ∧ (r16 = none → (Q (.inl (some (.int (Int32.ofInt (-2))))) h2))))))) ∧ (x2.toInt = 3 → (∃ a21, r9 = some a21 ∧ (gm_sub (hh_tg h2 a21) 21 = true ∧ (∀ r23, r23 = hh_r h2 a21 3 → (gm_G 169 0 [some (va_rf r23)] [] h2 (pI (fun v25 h24 => Q (.inl (some (.int v25))) h24) (fun e26 h27 => hh_tg h27 e26 = 21 ∧ Q (.inr e26) h27))))))) ∧ (x2.toInt = 4 → (∃ a28, r9 = some a28 ∧ (gm_sub (hh_tg h2 a28) 21 = true ∧ (∀ r30, r30 = hh_r h2 a28 2 → (gm_G 169 0 [some (va_rf r30)] [] h2 (pI (fun v32 h31 => Q (.inl (some (.int v32))) h31) (fun e33 h34 => hh_tg h34 e33 = 21 ∧ Q (.inr e33) h34))))))) ∧ (x2.toInt = 5 → (∃ a35, r9 = some a35 ∧ (gm_sub (hh_tg h2 a35) 21 = true ∧ (Q (.inl (some (.int (hh_i h2 a35 6)))) h2)))))))))))) ∧ (v3 = Int32.ofNat 0 → (Q (.inl (some (.int (Int32.ofInt (-2))))) h2))) (fun e37 h38 => hh_tg h38 e37 = 21 ∧ Q (.inr e37) h38)))) : gm_G 332 0 [some (.ref a0), some (.int x1), some (.int x2)] [] h Q := by
  refine g_aload (r := some _) rfl rfl rfl (pc' := 1) ?_
  refine g_iload rfl rfl rfl (pc' := 2) ?_
  obtain ⟨ht1, H⟩ := H
  refine g_call rfl (y := 228) (n := 2) (pc' := 5) (g_vt ht1 rfl rfl) rfl rfl ⟨(Nat.le_of_ble_eq_true rfl), (Nat.le_of_ble_eq_true rfl), (Nat.le_of_ble_eq_true rfl)⟩ rfl (gm_G.mono H (pI_elim (fun v3 h2 H' => ?_) (fun e37 h38 H => ?_)))
  · show gm_G _ 5 _ _ _ _
    replace H := H'
    clear H'
    refine g_if_ne rfl (pc' := 8) (pt := 11) rfl rfl ⟨fun hc => ?_, fun hc => ?_⟩
    · replace H := H.1 hc
      refine g_aload (r := some _) rfl rfl rfl (pc' := 12) ?_
      obtain ⟨ht4, H⟩ := H
      refine g_getRv rfl rfl rfl rfl ht4 (pc' := 15) rfl (fun r5 hr5 => ?_)
      replace H := H r5 hr5
      refine g_iload rfl rfl rfl (pc' := 16) ?_
      obtain ⟨a6, rfl, H⟩ := H
      obtain ⟨ht8, H⟩ := H
      obtain ⟨n7, hn7, H⟩ := H
      refine g_aaloadv rfl ht8 hn7 (pc' := 17) rfl (fun r9 hr9 => ?_)
      replace H := H r9 hr9
      refine g_astore (r := _) rfl rfl rfl (pc' := 18) ?_
      refine g_iload rfl rfl rfl (pc' := 19) ?_
      refine g_switch rfl ⟨fun hc => ?_, fun hc => ?_⟩
      · replace H := H.1 (fun hq => by omega)
        refine g_iconst rfl rfl rfl (pc' := 117) ?_
        exact g_ireturn rfl (Or.inl rfl) H
      · replace H := H.2
        have hq : x2.toInt = 0 ∨ x2.toInt = 1 ∨ x2.toInt = 2 ∨ x2.toInt = 3 ∨ x2.toInt = 4 ∨ x2.toInt = 5 := by omega
        rcases hq with hq | hq | hq | hq | hq | hq
        · replace H := (H.1) hq
          refine ⟨56, by rw [hq]; rfl, ?_⟩
          show gm_G _ 56 _ _ _ _
          refine g_aload (r := _) rfl rfl rfl (pc' := 57) ?_
          obtain ⟨a10, rfl, H⟩ := H
          obtain ⟨ht11, H⟩ := H
          refine g_getI rfl rfl rfl rfl ht11 (pc' := 60) rfl ?_
          exact g_ireturn rfl (Or.inl rfl) H
        · replace H := (H.2.1) hq
          refine ⟨61, by rw [hq]; rfl, ?_⟩
          show gm_G _ 61 _ _ _ _
          refine g_aload (r := _) rfl rfl rfl (pc' := 62) ?_
          obtain ⟨a12, rfl, H⟩ := H
          obtain ⟨ht13, H⟩ := H
          refine g_getZ rfl rfl rfl rfl ht13 (pc' := 65) rfl ?_
          refine g_if_eq rfl (pc' := 68) (pt := 72) rfl rfl ⟨fun hc => ?_, fun hc => ?_⟩
          · replace H := H.1 hc
            refine g_iconst rfl rfl rfl (pc' := 73) ?_
            exact g_ireturn rfl (Or.inl rfl) H
          · replace H := H.2 hc
            refine g_iconst rfl rfl rfl (pc' := 69) ?_
            refine g_goto rfl (pc' := 73) rfl ?_
            exact g_ireturn rfl (Or.inl rfl) H
        · replace H := (H.2.2.1) hq
          refine ⟨74, by rw [hq]; rfl, ?_⟩
          show gm_G _ 74 _ _ _ _
          refine g_aload (r := _) rfl rfl rfl (pc' := 75) ?_
          obtain ⟨a14, rfl, H⟩ := H
          obtain ⟨ht15, H⟩ := H
          refine g_getRv rfl rfl rfl rfl ht15 (pc' := 78) rfl (fun r16 hr16 => ?_)
          replace H := H r16 hr16
          refine g_ifnonnull rfl (pc' := 81) (pt := 86) rfl rfl ⟨fun a17 hc => ?_, fun hc => ?_⟩
          · replace H := H.1 a17 hc
            subst hc
            refine g_aload (r := some _) rfl rfl rfl (pc' := 87) ?_
            refine g_getRv rfl rfl rfl rfl ht15 (pc' := 90) rfl (fun r18 hr18 => ?_)
            replace H := H r18 hr18
            obtain ⟨a19, rfl, H⟩ := H
            obtain ⟨ht20, H⟩ := H
            refine g_getI rfl rfl rfl rfl ht20 (pc' := 93) rfl ?_
            exact g_ireturn rfl (Or.inl rfl) H
          · replace H := H.2 hc
            subst hc
            refine g_iconst rfl rfl rfl (pc' := 83) ?_
            refine g_goto rfl (pc' := 93) rfl ?_
            exact g_ireturn rfl (Or.inl rfl) H
        · replace H := (H.2.2.2.1) hq
          refine ⟨94, by rw [hq]; rfl, ?_⟩
          show gm_G _ 94 _ _ _ _
          refine g_aload (r := _) rfl rfl rfl (pc' := 95) ?_
          obtain ⟨a21, rfl, H⟩ := H
          obtain ⟨ht22, H⟩ := H
          refine g_getRv rfl rfl rfl rfl ht22 (pc' := 98) rfl (fun r23 hr23 => ?_)
          replace H := H r23 hr23
          refine g_call rfl (y := 169) (n := 1) (pc' := 101) (fun _ => rfl) (by cases r23 <;> rfl) rfl ⟨(Nat.le_of_ble_eq_true rfl), (Nat.le_of_ble_eq_true rfl), (Nat.le_of_ble_eq_true rfl)⟩ rfl (gm_G.mono H (pI_elim (fun v25 h24 H' => ?_) (fun e26 h27 H => ?_)))
          · show gm_G _ 101 _ _ _ _
            replace H := H'
            clear H'
            exact g_ireturn rfl (Or.inl rfl) H
          · exact H
        · replace H := (H.2.2.2.2.1) hq
          refine ⟨102, by rw [hq]; rfl, ?_⟩
          show gm_G _ 102 _ _ _ _
          refine g_aload (r := _) rfl rfl rfl (pc' := 103) ?_
          obtain ⟨a28, rfl, H⟩ := H
          obtain ⟨ht29, H⟩ := H
          refine g_getRv rfl rfl rfl rfl ht29 (pc' := 106) rfl (fun r30 hr30 => ?_)
          replace H := H r30 hr30
          refine g_call rfl (y := 169) (n := 1) (pc' := 109) (fun _ => rfl) (by cases r30 <;> rfl) rfl ⟨(Nat.le_of_ble_eq_true rfl), (Nat.le_of_ble_eq_true rfl), (Nat.le_of_ble_eq_true rfl)⟩ rfl (gm_G.mono H (pI_elim (fun v32 h31 H' => ?_) (fun e33 h34 H => ?_)))
          · show gm_G _ 109 _ _ _ _
            replace H := H'
            clear H'
            exact g_ireturn rfl (Or.inl rfl) H
          · exact H
        · replace H := (H.2.2.2.2.2) hq
          refine ⟨110, by rw [hq]; rfl, ?_⟩
          show gm_G _ 110 _ _ _ _
          refine g_aload (r := _) rfl rfl rfl (pc' := 111) ?_
          obtain ⟨a35, rfl, H⟩ := H
          obtain ⟨ht36, H⟩ := H
          refine g_getI rfl rfl rfl rfl ht36 (pc' := 114) rfl ?_
          exact g_ireturn rfl (Or.inl rfl) H
    · replace H := H.2 hc
      refine g_iconst rfl rfl rfl (pc' := 10) ?_
      exact g_ireturn rfl (Or.inl rfl) H
  · exact H
set_option maxRecDepth 20000 in
theorem w_333_0 {a0 : Nat} {x1 : Int32} {x2 : Int32} {h : hh_T} {Q : Option Value ⊕ Nat → hh_T → Prop} (H : gm_sub (hh_tg h a0) 0 = true ∧ (gm_G 5 0 [some (.int x1), some (.int (Int32.ofNat 0)), some (.int ((hh_i h a0 8) - (Int32.ofNat 1)))] [] h (pI (fun v3 h2 => (¬ v3 = Int32.ofNat 0 → (gm_sub (hh_tg h2 a0) 0 = true ∧ (∀ r5, r5 = hh_r h2 a0 7 → (∃ a6, r5 = some a6 ∧ ((hh_tg h2 a6 = 104 ∨ 200 ≤ hh_tg h2 a6) ∧ (∃ n7, gm_ix x1 n7 (hh_ln h2 a6) ∧ (∀ r9, r9 = hh_r h2 a6 n7 → ((x2 < (Int32.ofNat 8) → ((¬ (0 ≤ x2.toInt ∧ x2.toInt ≤ 6) → (Q (.inl (some (.int (Int32.ofInt (-2))))) h2)) ∧ (x2.toInt = 0 → (∃ a10, r9 = some a10 ∧ ((hh_tg h2 a10 = 5 ∧ (gm_G 33 0 [some (.ref a10)] [] h2 (pI (fun v12 h11 => Q (.inl (some (.int v12))) h11) (fun e13 h14 => hh_tg h14 e13 = 21 ∧ Q (.inr e13) h14)))) ∨ (hh_tg h2 a10 = 7 ∧ (gm_G 44 0 [some (.ref a10)] [] h2 (pI (fun v16 h15 => Q (.inl (some (.int v16))) h15) (fun e17 h18 => hh_tg h18 e17 = 21 ∧ Q (.inr e17) h18))))))) ∧ (x2.toInt = 1 → (∃ a19, r9 = some a19 ∧ ((hh_tg h2 a19 = 5 ∧ (gm_G 32 0 [some (.ref a19)] [] h2 (pI (fun v21 h20 => Q (.inl (some (.int v21))) h20) (fun e22 h23 => hh_tg h23 e22 = 21 ∧ Q (.inr e22) h23)))) ∨ (hh_tg h2 a19 = 7 ∧ (gm_G 42 0 [some (.ref a19)] [] h2 (pI (fun v25 h24 => Q (.inl (some (.int v25))) h24) (fun e26 h27 => hh_tg h27 e26 = 21 ∧ Q (.inr e26) h27))))))) ∧ (x2.toInt = 2 → (∃ a28, r9 = some a28 ∧ (gm_sub (hh_tg h2 a28) 3 = true ∧ (Q (.inl (some (.int (hh_i h2 a28 2)))) h2)))) ∧ (x2.toInt = 3 → (∃ a30, r9 = some a30 ∧ (gm_sub (hh_tg h2 a30) 3 = true ∧ (Q (.inl (some (.int (hh_i h2 a30 4)))) h2)))) ∧ (x2.toInt = 4 → (∃ a32, r9 = some a32 ∧ (gm_sub (hh_tg h2 a32) 3 = true ∧ (∀ r34, r34 = hh_r h2 a32 5 → (∃ a35, r34 = some a35 ∧ (gm_sub (hh_tg h2 a35) 5 = true ∧ (Q (.inl (some (.int (hh_i h2 a35 3)))) h2))))))) ∧ (x2.toInt = 5 → (∃ a37, r9 = some a37 ∧ ((hh_tg h2 a37 = 5 ∧ (gm_G 247 0 [some (.ref a37)] [] h2 (pI (fun v39 h38 => (v39 = Int32.ofNat 0 → (Q (.inl (some (.int (Int32.ofNat 0)))) h38)) ∧ (¬ v39 = Int32.ofNat 0 → (Q (.inl (some (.int (Int32.ofNat 1)))) h38))) (fun e40 h41 => hh_tg h41 e40 = 21 ∧ Q (.inr e40) h41)))) ∨ (hh_tg h2 a37 = 7 ∧ (gm_G 252 0 [some (.ref a37)] [] h2 (pI (fun v43 h42 => (v43 = Int32.ofNat 0 → (Q (.inl (some (.int (Int32.ofNat 0)))) h42)) ∧ (¬ v43 = Int32.ofNat 0 → (Q (.inl (some (.int (Int32.ofNat 1)))) h42))) (fun e44 h45 => hh_tg h45 e44 = 21 ∧ Q (.inr e44) h45))))))) ∧ (x2.toInt = 6 → (∃ a46, r9 = some a46 ∧ (gm_sub (hh_tg h2 a46) 3 = true ∧ (Q (.inl (some (.int (hh_i h2 a46 3)))) h2)))))) ∧ (¬ x2 < (Int32.ofNat 8) → (∃ a48, r9 = some a48 ∧ (gm_sub (hh_tg h2 a48) 3 = true ∧ (((x2 - (Int32.ofNat 8)) < (hh_i h2 a48 2) → (gm_G 333 47 [some (.ref a0), none, some (.int x2), some (.ref a48), some (.int (Int32.ofNat 0))] [] h2 Q)) ∧ (¬ (x2 - (Int32.ofNat 8)) < (hh_i h2 a48 2) → (Q (.inl (some (.int (Int32.ofInt (-2))))) h2)))))))))))))) ∧ (v3 = Int32.ofNat 0 → (Q (.inl (some (.int (Int32.ofInt (-2))))) h2))) (fun e50 h51 => hh_tg h51 e50 = 21 ∧ Q (.inr e50) h51)))) : gm_G 333 0 [some (.ref a0), some (.int x1), some (.int x2)] [] h Q := by
  refine g_iload rfl rfl rfl (pc' := 1) ?_
  refine g_iconst rfl rfl rfl (pc' := 2) ?_
  refine g_aload (r := some _) rfl rfl rfl (pc' := 3) ?_
  obtain ⟨ht1, H⟩ := H
  refine g_getI rfl rfl rfl rfl ht1 (pc' := 6) rfl ?_
  refine g_iconst rfl rfl rfl (pc' := 7) ?_
  refine g_isub rfl rfl (pc' := 8) ?_
  refine g_call rfl (y := 5) (n := 3) (pc' := 11) (fun _ => rfl) rfl rfl ⟨(Nat.le_of_ble_eq_true rfl), (Nat.le_of_ble_eq_true rfl), (Nat.le_of_ble_eq_true rfl)⟩ rfl (gm_G.mono H (pI_elim (fun v3 h2 H' => ?_) (fun e50 h51 H => ?_)))
  · show gm_G _ 11 _ _ _ _
    replace H := H'
    clear H'
    refine g_if_ne rfl (pc' := 14) (pt := 17) rfl rfl ⟨fun hc => ?_, fun hc => ?_⟩
    · replace H := H.1 hc
      refine g_aload (r := some _) rfl rfl rfl (pc' := 18) ?_
      obtain ⟨ht4, H⟩ := H
      refine g_getRv rfl rfl rfl rfl ht4 (pc' := 21) rfl (fun r5 hr5 => ?_)
      replace H := H r5 hr5
      refine g_iload rfl rfl rfl (pc' := 22) ?_
      obtain ⟨a6, rfl, H⟩ := H
      obtain ⟨ht8, H⟩ := H
      obtain ⟨n7, hn7, H⟩ := H
      refine g_aaloadv rfl ht8 hn7 (pc' := 23) rfl (fun r9 hr9 => ?_)
      replace H := H r9 hr9
      refine g_astore (r := _) rfl rfl rfl (pc' := 24) ?_
      refine g_iload rfl rfl rfl (pc' := 25) ?_
      refine g_iconst rfl rfl rfl (pc' := 27) ?_
      refine g_ic_lt rfl (pc' := 30) (pt := 75) rfl rfl ⟨fun hc => ?_, fun hc => ?_⟩
      · replace H := H.1 hc
        refine g_iload rfl rfl rfl (pc' := 76) ?_
        refine g_switch rfl ⟨fun hc => ?_, fun hc => ?_⟩
        · replace H := H.1 (fun hq => by omega)
          refine g_iconst rfl rfl rfl (pc' := 168) ?_
          exact g_ireturn rfl (Or.inl rfl) H
        · replace H := H.2
          have hq : x2.toInt = 0 ∨ x2.toInt = 1 ∨ x2.toInt = 2 ∨ x2.toInt = 3 ∨ x2.toInt = 4 ∨ x2.toInt = 5 ∨ x2.toInt = 6 := by omega
          rcases hq with hq | hq | hq | hq | hq | hq | hq
          · replace H := (H.1) hq
            refine ⟨120, by rw [hq]; rfl, ?_⟩
            show gm_G _ 120 _ _ _ _
            refine g_aload (r := _) rfl rfl rfl (pc' := 121) ?_
            obtain ⟨a10, rfl, H⟩ := H
            rcases H with ⟨ht, H⟩ | ⟨ht, H⟩
            · refine g_call rfl (y := 33) (n := 1) (pc' := 124) (g_vt ht rfl rfl) rfl rfl ⟨(Nat.le_of_ble_eq_true rfl), (Nat.le_of_ble_eq_true rfl), (Nat.le_of_ble_eq_true rfl)⟩ rfl (gm_G.mono H (pI_elim (fun v12 h11 H' => ?_) (fun e13 h14 H => ?_)))
              · show gm_G _ 124 _ _ _ _
                replace H := H'
                clear H'
                exact g_ireturn rfl (Or.inl rfl) H
              · exact H
            · refine g_call rfl (y := 44) (n := 1) (pc' := 124) (g_vt ht rfl rfl) rfl rfl ⟨(Nat.le_of_ble_eq_true rfl), (Nat.le_of_ble_eq_true rfl), (Nat.le_of_ble_eq_true rfl)⟩ rfl (gm_G.mono H (pI_elim (fun v16 h15 H' => ?_) (fun e17 h18 H => ?_)))
              · show gm_G _ 124 _ _ _ _
                replace H := H'
                clear H'
                exact g_ireturn rfl (Or.inl rfl) H
              · exact H
          · replace H := (H.2.1) hq
            refine ⟨125, by rw [hq]; rfl, ?_⟩
            show gm_G _ 125 _ _ _ _
            refine g_aload (r := _) rfl rfl rfl (pc' := 126) ?_
            obtain ⟨a19, rfl, H⟩ := H
            rcases H with ⟨ht, H⟩ | ⟨ht, H⟩
            · refine g_call rfl (y := 32) (n := 1) (pc' := 129) (g_vt ht rfl rfl) rfl rfl ⟨(Nat.le_of_ble_eq_true rfl), (Nat.le_of_ble_eq_true rfl), (Nat.le_of_ble_eq_true rfl)⟩ rfl (gm_G.mono H (pI_elim (fun v21 h20 H' => ?_) (fun e22 h23 H => ?_)))
              · show gm_G _ 129 _ _ _ _
                replace H := H'
                clear H'
                exact g_ireturn rfl (Or.inl rfl) H
              · exact H
            · refine g_call rfl (y := 42) (n := 1) (pc' := 129) (g_vt ht rfl rfl) rfl rfl ⟨(Nat.le_of_ble_eq_true rfl), (Nat.le_of_ble_eq_true rfl), (Nat.le_of_ble_eq_true rfl)⟩ rfl (gm_G.mono H (pI_elim (fun v25 h24 H' => ?_) (fun e26 h27 H => ?_)))
              · show gm_G _ 129 _ _ _ _
                replace H := H'
                clear H'
                exact g_ireturn rfl (Or.inl rfl) H
              · exact H
          · replace H := (H.2.2.1) hq
            refine ⟨130, by rw [hq]; rfl, ?_⟩
            show gm_G _ 130 _ _ _ _
            refine g_aload (r := _) rfl rfl rfl (pc' := 131) ?_
            obtain ⟨a28, rfl, H⟩ := H
            obtain ⟨ht29, H⟩ := H
            refine g_getI rfl rfl rfl rfl ht29 (pc' := 134) rfl ?_
            exact g_ireturn rfl (Or.inl rfl) H
          · replace H := (H.2.2.2.1) hq
            refine ⟨135, by rw [hq]; rfl, ?_⟩
            show gm_G _ 135 _ _ _ _
            refine g_aload (r := _) rfl rfl rfl (pc' := 136) ?_
            obtain ⟨a30, rfl, H⟩ := H
            obtain ⟨ht31, H⟩ := H
            refine g_getI rfl rfl rfl rfl ht31 (pc' := 139) rfl ?_
            exact g_ireturn rfl (Or.inl rfl) H
          · replace H := (H.2.2.2.2.1) hq
            refine ⟨140, by rw [hq]; rfl, ?_⟩
            show gm_G _ 140 _ _ _ _
            refine g_aload (r := _) rfl rfl rfl (pc' := 141) ?_
            obtain ⟨a32, rfl, H⟩ := H
            obtain ⟨ht33, H⟩ := H
            refine g_getRv rfl rfl rfl rfl ht33 (pc' := 144) rfl (fun r34 hr34 => ?_)
            replace H := H r34 hr34
            obtain ⟨a35, rfl, H⟩ := H
            obtain ⟨ht36, H⟩ := H
            refine g_getI rfl rfl rfl rfl ht36 (pc' := 147) rfl ?_
            exact g_ireturn rfl (Or.inl rfl) H
          · replace H := (H.2.2.2.2.2.1) hq
            refine ⟨148, by rw [hq]; rfl, ?_⟩
            show gm_G _ 148 _ _ _ _
            refine g_aload (r := _) rfl rfl rfl (pc' := 149) ?_
            obtain ⟨a37, rfl, H⟩ := H
            rcases H with ⟨ht, H⟩ | ⟨ht, H⟩
            · refine g_call rfl (y := 247) (n := 1) (pc' := 152) (g_vt ht rfl rfl) rfl rfl ⟨(Nat.le_of_ble_eq_true rfl), (Nat.le_of_ble_eq_true rfl), (Nat.le_of_ble_eq_true rfl)⟩ rfl (gm_G.mono H (pI_elim (fun v39 h38 H' => ?_) (fun e40 h41 H => ?_)))
              · show gm_G _ 152 _ _ _ _
                replace H := H'
                clear H'
                refine g_if_eq rfl (pc' := 155) (pt := 159) rfl rfl ⟨fun hc => ?_, fun hc => ?_⟩
                · replace H := H.1 hc
                  refine g_iconst rfl rfl rfl (pc' := 160) ?_
                  exact g_ireturn rfl (Or.inl rfl) H
                · replace H := H.2 hc
                  refine g_iconst rfl rfl rfl (pc' := 156) ?_
                  refine g_goto rfl (pc' := 160) rfl ?_
                  exact g_ireturn rfl (Or.inl rfl) H
              · exact H
            · refine g_call rfl (y := 252) (n := 1) (pc' := 152) (g_vt ht rfl rfl) rfl rfl ⟨(Nat.le_of_ble_eq_true rfl), (Nat.le_of_ble_eq_true rfl), (Nat.le_of_ble_eq_true rfl)⟩ rfl (gm_G.mono H (pI_elim (fun v43 h42 H' => ?_) (fun e44 h45 H => ?_)))
              · show gm_G _ 152 _ _ _ _
                replace H := H'
                clear H'
                refine g_if_eq rfl (pc' := 155) (pt := 159) rfl rfl ⟨fun hc => ?_, fun hc => ?_⟩
                · replace H := H.1 hc
                  refine g_iconst rfl rfl rfl (pc' := 160) ?_
                  exact g_ireturn rfl (Or.inl rfl) H
                · replace H := H.2 hc
                  refine g_iconst rfl rfl rfl (pc' := 156) ?_
                  refine g_goto rfl (pc' := 160) rfl ?_
                  exact g_ireturn rfl (Or.inl rfl) H
              · exact H
          · replace H := (H.2.2.2.2.2.2) hq
            refine ⟨161, by rw [hq]; rfl, ?_⟩
            show gm_G _ 161 _ _ _ _
            refine g_aload (r := _) rfl rfl rfl (pc' := 162) ?_
            obtain ⟨a46, rfl, H⟩ := H
            obtain ⟨ht47, H⟩ := H
            refine g_getI rfl rfl rfl rfl ht47 (pc' := 165) rfl ?_
            exact g_ireturn rfl (Or.inl rfl) H
      · replace H := H.2 hc
        refine g_iload rfl rfl rfl (pc' := 31) ?_
        refine g_iconst rfl rfl rfl (pc' := 33) ?_
        refine g_isub rfl rfl (pc' := 34) ?_
        refine g_aload (r := _) rfl rfl rfl (pc' := 35) ?_
        obtain ⟨a48, rfl, H⟩ := H
        obtain ⟨ht49, H⟩ := H
        refine g_getI rfl rfl rfl rfl ht49 (pc' := 38) rfl ?_
        refine g_ic_lt rfl (pc' := 41) (pt := 44) rfl rfl ⟨fun hc => ?_, fun hc => ?_⟩
        · replace H := H.1 hc
          refine g_iconst rfl rfl rfl (pc' := 45) ?_
          refine g_istore rfl rfl rfl (pc' := 47) ?_
          exact g_weak (show gm_Lle [some _, none, some _, some _, some _] _ from ⟨rfl, ⟨rfl, ⟨rfl, ⟨rfl, trivial⟩⟩⟩⟩) H
        · replace H := H.2 hc
          refine g_iconst rfl rfl rfl (pc' := 43) ?_
          exact g_ireturn rfl (Or.inl rfl) H
    · replace H := H.2 hc
      refine g_iconst rfl rfl rfl (pc' := 16) ?_
      exact g_ireturn rfl (Or.inl rfl) H
  · exact H
set_option maxRecDepth 20000 in
theorem w_333_47 {a0 : Nat} {x2 : Int32} {r_3 : Option Nat} {x4 : Int32} {h : hh_T} {Q : Option Value ⊕ Nat → hh_T → Prop} (H : gm_sub (hh_tg h a0) 0 = true ∧ (∀ r2, r2 = hh_r h a0 0 → (∃ a3, r2 = some a3 ∧ ((hh_tg h a3 = 104 ∨ 200 ≤ hh_tg h a3) ∧ (∃ n4, gm_ix x4 n4 (hh_ln h a3) ∧ (∀ r6, r6 = hh_r h a3 n4 → (∃ a7, r_3 = some a7 ∧ (gm_sub (hh_tg h a7) 3 = true ∧ (∀ r9, r9 = hh_r h a7 1 → (∃ a10, r9 = some a10 ∧ ((hh_tg h a10 = 104 ∨ 200 ≤ hh_tg h a10) ∧ (∃ n11, gm_ix (x2 - (Int32.ofNat 8)) n11 (hh_ln h a10) ∧ (∀ r13, r13 = hh_r h a10 n11 → ((r6 = r13 → (Q (.inl (some (.int x4))) h)) ∧ (¬ r6 = r13 → (gm_G 333 47 [some (.ref a0), none, some (.int x2), some (.ref a7), some (.int (x4 + (Int32.ofNat 1)))] [] h Q)))))))))))))))) : gm_G 333 47 [some (.ref a0), none, some (.int x2), some (va_rf r_3), some (.int x4)] [] h Q := by
  refine g_aload (r := some _) rfl rfl rfl (pc' := 48) ?_
  obtain ⟨ht1, H⟩ := H
  refine g_getRv rfl rfl rfl rfl ht1 (pc' := 51) rfl (fun r2 hr2 => ?_)
  replace H := H r2 hr2
  refine g_iload rfl rfl rfl (pc' := 53) ?_
  obtain ⟨a3, rfl, H⟩ := H
  obtain ⟨ht5, H⟩ := H
  obtain ⟨n4, hn4, H⟩ := H
  refine g_aaloadv rfl ht5 hn4 (pc' := 54) rfl (fun r6 hr6 => ?_)
  replace H := H r6 hr6
  refine g_aload (r := _) rfl rfl rfl (pc' := 55) ?_
  obtain ⟨a7, rfl, H⟩ := H
  obtain ⟨ht8, H⟩ := H
  refine g_getRv rfl rfl rfl rfl ht8 (pc' := 58) rfl (fun r9 hr9 => ?_)
  replace H := H r9 hr9
  refine g_iload rfl rfl rfl (pc' := 59) ?_
  refine g_iconst rfl rfl rfl (pc' := 61) ?_
  refine g_isub rfl rfl (pc' := 62) ?_
  obtain ⟨a10, rfl, H⟩ := H
  obtain ⟨ht12, H⟩ := H
  obtain ⟨n11, hn11, H⟩ := H
  refine g_aaloadv rfl ht12 hn11 (pc' := 63) rfl (fun r13 hr13 => ?_)
  replace H := H r13 hr13
  refine g_ac_eq (r1 := _) (r2 := _) rfl (pc' := 66) (pt := 72) rfl rfl ⟨fun hc => ?_, fun hc => ?_⟩
  · replace H := H.1 hc
    refine g_iload rfl rfl rfl (pc' := 74) ?_
    exact g_ireturn rfl (Or.inl rfl) H
  · replace H := H.2 hc
    refine g_iinc (c := (Int32.ofNat 1)) rfl rfl rfl rfl rfl (pc' := 69) ?_
    refine g_goto rfl (pc' := 47) rfl ?_
    exact g_weak (show gm_Lle [some _, none, some _, some _, some _] _ from ⟨rfl, ⟨rfl, ⟨rfl, ⟨rfl, trivial⟩⟩⟩⟩) H
set_option maxRecDepth 20000 in
theorem w_334_0 {a0 : Nat} {r_1 : Option Nat} {j2 : Int64} {x4 : Int32} {h : hh_T} {Q : Option Value ⊕ Nat → hh_T → Prop} (H : hh_tg h a0 = 1 ∧ (gm_G 236 0 [some (.ref a0)] [] h (pR (fun r3 h2 => gm_sub (hh_tg h2 a0) 0 = true ∧ (∀ r5, r5 = hh_r h2 a0 33 → (∃ a6, r5 = some a6 ∧ (gm_sub (hh_tg h2 a6) 22 = true ∧ (∃ a8, r3 = some a8 ∧ (gm_sub (hh_tg h2 a8) 29 = true ∧ (∀ h10, h10 = hh_wi h2 a8 0 (hh_i h2 a6 5) → (∀ r11, r11 = hh_r h10 a0 33 → (∃ a12, r11 = some a12 ∧ (gm_sub (hh_tg h10 a12) 22 = true ∧ (∀ h14, h14 = hh_wi h10 a12 5 ((hh_i h10 a12 5) + (Int32.ofNat 1)) → (∃ a15, r_1 = some a15 ∧ (gm_sub (hh_tg h14 a15) 23 = true ∧ (∀ h17, h17 = hh_wi h14 a8 1 (hh_i h14 a15 0) → (∀ h18, h18 = hh_wj h17 a8 4 j2 → (gm_G 334 46 [some (.ref a0), some (.ref a15), none, none, some (.int x4), some (.ref a8)] [] h18 Q)))))))))))))))) (fun e19 h20 => hh_tg h20 e19 = 21 ∧ Q (.inr e19) h20)))) : gm_G 334 0 [some (.ref a0), some (va_rf r_1), some (.long j2), none, some (.int x4)] [] h Q := by
  refine g_aload (r := some _) rfl rfl rfl (pc' := 1) ?_
  obtain ⟨ht1, H⟩ := H
  refine g_call rfl (y := 236) (n := 1) (pc' := 4) (g_vt ht1 rfl rfl) rfl rfl ⟨(Nat.le_of_ble_eq_true rfl), (Nat.le_of_ble_eq_true rfl), (Nat.le_of_ble_eq_true rfl)⟩ rfl (gm_G.mono H (pR_elim (fun r3 h2 H' => ?_) (fun e19 h20 H => ?_)))
  · show gm_G _ 4 _ _ _ _
    replace H := H'
    clear H'
    refine g_astore (r := _) rfl rfl rfl (pc' := 6) ?_
    refine g_aload (r := _) rfl rfl rfl (pc' := 8) ?_
    refine g_aload (r := some _) rfl rfl rfl (pc' := 9) ?_
    obtain ⟨ht4, H⟩ := H
    refine g_getRv rfl rfl rfl rfl ht4 (pc' := 12) rfl (fun r5 hr5 => ?_)
    replace H := H r5 hr5
    obtain ⟨a6, rfl, H⟩ := H
    obtain ⟨ht7, H⟩ := H
    refine g_getI rfl rfl rfl rfl ht7 (pc' := 15) rfl ?_
    obtain ⟨a8, rfl, H⟩ := H
    obtain ⟨ht9, H⟩ := H
    refine g_putI rfl rfl rfl rfl ht9  (pc' := 18) rfl ?_
    replace H := H _ rfl
    refine g_aload (r := some _) rfl rfl rfl (pc' := 19) ?_
    refine g_getRv rfl rfl rfl rfl ht4 (pc' := 22) rfl (fun r11 hr11 => ?_)
    replace H := H r11 hr11
    refine g_dup_a (r := _) rfl rfl (pc' := 23) ?_
    obtain ⟨a12, rfl, H⟩ := H
    obtain ⟨ht13, H⟩ := H
    refine g_getI rfl rfl rfl rfl ht13 (pc' := 26) rfl ?_
    refine g_iconst rfl rfl rfl (pc' := 27) ?_
    refine g_iadd rfl rfl (pc' := 28) ?_
    refine g_putI rfl rfl rfl rfl ht13  (pc' := 31) rfl ?_
    replace H := H _ rfl
    refine g_aload (r := some _) rfl rfl rfl (pc' := 33) ?_
    refine g_aload (r := _) rfl rfl rfl (pc' := 34) ?_
    obtain ⟨a15, rfl, H⟩ := H
    obtain ⟨ht16, H⟩ := H
    refine g_getI rfl rfl rfl rfl ht16 (pc' := 37) rfl ?_
    refine g_putI rfl rfl rfl rfl ht9  (pc' := 40) rfl ?_
    replace H := H _ rfl
    refine g_aload (r := some _) rfl rfl rfl (pc' := 42) ?_
    refine g_lload rfl rfl rfl (pc' := 43) ?_
    refine g_putJ rfl rfl rfl rfl ht9  (pc' := 46) rfl ?_
    replace H := H _ rfl
    exact g_weak (show gm_Lle [some _, some _, none, none, some _, some _] _ from ⟨rfl, ⟨rfl, ⟨rfl, ⟨rfl, trivial⟩⟩⟩⟩) H
  · exact H
set_option maxRecDepth 20000 in
theorem w_334_46 {a0 : Nat} {r_1 : Option Nat} {x4 : Int32} {r_5 : Option Nat} {h : hh_T} {Q : Option Value ⊕ Nat → hh_T → Prop} (H : ∃ a1, r_5 = some a1 ∧ (gm_sub (hh_tg h a1) 29 = true ∧ (∀ h3, h3 = hh_wi h a1 3 x4 → (∃ a4, r_1 = some a4 ∧ (gm_sub (hh_tg h3 a4) 23 = true ∧ (∀ r6, r6 = hh_r h3 a4 9 → (∀ h7, h7 = hh_wr h3 a1 5 r6 → (∀ r8, r8 = hh_r h7 a1 5 → (∃ a9, r8 = some a9 ∧ (gm_sub (hh_tg h7 a9) 24 = true ∧ (∀ h11, h11 = hh_wi h7 a9 0 ((hh_i h7 a9 0) + (Int32.ofNat 1)) → (gm_sub (hh_tg h11 a0) 0 = true ∧ (∀ r13, r13 = hh_r h11 a0 33 → (∃ a14, r13 = some a14 ∧ (hh_tg h11 a14 = 23 ∧ (gm_G 173 0 [some (.ref a14), some (.ref a1)] [] h11 (pV (fun h16 => gm_sub (hh_tg h16 a4) 23 = true ∧ (gm_sub (hh_tg h16 a1) 29 = true ∧ (hh_tg h16 a4 = 24 ∧ (gm_G 186 0 [some (.ref a4), some (.int (hh_i h16 a4 8)), some (.int (hh_i h16 a1 0))] [] h16 (pV (fun h20 => gm_G 334 98 [none, none, none, none, none, some (.ref a1)] [] h20 Q) (fun e21 h22 => hh_tg h22 e21 = 21 ∧ Q (.inr e21) h22)))))) (fun e23 h24 => hh_tg h24 e23 = 21 ∧ Q (.inr e23) h24)))))))))))))))))) : gm_G 334 46 [some (.ref a0), some (va_rf r_1), none, none, some (.int x4), some (va_rf r_5)] [] h Q := by
  refine g_aload (r := _) rfl rfl rfl (pc' := 48) ?_
  refine g_iload rfl rfl rfl (pc' := 50) ?_
  obtain ⟨a1, rfl, H⟩ := H
  obtain ⟨ht2, H⟩ := H
  refine g_putI rfl rfl rfl rfl ht2  (pc' := 53) rfl ?_
  replace H := H _ rfl
  refine g_aload (r := some _) rfl rfl rfl (pc' := 55) ?_
  refine g_aload (r := _) rfl rfl rfl (pc' := 56) ?_
  obtain ⟨a4, rfl, H⟩ := H
  obtain ⟨ht5, H⟩ := H
  refine g_getRv rfl rfl rfl rfl ht5 (pc' := 59) rfl (fun r6 hr6 => ?_)
  replace H := H r6 hr6
  refine g_putR rfl rfl rfl rfl ht2  (pc' := 62) rfl ?_
  replace H := H _ rfl
  refine g_aload (r := some _) rfl rfl rfl (pc' := 64) ?_
  refine g_getRv rfl rfl rfl rfl ht2 (pc' := 67) rfl (fun r8 hr8 => ?_)
  replace H := H r8 hr8
  refine g_dup_a (r := _) rfl rfl (pc' := 68) ?_
  obtain ⟨a9, rfl, H⟩ := H
  obtain ⟨ht10, H⟩ := H
  refine g_getI rfl rfl rfl rfl ht10 (pc' := 71) rfl ?_
  refine g_iconst rfl rfl rfl (pc' := 72) ?_
  refine g_iadd rfl rfl (pc' := 73) ?_
  refine g_putI rfl rfl rfl rfl ht10  (pc' := 76) rfl ?_
  replace H := H _ rfl
  refine g_aload (r := some _) rfl rfl rfl (pc' := 77) ?_
  obtain ⟨ht12, H⟩ := H
  refine g_getRv rfl rfl rfl rfl ht12 (pc' := 80) rfl (fun r13 hr13 => ?_)
  replace H := H r13 hr13
  refine g_aload (r := some _) rfl rfl rfl (pc' := 82) ?_
  obtain ⟨a14, rfl, H⟩ := H
  obtain ⟨ht15, H⟩ := H
  refine g_call rfl (y := 173) (n := 2) (pc' := 85) (g_vt ht15 rfl rfl) rfl rfl ⟨(Nat.le_of_ble_eq_true rfl), (Nat.le_of_ble_eq_true rfl), (Nat.le_of_ble_eq_true rfl)⟩ rfl (gm_G.mono H (pV_elim (fun h16 H' => ?_) (fun e23 h24 H => ?_)))
  · show gm_G _ 85 _ _ _ _
    replace H := H'
    clear H'
    refine g_aload (r := some _) rfl rfl rfl (pc' := 86) ?_
    refine g_aload (r := some _) rfl rfl rfl (pc' := 87) ?_
    obtain ⟨ht17, H⟩ := H
    refine g_getI rfl rfl rfl rfl ht17 (pc' := 90) rfl ?_
    refine g_aload (r := some _) rfl rfl rfl (pc' := 92) ?_
    obtain ⟨ht18, H⟩ := H
    refine g_getI rfl rfl rfl rfl ht18 (pc' := 95) rfl ?_
    obtain ⟨ht19, H⟩ := H
    refine g_call rfl (y := 186) (n := 3) (pc' := 98) (g_vt ht19 rfl rfl) rfl rfl ⟨(Nat.le_of_ble_eq_true rfl), (Nat.le_of_ble_eq_true rfl), (Nat.le_of_ble_eq_true rfl)⟩ rfl (gm_G.mono H (pV_elim (fun h20 H' => ?_) (fun e21 h22 H => ?_)))
    · show gm_G _ 98 _ _ _ _
      replace H := H'
      clear H'
      exact g_weak (show gm_Lle [none, none, none, none, none, some _] _ from ⟨rfl, trivial⟩) H
    · exact H
  · exact H
set_option maxRecDepth 20000 in
theorem w_334_98 {a0 : Nat} {r_5 : Option Nat} {h : hh_T} {Q : Option Value ⊕ Nat → hh_T → Prop} (H : Q (.inl (some (va_rf r_5))) h) : gm_G 334 98 [none, none, none, none, none, some (va_rf r_5)] [] h Q := by
  refine g_aload (r := _) rfl rfl rfl (pc' := 100) ?_
  exact g_areturn (r := _) rfl H
set_option maxRecDepth 20000 in
theorem w_335_0 {a0 : Nat} {r_1 : Option Nat} {x2 : Int32} {x3 : Int32} {h : hh_T} {Q : Option Value ⊕ Nat → hh_T → Prop} (H : gm_G 335 3 [some (.ref a0), some (va_rf r_1), some (.int x2), some (.int x3), some (.int (Int32.ofNat 0))] [] h Q) : gm_G 335 0 [some (.ref a0), some (va_rf r_1), some (.int x2), some (.int x3)] [] h Q := by
  refine g_iconst rfl rfl rfl (pc' := 1) ?_
  refine g_istore rfl rfl rfl (pc' := 3) ?_
  exact g_weak (show gm_Lle [some _, some _, some _, some _, some _] _ from ⟨rfl, ⟨rfl, ⟨rfl, ⟨rfl, ⟨rfl, trivial⟩⟩⟩⟩⟩) H
set_option maxRecDepth 20000 in
theorem w_335_3 {a0 : Nat} {r_1 : Option Nat} {x2 : Int32} {x3 : Int32} {x4 : Int32} {h : hh_T} {Q : Option Value ⊕ Nat → hh_T → Prop} (H : ∃ a1, r_1 = some a1 ∧ (gm_sub (hh_tg h a1) 25 = true ∧ ((¬ x4 < (hh_i h a1 9) → ((¬ x2 = (hh_i h a1 3) → (hh_tg h a0 = 1 ∧ (gm_G 8 0 [some (.ref a0), some (.int x2), some (.int (hh_i h a1 4))] [] h (pI (fun v5 h4 => (v5 = Int32.ofNat 0 → (gm_G 335 97 [none, some (.ref a1), none, some (.int x3)] [.int (Int32.ofNat 0)] h4 Q)) ∧ (¬ v5 = Int32.ofNat 0 → (gm_G 335 97 [none, some (.ref a1), none, some (.int x3)] [.int (Int32.ofNat 3)] h4 Q))) (fun e6 h7 => hh_tg h7 e6 = 21 ∧ Q (.inr e6) h7))))) ∧ (x2 = (hh_i h a1 3) → (gm_G 335 97 [none, some (.ref a1), none, some (.int x3)] [.int (Int32.ofNat 6)] h Q)))) ∧ (x4 < (hh_i h a1 9) → (∀ r8, r8 = hh_r h a1 10 → (∃ a9, r8 = some a9 ∧ ((hh_tg h a9 = 100 ∨ hh_tg h a9 = 105) ∧ (∃ n10, gm_ix x4 n10 (hh_ln h a9) ∧ (((((hh_i h a9 n10) >>> ((Int32.ofNat 8) &&& 31)) &&& x3) = Int32.ofNat 0 → (gm_G 335 61 [some (.ref a0), some (.ref a1), some (.int x2), some (.int x3), some (.int x4)] [] h Q)) ∧ (¬ (((hh_i h a9 n10) >>> ((Int32.ofNat 8) &&& 31)) &&& x3) = Int32.ofNat 0 → (hh_tg h a0 = 1 ∧ (gm_G 229 0 [some (.ref a0), some (.ref a1), some (.int x2), some (.int (((hh_i h a9 n10) >>> ((Int32.ofNat 1) &&& 31)) &&& (Int32.ofNat 127)))] [] h (pI (fun v14 h13 => (v14 = Int32.ofNat 0 → (gm_G 335 61 [some (.ref a0), some (.ref a1), some (.int x2), some (.int x3), some (.int x4)] [] h13 Q)) ∧ (¬ v14 = Int32.ofNat 0 → ((¬ ((hh_i h a9 n10) &&& (Int32.ofNat 1)) = (Int32.ofNat 1) → (Q (.inl (some (.int (Int32.ofNat 0)))) h13)) ∧ (((hh_i h a9 n10) &&& (Int32.ofNat 1)) = (Int32.ofNat 1) → (Q (.inl (some (.int (Int32.ofNat 1)))) h13))))) (fun e15 h16 => hh_tg h16 e15 = 21 ∧ Q (.inr e15) h16)))))))))))))) : gm_G 335 3 [some (.ref a0), some (va_rf r_1), some (.int x2), some (.int x3), some (.int x4)] [] h Q := by
  refine g_iload rfl rfl rfl (pc' := 5) ?_
  refine g_aload (r := _) rfl rfl rfl (pc' := 6) ?_
  obtain ⟨a1, rfl, H⟩ := H
  obtain ⟨ht2, H⟩ := H
  refine g_getI rfl rfl rfl rfl ht2 (pc' := 9) rfl ?_
  refine g_ic_ge rfl (pc' := 12) (pt := 67) rfl rfl ⟨fun hc => ?_, fun hc => ?_⟩
  · replace H := H.1 hc
    refine g_iload rfl rfl rfl (pc' := 68) ?_
    refine g_aload (r := some _) rfl rfl rfl (pc' := 69) ?_
    refine g_getI rfl rfl rfl rfl ht2 (pc' := 72) rfl ?_
    refine g_ic_ne rfl (pc' := 75) (pt := 80) rfl rfl ⟨fun hc => ?_, fun hc => ?_⟩
    · replace H := H.1 hc
      refine g_aload (r := some _) rfl rfl rfl (pc' := 81) ?_
      refine g_iload rfl rfl rfl (pc' := 82) ?_
      refine g_aload (r := some _) rfl rfl rfl (pc' := 83) ?_
      refine g_getI rfl rfl rfl rfl ht2 (pc' := 86) rfl ?_
      obtain ⟨ht3, H⟩ := H
      refine g_call rfl (y := 8) (n := 3) (pc' := 89) (g_vt ht3 rfl rfl) rfl rfl ⟨(Nat.le_of_ble_eq_true rfl), (Nat.le_of_ble_eq_true rfl), (Nat.le_of_ble_eq_true rfl)⟩ rfl (gm_G.mono H (pI_elim (fun v5 h4 H' => ?_) (fun e6 h7 H => ?_)))
      · show gm_G _ 89 _ _ _ _
        replace H := H'
        clear H'
        refine g_if_eq rfl (pc' := 92) (pt := 96) rfl rfl ⟨fun hc => ?_, fun hc => ?_⟩
        · replace H := H.1 hc
          refine g_iconst rfl rfl rfl (pc' := 97) ?_
          exact g_weak (show gm_Lle [none, some _, none, some _] _ from ⟨rfl, ⟨rfl, trivial⟩⟩) H
        · replace H := H.2 hc
          refine g_iconst rfl rfl rfl (pc' := 93) ?_
          refine g_goto rfl (pc' := 97) rfl ?_
          exact g_weak (show gm_Lle [none, some _, none, some _] _ from ⟨rfl, ⟨rfl, trivial⟩⟩) H
      · exact H
    · replace H := H.2 hc
      refine g_iconst rfl rfl rfl (pc' := 77) ?_
      refine g_goto rfl (pc' := 97) rfl ?_
      exact g_weak (show gm_Lle [none, some _, none, some _] _ from ⟨rfl, ⟨rfl, trivial⟩⟩) H
  · replace H := H.2 hc
    refine g_aload (r := some _) rfl rfl rfl (pc' := 13) ?_
    refine g_getRv rfl rfl rfl rfl ht2 (pc' := 16) rfl (fun r8 hr8 => ?_)
    replace H := H r8 hr8
    refine g_iload rfl rfl rfl (pc' := 18) ?_
    obtain ⟨a9, rfl, H⟩ := H
    obtain ⟨ht11, H⟩ := H
    obtain ⟨n10, hn10, H⟩ := H
    refine g_iaload rfl ht11 hn10 (pc' := 19) rfl ?_
    refine g_istore rfl rfl rfl (pc' := 21) ?_
    refine g_iload rfl rfl rfl (pc' := 23) ?_
    refine g_iconst rfl rfl rfl (pc' := 25) ?_
    refine g_ishr rfl rfl (pc' := 26) ?_
    refine g_iload rfl rfl rfl (pc' := 27) ?_
    refine g_iand rfl rfl (pc' := 28) ?_
    refine g_if_eq rfl (pc' := 31) (pt := 61) rfl rfl ⟨fun hc => ?_, fun hc => ?_⟩
    · replace H := H.1 hc
      exact g_weak (show gm_Lle [some _, some _, some _, some _, some _] _ from ⟨rfl, ⟨rfl, ⟨rfl, ⟨rfl, ⟨rfl, trivial⟩⟩⟩⟩⟩) H
    · replace H := H.2 hc
      refine g_aload (r := some _) rfl rfl rfl (pc' := 32) ?_
      refine g_aload (r := some _) rfl rfl rfl (pc' := 33) ?_
      refine g_iload rfl rfl rfl (pc' := 34) ?_
      refine g_iload rfl rfl rfl (pc' := 36) ?_
      refine g_iconst rfl rfl rfl (pc' := 37) ?_
      refine g_ishr rfl rfl (pc' := 38) ?_
      refine g_iconst rfl rfl rfl (pc' := 40) ?_
      refine g_iand rfl rfl (pc' := 41) ?_
      obtain ⟨ht12, H⟩ := H
      refine g_call rfl (y := 229) (n := 4) (pc' := 44) (g_vt ht12 rfl rfl) rfl rfl ⟨(Nat.le_of_ble_eq_true rfl), (Nat.le_of_ble_eq_true rfl), (Nat.le_of_ble_eq_true rfl)⟩ rfl (gm_G.mono H (pI_elim (fun v14 h13 H' => ?_) (fun e15 h16 H => ?_)))
      · show gm_G _ 44 _ _ _ _
        replace H := H'
        clear H'
        refine g_if_eq rfl (pc' := 47) (pt := 61) rfl rfl ⟨fun hc => ?_, fun hc => ?_⟩
        · replace H := H.1 hc
          exact g_weak (show gm_Lle [some _, some _, some _, some _, some _] _ from ⟨rfl, ⟨rfl, ⟨rfl, ⟨rfl, ⟨rfl, trivial⟩⟩⟩⟩⟩) H
        · replace H := H.2 hc
          refine g_iload rfl rfl rfl (pc' := 49) ?_
          refine g_iconst rfl rfl rfl (pc' := 50) ?_
          refine g_iand rfl rfl (pc' := 51) ?_
          refine g_iconst rfl rfl rfl (pc' := 52) ?_
          refine g_ic_ne rfl (pc' := 55) (pt := 59) rfl rfl ⟨fun hc => ?_, fun hc => ?_⟩
          · replace H := H.1 hc
            refine g_iconst rfl rfl rfl (pc' := 60) ?_
            exact g_ireturn rfl (Or.inr (by decide)) H
          · replace H := H.2 hc
            refine g_iconst rfl rfl rfl (pc' := 56) ?_
            refine g_goto rfl (pc' := 60) rfl ?_
            exact g_ireturn rfl (Or.inr (by decide)) H
      · exact H
set_option maxRecDepth 20000 in
theorem w_335_61 {a0 : Nat} {r_1 : Option Nat} {x2 : Int32} {x3 : Int32} {x4 : Int32} {h : hh_T} {Q : Option Value ⊕ Nat → hh_T → Prop} (H : gm_G 335 3 [some (.ref a0), some (va_rf r_1), some (.int x2), some (.int x3), some (.int (x4 + (Int32.ofNat 1)))] [] h Q) : gm_G 335 61 [some (.ref a0), some (va_rf r_1), some (.int x2), some (.int x3), some (.int x4)] [] h Q := by
  refine g_iinc (c := (Int32.ofNat 1)) rfl rfl rfl rfl rfl (pc' := 64) ?_
  refine g_goto rfl (pc' := 3) rfl ?_
  exact g_weak (show gm_Lle [some _, some _, some _, some _, some _] _ from ⟨rfl, ⟨rfl, ⟨rfl, ⟨rfl, ⟨rfl, trivial⟩⟩⟩⟩⟩) H
set_option maxRecDepth 20000 in
theorem w_335_97 {a0 : Nat} {r_1 : Option Nat} {x3 : Int32} {y0 : Int32} {h : hh_T} {Q : Option Value ⊕ Nat → hh_T → Prop} (H : ∃ a1, r_1 = some a1 ∧ (gm_sub (hh_tg h a1) 25 = true ∧ (((((hh_i h a1 2) >>> (y0 &&& 31)) &&& x3) = Int32.ofNat 0 → (Q (.inl (some (.int (Int32.ofNat 0)))) h)) ∧ (¬ (((hh_i h a1 2) >>> (y0 &&& 31)) &&& x3) = Int32.ofNat 0 → (Q (.inl (some (.int (Int32.ofNat 1)))) h))))) : gm_G 335 97 [none, some (va_rf r_1), none, some (.int x3)] [.int y0] h Q := by
  refine g_istore rfl rfl rfl (pc' := 99) ?_
  refine g_aload (r := _) rfl rfl rfl (pc' := 100) ?_
  obtain ⟨a1, rfl, H⟩ := H
  obtain ⟨ht2, H⟩ := H
  refine g_getI rfl rfl rfl rfl ht2 (pc' := 103) rfl ?_
  refine g_iload rfl rfl rfl (pc' := 105) ?_
  refine g_ishr rfl rfl (pc' := 106) ?_
  refine g_iload rfl rfl rfl (pc' := 107) ?_
  refine g_iand rfl rfl (pc' := 108) ?_
  refine g_if_eq rfl (pc' := 111) (pt := 115) rfl rfl ⟨fun hc => ?_, fun hc => ?_⟩
  · replace H := H.1 hc
    refine g_iconst rfl rfl rfl (pc' := 116) ?_
    exact g_ireturn rfl (Or.inr (by decide)) H
  · replace H := H.2 hc
    refine g_iconst rfl rfl rfl (pc' := 112) ?_
    refine g_goto rfl (pc' := 116) rfl ?_
    exact g_ireturn rfl (Or.inr (by decide)) H
set_option maxRecDepth 20000 in
theorem w_336_0 {a0 : Nat} {x1 : Int32} {x2 : Int32} {h : hh_T} {Q : Option Value ⊕ Nat → hh_T → Prop} (H : hh_tg h a0 = 1 ∧ (gm_G 228 0 [some (.ref a0), some (.int x1)] [] h (pI (fun v3 h2 => (¬ v3 = Int32.ofNat 0 → (gm_sub (hh_tg h2 a0) 0 = true ∧ (∀ r5, r5 = hh_r h2 a0 0 → (∃ a6, r5 = some a6 ∧ ((hh_tg h2 a6 = 104 ∨ 200 ≤ hh_tg h2 a6) ∧ (∃ n7, gm_ix x1 n7 (hh_ln h2 a6) ∧ (∀ r9, r9 = hh_r h2 a6 n7 → (∃ a10, r9 = some a10 ∧ (gm_sub (hh_tg h2 a10) 21 = true ∧ ((¬ (hh_i h2 a10 4) = Int32.ofNat 0 → (gm_G 336 27 [some (.ref a0), some (.int x1), some (.int x2)] [.int (Int32.ofNat 0)] h2 Q)) ∧ ((hh_i h2 a10 4) = Int32.ofNat 0 → (gm_G 336 27 [some (.ref a0), some (.int x1), some (.int x2)] [.int (Int32.ofNat 1)] h2 Q)))))))))))) ∧ (v3 = Int32.ofNat 0 → (Q (.inl (some (.int (Int32.ofInt (-1))))) h2))) (fun e12 h13 => hh_tg h13 e12 = 21 ∧ Q (.inr e12) h13)))) : gm_G 336 0 [some (.ref a0), some (.int x1), some (.int x2)] [] h Q := by
  refine g_aload (r := some _) rfl rfl rfl (pc' := 1) ?_
  refine g_iload rfl rfl rfl (pc' := 2) ?_
  obtain ⟨ht1, H⟩ := H
  refine g_call rfl (y := 228) (n := 2) (pc' := 5) (g_vt ht1 rfl rfl) rfl rfl ⟨(Nat.le_of_ble_eq_true rfl), (Nat.le_of_ble_eq_true rfl), (Nat.le_of_ble_eq_true rfl)⟩ rfl (gm_G.mono H (pI_elim (fun v3 h2 H' => ?_) (fun e12 h13 H => ?_)))
  · show gm_G _ 5 _ _ _ _
    replace H := H'
    clear H'
    refine g_if_ne rfl (pc' := 8) (pt := 10) rfl rfl ⟨fun hc => ?_, fun hc => ?_⟩
    · replace H := H.1 hc
      refine g_aload (r := some _) rfl rfl rfl (pc' := 11) ?_
      obtain ⟨ht4, H⟩ := H
      refine g_getRv rfl rfl rfl rfl ht4 (pc' := 14) rfl (fun r5 hr5 => ?_)
      replace H := H r5 hr5
      refine g_iload rfl rfl rfl (pc' := 15) ?_
      obtain ⟨a6, rfl, H⟩ := H
      obtain ⟨ht8, H⟩ := H
      obtain ⟨n7, hn7, H⟩ := H
      refine g_aaloadv rfl ht8 hn7 (pc' := 16) rfl (fun r9 hr9 => ?_)
      replace H := H r9 hr9
      obtain ⟨a10, rfl, H⟩ := H
      obtain ⟨ht11, H⟩ := H
      refine g_getZ rfl rfl rfl rfl ht11 (pc' := 19) rfl ?_
      refine g_if_ne rfl (pc' := 22) (pt := 26) rfl rfl ⟨fun hc => ?_, fun hc => ?_⟩
      · replace H := H.1 hc
        refine g_iconst rfl rfl rfl (pc' := 27) ?_
        exact g_weak (show gm_Lle [some _, some _, some _] _ from ⟨rfl, ⟨rfl, ⟨rfl, trivial⟩⟩⟩) H
      · replace H := H.2 hc
        refine g_iconst rfl rfl rfl (pc' := 23) ?_
        refine g_goto rfl (pc' := 27) rfl ?_
        exact g_weak (show gm_Lle [some _, some _, some _] _ from ⟨rfl, ⟨rfl, ⟨rfl, trivial⟩⟩⟩) H
    · replace H := H.2 hc
      refine g_iconst rfl rfl rfl (pc' := 9) ?_
      exact g_ireturn rfl (Or.inl rfl) H
  · exact H
set_option maxRecDepth 20000 in
theorem w_336_27 {a0 : Nat} {x1 : Int32} {x2 : Int32} {y0 : Int32} {h : hh_T} {Q : Option Value ⊕ Nat → hh_T → Prop} (H : gm_sub (hh_tg h a0) 0 = true ∧ (∀ r2, r2 = hh_r h a0 0 → (∃ a3, r2 = some a3 ∧ ((hh_tg h a3 = 104 ∨ 200 ≤ hh_tg h a3) ∧ (∃ n4, gm_ix x1 n4 (hh_ln h a3) ∧ (∀ r6, r6 = hh_r h a3 n4 → ((¬ x2 = Int32.ofNat 0 → (gm_G 336 43 [none, none, some (.int x2), some (.int y0)] [.int (Int32.ofNat 0), va_rf r6] h Q)) ∧ (x2 = Int32.ofNat 0 → (gm_G 336 43 [none, none, some (.int x2), some (.int y0)] [.int (Int32.ofNat 1), va_rf r6] h Q))))))))) : gm_G 336 27 [some (.ref a0), some (.int x1), some (.int x2)] [.int y0] h Q := by
  refine g_istore rfl rfl rfl (pc' := 28) ?_
  refine g_aload (r := some _) rfl rfl rfl (pc' := 29) ?_
  obtain ⟨ht1, H⟩ := H
  refine g_getRv rfl rfl rfl rfl ht1 (pc' := 32) rfl (fun r2 hr2 => ?_)
  replace H := H r2 hr2
  refine g_iload rfl rfl rfl (pc' := 33) ?_
  obtain ⟨a3, rfl, H⟩ := H
  obtain ⟨ht5, H⟩ := H
  obtain ⟨n4, hn4, H⟩ := H
  refine g_aaloadv rfl ht5 hn4 (pc' := 34) rfl (fun r6 hr6 => ?_)
  replace H := H r6 hr6
  refine g_iload rfl rfl rfl (pc' := 35) ?_
  refine g_if_ne rfl (pc' := 38) (pt := 42) rfl rfl ⟨fun hc => ?_, fun hc => ?_⟩
  · replace H := H.1 hc
    refine g_iconst rfl rfl rfl (pc' := 43) ?_
    exact g_weak (show gm_Lle [none, none, some _, some _] _ from ⟨rfl, ⟨rfl, trivial⟩⟩) H
  · replace H := H.2 hc
    refine g_iconst rfl rfl rfl (pc' := 39) ?_
    refine g_goto rfl (pc' := 43) rfl ?_
    exact g_weak (show gm_Lle [none, none, some _, some _] _ from ⟨rfl, ⟨rfl, trivial⟩⟩) H
set_option maxRecDepth 20000 in
theorem w_336_43 {a0 : Nat} {x2 : Int32} {x3 : Int32} {y0 : Int32} {q1 : Option Nat} {h : hh_T} {Q : Option Value ⊕ Nat → hh_T → Prop} (H : ∃ a1, q1 = some a1 ∧ (gm_sub (hh_tg h a1) 21 = true ∧ ((y0 = 0 ∨ y0 = 1) ∧ (∀ h3, h3 = hh_wi h a1 4 y0 → ((¬ x3 = x2 → (Q (.inl (some (.int (Int32.ofNat 1)))) h3)) ∧ (x3 = x2 → (Q (.inl (some (.int (Int32.ofNat 0)))) h3))))))) : gm_G 336 43 [none, none, some (.int x2), some (.int x3)] [.int y0, va_rf q1] h Q := by
  obtain ⟨a1, rfl, H⟩ := H
  obtain ⟨ht2, H⟩ := H
  obtain ⟨Hz, H⟩ := H
  refine g_putZ rfl rfl rfl rfl ht2 Hz (pc' := 46) rfl ?_
  replace H := H _ rfl
  refine g_iload rfl rfl rfl (pc' := 47) ?_
  refine g_iload rfl rfl rfl (pc' := 48) ?_
  refine g_ic_ne rfl (pc' := 51) (pt := 55) rfl rfl ⟨fun hc => ?_, fun hc => ?_⟩
  · replace H := H.1 hc
    refine g_iconst rfl rfl rfl (pc' := 56) ?_
    exact g_ireturn rfl (Or.inl rfl) H
  · replace H := H.2 hc
    refine g_iconst rfl rfl rfl (pc' := 52) ?_
    refine g_goto rfl (pc' := 56) rfl ?_
    exact g_ireturn rfl (Or.inl rfl) H
set_option maxRecDepth 20000 in
theorem w_337_0 {a0 : Nat} {r_1 : Option Nat} {h : hh_T} {Q : Option Value ⊕ Nat → hh_T → Prop} (H : hh_tg h a0 = 1 ∧ (gm_G 220 0 [some (.ref a0)] [] h (pR (fun r3 h2 => ∃ a4, r_1 = some a4 ∧ (gm_sub (hh_tg h2 a4) 24 = true ∧ (∃ a6, r3 = some a6 ∧ (gm_sub (hh_tg h2 a6) 24 = true ∧ (∀ h8, h8 = hh_wi h2 a6 1 (hh_i h2 a4 1) → (gm_G 337 15 [none, some (.ref a4), some (.ref a6), some (.int (Int32.ofNat 0))] [] h8 Q)))))) (fun e9 h10 => hh_tg h10 e9 = 21 ∧ Q (.inr e9) h10)))) : gm_G 337 0 [some (.ref a0), some (va_rf r_1)] [] h Q := by
  refine g_aload (r := some _) rfl rfl rfl (pc' := 1) ?_
  obtain ⟨ht1, H⟩ := H
  refine g_call rfl (y := 220) (n := 1) (pc' := 4) (g_vt ht1 rfl rfl) rfl rfl ⟨(Nat.le_of_ble_eq_true rfl), (Nat.le_of_ble_eq_true rfl), (Nat.le_of_ble_eq_true rfl)⟩ rfl (gm_G.mono H (pR_elim (fun r3 h2 H' => ?_) (fun e9 h10 H => ?_)))
  · show gm_G _ 4 _ _ _ _
    replace H := H'
    clear H'
    refine g_astore (r := _) rfl gm_sto_rf1 rfl (pc' := 5) ?_
    refine g_aload (r := _) rfl rfl rfl (pc' := 6) ?_
    refine g_aload (r := _) rfl rfl rfl (pc' := 7) ?_
    obtain ⟨a4, rfl, H⟩ := H
    obtain ⟨ht5, H⟩ := H
    refine g_getI rfl rfl rfl rfl ht5 (pc' := 10) rfl ?_
    obtain ⟨a6, rfl, H⟩ := H
    obtain ⟨ht7, H⟩ := H
    refine g_putI rfl rfl rfl rfl ht7  (pc' := 13) rfl ?_
    replace H := H _ rfl
    refine g_iconst rfl rfl rfl (pc' := 14) ?_
    refine g_istore rfl rfl rfl (pc' := 15) ?_
    exact g_weak (show gm_Lle [none, some _, some _, some _] _ from ⟨rfl, ⟨rfl, ⟨rfl, trivial⟩⟩⟩) H
  · exact H
set_option maxRecDepth 20000 in
theorem w_337_15 {a0 : Nat} {r_1 : Option Nat} {r_2 : Option Nat} {x3 : Int32} {h : hh_T} {Q : Option Value ⊕ Nat → hh_T → Prop} (H : (¬ x3 < (Int32.ofNat 16) → (Q (.inl (some (va_rf r_2))) h)) ∧ (x3 < (Int32.ofNat 16) → (∃ a1, r_2 = some a1 ∧ (gm_sub (hh_tg h a1) 24 = true ∧ (∀ r3, r3 = hh_r h a1 2 → (∃ a4, r_1 = some a4 ∧ (gm_sub (hh_tg h a4) 24 = true ∧ (∀ r6, r6 = hh_r h a4 2 → (∃ a7, r6 = some a7 ∧ ((hh_tg h a7 = 104 ∨ 200 ≤ hh_tg h a7) ∧ (∃ n8, gm_ix x3 n8 (hh_ln h a7) ∧ (∀ r10, r10 = hh_r h a7 n8 → (∃ a11, r3 = some a11 ∧ (200 ≤ hh_tg h a11 ∧ (∀ b, r10 = some b → gm_as (hh_tg h a11) (hh_tg h b) = true) ∧ (∃ n12, gm_ix x3 n12 (hh_ln h a11) ∧ (∀ h13, h13 = hh_wr h a11 n12 r10 → (∀ r14, r14 = hh_r h13 a1 2 → (∃ a15, r14 = some a15 ∧ ((hh_tg h13 a15 = 104 ∨ 200 ≤ hh_tg h13 a15) ∧ (∃ n16, gm_ix x3 n16 (hh_ln h13 a15) ∧ (∀ r18, r18 = hh_r h13 a15 n16 → ((r18 = none → (gm_G 337 57 [none, some (.ref a4), some (.ref a1), some (.int x3)] [] h13 Q)) ∧ (∀ a19, r18 = some a19 → (∀ r20, r20 = hh_r h13 a1 2 → (∃ a21, r20 = some a21 ∧ ((hh_tg h13 a21 = 104 ∨ 200 ≤ hh_tg h13 a21) ∧ (∃ n22, gm_ix x3 n22 (hh_ln h13 a21) ∧ (∀ r24, r24 = hh_r h13 a21 n22 → (∃ a25, r24 = some a25 ∧ (gm_sub (hh_tg h13 a25) 25 = true ∧ (∀ h27, h27 = hh_wi h13 a25 0 ((hh_i h13 a25 0) + (Int32.ofNat 1)) → (gm_G 337 57 [none, some (.ref a4), some (.ref a1), some (.int x3)] [] h27 Q)))))))))))))))))))))))))))))))) : gm_G 337 15 [none, some (va_rf r_1), some (va_rf r_2), some (.int x3)] [] h Q := by
  refine g_iload rfl rfl rfl (pc' := 16) ?_
  refine g_iconst rfl rfl rfl (pc' := 18) ?_
  refine g_ic_ge rfl (pc' := 21) (pt := 63) rfl rfl ⟨fun hc => ?_, fun hc => ?_⟩
  · replace H := H.1 hc
    refine g_aload (r := _) rfl rfl rfl (pc' := 64) ?_
    exact g_areturn (r := _) rfl H
  · replace H := H.2 hc
    refine g_aload (r := _) rfl rfl rfl (pc' := 22) ?_
    obtain ⟨a1, rfl, H⟩ := H
    obtain ⟨ht2, H⟩ := H
    refine g_getRv rfl rfl rfl rfl ht2 (pc' := 25) rfl (fun r3 hr3 => ?_)
    replace H := H r3 hr3
    refine g_iload rfl rfl rfl (pc' := 26) ?_
    refine g_aload (r := _) rfl rfl rfl (pc' := 27) ?_
    obtain ⟨a4, rfl, H⟩ := H
    obtain ⟨ht5, H⟩ := H
    refine g_getRv rfl rfl rfl rfl ht5 (pc' := 30) rfl (fun r6 hr6 => ?_)
    replace H := H r6 hr6
    refine g_iload rfl rfl rfl (pc' := 31) ?_
    obtain ⟨a7, rfl, H⟩ := H
    obtain ⟨ht9, H⟩ := H
    obtain ⟨n8, hn8, H⟩ := H
    refine g_aaloadv rfl ht9 hn8 (pc' := 32) rfl (fun r10 hr10 => ?_)
    replace H := H r10 hr10
    obtain ⟨a11, rfl, H⟩ := H
    obtain ⟨Ha, Hb, H⟩ := H
    obtain ⟨n12, hn12, H⟩ := H
    refine g_aastore (r := _) rfl Ha Hb hn12 (pc' := 33) rfl ?_
    replace H := H _ rfl
    refine g_aload (r := some _) rfl rfl rfl (pc' := 34) ?_
    refine g_getRv rfl rfl rfl rfl ht2 (pc' := 37) rfl (fun r14 hr14 => ?_)
    replace H := H r14 hr14
    refine g_iload rfl rfl rfl (pc' := 38) ?_
    obtain ⟨a15, rfl, H⟩ := H
    obtain ⟨ht17, H⟩ := H
    obtain ⟨n16, hn16, H⟩ := H
    refine g_aaloadv rfl ht17 hn16 (pc' := 39) rfl (fun r18 hr18 => ?_)
    replace H := H r18 hr18
    refine g_ifnull rfl (pc' := 42) (pt := 57) rfl rfl ⟨fun hc => ?_, fun a19 hc => ?_⟩
    · replace H := H.1 hc
      subst hc
      exact g_weak (show gm_Lle [none, some _, some _, some _] _ from ⟨rfl, ⟨rfl, ⟨rfl, trivial⟩⟩⟩) H
    · replace H := H.2 a19 hc
      subst hc
      refine g_aload (r := some _) rfl rfl rfl (pc' := 43) ?_
      refine g_getRv rfl rfl rfl rfl ht2 (pc' := 46) rfl (fun r20 hr20 => ?_)
      replace H := H r20 hr20
      refine g_iload rfl rfl rfl (pc' := 47) ?_
      obtain ⟨a21, rfl, H⟩ := H
      obtain ⟨ht23, H⟩ := H
      obtain ⟨n22, hn22, H⟩ := H
      refine g_aaloadv rfl ht23 hn22 (pc' := 48) rfl (fun r24 hr24 => ?_)
      replace H := H r24 hr24
      refine g_dup_a (r := _) rfl rfl (pc' := 49) ?_
      obtain ⟨a25, rfl, H⟩ := H
      obtain ⟨ht26, H⟩ := H
      refine g_getI rfl rfl rfl rfl ht26 (pc' := 52) rfl ?_
      refine g_iconst rfl rfl rfl (pc' := 53) ?_
      refine g_iadd rfl rfl (pc' := 54) ?_
      refine g_putI rfl rfl rfl rfl ht26  (pc' := 57) rfl ?_
      replace H := H _ rfl
      exact g_weak (show gm_Lle [none, some _, some _, some _] _ from ⟨rfl, ⟨rfl, ⟨rfl, trivial⟩⟩⟩) H
set_option maxRecDepth 20000 in
theorem w_337_57 {a0 : Nat} {r_1 : Option Nat} {r_2 : Option Nat} {x3 : Int32} {h : hh_T} {Q : Option Value ⊕ Nat → hh_T → Prop} (H : gm_G 337 15 [none, some (va_rf r_1), some (va_rf r_2), some (.int (x3 + (Int32.ofNat 1)))] [] h Q) : gm_G 337 57 [none, some (va_rf r_1), some (va_rf r_2), some (.int x3)] [] h Q := by
  refine g_iinc (c := (Int32.ofNat 1)) rfl rfl rfl gm_sto_rf2 rfl (pc' := 60) ?_
  refine g_goto rfl (pc' := 15) rfl ?_
  exact g_weak (show gm_Lle [none, some _, some _, some _] _ from ⟨rfl, ⟨rfl, ⟨rfl, trivial⟩⟩⟩) H
set_option maxRecDepth 20000 in
theorem w_338_0 {a0 : Nat} {x1 : Int32} {x2 : Int32} {h : hh_T} {Q : Option Value ⊕ Nat → hh_T → Prop} (H : hh_tg h a0 = 1 ∧ (gm_G 228 0 [some (.ref a0), some (.int x1)] [] h (pI (fun v3 h2 => (v3 = Int32.ofNat 0 → (Q (.inl (some (.int (Int32.ofInt (-1))))) h2)) ∧ (¬ v3 = Int32.ofNat 0 → (gm_sub (hh_tg h2 a0) 0 = true ∧ (∀ r5, r5 = hh_r h2 a0 0 → (∃ a6, r5 = some a6 ∧ ((hh_tg h2 a6 = 104 ∨ 200 ≤ hh_tg h2 a6) ∧ (∃ n7, gm_ix x1 n7 (hh_ln h2 a6) ∧ (∀ r9, r9 = hh_r h2 a6 n7 → (∃ a10, r9 = some a10 ∧ (gm_sub (hh_tg h2 a10) 21 = true ∧ (gm_G 5 0 [some (.int x2), some (.int (Int32.ofNat 0)), some (.int ((hh_i h2 a10 0) - (Int32.ofNat 1)))] [] h2 (pI (fun v13 h12 => (¬ v13 = Int32.ofNat 0 → (gm_sub (hh_tg h12 a0) 0 = true ∧ (∀ r15, r15 = hh_r h12 a0 0 → (∃ a16, r15 = some a16 ∧ ((hh_tg h12 a16 = 104 ∨ 200 ≤ hh_tg h12 a16) ∧ (∃ n17, gm_ix x1 n17 (hh_ln h12 a16) ∧ (∀ r19, r19 = hh_r h12 a16 n17 → (∃ a20, r19 = some a20 ∧ (gm_sub (hh_tg h12 a20) 21 = true ∧ (∀ r22, r22 = hh_r h12 a20 2 → (∃ a23, r22 = some a23 ∧ ((hh_tg h12 a23 = 101 ∨ hh_tg h12 a23 = 102) ∧ (∃ n24, gm_ix x2 n24 (hh_ln h12 a23) ∧ (∀ r26, r26 = hh_r h12 a0 0 → (∃ a27, r26 = some a27 ∧ ((hh_tg h12 a27 = 104 ∨ 200 ≤ hh_tg h12 a27) ∧ (∃ n28, gm_ix x1 n28 (hh_ln h12 a27) ∧ (∀ r30, r30 = hh_r h12 a27 n28 → (∃ a31, r30 = some a31 ∧ (gm_sub (hh_tg h12 a31) 21 = true ∧ (∀ r33, r33 = hh_r h12 a31 2 → (∃ a34, r33 = some a34 ∧ (hh_tg h12 a34 = 102 ∧ (∃ n35, gm_ix x2 n35 (hh_ln h12 a34) ∧ (∀ h36, h36 = hh_wi h12 a34 n35 (Int32.ofNat 1) → (((hh_i h12 a23 n24) = Int32.ofNat 0 → (Q (.inl (some (.int (Int32.ofNat 1)))) h36)) ∧ (¬ (hh_i h12 a23 n24) = Int32.ofNat 0 → (Q (.inl (some (.int (Int32.ofNat 0)))) h36)))))))))))))))))))))))))))) ∧ (v13 = Int32.ofNat 0 → (Q (.inl (some (.int (Int32.ofInt (-1))))) h12))) (fun e38 h39 => hh_tg h39 e38 = 21 ∧ Q (.inr e38) h39))))))))))))) (fun e40 h41 => hh_tg h41 e40 = 21 ∧ Q (.inr e40) h41)))) : gm_G 338 0 [some (.ref a0), some (.int x1), some (.int x2)] [] h Q := by
  refine g_aload (r := some _) rfl rfl rfl (pc' := 1) ?_
  refine g_iload rfl rfl rfl (pc' := 2) ?_
  obtain ⟨ht1, H⟩ := H
  refine g_call rfl (y := 228) (n := 2) (pc' := 5) (g_vt ht1 rfl rfl) rfl rfl ⟨(Nat.le_of_ble_eq_true rfl), (Nat.le_of_ble_eq_true rfl), (Nat.le_of_ble_eq_true rfl)⟩ rfl (gm_G.mono H (pI_elim (fun v3 h2 H' => ?_) (fun e40 h41 H => ?_)))
  · show gm_G _ 5 _ _ _ _
    replace H := H'
    clear H'
    refine g_if_eq rfl (pc' := 8) (pt := 27) rfl rfl ⟨fun hc => ?_, fun hc => ?_⟩
    · replace H := H.1 hc
      refine g_iconst rfl rfl rfl (pc' := 28) ?_
      exact g_ireturn rfl (Or.inl rfl) H
    · replace H := H.2 hc
      refine g_iload rfl rfl rfl (pc' := 9) ?_
      refine g_iconst rfl rfl rfl (pc' := 10) ?_
      refine g_aload (r := some _) rfl rfl rfl (pc' := 11) ?_
      obtain ⟨ht4, H⟩ := H
      refine g_getRv rfl rfl rfl rfl ht4 (pc' := 14) rfl (fun r5 hr5 => ?_)
      replace H := H r5 hr5
      refine g_iload rfl rfl rfl (pc' := 15) ?_
      obtain ⟨a6, rfl, H⟩ := H
      obtain ⟨ht8, H⟩ := H
      obtain ⟨n7, hn7, H⟩ := H
      refine g_aaloadv rfl ht8 hn7 (pc' := 16) rfl (fun r9 hr9 => ?_)
      replace H := H r9 hr9
      obtain ⟨a10, rfl, H⟩ := H
      obtain ⟨ht11, H⟩ := H
      refine g_getI rfl rfl rfl rfl ht11 (pc' := 19) rfl ?_
      refine g_iconst rfl rfl rfl (pc' := 20) ?_
      refine g_isub rfl rfl (pc' := 21) ?_
      refine g_call rfl (y := 5) (n := 3) (pc' := 24) (fun _ => rfl) rfl rfl ⟨(Nat.le_of_ble_eq_true rfl), (Nat.le_of_ble_eq_true rfl), (Nat.le_of_ble_eq_true rfl)⟩ rfl (gm_G.mono H (pI_elim (fun v13 h12 H' => ?_) (fun e38 h39 H => ?_)))
      · show gm_G _ 24 _ _ _ _
        replace H := H'
        clear H'
        refine g_if_ne rfl (pc' := 27) (pt := 29) rfl rfl ⟨fun hc => ?_, fun hc => ?_⟩
        · replace H := H.1 hc
          refine g_aload (r := some _) rfl rfl rfl (pc' := 30) ?_
          obtain ⟨ht14, H⟩ := H
          refine g_getRv rfl rfl rfl rfl ht14 (pc' := 33) rfl (fun r15 hr15 => ?_)
          replace H := H r15 hr15
          refine g_iload rfl rfl rfl (pc' := 34) ?_
          obtain ⟨a16, rfl, H⟩ := H
          obtain ⟨ht18, H⟩ := H
          obtain ⟨n17, hn17, H⟩ := H
          refine g_aaloadv rfl ht18 hn17 (pc' := 35) rfl (fun r19 hr19 => ?_)
          replace H := H r19 hr19
          obtain ⟨a20, rfl, H⟩ := H
          obtain ⟨ht21, H⟩ := H
          refine g_getRv rfl rfl rfl rfl ht21 (pc' := 38) rfl (fun r22 hr22 => ?_)
          replace H := H r22 hr22
          refine g_iload rfl rfl rfl (pc' := 39) ?_
          obtain ⟨a23, rfl, H⟩ := H
          obtain ⟨ht25, H⟩ := H
          obtain ⟨n24, hn24, H⟩ := H
          refine g_baload rfl ht25 hn24 (pc' := 40) rfl ?_
          refine g_istore rfl rfl rfl (pc' := 41) ?_
          refine g_aload (r := some _) rfl rfl rfl (pc' := 42) ?_
          refine g_getRv rfl rfl rfl rfl ht14 (pc' := 45) rfl (fun r26 hr26 => ?_)
          replace H := H r26 hr26
          refine g_iload rfl rfl rfl (pc' := 46) ?_
          obtain ⟨a27, rfl, H⟩ := H
          obtain ⟨ht29, H⟩ := H
          obtain ⟨n28, hn28, H⟩ := H
          refine g_aaloadv rfl ht29 hn28 (pc' := 47) rfl (fun r30 hr30 => ?_)
          replace H := H r30 hr30
          obtain ⟨a31, rfl, H⟩ := H
          obtain ⟨ht32, H⟩ := H
          refine g_getRv rfl rfl rfl rfl ht32 (pc' := 50) rfl (fun r33 hr33 => ?_)
          replace H := H r33 hr33
          refine g_iload rfl rfl rfl (pc' := 51) ?_
          refine g_iconst rfl rfl rfl (pc' := 52) ?_
          obtain ⟨a34, rfl, H⟩ := H
          obtain ⟨ht37, H⟩ := H
          obtain ⟨n35, hn35, H⟩ := H
          refine g_zastore rfl ht37 hn35 (by decide) (pc' := 53) rfl ?_
          replace H := H _ rfl
          refine g_iload rfl rfl rfl (pc' := 54) ?_
          refine g_if_eq rfl (pc' := 57) (pt := 61) rfl rfl ⟨fun hc => ?_, fun hc => ?_⟩
          · replace H := H.1 hc
            refine g_iconst rfl rfl rfl (pc' := 62) ?_
            exact g_ireturn rfl (Or.inl rfl) H
          · replace H := H.2 hc
            refine g_iconst rfl rfl rfl (pc' := 58) ?_
            refine g_goto rfl (pc' := 62) rfl ?_
            exact g_ireturn rfl (Or.inl rfl) H
        · replace H := H.2 hc
          refine g_iconst rfl rfl rfl (pc' := 28) ?_
          exact g_ireturn rfl (Or.inl rfl) H
      · exact H
  · exact H
set_option maxRecDepth 20000 in
theorem w_339_0  {r_0 : Option Nat} {x1 : Int32} {x2 : Int32} {h : hh_T} {Q : Option Value ⊕ Nat → hh_T → Prop} (H : (¬ x1 < x2 → (Q (.inl (some (.int (Int32.ofNat 0)))) h)) ∧ (x1 < x2 → (gm_G 13 0 [some (va_rf r_0), some (.int x1), some (.int x2)] [] h (pI (fun v2 h1 => gm_G 233 0 [some (va_rf r_0), some (.int v2), some (.int x2)] [] h1 (pL (fun v4 h3 => ((lg_cmp v4 (Int64.ofNat 0)) = Int32.ofNat 0 → (Q (.inl (some (.int (Int32.ofNat 0)))) h3)) ∧ (¬ (lg_cmp v4 (Int64.ofNat 0)) = Int32.ofNat 0 → (Q (.inl (some (.int (Int32.ofNat 1)))) h3))) (fun e5 h6 => hh_tg h6 e5 = 21 ∧ Q (.inr e5) h6))) (fun e7 h8 => hh_tg h8 e7 = 21 ∧ Q (.inr e7) h8))))) : gm_G 339 0 [some (va_rf r_0), some (.int x1), some (.int x2)] [] h Q := by
  refine g_iload rfl rfl rfl (pc' := 1) ?_
  refine g_iload rfl rfl rfl (pc' := 2) ?_
  refine g_ic_ge rfl (pc' := 5) (pt := 25) rfl rfl ⟨fun hc => ?_, fun hc => ?_⟩
  · replace H := H.1 hc
    refine g_iconst rfl rfl rfl (pc' := 26) ?_
    exact g_ireturn rfl (Or.inr (by decide)) H
  · replace H := H.2 hc
    refine g_aload (r := _) rfl rfl rfl (pc' := 6) ?_
    refine g_aload (r := _) rfl rfl rfl (pc' := 7) ?_
    refine g_iload rfl rfl rfl (pc' := 8) ?_
    refine g_iload rfl rfl rfl (pc' := 9) ?_
    refine g_call rfl (y := 13) (n := 3) (pc' := 12) (fun _ => rfl) (by cases r_0 <;> rfl) rfl ⟨(Nat.le_of_ble_eq_true rfl), (Nat.le_of_ble_eq_true rfl), (Nat.le_of_ble_eq_true rfl)⟩ rfl (gm_G.mono H (pI_elim (fun v2 h1 H' => ?_) (fun e7 h8 H => ?_)))
    · show gm_G _ 12 _ _ _ _
      replace H := H'
      clear H'
      refine g_iload rfl rfl rfl (pc' := 13) ?_
      refine g_call rfl (y := 233) (n := 3) (pc' := 16) (fun _ => rfl) (by cases r_0 <;> rfl) rfl ⟨(Nat.le_of_ble_eq_true rfl), (Nat.le_of_ble_eq_true rfl), (Nat.le_of_ble_eq_true rfl)⟩ rfl (gm_G.mono H (pL_elim (fun v4 h3 H' => ?_) (fun e5 h6 H => ?_)))
      · show gm_G _ 16 _ _ _ _
        replace H := H'
        clear H'
        refine g_lconst rfl rfl rfl (pc' := 17) ?_
        refine g_lcmp rfl rfl (pc' := 18) ?_
        refine g_if_eq rfl (pc' := 21) (pt := 25) rfl rfl ⟨fun hc => ?_, fun hc => ?_⟩
        · replace H := H.1 hc
          refine g_iconst rfl rfl rfl (pc' := 26) ?_
          exact g_ireturn rfl (Or.inr (by decide)) H
        · replace H := H.2 hc
          refine g_iconst rfl rfl rfl (pc' := 22) ?_
          refine g_goto rfl (pc' := 26) rfl ?_
          exact g_ireturn rfl (Or.inr (by decide)) H
      · exact H
    · exact H
set_option maxRecDepth 20000 in
theorem w_340_0 {a0 : Nat} {r_1 : Option Nat} {h : hh_T} {Q : Option Value ⊕ Nat → hh_T → Prop} (H : ∃ a1, r_1 = some a1 ∧ (gm_sub (hh_tg h a1) 31 = true ∧ (gm_sub (hh_tg h a0) 0 = true ∧ (∀ r4, r4 = hh_r h a0 19 → (gm_G 242 0 [some (va_rf r4), some (.int ((Int32.ofNat 8) * (hh_i h a1 1)))] [] h (pL (fun v6 h5 => gm_sub (hh_tg h5 a1) 31 = true ∧ (((lg_cmp v6 (hh_j h5 a1 3)) = Int32.ofNat 0 → (hh_tg h5 a0 = 1 ∧ (gm_G 3 0 [some (.ref a0), some (.int (hh_i h5 a1 0))] [] h5 (pR (fun r10 h9 => gm_sub (hh_tg h9 a0) 0 = true ∧ (∀ r12, r12 = hh_r h9 a0 19 → (∀ r13, r13 = hh_r h9 a0 20 → (∃ a14, r10 = some a14 ∧ ((hh_tg h9 a14 = 8 ∧ (gm_G 48 0 [some (.ref a14), some (va_rf r12), some (.int ((Int32.ofNat 8) * (hh_i h a1 1))), some (va_rf r13)] [] h9 (pI (fun v16 h15 => (v16 < Int32.ofNat 0 → (Q (.inl (some (.int (Int32.ofNat 0)))) h15)) ∧ (¬ v16 < Int32.ofNat 0 → (((((Int32.ofNat 8) * (hh_i h a1 1)) - v16) < (Int32.ofNat 8) → (gm_G 340 66 [some (.ref a0), none, some (.int ((Int32.ofNat 8) * (hh_i h a1 1))), none, some (.int v16)] [] h15 Q)) ∧ (¬ (((Int32.ofNat 8) * (hh_i h a1 1)) - v16) < (Int32.ofNat 8) → (Q (.inl (some (.int (Int32.ofNat 0)))) h15))))) (fun e17 h18 => hh_tg h18 e17 = 21 ∧ Q (.inr e17) h18)))) ∨ (hh_tg h9 a14 = 9 ∧ (gm_G 50 0 [some (.ref a14), some (va_rf r12), some (.int ((Int32.ofNat 8) * (hh_i h a1 1))), some (va_rf r13)] [] h9 (pI (fun v20 h19 => (v20 < Int32.ofNat 0 → (Q (.inl (some (.int (Int32.ofNat 0)))) h19)) ∧ (¬ v20 < Int32.ofNat 0 → (((((Int32.ofNat 8) * (hh_i h a1 1)) - v20) < (Int32.ofNat 8) → (gm_G 340 66 [some (.ref a0), none, some (.int ((Int32.ofNat 8) * (hh_i h a1 1))), none, some (.int v20)] [] h19 Q)) ∧ (¬ (((Int32.ofNat 8) * (hh_i h a1 1)) - v20) < (Int32.ofNat 8) → (Q (.inl (some (.int (Int32.ofNat 0)))) h19))))) (fun e21 h22 => hh_tg h22 e21 = 21 ∧ Q (.inr e21) h22)))) ∨ (hh_tg h9 a14 = 10 ∧ (gm_G 52 0 [some (.ref a14), some (va_rf r12), some (.int ((Int32.ofNat 8) * (hh_i h a1 1))), some (va_rf r13)] [] h9 (pI (fun v24 h23 => (v24 < Int32.ofNat 0 → (Q (.inl (some (.int (Int32.ofNat 0)))) h23)) ∧ (¬ v24 < Int32.ofNat 0 → (((((Int32.ofNat 8) * (hh_i h a1 1)) - v24) < (Int32.ofNat 8) → (gm_G 340 66 [some (.ref a0), none, some (.int ((Int32.ofNat 8) * (hh_i h a1 1))), none, some (.int v24)] [] h23 Q)) ∧ (¬ (((Int32.ofNat 8) * (hh_i h a1 1)) - v24) < (Int32.ofNat 8) → (Q (.inl (some (.int (Int32.ofNat 0)))) h23))))) (fun e25 h26 => hh_tg h26 e25 = 21 ∧ Q (.inr e25) h26))))))))) (fun e27 h28 => hh_tg h28 e27 = 21 ∧ Q (.inr e27) h28))))) ∧ (¬ (lg_cmp v6 (hh_j h5 a1 3)) = Int32.ofNat 0 → (Q (.inl (some (.int (Int32.ofNat 0)))) h5)))) (fun e29 h30 => hh_tg h30 e29 = 21 ∧ Q (.inr e29) h30))))))) : gm_G 340 0 [some (.ref a0), some (va_rf r_1)] [] h Q := by
  refine g_iconst rfl rfl rfl (pc' := 2) ?_
  refine g_aload (r := _) rfl rfl rfl (pc' := 3) ?_
  obtain ⟨a1, rfl, H⟩ := H
  obtain ⟨ht2, H⟩ := H
  refine g_getI rfl rfl rfl rfl ht2 (pc' := 6) rfl ?_
  refine g_imul rfl rfl (pc' := 7) ?_
  refine g_istore rfl rfl rfl (pc' := 8) ?_
  refine g_aload (r := some _) rfl rfl rfl (pc' := 9) ?_
  obtain ⟨ht3, H⟩ := H
  refine g_getRv rfl rfl rfl rfl ht3 (pc' := 12) rfl (fun r4 hr4 => ?_)
  replace H := H r4 hr4
  refine g_iload rfl rfl rfl (pc' := 13) ?_
  refine g_call rfl (y := 242) (n := 2) (pc' := 16) (fun _ => rfl) (by cases r4 <;> rfl) rfl ⟨(Nat.le_of_ble_eq_true rfl), (Nat.le_of_ble_eq_true rfl), (Nat.le_of_ble_eq_true rfl)⟩ rfl (gm_G.mono H (pL_elim (fun v6 h5 H' => ?_) (fun e29 h30 H => ?_)))
  · show gm_G _ 16 _ _ _ _
    replace H := H'
    clear H'
    refine g_aload (r := some _) rfl rfl rfl (pc' := 17) ?_
    obtain ⟨ht7, H⟩ := H
    refine g_getJ rfl rfl rfl rfl ht7 (pc' := 20) rfl ?_
    refine g_lcmp rfl rfl (pc' := 21) ?_
    refine g_if_eq rfl (pc' := 24) (pt := 26) rfl rfl ⟨fun hc => ?_, fun hc => ?_⟩
    · replace H := H.1 hc
      refine g_aload (r := some _) rfl rfl rfl (pc' := 27) ?_
      refine g_aload (r := some _) rfl rfl rfl (pc' := 28) ?_
      refine g_getI rfl rfl rfl rfl ht7 (pc' := 31) rfl ?_
      obtain ⟨ht8, H⟩ := H
      refine g_call rfl (y := 3) (n := 2) (pc' := 34) (g_vt ht8 rfl rfl) rfl rfl ⟨(Nat.le_of_ble_eq_true rfl), (Nat.le_of_ble_eq_true rfl), (Nat.le_of_ble_eq_true rfl)⟩ rfl (gm_G.mono H (pR_elim (fun r10 h9 H' => ?_) (fun e27 h28 H => ?_)))
      · show gm_G _ 34 _ _ _ _
        replace H := H'
        clear H'
        refine g_aload (r := some _) rfl rfl rfl (pc' := 35) ?_
        obtain ⟨ht11, H⟩ := H
        refine g_getRv rfl rfl rfl rfl ht11 (pc' := 38) rfl (fun r12 hr12 => ?_)
        replace H := H r12 hr12
        refine g_iload rfl rfl rfl (pc' := 39) ?_
        refine g_aload (r := some _) rfl rfl rfl (pc' := 40) ?_
        refine g_getRv rfl rfl rfl rfl ht11 (pc' := 43) rfl (fun r13 hr13 => ?_)
        replace H := H r13 hr13
        obtain ⟨a14, rfl, H⟩ := H
        rcases H with ⟨ht, H⟩ | ⟨ht, H⟩ | ⟨ht, H⟩
        · refine g_call rfl (y := 48) (n := 4) (pc' := 48) (g_vti ht rfl rfl) (by cases r12 <;> cases r13 <;> rfl) rfl ⟨(Nat.le_of_ble_eq_true rfl), (Nat.le_of_ble_eq_true rfl), (Nat.le_of_ble_eq_true rfl)⟩ rfl (gm_G.mono H (pI_elim (fun v16 h15 H' => ?_) (fun e17 h18 H => ?_)))
          · show gm_G _ 48 _ _ _ _
            replace H := H'
            clear H'
            refine g_istore rfl rfl rfl (pc' := 49) ?_
            refine g_iload rfl rfl rfl (pc' := 50) ?_
            refine g_if_lt rfl (pc' := 53) (pt := 61) rfl rfl ⟨fun hc => ?_, fun hc => ?_⟩
            · replace H := H.1 hc
              refine g_iconst rfl rfl rfl (pc' := 62) ?_
              exact g_ireturn rfl (Or.inr (by decide)) H
            · replace H := H.2 hc
              refine g_iload rfl rfl rfl (pc' := 54) ?_
              refine g_iload rfl rfl rfl (pc' := 55) ?_
              refine g_isub rfl rfl (pc' := 56) ?_
              refine g_iconst rfl rfl rfl (pc' := 58) ?_
              refine g_ic_lt rfl (pc' := 61) (pt := 63) rfl rfl ⟨fun hc => ?_, fun hc => ?_⟩
              · replace H := H.1 hc
                refine g_iload rfl rfl rfl (pc' := 64) ?_
                refine g_istore rfl rfl rfl (pc' := 66) ?_
                exact g_weak (show gm_Lle [some _, none, some _, none, some _] _ from ⟨rfl, ⟨rfl, ⟨rfl, trivial⟩⟩⟩) H
              · replace H := H.2 hc
                refine g_iconst rfl rfl rfl (pc' := 62) ?_
                exact g_ireturn rfl (Or.inr (by decide)) H
          · exact H
        · refine g_call rfl (y := 50) (n := 4) (pc' := 48) (g_vti ht rfl rfl) (by cases r12 <;> cases r13 <;> rfl) rfl ⟨(Nat.le_of_ble_eq_true rfl), (Nat.le_of_ble_eq_true rfl), (Nat.le_of_ble_eq_true rfl)⟩ rfl (gm_G.mono H (pI_elim (fun v20 h19 H' => ?_) (fun e21 h22 H => ?_)))
          · show gm_G _ 48 _ _ _ _
            replace H := H'
            clear H'
            refine g_istore rfl rfl rfl (pc' := 49) ?_
            refine g_iload rfl rfl rfl (pc' := 50) ?_
            refine g_if_lt rfl (pc' := 53) (pt := 61) rfl rfl ⟨fun hc => ?_, fun hc => ?_⟩
            · replace H := H.1 hc
              refine g_iconst rfl rfl rfl (pc' := 62) ?_
              exact g_ireturn rfl (Or.inr (by decide)) H
            · replace H := H.2 hc
              refine g_iload rfl rfl rfl (pc' := 54) ?_
              refine g_iload rfl rfl rfl (pc' := 55) ?_
              refine g_isub rfl rfl (pc' := 56) ?_
              refine g_iconst rfl rfl rfl (pc' := 58) ?_
              refine g_ic_lt rfl (pc' := 61) (pt := 63) rfl rfl ⟨fun hc => ?_, fun hc => ?_⟩
              · replace H := H.1 hc
                refine g_iload rfl rfl rfl (pc' := 64) ?_
                refine g_istore rfl rfl rfl (pc' := 66) ?_
                exact g_weak (show gm_Lle [some _, none, some _, none, some _] _ from ⟨rfl, ⟨rfl, ⟨rfl, trivial⟩⟩⟩) H
              · replace H := H.2 hc
                refine g_iconst rfl rfl rfl (pc' := 62) ?_
                exact g_ireturn rfl (Or.inr (by decide)) H
          · exact H
        · refine g_call rfl (y := 52) (n := 4) (pc' := 48) (g_vti ht rfl rfl) (by cases r12 <;> cases r13 <;> rfl) rfl ⟨(Nat.le_of_ble_eq_true rfl), (Nat.le_of_ble_eq_true rfl), (Nat.le_of_ble_eq_true rfl)⟩ rfl (gm_G.mono H (pI_elim (fun v24 h23 H' => ?_) (fun e25 h26 H => ?_)))
          · show gm_G _ 48 _ _ _ _
            replace H := H'
            clear H'
            refine g_istore rfl rfl rfl (pc' := 49) ?_
            refine g_iload rfl rfl rfl (pc' := 50) ?_
            refine g_if_lt rfl (pc' := 53) (pt := 61) rfl rfl ⟨fun hc => ?_, fun hc => ?_⟩
            · replace H := H.1 hc
              refine g_iconst rfl rfl rfl (pc' := 62) ?_
              exact g_ireturn rfl (Or.inr (by decide)) H
            · replace H := H.2 hc
              refine g_iload rfl rfl rfl (pc' := 54) ?_
              refine g_iload rfl rfl rfl (pc' := 55) ?_
              refine g_isub rfl rfl (pc' := 56) ?_
              refine g_iconst rfl rfl rfl (pc' := 58) ?_
              refine g_ic_lt rfl (pc' := 61) (pt := 63) rfl rfl ⟨fun hc => ?_, fun hc => ?_⟩
              · replace H := H.1 hc
                refine g_iload rfl rfl rfl (pc' := 64) ?_
                refine g_istore rfl rfl rfl (pc' := 66) ?_
                exact g_weak (show gm_Lle [some _, none, some _, none, some _] _ from ⟨rfl, ⟨rfl, ⟨rfl, trivial⟩⟩⟩) H
              · replace H := H.2 hc
                refine g_iconst rfl rfl rfl (pc' := 62) ?_
                exact g_ireturn rfl (Or.inr (by decide)) H
          · exact H
      · exact H
    · replace H := H.2 hc
      refine g_iconst rfl rfl rfl (pc' := 25) ?_
      exact g_ireturn rfl (Or.inr (by decide)) H
  · exact H
set_option maxRecDepth 20000 in
theorem w_340_66 {a0 : Nat} {x2 : Int32} {x4 : Int32} {h : hh_T} {Q : Option Value ⊕ Nat → hh_T → Prop} (H : (¬ x4 < x2 → (Q (.inl (some (.int (Int32.ofNat 1)))) h)) ∧ (x4 < x2 → (gm_sub (hh_tg h a0) 0 = true ∧ (∀ r2, r2 = hh_r h a0 19 → (∃ a3, r2 = some a3 ∧ ((hh_tg h a3 = 101 ∨ hh_tg h a3 = 102) ∧ (∃ n4, gm_ix x4 n4 (hh_ln h a3) ∧ (((hh_i h a3 n4) = Int32.ofNat 0 → (gm_G 340 66 [some (.ref a0), none, some (.int x2), none, some (.int (x4 + (Int32.ofNat 1)))] [] h Q)) ∧ (¬ (hh_i h a3 n4) = Int32.ofNat 0 → (Q (.inl (some (.int (Int32.ofNat 0)))) h)))))))))) : gm_G 340 66 [some (.ref a0), none, some (.int x2), none, some (.int x4)] [] h Q := by
  refine g_iload rfl rfl rfl (pc' := 68) ?_
  refine g_iload rfl rfl rfl (pc' := 69) ?_
  refine g_ic_ge rfl (pc' := 72) (pt := 90) rfl rfl ⟨fun hc => ?_, fun hc => ?_⟩
  · replace H := H.1 hc
    refine g_iconst rfl rfl rfl (pc' := 91) ?_
    exact g_ireturn rfl (Or.inr (by decide)) H
  · replace H := H.2 hc
    refine g_aload (r := some _) rfl rfl rfl (pc' := 73) ?_
    obtain ⟨ht1, H⟩ := H
    refine g_getRv rfl rfl rfl rfl ht1 (pc' := 76) rfl (fun r2 hr2 => ?_)
    replace H := H r2 hr2
    refine g_iload rfl rfl rfl (pc' := 78) ?_
    obtain ⟨a3, rfl, H⟩ := H
    obtain ⟨ht5, H⟩ := H
    obtain ⟨n4, hn4, H⟩ := H
    refine g_baload rfl ht5 hn4 (pc' := 79) rfl ?_
    refine g_if_eq rfl (pc' := 82) (pt := 84) rfl rfl ⟨fun hc => ?_, fun hc => ?_⟩
    · replace H := H.1 hc
      refine g_iinc (c := (Int32.ofNat 1)) rfl rfl rfl rfl rfl (pc' := 87) ?_
      refine g_goto rfl (pc' := 66) rfl ?_
      exact g_weak (show gm_Lle [some _, none, some _, none, some _] _ from ⟨rfl, ⟨rfl, ⟨rfl, trivial⟩⟩⟩) H
    · replace H := H.2 hc
      refine g_iconst rfl rfl rfl (pc' := 83) ?_
      exact g_ireturn rfl (Or.inr (by decide)) H
set_option maxRecDepth 20000 in
theorem w_341_0  {r_0 : Option Nat} {x1 : Int32} {h : hh_T} {Q : Option Value ⊕ Nat → hh_T → Prop} (H : ∃ a1, r_0 = some a1 ∧ (hh_tg h a1 = 13 ∧ (gm_G 257 0 [some (.ref a1), some (.int x1)] [] h (pI (fun v4 h3 => hh_tg h3 a1 = 13 ∧ (gm_G 257 0 [some (.ref a1), some (.int (x1 + (Int32.ofNat 2)))] [] h3 (pI (fun v7 h6 => Q (.inl (some (.int ((v4 <<< ((Int32.ofNat 16) &&& 31)) ||| v7)))) h6) (fun e8 h9 => hh_tg h9 e8 = 21 ∧ Q (.inr e8) h9)))) (fun e10 h11 => hh_tg h11 e10 = 21 ∧ Q (.inr e10) h11))))) : gm_G 341 0 [some (va_rf r_0), some (.int x1)] [] h Q := by
  refine g_aload (r := _) rfl rfl rfl (pc' := 1) ?_
  refine g_iload rfl rfl rfl (pc' := 2) ?_
  obtain ⟨a1, rfl, H⟩ := H
  obtain ⟨ht2, H⟩ := H
  refine g_call rfl (y := 257) (n := 2) (pc' := 5) (g_vt ht2 rfl rfl) rfl rfl ⟨(Nat.le_of_ble_eq_true rfl), (Nat.le_of_ble_eq_true rfl), (Nat.le_of_ble_eq_true rfl)⟩ rfl (gm_G.mono H (pI_elim (fun v4 h3 H' => ?_) (fun e10 h11 H => ?_)))
  · show gm_G _ 5 _ _ _ _
    replace H := H'
    clear H'
    refine g_iconst rfl rfl rfl (pc' := 7) ?_
    refine g_ishl rfl rfl (pc' := 8) ?_
    refine g_aload (r := some _) rfl rfl rfl (pc' := 9) ?_
    refine g_iload rfl rfl rfl (pc' := 10) ?_
    refine g_iconst rfl rfl rfl (pc' := 11) ?_
    refine g_iadd rfl rfl (pc' := 12) ?_
    obtain ⟨ht5, H⟩ := H
    refine g_call rfl (y := 257) (n := 2) (pc' := 15) (g_vt ht5 rfl rfl) rfl rfl ⟨(Nat.le_of_ble_eq_true rfl), (Nat.le_of_ble_eq_true rfl), (Nat.le_of_ble_eq_true rfl)⟩ rfl (gm_G.mono H (pI_elim (fun v7 h6 H' => ?_) (fun e8 h9 H => ?_)))
    · show gm_G _ 15 _ _ _ _
      replace H := H'
      clear H'
      refine g_ior rfl rfl (pc' := 16) ?_
      exact g_ireturn rfl (Or.inl rfl) H
    · exact H
  · exact H
set_option maxRecDepth 20000 in
theorem w_342_0 {a0 : Nat} {r_1 : Option Nat} {h : hh_T} {Q : Option Value ⊕ Nat → hh_T → Prop} (H : gm_G 342 2 [some (.ref a0), some (va_rf r_1), some (.int (Int32.ofNat 0))] [] h Q) : gm_G 342 0 [some (.ref a0), some (va_rf r_1)] [] h Q := by
  refine g_iconst rfl rfl rfl (pc' := 1) ?_
  refine g_istore rfl gm_sto_rf1 rfl (pc' := 2) ?_
  exact g_weak (show gm_Lle [some _, some _, some _] _ from ⟨rfl, ⟨rfl, ⟨rfl, trivial⟩⟩⟩) H
set_option maxRecDepth 20000 in
theorem w_342_2 {a0 : Nat} {r_1 : Option Nat} {x2 : Int32} {h : hh_T} {Q : Option Value ⊕ Nat → hh_T → Prop} (H : ∃ a1, r_1 = some a1 ∧ (gm_sub (hh_tg h a1) 31 = true ∧ ((¬ x2 < (hh_i h a1 2) → (Q (.inl none) h)) ∧ (x2 < (hh_i h a1 2) → (gm_sub (hh_tg h a0) 0 = true ∧ (∀ r4, r4 = hh_r h a0 7 → (∀ r5, r5 = hh_r h a1 4 → (∃ a6, r5 = some a6 ∧ ((hh_tg h a6 = 100 ∨ hh_tg h a6 = 105) ∧ (∃ n7, gm_ix x2 n7 (hh_ln h a6) ∧ (∃ a9, r4 = some a9 ∧ ((hh_tg h a9 = 104 ∨ 200 ≤ hh_tg h a9) ∧ (∃ n10, gm_ix (hh_i h a6 n7) n10 (hh_ln h a9) ∧ (∀ r12, r12 = hh_r h a9 n10 → (∃ a13, r12 = some a13 ∧ (gm_sub (hh_tg h a13) 3 = true ∧ (∀ r15, r15 = hh_r h a13 5 → (∀ r16, r16 = hh_r h a1 5 → (∃ a17, r16 = some a17 ∧ ((hh_tg h a17 = 100 ∨ hh_tg h a17 = 105) ∧ (∃ n18, gm_ix x2 n18 (hh_ln h a17) ∧ ((hh_tg h a13 = 5 ∧ (gm_G 34 0 [some (.ref a13), some (.int (hh_i h a1 1))] [] h (pI (fun v21 h20 => ∃ a22, r15 = some a22 ∧ (hh_tg h20 a22 = 6 ∧ (gm_G 249 0 [some (.ref a22), some (.int (hh_i h a17 n18)), some (.int v21)] [] h20 (pV (fun h24 => gm_sub (hh_tg h24 a13) 3 = true ∧ (∀ r26, r26 = hh_r h24 a13 6 → (gm_sub (hh_tg h24 a1) 31 = true ∧ (∀ r28, r28 = hh_r h24 a1 5 → (∃ a29, r28 = some a29 ∧ ((hh_tg h24 a29 = 100 ∨ hh_tg h24 a29 = 105) ∧ (∃ n30, gm_ix x2 n30 (hh_ln h24 a29) ∧ (∃ a32, r26 = some a32 ∧ (200 ≤ hh_tg h24 a32 ∧ (True) ∧ (∃ n33, gm_ix (hh_i h24 a29 n30) n33 (hh_ln h24 a32) ∧ (∀ h34, h34 = hh_wr h24 a32 n33 none → (gm_G 342 2 [some (.ref a0), some (.ref a1), some (.int (x2 + (Int32.ofNat 1)))] [] h34 Q)))))))))))) (fun e35 h36 => hh_tg h36 e35 = 21 ∧ Q (.inr e35) h36))))) (fun e37 h38 => hh_tg h38 e37 = 21 ∧ Q (.inr e37) h38)))) ∨ (hh_tg h a13 = 7 ∧ (gm_G 45 0 [some (.ref a13), some (.int (hh_i h a1 1))] [] h (pI (fun v40 h39 => ∃ a41, r15 = some a41 ∧ (hh_tg h39 a41 = 6 ∧ (gm_G 249 0 [some (.ref a41), some (.int (hh_i h a17 n18)), some (.int v40)] [] h39 (pV (fun h43 => gm_sub (hh_tg h43 a13) 3 = true ∧ (∀ r45, r45 = hh_r h43 a13 6 → (gm_sub (hh_tg h43 a1) 31 = true ∧ (∀ r47, r47 = hh_r h43 a1 5 → (∃ a48, r47 = some a48 ∧ ((hh_tg h43 a48 = 100 ∨ hh_tg h43 a48 = 105) ∧ (∃ n49, gm_ix x2 n49 (hh_ln h43 a48) ∧ (∃ a51, r45 = some a51 ∧ (200 ≤ hh_tg h43 a51 ∧ (True) ∧ (∃ n52, gm_ix (hh_i h43 a48 n49) n52 (hh_ln h43 a51) ∧ (∀ h53, h53 = hh_wr h43 a51 n52 none → (gm_G 342 2 [some (.ref a0), some (.ref a1), some (.int (x2 + (Int32.ofNat 1)))] [] h53 Q)))))))))))) (fun e54 h55 => hh_tg h55 e54 = 21 ∧ Q (.inr e54) h55))))) (fun e56 h57 => hh_tg h57 e56 = 21 ∧ Q (.inr e56) h57)))))))))))))))))))))))))) : gm_G 342 2 [some (.ref a0), some (va_rf r_1), some (.int x2)] [] h Q := by
  refine g_iload rfl rfl rfl (pc' := 3) ?_
  refine g_aload (r := _) rfl rfl rfl (pc' := 4) ?_
  obtain ⟨a1, rfl, H⟩ := H
  obtain ⟨ht2, H⟩ := H
  refine g_getI rfl rfl rfl rfl ht2 (pc' := 7) rfl ?_
  refine g_ic_ge rfl (pc' := 10) (pt := 61) rfl rfl ⟨fun hc => ?_, fun hc => ?_⟩
  · replace H := H.1 hc
    exact g_return rfl H
  · replace H := H.2 hc
    refine g_aload (r := some _) rfl rfl rfl (pc' := 11) ?_
    obtain ⟨ht3, H⟩ := H
    refine g_getRv rfl rfl rfl rfl ht3 (pc' := 14) rfl (fun r4 hr4 => ?_)
    replace H := H r4 hr4
    refine g_aload (r := some _) rfl rfl rfl (pc' := 15) ?_
    refine g_getRv rfl rfl rfl rfl ht2 (pc' := 18) rfl (fun r5 hr5 => ?_)
    replace H := H r5 hr5
    refine g_iload rfl rfl rfl (pc' := 19) ?_
    obtain ⟨a6, rfl, H⟩ := H
    obtain ⟨ht8, H⟩ := H
    obtain ⟨n7, hn7, H⟩ := H
    refine g_iaload rfl ht8 hn7 (pc' := 20) rfl ?_
    obtain ⟨a9, rfl, H⟩ := H
    obtain ⟨ht11, H⟩ := H
    obtain ⟨n10, hn10, H⟩ := H
    refine g_aaloadv rfl ht11 hn10 (pc' := 21) rfl (fun r12 hr12 => ?_)
    replace H := H r12 hr12
    refine g_astore (r := _) rfl rfl rfl (pc' := 22) ?_
    refine g_aload (r := _) rfl rfl rfl (pc' := 23) ?_
    obtain ⟨a13, rfl, H⟩ := H
    obtain ⟨ht14, H⟩ := H
    refine g_getRv rfl rfl rfl rfl ht14 (pc' := 26) rfl (fun r15 hr15 => ?_)
    replace H := H r15 hr15
    refine g_aload (r := some _) rfl rfl rfl (pc' := 27) ?_
    refine g_getRv rfl rfl rfl rfl ht2 (pc' := 30) rfl (fun r16 hr16 => ?_)
    replace H := H r16 hr16
    refine g_iload rfl rfl rfl (pc' := 31) ?_
    obtain ⟨a17, rfl, H⟩ := H
    obtain ⟨ht19, H⟩ := H
    obtain ⟨n18, hn18, H⟩ := H
    refine g_iaload rfl ht19 hn18 (pc' := 32) rfl ?_
    refine g_aload (r := some _) rfl rfl rfl (pc' := 33) ?_
    refine g_aload (r := some _) rfl rfl rfl (pc' := 34) ?_
    refine g_getI rfl rfl rfl rfl ht2 (pc' := 37) rfl ?_
    rcases H with ⟨ht, H⟩ | ⟨ht, H⟩
    · refine g_call rfl (y := 34) (n := 2) (pc' := 40) (g_vt ht rfl rfl) rfl rfl ⟨(Nat.le_of_ble_eq_true rfl), (Nat.le_of_ble_eq_true rfl), (Nat.le_of_ble_eq_true rfl)⟩ rfl (gm_G.mono H (pI_elim (fun v21 h20 H' => ?_) (fun e37 h38 H => ?_)))
      · show gm_G _ 40 _ _ _ _
        replace H := H'
        clear H'
        obtain ⟨a22, rfl, H⟩ := H
        obtain ⟨ht23, H⟩ := H
        refine g_call rfl (y := 249) (n := 3) (pc' := 43) (g_vt ht23 rfl rfl) rfl rfl ⟨(Nat.le_of_ble_eq_true rfl), (Nat.le_of_ble_eq_true rfl), (Nat.le_of_ble_eq_true rfl)⟩ rfl (gm_G.mono H (pV_elim (fun h24 H' => ?_) (fun e35 h36 H => ?_)))
        · show gm_G _ 43 _ _ _ _
          replace H := H'
          clear H'
          refine g_aload (r := some _) rfl rfl rfl (pc' := 44) ?_
          obtain ⟨ht25, H⟩ := H
          refine g_getRv rfl rfl rfl rfl ht25 (pc' := 47) rfl (fun r26 hr26 => ?_)
          replace H := H r26 hr26
          refine g_aload (r := some _) rfl rfl rfl (pc' := 48) ?_
          obtain ⟨ht27, H⟩ := H
          refine g_getRv rfl rfl rfl rfl ht27 (pc' := 51) rfl (fun r28 hr28 => ?_)
          replace H := H r28 hr28
          refine g_iload rfl rfl rfl (pc' := 52) ?_
          obtain ⟨a29, rfl, H⟩ := H
          obtain ⟨ht31, H⟩ := H
          obtain ⟨n30, hn30, H⟩ := H
          refine g_iaload rfl ht31 hn30 (pc' := 53) rfl ?_
          refine g_null rfl rfl (pc' := 54) ?_
          obtain ⟨a32, rfl, H⟩ := H
          obtain ⟨Ha, Hb, H⟩ := H
          obtain ⟨n33, hn33, H⟩ := H
          refine g_aastore (r := _) rfl Ha (fun b hb => by cases hb) hn33 (pc' := 55) rfl ?_
          replace H := H _ rfl
          refine g_iinc (c := (Int32.ofNat 1)) rfl rfl rfl rfl rfl (pc' := 58) ?_
          refine g_goto rfl (pc' := 2) rfl ?_
          exact g_weak (show gm_Lle [some _, some _, some _] _ from ⟨rfl, ⟨rfl, ⟨rfl, trivial⟩⟩⟩) H
        · exact H
      · exact H
    · refine g_call rfl (y := 45) (n := 2) (pc' := 40) (g_vt ht rfl rfl) rfl rfl ⟨(Nat.le_of_ble_eq_true rfl), (Nat.le_of_ble_eq_true rfl), (Nat.le_of_ble_eq_true rfl)⟩ rfl (gm_G.mono H (pI_elim (fun v40 h39 H' => ?_) (fun e56 h57 H => ?_)))
      · show gm_G _ 40 _ _ _ _
        replace H := H'
        clear H'
        obtain ⟨a41, rfl, H⟩ := H
        obtain ⟨ht42, H⟩ := H
        refine g_call rfl (y := 249) (n := 3) (pc' := 43) (g_vt ht42 rfl rfl) rfl rfl ⟨(Nat.le_of_ble_eq_true rfl), (Nat.le_of_ble_eq_true rfl), (Nat.le_of_ble_eq_true rfl)⟩ rfl (gm_G.mono H (pV_elim (fun h43 H' => ?_) (fun e54 h55 H => ?_)))
        · show gm_G _ 43 _ _ _ _
          replace H := H'
          clear H'
          refine g_aload (r := some _) rfl rfl rfl (pc' := 44) ?_
          obtain ⟨ht44, H⟩ := H
          refine g_getRv rfl rfl rfl rfl ht44 (pc' := 47) rfl (fun r45 hr45 => ?_)
          replace H := H r45 hr45
          refine g_aload (r := some _) rfl rfl rfl (pc' := 48) ?_
          obtain ⟨ht46, H⟩ := H
          refine g_getRv rfl rfl rfl rfl ht46 (pc' := 51) rfl (fun r47 hr47 => ?_)
          replace H := H r47 hr47
          refine g_iload rfl rfl rfl (pc' := 52) ?_
          obtain ⟨a48, rfl, H⟩ := H
          obtain ⟨ht50, H⟩ := H
          obtain ⟨n49, hn49, H⟩ := H
          refine g_iaload rfl ht50 hn49 (pc' := 53) rfl ?_
          refine g_null rfl rfl (pc' := 54) ?_
          obtain ⟨a51, rfl, H⟩ := H
          obtain ⟨Ha, Hb, H⟩ := H
          obtain ⟨n52, hn52, H⟩ := H
          refine g_aastore (r := _) rfl Ha (fun b hb => by cases hb) hn52 (pc' := 55) rfl ?_
          replace H := H _ rfl
          refine g_iinc (c := (Int32.ofNat 1)) rfl rfl rfl rfl rfl (pc' := 58) ?_
          refine g_goto rfl (pc' := 2) rfl ?_
          exact g_weak (show gm_Lle [some _, some _, some _] _ from ⟨rfl, ⟨rfl, ⟨rfl, trivial⟩⟩⟩) H
        · exact H
      · exact H
set_option maxRecDepth 20000 in
theorem w_343_0 {a0 : Nat} {r_1 : Option Nat} {x2 : Int32} {h : hh_T} {Q : Option Value ⊕ Nat → hh_T → Prop} (H : gm_G 343 2 [some (.ref a0), some (va_rf r_1), some (.int x2), some (.int (Int32.ofNat 0))] [] h Q) : gm_G 343 0 [some (.ref a0), some (va_rf r_1), some (.int x2)] [] h Q := by
  refine g_iconst rfl rfl rfl (pc' := 1) ?_
  refine g_istore rfl rfl rfl (pc' := 2) ?_
  exact g_weak (show gm_Lle [some _, some _, some _, some _] _ from ⟨rfl, ⟨rfl, ⟨rfl, ⟨rfl, trivial⟩⟩⟩⟩) H
set_option maxRecDepth 20000 in
theorem w_343_2 {a0 : Nat} {r_1 : Option Nat} {x2 : Int32} {x3 : Int32} {h : hh_T} {Q : Option Value ⊕ Nat → hh_T → Prop} (H : gm_sub (hh_tg h a0) 0 = true ∧ (∀ r2, r2 = hh_r h a0 33 → (∃ a3, r2 = some a3 ∧ (gm_sub (hh_tg h a3) 22 = true ∧ ((¬ x3 < (hh_i h a3 2) → (gm_G 343 60 [some (.ref a0), some (va_rf r_1), some (.int x2), some (.int (Int32.ofNat 0))] [] h Q)) ∧ (x3 < (hh_i h a3 2) → (∀ r5, r5 = hh_r h a0 33 → (∃ a6, r5 = some a6 ∧ (gm_sub (hh_tg h a6) 22 = true ∧ (∀ r8, r8 = hh_r h a6 0 → (∃ a9, r8 = some a9 ∧ ((hh_tg h a9 = 104 ∨ 200 ≤ hh_tg h a9) ∧ (∃ n10, gm_ix x3 n10 (hh_ln h a9) ∧ (∀ r12, r12 = hh_r h a9 n10 → (∃ a13, r12 = some a13 ∧ (gm_sub (hh_tg h a13) 23 = true ∧ ((((Int32.ofNat 2) * (hh_i h a13 0)) = x2 → (gm_G 343 52 [some (.ref a0), some (va_rf r_1), some (.int x2), some (.int x3)] [] h Q)) ∧ (¬ ((Int32.ofNat 2) * (hh_i h a13 0)) = x2 → (∀ r15, r15 = hh_r h a0 33 → (∃ a16, r15 = some a16 ∧ (gm_sub (hh_tg h a16) 22 = true ∧ (∀ r18, r18 = hh_r h a16 0 → (∃ a19, r18 = some a19 ∧ ((hh_tg h a19 = 104 ∨ 200 ≤ hh_tg h a19) ∧ (∃ n20, gm_ix x3 n20 (hh_ln h a19) ∧ (∀ r22, r22 = hh_r h a19 n20 → (∃ a23, r22 = some a23 ∧ (gm_sub (hh_tg h a23) 23 = true ∧ (∀ r25, r25 = hh_r h a23 9 → (gm_G 231 0 [some (va_rf r25), some (va_rf r_1)] [] h (pI (fun v27 h26 => (v27 = Int32.ofNat 0 → (gm_G 343 52 [some (.ref a0), some (va_rf r_1), some (.int x2), some (.int x3)] [] h26 Q)) ∧ (¬ v27 = Int32.ofNat 0 → (Q (.inl (some (.int (Int32.ofNat 1)))) h26))) (fun e28 h29 => hh_tg h29 e28 = 21 ∧ Q (.inr e28) h29)))))))))))))))))))))))))))))))) : gm_G 343 2 [some (.ref a0), some (va_rf r_1), some (.int x2), some (.int x3)] [] h Q := by
  refine g_iload rfl rfl rfl (pc' := 3) ?_
  refine g_aload (r := some _) rfl rfl rfl (pc' := 4) ?_
  obtain ⟨ht1, H⟩ := H
  refine g_getRv rfl rfl rfl rfl ht1 (pc' := 7) rfl (fun r2 hr2 => ?_)
  replace H := H r2 hr2
  obtain ⟨a3, rfl, H⟩ := H
  obtain ⟨ht4, H⟩ := H
  refine g_getI rfl rfl rfl rfl ht4 (pc' := 10) rfl ?_
  refine g_ic_ge rfl (pc' := 13) (pt := 58) rfl rfl ⟨fun hc => ?_, fun hc => ?_⟩
  · replace H := H.1 hc
    refine g_iconst rfl rfl rfl (pc' := 59) ?_
    refine g_istore rfl rfl rfl (pc' := 60) ?_
    exact g_weak (show gm_Lle [some _, some _, some _, some _] _ from ⟨rfl, ⟨rfl, ⟨rfl, ⟨rfl, trivial⟩⟩⟩⟩) H
  · replace H := H.2 hc
    refine g_iconst rfl rfl rfl (pc' := 14) ?_
    refine g_aload (r := some _) rfl rfl rfl (pc' := 15) ?_
    refine g_getRv rfl rfl rfl rfl ht1 (pc' := 18) rfl (fun r5 hr5 => ?_)
    replace H := H r5 hr5
    obtain ⟨a6, rfl, H⟩ := H
    obtain ⟨ht7, H⟩ := H
    refine g_getRv rfl rfl rfl rfl ht7 (pc' := 21) rfl (fun r8 hr8 => ?_)
    replace H := H r8 hr8
    refine g_iload rfl rfl rfl (pc' := 22) ?_
    obtain ⟨a9, rfl, H⟩ := H
    obtain ⟨ht11, H⟩ := H
    obtain ⟨n10, hn10, H⟩ := H
    refine g_aaloadv rfl ht11 hn10 (pc' := 23) rfl (fun r12 hr12 => ?_)
    replace H := H r12 hr12
    obtain ⟨a13, rfl, H⟩ := H
    obtain ⟨ht14, H⟩ := H
    refine g_getI rfl rfl rfl rfl ht14 (pc' := 26) rfl ?_
    refine g_imul rfl rfl (pc' := 27) ?_
    refine g_iload rfl rfl rfl (pc' := 28) ?_
    refine g_ic_eq rfl (pc' := 31) (pt := 52) rfl rfl ⟨fun hc => ?_, fun hc => ?_⟩
    · replace H := H.1 hc
      exact g_weak (show gm_Lle [some _, some _, some _, some _] _ from ⟨rfl, ⟨rfl, ⟨rfl, ⟨rfl, trivial⟩⟩⟩⟩) H
    · replace H := H.2 hc
      refine g_aload (r := some _) rfl rfl rfl (pc' := 32) ?_
      refine g_getRv rfl rfl rfl rfl ht1 (pc' := 35) rfl (fun r15 hr15 => ?_)
      replace H := H r15 hr15
      obtain ⟨a16, rfl, H⟩ := H
      obtain ⟨ht17, H⟩ := H
      refine g_getRv rfl rfl rfl rfl ht17 (pc' := 38) rfl (fun r18 hr18 => ?_)
      replace H := H r18 hr18
      refine g_iload rfl rfl rfl (pc' := 39) ?_
      obtain ⟨a19, rfl, H⟩ := H
      obtain ⟨ht21, H⟩ := H
      obtain ⟨n20, hn20, H⟩ := H
      refine g_aaloadv rfl ht21 hn20 (pc' := 40) rfl (fun r22 hr22 => ?_)
      replace H := H r22 hr22
      obtain ⟨a23, rfl, H⟩ := H
      obtain ⟨ht24, H⟩ := H
      refine g_getRv rfl rfl rfl rfl ht24 (pc' := 43) rfl (fun r25 hr25 => ?_)
      replace H := H r25 hr25
      refine g_aload (r := _) rfl rfl rfl (pc' := 44) ?_
      refine g_call rfl (y := 231) (n := 2) (pc' := 47) (fun _ => rfl) (by cases r25 <;> cases r_1 <;> rfl) rfl ⟨(Nat.le_of_ble_eq_true rfl), (Nat.le_of_ble_eq_true rfl), (Nat.le_of_ble_eq_true rfl)⟩ rfl (gm_G.mono H (pI_elim (fun v27 h26 H' => ?_) (fun e28 h29 H => ?_)))
      · show gm_G _ 47 _ _ _ _
        replace H := H'
        clear H'
        refine g_if_eq rfl (pc' := 50) (pt := 52) rfl rfl ⟨fun hc => ?_, fun hc => ?_⟩
        · replace H := H.1 hc
          exact g_weak (show gm_Lle [some _, some _, some _, some _] _ from ⟨rfl, ⟨rfl, ⟨rfl, ⟨rfl, trivial⟩⟩⟩⟩) H
        · replace H := H.2 hc
          refine g_iconst rfl rfl rfl (pc' := 51) ?_
          exact g_ireturn rfl (Or.inr (by decide)) H
      · exact H
set_option maxRecDepth 20000 in
theorem w_343_52 {a0 : Nat} {r_1 : Option Nat} {x2 : Int32} {x3 : Int32} {h : hh_T} {Q : Option Value ⊕ Nat → hh_T → Prop} (H : gm_G 343 2 [some (.ref a0), some (va_rf r_1), some (.int x2), some (.int (x3 + (Int32.ofNat 1)))] [] h Q) : gm_G 343 52 [some (.ref a0), some (va_rf r_1), some (.int x2), some (.int x3)] [] h Q := by
  refine g_iinc (c := (Int32.ofNat 1)) rfl rfl rfl rfl rfl (pc' := 55) ?_
  refine g_goto rfl (pc' := 2) rfl ?_
  exact g_weak (show gm_Lle [some _, some _, some _, some _] _ from ⟨rfl, ⟨rfl, ⟨rfl, ⟨rfl, trivial⟩⟩⟩⟩) H
set_option maxRecDepth 20000 in
theorem w_343_60 {a0 : Nat} {r_1 : Option Nat} {x2 : Int32} {x3 : Int32} {h : hh_T} {Q : Option Value ⊕ Nat → hh_T → Prop} (H : gm_sub (hh_tg h a0) 0 = true ∧ (∀ r2, r2 = hh_r h a0 33 → (∃ a3, r2 = some a3 ∧ (gm_sub (hh_tg h a3) 22 = true ∧ ((¬ x3 < (hh_i h a3 3) → (Q (.inl (some (.int (Int32.ofNat 0)))) h)) ∧ (x3 < (hh_i h a3 3) → (∀ r5, r5 = hh_r h a0 33 → (∃ a6, r5 = some a6 ∧ (gm_sub (hh_tg h a6) 22 = true ∧ (∀ r8, r8 = hh_r h a6 1 → (∃ a9, r8 = some a9 ∧ ((hh_tg h a9 = 104 ∨ 200 ≤ hh_tg h a9) ∧ (∃ n10, gm_ix x3 n10 (hh_ln h a9) ∧ (∀ r12, r12 = hh_r h a9 n10 → (∃ a13, r12 = some a13 ∧ (gm_sub (hh_tg h a13) 29 = true ∧ (((((Int32.ofNat 2) * (hh_i h a13 0)) + (Int32.ofNat 1)) = x2 → (gm_G 343 112 [some (.ref a0), some (va_rf r_1), some (.int x2), some (.int x3)] [] h Q)) ∧ (¬ (((Int32.ofNat 2) * (hh_i h a13 0)) + (Int32.ofNat 1)) = x2 → (∀ r15, r15 = hh_r h a0 33 → (∃ a16, r15 = some a16 ∧ (gm_sub (hh_tg h a16) 22 = true ∧ (∀ r18, r18 = hh_r h a16 1 → (∃ a19, r18 = some a19 ∧ ((hh_tg h a19 = 104 ∨ 200 ≤ hh_tg h a19) ∧ (∃ n20, gm_ix x3 n20 (hh_ln h a19) ∧ (∀ r22, r22 = hh_r h a19 n20 → (∃ a23, r22 = some a23 ∧ (gm_sub (hh_tg h a23) 29 = true ∧ (∀ r25, r25 = hh_r h a23 5 → (gm_G 231 0 [some (va_rf r25), some (va_rf r_1)] [] h (pI (fun v27 h26 => (v27 = Int32.ofNat 0 → (gm_G 343 112 [some (.ref a0), some (va_rf r_1), some (.int x2), some (.int x3)] [] h26 Q)) ∧ (¬ v27 = Int32.ofNat 0 → (Q (.inl (some (.int (Int32.ofNat 1)))) h26))) (fun e28 h29 => hh_tg h29 e28 = 21 ∧ Q (.inr e28) h29)))))))))))))))))))))))))))))))) : gm_G 343 60 [some (.ref a0), some (va_rf r_1), some (.int x2), some (.int x3)] [] h Q := by
  refine g_iload rfl rfl rfl (pc' := 61) ?_
  refine g_aload (r := some _) rfl rfl rfl (pc' := 62) ?_
  obtain ⟨ht1, H⟩ := H
  refine g_getRv rfl rfl rfl rfl ht1 (pc' := 65) rfl (fun r2 hr2 => ?_)
  replace H := H r2 hr2
  obtain ⟨a3, rfl, H⟩ := H
  obtain ⟨ht4, H⟩ := H
  refine g_getI rfl rfl rfl rfl ht4 (pc' := 68) rfl ?_
  refine g_ic_ge rfl (pc' := 71) (pt := 118) rfl rfl ⟨fun hc => ?_, fun hc => ?_⟩
  · replace H := H.1 hc
    refine g_iconst rfl rfl rfl (pc' := 119) ?_
    exact g_ireturn rfl (Or.inr (by decide)) H
  · replace H := H.2 hc
    refine g_iconst rfl rfl rfl (pc' := 72) ?_
    refine g_aload (r := some _) rfl rfl rfl (pc' := 73) ?_
    refine g_getRv rfl rfl rfl rfl ht1 (pc' := 76) rfl (fun r5 hr5 => ?_)
    replace H := H r5 hr5
    obtain ⟨a6, rfl, H⟩ := H
    obtain ⟨ht7, H⟩ := H
    refine g_getRv rfl rfl rfl rfl ht7 (pc' := 79) rfl (fun r8 hr8 => ?_)
    replace H := H r8 hr8
    refine g_iload rfl rfl rfl (pc' := 80) ?_
    obtain ⟨a9, rfl, H⟩ := H
    obtain ⟨ht11, H⟩ := H
    obtain ⟨n10, hn10, H⟩ := H
    refine g_aaloadv rfl ht11 hn10 (pc' := 81) rfl (fun r12 hr12 => ?_)
    replace H := H r12 hr12
    obtain ⟨a13, rfl, H⟩ := H
    obtain ⟨ht14, H⟩ := H
    refine g_getI rfl rfl rfl rfl ht14 (pc' := 84) rfl ?_
    refine g_imul rfl rfl (pc' := 85) ?_
    refine g_iconst rfl rfl rfl (pc' := 86) ?_
    refine g_iadd rfl rfl (pc' := 87) ?_
    refine g_iload rfl rfl rfl (pc' := 88) ?_
    refine g_ic_eq rfl (pc' := 91) (pt := 112) rfl rfl ⟨fun hc => ?_, fun hc => ?_⟩
    · replace H := H.1 hc
      exact g_weak (show gm_Lle [some _, some _, some _, some _] _ from ⟨rfl, ⟨rfl, ⟨rfl, ⟨rfl, trivial⟩⟩⟩⟩) H
    · replace H := H.2 hc
      refine g_aload (r := some _) rfl rfl rfl (pc' := 92) ?_
      refine g_getRv rfl rfl rfl rfl ht1 (pc' := 95) rfl (fun r15 hr15 => ?_)
      replace H := H r15 hr15
      obtain ⟨a16, rfl, H⟩ := H
      obtain ⟨ht17, H⟩ := H
      refine g_getRv rfl rfl rfl rfl ht17 (pc' := 98) rfl (fun r18 hr18 => ?_)
      replace H := H r18 hr18
      refine g_iload rfl rfl rfl (pc' := 99) ?_
      obtain ⟨a19, rfl, H⟩ := H
      obtain ⟨ht21, H⟩ := H
      obtain ⟨n20, hn20, H⟩ := H
      refine g_aaloadv rfl ht21 hn20 (pc' := 100) rfl (fun r22 hr22 => ?_)
      replace H := H r22 hr22
      obtain ⟨a23, rfl, H⟩ := H
      obtain ⟨ht24, H⟩ := H
      refine g_getRv rfl rfl rfl rfl ht24 (pc' := 103) rfl (fun r25 hr25 => ?_)
      replace H := H r25 hr25
      refine g_aload (r := _) rfl rfl rfl (pc' := 104) ?_
      refine g_call rfl (y := 231) (n := 2) (pc' := 107) (fun _ => rfl) (by cases r25 <;> cases r_1 <;> rfl) rfl ⟨(Nat.le_of_ble_eq_true rfl), (Nat.le_of_ble_eq_true rfl), (Nat.le_of_ble_eq_true rfl)⟩ rfl (gm_G.mono H (pI_elim (fun v27 h26 H' => ?_) (fun e28 h29 H => ?_)))
      · show gm_G _ 107 _ _ _ _
        replace H := H'
        clear H'
        refine g_if_eq rfl (pc' := 110) (pt := 112) rfl rfl ⟨fun hc => ?_, fun hc => ?_⟩
        · replace H := H.1 hc
          exact g_weak (show gm_Lle [some _, some _, some _, some _] _ from ⟨rfl, ⟨rfl, ⟨rfl, ⟨rfl, trivial⟩⟩⟩⟩) H
        · replace H := H.2 hc
          refine g_iconst rfl rfl rfl (pc' := 111) ?_
          exact g_ireturn rfl (Or.inr (by decide)) H
      · exact H
set_option maxRecDepth 20000 in
theorem w_343_112 {a0 : Nat} {r_1 : Option Nat} {x2 : Int32} {x3 : Int32} {h : hh_T} {Q : Option Value ⊕ Nat → hh_T → Prop} (H : gm_G 343 60 [some (.ref a0), some (va_rf r_1), some (.int x2), some (.int (x3 + (Int32.ofNat 1)))] [] h Q) : gm_G 343 112 [some (.ref a0), some (va_rf r_1), some (.int x2), some (.int x3)] [] h Q := by
  refine g_iinc (c := (Int32.ofNat 1)) rfl rfl rfl rfl rfl (pc' := 115) ?_
  refine g_goto rfl (pc' := 60) rfl ?_
  exact g_weak (show gm_Lle [some _, some _, some _, some _] _ from ⟨rfl, ⟨rfl, ⟨rfl, ⟨rfl, trivial⟩⟩⟩⟩) H
set_option maxRecDepth 20000 in
theorem w_344_0  {r_0 : Option Nat} {x1 : Int32} {x2 : Int32} {h : hh_T} {Q : Option Value ⊕ Nat → hh_T → Prop} (H : (¬ x1 = x2 → (gm_G 344 9 [some (va_rf r_0), none, some (.int x2), some (.int x1)] [] h Q)) ∧ (x1 = x2 → (Q (.inl (some (.int (Int32.ofNat 1)))) h))) : gm_G 344 0 [some (va_rf r_0), some (.int x1), some (.int x2)] [] h Q := by
  refine g_iload rfl rfl rfl (pc' := 1) ?_
  refine g_iload rfl rfl rfl (pc' := 2) ?_
  refine g_ic_ne rfl (pc' := 5) (pt := 7) rfl rfl ⟨fun hc => ?_, fun hc => ?_⟩
  · replace H := H.1 hc
    refine g_iload rfl rfl rfl (pc' := 8) ?_
    refine g_istore rfl rfl rfl (pc' := 9) ?_
    exact g_weak (show gm_Lle [some _, none, some _, some _] _ from ⟨rfl, ⟨rfl, ⟨rfl, trivial⟩⟩⟩) H
  · replace H := H.2 hc
    refine g_iconst rfl rfl rfl (pc' := 6) ?_
    exact g_ireturn rfl (Or.inr (by decide)) H
set_option maxRecDepth 20000 in
theorem w_344_9  {r_0 : Option Nat} {x2 : Int32} {x3 : Int32} {h : hh_T} {Q : Option Value ⊕ Nat → hh_T → Prop} (H : gm_G 18 0 [some (va_rf r_0), some (.int x3), some (.int x2)] [] h (pI (fun v2 h1 => gm_G 7 0 [some (va_rf r_0), some (.int x3), some (.int v2)] [] h1 (pI (fun v4 h3 => (¬ v4 = Int32.ofNat 0 → (gm_G 344 41 [some (va_rf r_0), none, some (.int x2), none, some (.int v2)] [] h3 Q)) ∧ (v4 = Int32.ofNat 0 → (gm_G 233 0 [some (va_rf r_0), some (.int x3), some (.int v2)] [] h3 (pL (fun v6 h5 => (¬ (lg_cmp v6 (Int64.ofNat 0)) = Int32.ofNat 0 → (gm_G 344 41 [some (va_rf r_0), none, some (.int x2), none, some (.int v2)] [] h5 Q)) ∧ ((lg_cmp v6 (Int64.ofNat 0)) = Int32.ofNat 0 → (Q (.inl (some (.int (Int32.ofNat 0)))) h5))) (fun e7 h8 => hh_tg h8 e7 = 21 ∧ Q (.inr e7) h8))))) (fun e9 h10 => hh_tg h10 e9 = 21 ∧ Q (.inr e9) h10))) (fun e11 h12 => hh_tg h12 e11 = 21 ∧ Q (.inr e11) h12))) : gm_G 344 9 [some (va_rf r_0), none, some (.int x2), some (.int x3)] [] h Q := by
  refine g_aload (r := _) rfl rfl rfl (pc' := 10) ?_
  refine g_iload rfl rfl rfl (pc' := 11) ?_
  refine g_iload rfl rfl rfl (pc' := 12) ?_
  refine g_call rfl (y := 18) (n := 3) (pc' := 15) (fun _ => rfl) (by cases r_0 <;> rfl) rfl ⟨(Nat.le_of_ble_eq_true rfl), (Nat.le_of_ble_eq_true rfl), (Nat.le_of_ble_eq_true rfl)⟩ rfl (gm_G.mono H (pI_elim (fun v2 h1 H' => ?_) (fun e11 h12 H => ?_)))
  · show gm_G _ 15 _ _ _ _
    replace H := H'
    clear H'
    refine g_istore rfl rfl rfl (pc' := 17) ?_
    refine g_aload (r := _) rfl rfl rfl (pc' := 18) ?_
    refine g_iload rfl rfl rfl (pc' := 19) ?_
    refine g_iload rfl rfl rfl (pc' := 21) ?_
    refine g_call rfl (y := 7) (n := 3) (pc' := 24) (fun _ => rfl) (by cases r_0 <;> rfl) rfl ⟨(Nat.le_of_ble_eq_true rfl), (Nat.le_of_ble_eq_true rfl), (Nat.le_of_ble_eq_true rfl)⟩ rfl (gm_G.mono H (pI_elim (fun v4 h3 H' => ?_) (fun e9 h10 H => ?_)))
    · show gm_G _ 24 _ _ _ _
      replace H := H'
      clear H'
      refine g_if_ne rfl (pc' := 27) (pt := 41) rfl rfl ⟨fun hc => ?_, fun hc => ?_⟩
      · replace H := H.1 hc
        exact g_weak (show gm_Lle [some _, none, some _, none, some _] _ from ⟨rfl, ⟨rfl, ⟨rfl, trivial⟩⟩⟩) H
      · replace H := H.2 hc
        refine g_aload (r := _) rfl rfl rfl (pc' := 28) ?_
        refine g_iload rfl rfl rfl (pc' := 29) ?_
        refine g_iload rfl rfl rfl (pc' := 31) ?_
        refine g_call rfl (y := 233) (n := 3) (pc' := 34) (fun _ => rfl) (by cases r_0 <;> rfl) rfl ⟨(Nat.le_of_ble_eq_true rfl), (Nat.le_of_ble_eq_true rfl), (Nat.le_of_ble_eq_true rfl)⟩ rfl (gm_G.mono H (pL_elim (fun v6 h5 H' => ?_) (fun e7 h8 H => ?_)))
        · show gm_G _ 34 _ _ _ _
          replace H := H'
          clear H'
          refine g_lconst rfl rfl rfl (pc' := 35) ?_
          refine g_lcmp rfl rfl (pc' := 36) ?_
          refine g_if_ne rfl (pc' := 39) (pt := 41) rfl rfl ⟨fun hc => ?_, fun hc => ?_⟩
          · replace H := H.1 hc
            exact g_weak (show gm_Lle [some _, none, some _, none, some _] _ from ⟨rfl, ⟨rfl, ⟨rfl, trivial⟩⟩⟩) H
          · replace H := H.2 hc
            refine g_iconst rfl rfl rfl (pc' := 40) ?_
            exact g_ireturn rfl (Or.inr (by decide)) H
        · exact H
    · exact H
  · exact H
set_option maxRecDepth 20000 in
theorem w_344_41  {r_0 : Option Nat} {x2 : Int32} {x4 : Int32} {h : hh_T} {Q : Option Value ⊕ Nat → hh_T → Prop} (H : (¬ x4 = x2 → (gm_G 344 9 [some (va_rf r_0), none, some (.int x2), some (.int (x4 + (Int32.ofNat 1)))] [] h Q)) ∧ (x4 = x2 → (Q (.inl (some (.int (Int32.ofNat 1)))) h))) : gm_G 344 41 [some (va_rf r_0), none, some (.int x2), none, some (.int x4)] [] h Q := by
  refine g_iload rfl rfl rfl (pc' := 43) ?_
  refine g_iload rfl rfl rfl (pc' := 44) ?_
  refine g_ic_ne rfl (pc' := 47) (pt := 49) rfl rfl ⟨fun hc => ?_, fun hc => ?_⟩
  · replace H := H.1 hc
    refine g_iload rfl rfl rfl (pc' := 51) ?_
    refine g_iconst rfl rfl rfl (pc' := 52) ?_
    refine g_iadd rfl rfl (pc' := 53) ?_
    refine g_istore rfl rfl rfl (pc' := 54) ?_
    refine g_goto rfl (pc' := 9) rfl ?_
    exact g_weak (show gm_Lle [some _, none, some _, some _] _ from ⟨rfl, ⟨rfl, ⟨rfl, trivial⟩⟩⟩) H
  · replace H := H.2 hc
    refine g_iconst rfl rfl rfl (pc' := 48) ?_
    exact g_ireturn rfl (Or.inr (by decide)) H
set_option maxRecDepth 20000 in
theorem w_345_0 {a0 : Nat} {x1 : Int32} {h : hh_T} {Q : Option Value ⊕ Nat → hh_T → Prop} (H : gm_G 20 0 [some (.int x1)] [] h (pI (fun v2 h1 => gm_sub (hh_tg h1 a0) 0 = true ∧ (∀ r4, r4 = hh_r h1 a0 31 → (∃ a5, r4 = some a5 ∧ ((hh_tg h1 a5 = 104 ∨ 200 ≤ hh_tg h1 a5) ∧ (∃ n6, gm_ix v2 n6 (hh_ln h1 a5) ∧ (∀ r8, r8 = hh_r h1 a5 n6 → ((∀ a9, r8 = some a9 → (∀ r10, r10 = hh_r h1 a0 31 → (gm_sub (hh_tg h1 a9) 25 = true ∧ (∀ r12, r12 = hh_r h1 a9 11 → (∃ a13, r10 = some a13 ∧ (200 ≤ hh_tg h1 a13 ∧ (∀ b, r12 = some b → gm_as (hh_tg h1 a13) (hh_tg h1 b) = true) ∧ (∃ n14, gm_ix v2 n14 (hh_ln h1 a13) ∧ (∀ h15, h15 = hh_wr h1 a13 n14 r12 → (gm_G 345 66 [none, some (.int x1), none, some (.ref a9)] [] h15 Q))))))))) ∧ (r8 = none → ((¬ v2 = Int32.ofNat 0 → ((¬ v2 = (Int32.ofNat 1) → (gm_G 345 45 [none, some (.int x1)] [] h1 Q)) ∧ (v2 = (Int32.ofNat 1) → (∀ a16 h17, a16 = hh_sz h1 → h17 = hh_al h1 28 0 15 → (gm_G 315 0 [some (.ref a16)] [] h17 (pV (fun h18 => gm_G 345 52 [none, some (.int x1)] [.ref a16] h18 Q) (fun e19 h20 => hh_tg h20 e19 = 21 ∧ Q (.inr e19) h20))))))) ∧ (v2 = Int32.ofNat 0 → (∀ a21 h22, a21 = hh_sz h1 → h22 = hh_al h1 27 0 13 → (gm_G 313 0 [some (.ref a21)] [] h22 (pV (fun h23 => gm_G 345 52 [none, some (.int x1)] [.ref a21] h23 Q) (fun e24 h25 => hh_tg h25 e24 = 21 ∧ Q (.inr e24) h25)))))))))))))) (fun e26 h27 => hh_tg h27 e26 = 21 ∧ Q (.inr e26) h27))) : gm_G 345 0 [some (.ref a0), some (.int x1)] [] h Q := by
  refine g_iload rfl rfl rfl (pc' := 1) ?_
  refine g_call rfl (y := 20) (n := 1) (pc' := 4) (fun _ => rfl) rfl rfl ⟨(Nat.le_of_ble_eq_true rfl), (Nat.le_of_ble_eq_true rfl), (Nat.le_of_ble_eq_true rfl)⟩ rfl (gm_G.mono H (pI_elim (fun v2 h1 H' => ?_) (fun e26 h27 H => ?_)))
  · show gm_G _ 4 _ _ _ _
    replace H := H'
    clear H'
    refine g_istore rfl rfl rfl (pc' := 5) ?_
    refine g_aload (r := some _) rfl rfl rfl (pc' := 6) ?_
    obtain ⟨ht3, H⟩ := H
    refine g_getRv rfl rfl rfl rfl ht3 (pc' := 9) rfl (fun r4 hr4 => ?_)
    replace H := H r4 hr4
    refine g_iload rfl rfl rfl (pc' := 10) ?_
    obtain ⟨a5, rfl, H⟩ := H
    obtain ⟨ht7, H⟩ := H
    obtain ⟨n6, hn6, H⟩ := H
    refine g_aaloadv rfl ht7 hn6 (pc' := 11) rfl (fun r8 hr8 => ?_)
    replace H := H r8 hr8
    refine g_astore (r := _) rfl rfl rfl (pc' := 12) ?_
    refine g_aload (r := _) rfl rfl rfl (pc' := 13) ?_
    refine g_ifnonnull rfl (pc' := 16) (pt := 56) rfl rfl ⟨fun a9 hc => ?_, fun hc => ?_⟩
    · replace H := H.1 a9 hc
      subst hc
      refine g_aload (r := some _) rfl rfl rfl (pc' := 57) ?_
      refine g_getRv rfl rfl rfl rfl ht3 (pc' := 60) rfl (fun r10 hr10 => ?_)
      replace H := H r10 hr10
      refine g_iload rfl rfl rfl (pc' := 61) ?_
      refine g_aload (r := some _) rfl rfl rfl (pc' := 62) ?_
      obtain ⟨ht11, H⟩ := H
      refine g_getRv rfl rfl rfl rfl ht11 (pc' := 65) rfl (fun r12 hr12 => ?_)
      replace H := H r12 hr12
      obtain ⟨a13, rfl, H⟩ := H
      obtain ⟨Ha, Hb, H⟩ := H
      obtain ⟨n14, hn14, H⟩ := H
      refine g_aastore (r := _) rfl Ha Hb hn14 (pc' := 66) rfl ?_
      replace H := H _ rfl
      exact g_weak (show gm_Lle [none, some _, none, some _] _ from ⟨rfl, ⟨rfl, trivial⟩⟩) H
    · replace H := H.2 hc
      subst hc
      refine g_iload rfl rfl rfl (pc' := 17) ?_
      refine g_if_ne rfl (pc' := 20) (pt := 30) rfl rfl ⟨fun hc => ?_, fun hc => ?_⟩
      · replace H := H.1 hc
        refine g_iload rfl rfl rfl (pc' := 31) ?_
        refine g_iconst rfl rfl rfl (pc' := 32) ?_
        refine g_ic_ne rfl (pc' := 35) (pt := 45) rfl rfl ⟨fun hc => ?_, fun hc => ?_⟩
        · replace H := H.1 hc
          exact g_weak (show gm_Lle [none, some _] _ from ⟨rfl, trivial⟩) H
        · replace H := H.2 hc
          refine g_new rfl (t := 28) (s := 15) rfl rfl (pc' := 38) rfl ?_
          replace H := H _ _ rfl rfl
          refine g_dup_a (r := some _) rfl rfl (pc' := 39) ?_
          refine g_call rfl (y := 315) (n := 1) (pc' := 42) (fun _ => rfl) rfl rfl ⟨(Nat.le_of_ble_eq_true rfl), (Nat.le_of_ble_eq_true rfl), (Nat.le_of_ble_eq_true rfl)⟩ rfl (gm_G.mono H (pV_elim (fun h18 H' => ?_) (fun e19 h20 H => ?_)))
          · show gm_G _ 42 _ _ _ _
            replace H := H'
            clear H'
            refine g_goto rfl (pc' := 52) rfl ?_
            exact g_weak (show gm_Lle [none, some _] _ from ⟨rfl, trivial⟩) H
          · exact H
      · replace H := H.2 hc
        refine g_new rfl (t := 27) (s := 13) rfl rfl (pc' := 23) rfl ?_
        replace H := H _ _ rfl rfl
        refine g_dup_a (r := some _) rfl rfl (pc' := 24) ?_
        refine g_call rfl (y := 313) (n := 1) (pc' := 27) (fun _ => rfl) rfl rfl ⟨(Nat.le_of_ble_eq_true rfl), (Nat.le_of_ble_eq_true rfl), (Nat.le_of_ble_eq_true rfl)⟩ rfl (gm_G.mono H (pV_elim (fun h23 H' => ?_) (fun e24 h25 H => ?_)))
        · show gm_G _ 27 _ _ _ _
          replace H := H'
          clear H'
          refine g_goto rfl (pc' := 52) rfl ?_
          exact g_weak (show gm_Lle [none, some _] _ from ⟨rfl, trivial⟩) H
        · exact H
  · exact H
set_option maxRecDepth 20000 in
theorem w_345_45 {a0 : Nat} {x1 : Int32} {h : hh_T} {Q : Option Value ⊕ Nat → hh_T → Prop} (H : ∀ a1 h2, a1 = hh_sz h → h2 = hh_al h 29 0 13 → (gm_G 319 0 [some (.ref a1)] [] h2 (pV (fun h3 => gm_G 345 52 [none, some (.int x1)] [.ref a1] h3 Q) (fun e4 h5 => hh_tg h5 e4 = 21 ∧ Q (.inr e4) h5)))) : gm_G 345 45 [none, some (.int x1)] [] h Q := by
  refine g_new rfl (t := 29) (s := 13) rfl rfl (pc' := 48) rfl ?_
  replace H := H _ _ rfl rfl
  refine g_dup_a (r := some _) rfl rfl (pc' := 49) ?_
  refine g_call rfl (y := 319) (n := 1) (pc' := 52) (fun _ => rfl) rfl rfl ⟨(Nat.le_of_ble_eq_true rfl), (Nat.le_of_ble_eq_true rfl), (Nat.le_of_ble_eq_true rfl)⟩ rfl (gm_G.mono H (pV_elim (fun h3 H' => ?_) (fun e4 h5 H => ?_)))
  · show gm_G _ 52 _ _ _ _
    replace H := H'
    clear H'
    exact g_weak (show gm_Lle [none, some _] _ from ⟨rfl, trivial⟩) H
  · exact H
set_option maxRecDepth 20000 in
theorem w_345_52 {a0 : Nat} {x1 : Int32} {q0 : Option Nat} {h : hh_T} {Q : Option Value ⊕ Nat → hh_T → Prop} (H : gm_G 345 66 [none, some (.int x1), none, some (va_rf q0)] [] h Q) : gm_G 345 52 [none, some (.int x1)] [va_rf q0] h Q := by
  refine g_astore (r := _) rfl rfl rfl (pc' := 53) ?_
  refine g_goto rfl (pc' := 66) rfl ?_
  exact g_weak (show gm_Lle [none, some _, none, some _] _ from ⟨rfl, ⟨rfl, trivial⟩⟩) H
set_option maxRecDepth 20000 in
theorem w_345_66 {a0 : Nat} {x1 : Int32} {r_3 : Option Nat} {h : hh_T} {Q : Option Value ⊕ Nat → hh_T → Prop} (H : ∃ a1, r_3 = some a1 ∧ (gm_sub (hh_tg h a1) 25 = true ∧ (∀ h3, h3 = hh_wr h a1 11 none → (∀ h4, h4 = hh_wi h3 a1 0 (Int32.ofNat 1) → (∀ h5, h5 = hh_wi h4 a1 1 x1 → (∀ h6, h6 = hh_wi h5 a1 6 (Int32.ofNat 0) → (∀ h7, h7 = hh_wi h6 a1 9 (Int32.ofNat 0) → (gm_G 345 91 [none, none, none, some (.ref a1)] [] h7 Q)))))))) : gm_G 345 66 [none, some (.int x1), none, some (va_rf r_3)] [] h Q := by
  refine g_aload (r := _) rfl rfl rfl (pc' := 67) ?_
  refine g_null rfl rfl (pc' := 68) ?_
  obtain ⟨a1, rfl, H⟩ := H
  obtain ⟨ht2, H⟩ := H
  refine g_putR rfl rfl rfl rfl ht2  (pc' := 71) rfl ?_
  replace H := H _ rfl
  refine g_aload (r := some _) rfl rfl rfl (pc' := 72) ?_
  refine g_iconst rfl rfl rfl (pc' := 73) ?_
  refine g_putI rfl rfl rfl rfl ht2  (pc' := 76) rfl ?_
  replace H := H _ rfl
  refine g_aload (r := some _) rfl rfl rfl (pc' := 77) ?_
  refine g_iload rfl rfl rfl (pc' := 78) ?_
  refine g_putI rfl rfl rfl rfl ht2  (pc' := 81) rfl ?_
  replace H := H _ rfl
  refine g_aload (r := some _) rfl rfl rfl (pc' := 82) ?_
  refine g_iconst rfl rfl rfl (pc' := 83) ?_
  refine g_putI rfl rfl rfl rfl ht2  (pc' := 86) rfl ?_
  replace H := H _ rfl
  refine g_aload (r := some _) rfl rfl rfl (pc' := 87) ?_
  refine g_iconst rfl rfl rfl (pc' := 88) ?_
  refine g_putI rfl rfl rfl rfl ht2  (pc' := 91) rfl ?_
  replace H := H _ rfl
  exact g_weak (show gm_Lle [none, none, none, some _] _ from ⟨rfl, trivial⟩) H
set_option maxRecDepth 20000 in
theorem w_345_91 {a0 : Nat} {r_3 : Option Nat} {h : hh_T} {Q : Option Value ⊕ Nat → hh_T → Prop} (H : Q (.inl (some (va_rf r_3))) h) : gm_G 345 91 [none, none, none, some (va_rf r_3)] [] h Q := by
  refine g_aload (r := _) rfl rfl rfl (pc' := 92) ?_
  exact g_areturn (r := _) rfl H
set_option maxRecDepth 20000 in
theorem w_346_0 {a0 : Nat} {r_1 : Option Nat} {h : hh_T} {Q : Option Value ⊕ Nat → hh_T → Prop} (H : gm_sub (hh_tg h a0) 0 = true ∧ (∀ r2, r2 = hh_r h a0 33 → (∃ a3, r_1 = some a3 ∧ (gm_sub (hh_tg h a3) 42 = true ∧ (∃ a5, r2 = some a5 ∧ (hh_tg h a5 = 23 ∧ (gm_G 312 0 [some (.ref a5), some (.int (hh_i h a3 0))] [] h (pR (fun r8 h7 => ∃ a9, r8 = some a9 ∧ (gm_sub (hh_tg h7 a9) 24 = true ∧ (∀ r11, r11 = hh_r h7 a9 2 → (gm_sub (hh_tg h7 a3) 42 = true ∧ (∃ a13, r11 = some a13 ∧ ((hh_tg h7 a13 = 104 ∨ 200 ≤ hh_tg h7 a13) ∧ (∃ n14, gm_ix (hh_i h7 a3 1) n14 (hh_ln h7 a13) ∧ (∀ r16, r16 = hh_r h7 a13 n14 → ((∀ b, r16 = some b → gm_sub (hh_tg h7 b) 26 = true) ∧ (Q (.inl (some (va_rf r16))) h7)))))))))) (fun e17 h18 => hh_tg h18 e17 = 21 ∧ Q (.inr e17) h18))))))))) : gm_G 346 0 [some (.ref a0), some (va_rf r_1)] [] h Q := by
  refine g_aload (r := some _) rfl rfl rfl (pc' := 1) ?_
  obtain ⟨ht1, H⟩ := H
  refine g_getRv rfl rfl rfl rfl ht1 (pc' := 4) rfl (fun r2 hr2 => ?_)
  replace H := H r2 hr2
  refine g_aload (r := _) rfl rfl rfl (pc' := 5) ?_
  obtain ⟨a3, rfl, H⟩ := H
  obtain ⟨ht4, H⟩ := H
  refine g_getI rfl rfl rfl rfl ht4 (pc' := 8) rfl ?_
  obtain ⟨a5, rfl, H⟩ := H
  obtain ⟨ht6, H⟩ := H
  refine g_call rfl (y := 312) (n := 2) (pc' := 11) (g_vt ht6 rfl rfl) rfl rfl ⟨(Nat.le_of_ble_eq_true rfl), (Nat.le_of_ble_eq_true rfl), (Nat.le_of_ble_eq_true rfl)⟩ rfl (gm_G.mono H (pR_elim (fun r8 h7 H' => ?_) (fun e17 h18 H => ?_)))
  · show gm_G _ 11 _ _ _ _
    replace H := H'
    clear H'
    obtain ⟨a9, rfl, H⟩ := H
    obtain ⟨ht10, H⟩ := H
    refine g_getRv rfl rfl rfl rfl ht10 (pc' := 14) rfl (fun r11 hr11 => ?_)
    replace H := H r11 hr11
    refine g_aload (r := some _) rfl rfl rfl (pc' := 15) ?_
    obtain ⟨ht12, H⟩ := H
    refine g_getI rfl rfl rfl rfl ht12 (pc' := 18) rfl ?_
    obtain ⟨a13, rfl, H⟩ := H
    obtain ⟨ht15, H⟩ := H
    obtain ⟨n14, hn14, H⟩ := H
    refine g_aaloadv rfl ht15 hn14 (pc' := 19) rfl (fun r16 hr16 => ?_)
    replace H := H r16 hr16
    obtain ⟨Hc, H⟩ := H
    refine g_cast rfl Hc (pc' := 22) rfl ?_
    exact g_areturn (r := _) rfl H
  · exact H
set_option maxRecDepth 20000 in
theorem w_347_0 {a0 : Nat} {x1 : Int32} {x2 : Int32} {x3 : Int32} {x4 : Int32} {h : hh_T} {Q : Option Value ⊕ Nat → hh_T → Prop} (H : hh_tg h a0 = 1 ∧ (gm_G 228 0 [some (.ref a0), some (.int x1)] [] h (pI (fun v3 h2 => (v3 = Int32.ofNat 0 → (Q (.inl (some (.int (Int32.ofInt (-1))))) h2)) ∧ (¬ v3 = Int32.ofNat 0 → (gm_sub (hh_tg h2 a0) 0 = true ∧ (∀ r5, r5 = hh_r h2 a0 0 → (∃ a6, r5 = some a6 ∧ ((hh_tg h2 a6 = 104 ∨ 200 ≤ hh_tg h2 a6) ∧ (∃ n7, gm_ix x1 n7 (hh_ln h2 a6) ∧ (∀ r9, r9 = hh_r h2 a6 n7 → (∃ a10, r9 = some a10 ∧ (gm_sub (hh_tg h2 a10) 21 = true ∧ (gm_G 5 0 [some (.int x2), some (.int (Int32.ofNat 0)), some (.int ((hh_i h2 a10 0) - (Int32.ofNat 1)))] [] h2 (pI (fun v13 h12 => (v13 = Int32.ofNat 0 → (Q (.inl (some (.int (Int32.ofInt (-1))))) h12)) ∧ (¬ v13 = Int32.ofNat 0 → (gm_G 5 0 [some (.int x3), some (.int (Int32.ofNat 0)), some (.int (Int32.ofNat 7))] [] h12 (pI (fun v15 h14 => (v15 = Int32.ofNat 0 → (Q (.inl (some (.int (Int32.ofInt (-1))))) h14)) ∧ (¬ v15 = Int32.ofNat 0 → (gm_G 5 0 [some (.int x4), some (.int (Int32.ofNat 0)), some (.int (Int32.ofNat 255))] [] h14 (pI (fun v17 h16 => (¬ v17 = Int32.ofNat 0 → (gm_sub (hh_tg h16 a0) 0 = true ∧ (∀ r19, r19 = hh_r h16 a0 0 → (∃ a20, r19 = some a20 ∧ ((hh_tg h16 a20 = 104 ∨ 200 ≤ hh_tg h16 a20) ∧ (∃ n21, gm_ix x1 n21 (hh_ln h16 a20) ∧ (∀ r23, r23 = hh_r h16 a20 n21 → (∃ a24, r23 = some a24 ∧ (gm_sub (hh_tg h16 a24) 21 = true ∧ (∀ r26, r26 = hh_r h16 a24 1 → (∃ a27, r26 = some a27 ∧ ((hh_tg h16 a27 = 101 ∨ hh_tg h16 a27 = 102) ∧ (∃ n28, gm_ix (((Int32.ofNat 8) * x2) + x3) n28 (hh_ln h16 a27) ∧ (hh_tg h16 a27 = 101 ∧ (∃ n30, gm_ix (((Int32.ofNat 8) * x2) + x3) n30 (hh_ln h16 a27) ∧ (∀ h31, h31 = hh_wi h16 a27 n30 ((((hh_i h16 a27 n28) ^^^ (x4.toInt8.toInt32)).toInt8.toInt32).toInt8.toInt32) → (gm_G 347 74 [] [] h31 Q))))))))))))))))) ∧ (v17 = Int32.ofNat 0 → (Q (.inl (some (.int (Int32.ofInt (-1))))) h16))) (fun e33 h34 => hh_tg h34 e33 = 21 ∧ Q (.inr e33) h34))))) (fun e35 h36 => hh_tg h36 e35 = 21 ∧ Q (.inr e35) h36))))) (fun e37 h38 => hh_tg h38 e37 = 21 ∧ Q (.inr e37) h38))))))))))))) (fun e39 h40 => hh_tg h40 e39 = 21 ∧ Q (.inr e39) h40)))) : gm_G 347 0 [some (.ref a0), some (.int x1), some (.int x2), some (.int x3), some (.int x4)] [] h Q := by
  refine g_aload (r := some _) rfl rfl rfl (pc' := 1) ?_
  refine g_iload rfl rfl rfl (pc' := 2) ?_
  obtain ⟨ht1, H⟩ := H
  refine g_call rfl (y := 228) (n := 2) (pc' := 5) (g_vt ht1 rfl rfl) rfl rfl ⟨(Nat.le_of_ble_eq_true rfl), (Nat.le_of_ble_eq_true rfl), (Nat.le_of_ble_eq_true rfl)⟩ rfl (gm_G.mono H (pI_elim (fun v3 h2 H' => ?_) (fun e39 h40 H => ?_)))
  · show gm_G _ 5 _ _ _ _
    replace H := H'
    clear H'
    refine g_if_eq rfl (pc' := 8) (pt := 49) rfl rfl ⟨fun hc => ?_, fun hc => ?_⟩
    · replace H := H.1 hc
      refine g_iconst rfl rfl rfl (pc' := 50) ?_
      exact g_ireturn rfl (Or.inl rfl) H
    · replace H := H.2 hc
      refine g_iload rfl rfl rfl (pc' := 9) ?_
      refine g_iconst rfl rfl rfl (pc' := 10) ?_
      refine g_aload (r := some _) rfl rfl rfl (pc' := 11) ?_
      obtain ⟨ht4, H⟩ := H
      refine g_getRv rfl rfl rfl rfl ht4 (pc' := 14) rfl (fun r5 hr5 => ?_)
      replace H := H r5 hr5
      refine g_iload rfl rfl rfl (pc' := 15) ?_
      obtain ⟨a6, rfl, H⟩ := H
      obtain ⟨ht8, H⟩ := H
      obtain ⟨n7, hn7, H⟩ := H
      refine g_aaloadv rfl ht8 hn7 (pc' := 16) rfl (fun r9 hr9 => ?_)
      replace H := H r9 hr9
      obtain ⟨a10, rfl, H⟩ := H
      obtain ⟨ht11, H⟩ := H
      refine g_getI rfl rfl rfl rfl ht11 (pc' := 19) rfl ?_
      refine g_iconst rfl rfl rfl (pc' := 20) ?_
      refine g_isub rfl rfl (pc' := 21) ?_
      refine g_call rfl (y := 5) (n := 3) (pc' := 24) (fun _ => rfl) rfl rfl ⟨(Nat.le_of_ble_eq_true rfl), (Nat.le_of_ble_eq_true rfl), (Nat.le_of_ble_eq_true rfl)⟩ rfl (gm_G.mono H (pI_elim (fun v13 h12 H' => ?_) (fun e37 h38 H => ?_)))
      · show gm_G _ 24 _ _ _ _
        replace H := H'
        clear H'
        refine g_if_eq rfl (pc' := 27) (pt := 49) rfl rfl ⟨fun hc => ?_, fun hc => ?_⟩
        · replace H := H.1 hc
          refine g_iconst rfl rfl rfl (pc' := 50) ?_
          exact g_ireturn rfl (Or.inl rfl) H
        · replace H := H.2 hc
          refine g_iload rfl rfl rfl (pc' := 28) ?_
          refine g_iconst rfl rfl rfl (pc' := 29) ?_
          refine g_iconst rfl rfl rfl (pc' := 31) ?_
          refine g_call rfl (y := 5) (n := 3) (pc' := 34) (fun _ => rfl) rfl rfl ⟨(Nat.le_of_ble_eq_true rfl), (Nat.le_of_ble_eq_true rfl), (Nat.le_of_ble_eq_true rfl)⟩ rfl (gm_G.mono H (pI_elim (fun v15 h14 H' => ?_) (fun e35 h36 H => ?_)))
          · show gm_G _ 34 _ _ _ _
            replace H := H'
            clear H'
            refine g_if_eq rfl (pc' := 37) (pt := 49) rfl rfl ⟨fun hc => ?_, fun hc => ?_⟩
            · replace H := H.1 hc
              refine g_iconst rfl rfl rfl (pc' := 50) ?_
              exact g_ireturn rfl (Or.inl rfl) H
            · replace H := H.2 hc
              refine g_iload rfl rfl rfl (pc' := 39) ?_
              refine g_iconst rfl rfl rfl (pc' := 40) ?_
              refine g_iconst rfl rfl rfl (pc' := 43) ?_
              refine g_call rfl (y := 5) (n := 3) (pc' := 46) (fun _ => rfl) rfl rfl ⟨(Nat.le_of_ble_eq_true rfl), (Nat.le_of_ble_eq_true rfl), (Nat.le_of_ble_eq_true rfl)⟩ rfl (gm_G.mono H (pI_elim (fun v17 h16 H' => ?_) (fun e33 h34 H => ?_)))
              · show gm_G _ 46 _ _ _ _
                replace H := H'
                clear H'
                refine g_if_ne rfl (pc' := 49) (pt := 51) rfl rfl ⟨fun hc => ?_, fun hc => ?_⟩
                · replace H := H.1 hc
                  refine g_aload (r := some _) rfl rfl rfl (pc' := 52) ?_
                  obtain ⟨ht18, H⟩ := H
                  refine g_getRv rfl rfl rfl rfl ht18 (pc' := 55) rfl (fun r19 hr19 => ?_)
                  replace H := H r19 hr19
                  refine g_iload rfl rfl rfl (pc' := 56) ?_
                  obtain ⟨a20, rfl, H⟩ := H
                  obtain ⟨ht22, H⟩ := H
                  obtain ⟨n21, hn21, H⟩ := H
                  refine g_aaloadv rfl ht22 hn21 (pc' := 57) rfl (fun r23 hr23 => ?_)
                  replace H := H r23 hr23
                  obtain ⟨a24, rfl, H⟩ := H
                  obtain ⟨ht25, H⟩ := H
                  refine g_getRv rfl rfl rfl rfl ht25 (pc' := 60) rfl (fun r26 hr26 => ?_)
                  replace H := H r26 hr26
                  refine g_iconst rfl rfl rfl (pc' := 62) ?_
                  refine g_iload rfl rfl rfl (pc' := 63) ?_
                  refine g_imul rfl rfl (pc' := 64) ?_
                  refine g_iload rfl rfl rfl (pc' := 65) ?_
                  refine g_iadd rfl rfl (pc' := 66) ?_
                  obtain ⟨a27, rfl, H⟩ := H
                  refine g_dup2_a rfl (pc' := 67) rfl ?_
                  obtain ⟨ht29, H⟩ := H
                  obtain ⟨n28, hn28, H⟩ := H
                  refine g_baload rfl ht29 hn28 (pc' := 68) rfl ?_
                  refine g_iload rfl rfl rfl (pc' := 70) ?_
                  refine g_i2b rfl rfl (pc' := 71) ?_
                  refine g_ixor rfl rfl (pc' := 72) ?_
                  refine g_i2b rfl rfl (pc' := 73) ?_
                  obtain ⟨ht32, H⟩ := H
                  obtain ⟨n30, hn30, H⟩ := H
                  refine g_bastore rfl ht32 hn30  (pc' := 74) rfl ?_
                  replace H := H _ rfl
                  exact g_weak (show gm_Lle [] _ from trivial) H
                · replace H := H.2 hc
                  refine g_iconst rfl rfl rfl (pc' := 50) ?_
                  exact g_ireturn rfl (Or.inl rfl) H
              · exact H
          · exact H
      · exact H
  · exact H
set_option maxRecDepth 20000 in
theorem w_347_74 {a0 : Nat}  {h : hh_T} {Q : Option Value ⊕ Nat → hh_T → Prop} (H : Q (.inl (some (.int (Int32.ofNat 0)))) h) : gm_G 347 74 [] [] h Q := by
  refine g_iconst rfl rfl rfl (pc' := 75) ?_
  exact g_ireturn rfl (Or.inl rfl) H
set_option maxRecDepth 20000 in
theorem w_348_0 {a0 : Nat} {r_1 : Option Nat} {x2 : Int32} {x3 : Int32} {h : hh_T} {Q : Option Value ⊕ Nat → hh_T → Prop} (H : gm_G 348 6 [some (.ref a0), some (va_rf r_1), some (.int x2), some (.int x3), some (va_rf none), some (.int (Int32.ofNat 0))] [] h Q) : gm_G 348 0 [some (.ref a0), some (va_rf r_1), some (.int x2), some (.int x3)] [] h Q := by
  refine g_null rfl rfl (pc' := 1) ?_
  refine g_astore (r := _) rfl rfl rfl (pc' := 3) ?_
  refine g_iconst rfl rfl rfl (pc' := 4) ?_
  refine g_istore rfl rfl rfl (pc' := 6) ?_
  exact g_weak (show gm_Lle [some _, some _, some _, some _, some _, some _] _ from ⟨rfl, ⟨rfl, ⟨rfl, ⟨rfl, ⟨rfl, ⟨rfl, trivial⟩⟩⟩⟩⟩⟩) H
set_option maxRecDepth 20000 in
theorem w_348_6 {a0 : Nat} {r_1 : Option Nat} {x2 : Int32} {x3 : Int32} {r_4 : Option Nat} {x5 : Int32} {h : hh_T} {Q : Option Value ⊕ Nat → hh_T → Prop} (H : gm_sub (hh_tg h a0) 0 = true ∧ ((¬ x5 < (hh_i h a0 8) → (Q (.inl (some (va_rf r_4))) h)) ∧ (x5 < (hh_i h a0 8) → (∀ r2, r2 = hh_r h a0 7 → (∃ a3, r2 = some a3 ∧ ((hh_tg h a3 = 104 ∨ 200 ≤ hh_tg h a3) ∧ (∃ n4, gm_ix x5 n4 (hh_ln h a3) ∧ (∀ r6, r6 = hh_r h a3 n4 → (∃ a7, r6 = some a7 ∧ ((hh_tg h a7 = 5 ∧ (gm_G 247 0 [some (.ref a7)] [] h (pI (fun v9 h8 => (v9 = Int32.ofNat 0 → (gm_G 348 102 [some (.ref a0), some (va_rf r_1), some (.int x2), some (.int x3), some (va_rf r_4), some (.int x5)] [] h8 Q)) ∧ (¬ v9 = Int32.ofNat 0 → ((x3 = Int32.ofNat 0 → (gm_G 348 54 [some (.ref a0), some (va_rf r_1), some (.int x2), some (.int x3), some (va_rf r_4), some (.int x5), some (.ref a7)] [] h8 Q)) ∧ (¬ x3 = Int32.ofNat 0 → (∃ a10, r_1 = some a10 ∧ (gm_sub (hh_tg h8 a10) 31 = true ∧ ((¬ Int32.ofNat 0 < (hh_i h8 a10 2) → (gm_G 348 54 [some (.ref a0), some (.ref a10), some (.int x2), some (.int x3), some (va_rf r_4), some (.int x5), some (.ref a7)] [] h8 Q)) ∧ (Int32.ofNat 0 < (hh_i h8 a10 2) → (∀ r12, r12 = hh_r h8 a10 4 → (∃ a13, r12 = some a13 ∧ ((hh_tg h8 a13 = 100 ∨ hh_tg h8 a13 = 105) ∧ (0 < hh_ln h8 a13 ∧ (((hh_i h8 a13 0) = x5 → (gm_G 348 102 [some (.ref a0), some (.ref a10), some (.int x2), some (.int x3), some (va_rf r_4), some (.int x5)] [] h8 Q)) ∧ (¬ (hh_i h8 a13 0) = x5 → (gm_G 348 54 [some (.ref a0), some (.ref a10), some (.int x2), some (.int x3), some (va_rf r_4), some (.int x5), some (.ref a7)] [] h8 Q))))))))))))))) (fun e16 h17 => hh_tg h17 e16 = 21 ∧ Q (.inr e16) h17)))) ∨ (hh_tg h a7 = 7 ∧ (gm_G 252 0 [some (.ref a7)] [] h (pI (fun v19 h18 => (v19 = Int32.ofNat 0 → (gm_G 348 102 [some (.ref a0), some (va_rf r_1), some (.int x2), some (.int x3), some (va_rf r_4), some (.int x5)] [] h18 Q)) ∧ (¬ v19 = Int32.ofNat 0 → ((x3 = Int32.ofNat 0 → (gm_G 348 54 [some (.ref a0), some (va_rf r_1), some (.int x2), some (.int x3), some (va_rf r_4), some (.int x5), some (.ref a7)] [] h18 Q)) ∧ (¬ x3 = Int32.ofNat 0 → (∃ a20, r_1 = some a20 ∧ (gm_sub (hh_tg h18 a20) 31 = true ∧ ((¬ Int32.ofNat 0 < (hh_i h18 a20 2) → (gm_G 348 54 [some (.ref a0), some (.ref a20), some (.int x2), some (.int x3), some (va_rf r_4), some (.int x5), some (.ref a7)] [] h18 Q)) ∧ (Int32.ofNat 0 < (hh_i h18 a20 2) → (∀ r22, r22 = hh_r h18 a20 4 → (∃ a23, r22 = some a23 ∧ ((hh_tg h18 a23 = 100 ∨ hh_tg h18 a23 = 105) ∧ (0 < hh_ln h18 a23 ∧ (((hh_i h18 a23 0) = x5 → (gm_G 348 102 [some (.ref a0), some (.ref a20), some (.int x2), some (.int x3), some (va_rf r_4), some (.int x5)] [] h18 Q)) ∧ (¬ (hh_i h18 a23 0) = x5 → (gm_G 348 54 [some (.ref a0), some (.ref a20), some (.int x2), some (.int x3), some (va_rf r_4), some (.int x5), some (.ref a7)] [] h18 Q))))))))))))))) (fun e26 h27 => hh_tg h27 e26 = 21 ∧ Q (.inr e26) h27)))))))))))))) : gm_G 348 6 [some (.ref a0), some (va_rf r_1), some (.int x2), some (.int x3), some (va_rf r_4), some (.int x5)] [] h Q := by
  refine g_iload rfl rfl rfl (pc' := 8) ?_
  refine g_aload (r := some _) rfl rfl rfl (pc' := 9) ?_
  obtain ⟨ht1, H⟩ := H
  refine g_getI rfl rfl rfl rfl ht1 (pc' := 12) rfl ?_
  refine g_ic_ge rfl (pc' := 15) (pt := 108) rfl rfl ⟨fun hc => ?_, fun hc => ?_⟩
  · replace H := H.1 hc
    refine g_aload (r := _) rfl rfl rfl (pc' := 110) ?_
    exact g_areturn (r := _) rfl H
  · replace H := H.2 hc
    refine g_aload (r := some _) rfl rfl rfl (pc' := 16) ?_
    refine g_getRv rfl rfl rfl rfl ht1 (pc' := 19) rfl (fun r2 hr2 => ?_)
    replace H := H r2 hr2
    refine g_iload rfl rfl rfl (pc' := 21) ?_
    obtain ⟨a3, rfl, H⟩ := H
    obtain ⟨ht5, H⟩ := H
    obtain ⟨n4, hn4, H⟩ := H
    refine g_aaloadv rfl ht5 hn4 (pc' := 22) rfl (fun r6 hr6 => ?_)
    replace H := H r6 hr6
    refine g_astore (r := _) rfl rfl rfl (pc' := 24) ?_
    refine g_aload (r := _) rfl rfl rfl (pc' := 26) ?_
    obtain ⟨a7, rfl, H⟩ := H
    rcases H with ⟨ht, H⟩ | ⟨ht, H⟩
    · refine g_call rfl (y := 247) (n := 1) (pc' := 29) (g_vt ht rfl rfl) rfl rfl ⟨(Nat.le_of_ble_eq_true rfl), (Nat.le_of_ble_eq_true rfl), (Nat.le_of_ble_eq_true rfl)⟩ rfl (gm_G.mono H (pI_elim (fun v9 h8 H' => ?_) (fun e16 h17 H => ?_)))
      · show gm_G _ 29 _ _ _ _
        replace H := H'
        clear H'
        refine g_if_eq rfl (pc' := 32) (pt := 102) rfl rfl ⟨fun hc => ?_, fun hc => ?_⟩
        · replace H := H.1 hc
          exact g_weak (show gm_Lle [some _, some _, some _, some _, some _, some _] _ from ⟨rfl, ⟨rfl, ⟨rfl, ⟨rfl, ⟨rfl, ⟨rfl, trivial⟩⟩⟩⟩⟩⟩) H
        · replace H := H.2 hc
          refine g_iload rfl rfl rfl (pc' := 33) ?_
          refine g_if_eq rfl (pc' := 36) (pt := 54) rfl rfl ⟨fun hc => ?_, fun hc => ?_⟩
          · replace H := H.1 hc
            exact g_weak (show gm_Lle [some _, some _, some _, some _, some _, some _, some _] _ from ⟨rfl, ⟨rfl, ⟨rfl, ⟨rfl, ⟨rfl, ⟨rfl, ⟨rfl, trivial⟩⟩⟩⟩⟩⟩⟩) H
          · replace H := H.2 hc
            refine g_aload (r := _) rfl rfl rfl (pc' := 37) ?_
            obtain ⟨a10, rfl, H⟩ := H
            obtain ⟨ht11, H⟩ := H
            refine g_getI rfl rfl rfl rfl ht11 (pc' := 40) rfl ?_
            refine g_if_le rfl (pc' := 43) (pt := 54) rfl rfl ⟨fun hc => ?_, fun hc => ?_⟩
            · replace H := H.1 hc
              exact g_weak (show gm_Lle [some _, some _, some _, some _, some _, some _, some _] _ from ⟨rfl, ⟨rfl, ⟨rfl, ⟨rfl, ⟨rfl, ⟨rfl, ⟨rfl, trivial⟩⟩⟩⟩⟩⟩⟩) H
            · replace H := H.2 hc
              refine g_aload (r := some _) rfl rfl rfl (pc' := 44) ?_
              refine g_getRv rfl rfl rfl rfl ht11 (pc' := 47) rfl (fun r12 hr12 => ?_)
              replace H := H r12 hr12
              refine g_iconst rfl rfl rfl (pc' := 48) ?_
              obtain ⟨a13, rfl, H⟩ := H
              obtain ⟨ht15, H⟩ := H
              obtain ⟨hn14, H⟩ := H
              refine g_iaload rfl ht15 ⟨rfl, by decide, hn14⟩ (pc' := 49) rfl ?_
              refine g_iload rfl rfl rfl (pc' := 51) ?_
              refine g_ic_eq rfl (pc' := 54) (pt := 102) rfl rfl ⟨fun hc => ?_, fun hc => ?_⟩
              · replace H := H.1 hc
                exact g_weak (show gm_Lle [some _, some _, some _, some _, some _, some _] _ from ⟨rfl, ⟨rfl, ⟨rfl, ⟨rfl, ⟨rfl, ⟨rfl, trivial⟩⟩⟩⟩⟩⟩) H
              · replace H := H.2 hc
                exact g_weak (show gm_Lle [some _, some _, some _, some _, some _, some _, some _] _ from ⟨rfl, ⟨rfl, ⟨rfl, ⟨rfl, ⟨rfl, ⟨rfl, ⟨rfl, trivial⟩⟩⟩⟩⟩⟩⟩) H
      · exact H
    · refine g_call rfl (y := 252) (n := 1) (pc' := 29) (g_vt ht rfl rfl) rfl rfl ⟨(Nat.le_of_ble_eq_true rfl), (Nat.le_of_ble_eq_true rfl), (Nat.le_of_ble_eq_true rfl)⟩ rfl (gm_G.mono H (pI_elim (fun v19 h18 H' => ?_) (fun e26 h27 H => ?_)))
      · show gm_G _ 29 _ _ _ _
        replace H := H'
        clear H'
        refine g_if_eq rfl (pc' := 32) (pt := 102) rfl rfl ⟨fun hc => ?_, fun hc => ?_⟩
        · replace H := H.1 hc
          exact g_weak (show gm_Lle [some _, some _, some _, some _, some _, some _] _ from ⟨rfl, ⟨rfl, ⟨rfl, ⟨rfl, ⟨rfl, ⟨rfl, trivial⟩⟩⟩⟩⟩⟩) H
        · replace H := H.2 hc
          refine g_iload rfl rfl rfl (pc' := 33) ?_
          refine g_if_eq rfl (pc' := 36) (pt := 54) rfl rfl ⟨fun hc => ?_, fun hc => ?_⟩
          · replace H := H.1 hc
            exact g_weak (show gm_Lle [some _, some _, some _, some _, some _, some _, some _] _ from ⟨rfl, ⟨rfl, ⟨rfl, ⟨rfl, ⟨rfl, ⟨rfl, ⟨rfl, trivial⟩⟩⟩⟩⟩⟩⟩) H
          · replace H := H.2 hc
            refine g_aload (r := _) rfl rfl rfl (pc' := 37) ?_
            obtain ⟨a20, rfl, H⟩ := H
            obtain ⟨ht21, H⟩ := H
            refine g_getI rfl rfl rfl rfl ht21 (pc' := 40) rfl ?_
            refine g_if_le rfl (pc' := 43) (pt := 54) rfl rfl ⟨fun hc => ?_, fun hc => ?_⟩
            · replace H := H.1 hc
              exact g_weak (show gm_Lle [some _, some _, some _, some _, some _, some _, some _] _ from ⟨rfl, ⟨rfl, ⟨rfl, ⟨rfl, ⟨rfl, ⟨rfl, ⟨rfl, trivial⟩⟩⟩⟩⟩⟩⟩) H
            · replace H := H.2 hc
              refine g_aload (r := some _) rfl rfl rfl (pc' := 44) ?_
              refine g_getRv rfl rfl rfl rfl ht21 (pc' := 47) rfl (fun r22 hr22 => ?_)
              replace H := H r22 hr22
              refine g_iconst rfl rfl rfl (pc' := 48) ?_
              obtain ⟨a23, rfl, H⟩ := H
              obtain ⟨ht25, H⟩ := H
              obtain ⟨hn24, H⟩ := H
              refine g_iaload rfl ht25 ⟨rfl, by decide, hn24⟩ (pc' := 49) rfl ?_
              refine g_iload rfl rfl rfl (pc' := 51) ?_
              refine g_ic_eq rfl (pc' := 54) (pt := 102) rfl rfl ⟨fun hc => ?_, fun hc => ?_⟩
              · replace H := H.1 hc
                exact g_weak (show gm_Lle [some _, some _, some _, some _, some _, some _] _ from ⟨rfl, ⟨rfl, ⟨rfl, ⟨rfl, ⟨rfl, ⟨rfl, trivial⟩⟩⟩⟩⟩⟩) H
              · replace H := H.2 hc
                exact g_weak (show gm_Lle [some _, some _, some _, some _, some _, some _, some _] _ from ⟨rfl, ⟨rfl, ⟨rfl, ⟨rfl, ⟨rfl, ⟨rfl, ⟨rfl, trivial⟩⟩⟩⟩⟩⟩⟩) H
      · exact H
set_option maxRecDepth 20000 in
theorem w_348_54 {a0 : Nat} {r_1 : Option Nat} {x2 : Int32} {x3 : Int32} {r_4 : Option Nat} {x5 : Int32} {r_6 : Option Nat} {h : hh_T} {Q : Option Value ⊕ Nat → hh_T → Prop} (H : ∃ a1, r_6 = some a1 ∧ (gm_sub (hh_tg h a1) 3 = true ∧ (∀ r3, r3 = hh_r h a1 5 → ((hh_tg h a1 = 5 ∧ (gm_G 34 0 [some (.ref a1), some (.int x2)] [] h (pI (fun v5 h4 => ∃ a6, r3 = some a6 ∧ (hh_tg h4 a6 = 6 ∧ (gm_G 39 0 [some (.ref a6), some (.int v5)] [] h4 (pI (fun v9 h8 => (¬ v9 < Int32.ofNat 0 → ((r_4 = none → (gm_G 348 98 [some (.ref a0), some (va_rf r_1), some (.int x2), some (.int x3), none, some (.int x5), some (.ref a1)] [] h8 Q)) ∧ (∀ a10, r_4 = some a10 → (gm_sub (hh_tg h8 a1) 3 = true ∧ (∀ r12, r12 = hh_r h8 a1 5 → (∃ a13, r12 = some a13 ∧ (gm_sub (hh_tg h8 a13) 5 = true ∧ (gm_sub (hh_tg h8 a10) 3 = true ∧ (∀ r16, r16 = hh_r h8 a10 5 → (∃ a17, r16 = some a17 ∧ (gm_sub (hh_tg h8 a17) 5 = true ∧ ((¬ (hh_i h8 a17 3) < (hh_i h8 a13 3) → (gm_G 348 102 [some (.ref a0), some (va_rf r_1), some (.int x2), some (.int x3), some (.ref a10), some (.int x5)] [] h8 Q)) ∧ ((hh_i h8 a17 3) < (hh_i h8 a13 3) → (gm_G 348 98 [some (.ref a0), some (va_rf r_1), some (.int x2), some (.int x3), none, some (.int x5), some (.ref a1)] [] h8 Q)))))))))))))) ∧ (v9 < Int32.ofNat 0 → (gm_G 348 102 [some (.ref a0), some (va_rf r_1), some (.int x2), some (.int x3), some (va_rf r_4), some (.int x5)] [] h8 Q))) (fun e19 h20 => hh_tg h20 e19 = 21 ∧ Q (.inr e19) h20))))) (fun e21 h22 => hh_tg h22 e21 = 21 ∧ Q (.inr e21) h22)))) ∨ (hh_tg h a1 = 7 ∧ (gm_G 45 0 [some (.ref a1), some (.int x2)] [] h (pI (fun v24 h23 => ∃ a25, r3 = some a25 ∧ (hh_tg h23 a25 = 6 ∧ (gm_G 39 0 [some (.ref a25), some (.int v24)] [] h23 (pI (fun v28 h27 => (¬ v28 < Int32.ofNat 0 → ((r_4 = none → (gm_G 348 98 [some (.ref a0), some (va_rf r_1), some (.int x2), some (.int x3), none, some (.int x5), some (.ref a1)] [] h27 Q)) ∧ (∀ a29, r_4 = some a29 → (gm_sub (hh_tg h27 a1) 3 = true ∧ (∀ r31, r31 = hh_r h27 a1 5 → (∃ a32, r31 = some a32 ∧ (gm_sub (hh_tg h27 a32) 5 = true ∧ (gm_sub (hh_tg h27 a29) 3 = true ∧ (∀ r35, r35 = hh_r h27 a29 5 → (∃ a36, r35 = some a36 ∧ (gm_sub (hh_tg h27 a36) 5 = true ∧ ((¬ (hh_i h27 a36 3) < (hh_i h27 a32 3) → (gm_G 348 102 [some (.ref a0), some (va_rf r_1), some (.int x2), some (.int x3), some (.ref a29), some (.int x5)] [] h27 Q)) ∧ ((hh_i h27 a36 3) < (hh_i h27 a32 3) → (gm_G 348 98 [some (.ref a0), some (va_rf r_1), some (.int x2), some (.int x3), none, some (.int x5), some (.ref a1)] [] h27 Q)))))))))))))) ∧ (v28 < Int32.ofNat 0 → (gm_G 348 102 [some (.ref a0), some (va_rf r_1), some (.int x2), some (.int x3), some (va_rf r_4), some (.int x5)] [] h27 Q))) (fun e38 h39 => hh_tg h39 e38 = 21 ∧ Q (.inr e38) h39))))) (fun e40 h41 => hh_tg h41 e40 = 21 ∧ Q (.inr e40) h41)))))))) : gm_G 348 54 [some (.ref a0), some (va_rf r_1), some (.int x2), some (.int x3), some (va_rf r_4), some (.int x5), some (va_rf r_6)] [] h Q := by
  refine g_aload (r := _) rfl rfl rfl (pc' := 56) ?_
  obtain ⟨a1, rfl, H⟩ := H
  obtain ⟨ht2, H⟩ := H
  refine g_getRv rfl rfl rfl rfl ht2 (pc' := 59) rfl (fun r3 hr3 => ?_)
  replace H := H r3 hr3
  refine g_aload (r := some _) rfl rfl rfl (pc' := 61) ?_
  refine g_iload rfl rfl rfl (pc' := 62) ?_
  rcases H with ⟨ht, H⟩ | ⟨ht, H⟩
  · refine g_call rfl (y := 34) (n := 2) (pc' := 65) (g_vt ht rfl rfl) rfl rfl ⟨(Nat.le_of_ble_eq_true rfl), (Nat.le_of_ble_eq_true rfl), (Nat.le_of_ble_eq_true rfl)⟩ rfl (gm_G.mono H (pI_elim (fun v5 h4 H' => ?_) (fun e21 h22 H => ?_)))
    · show gm_G _ 65 _ _ _ _
      replace H := H'
      clear H'
      obtain ⟨a6, rfl, H⟩ := H
      obtain ⟨ht7, H⟩ := H
      refine g_call rfl (y := 39) (n := 2) (pc' := 68) (g_vt ht7 rfl rfl) rfl rfl ⟨(Nat.le_of_ble_eq_true rfl), (Nat.le_of_ble_eq_true rfl), (Nat.le_of_ble_eq_true rfl)⟩ rfl (gm_G.mono H (pI_elim (fun v9 h8 H' => ?_) (fun e19 h20 H => ?_)))
      · show gm_G _ 68 _ _ _ _
        replace H := H'
        clear H'
        refine g_if_ge rfl (pc' := 71) (pt := 74) rfl rfl ⟨fun hc => ?_, fun hc => ?_⟩
        · replace H := H.1 hc
          refine g_aload (r := _) rfl rfl rfl (pc' := 76) ?_
          refine g_ifnull rfl (pc' := 79) (pt := 98) rfl rfl ⟨fun hc => ?_, fun a10 hc => ?_⟩
          · replace H := H.1 hc
            subst hc
            exact g_weak (show gm_Lle [some _, some _, some _, some _, none, some _, some _] _ from ⟨rfl, ⟨rfl, ⟨rfl, ⟨rfl, ⟨rfl, ⟨rfl, trivial⟩⟩⟩⟩⟩⟩) H
          · replace H := H.2 a10 hc
            subst hc
            refine g_aload (r := some _) rfl rfl rfl (pc' := 81) ?_
            obtain ⟨ht11, H⟩ := H
            refine g_getRv rfl rfl rfl rfl ht11 (pc' := 84) rfl (fun r12 hr12 => ?_)
            replace H := H r12 hr12
            obtain ⟨a13, rfl, H⟩ := H
            obtain ⟨ht14, H⟩ := H
            refine g_getI rfl rfl rfl rfl ht14 (pc' := 87) rfl ?_
            refine g_aload (r := some _) rfl rfl rfl (pc' := 89) ?_
            obtain ⟨ht15, H⟩ := H
            refine g_getRv rfl rfl rfl rfl ht15 (pc' := 92) rfl (fun r16 hr16 => ?_)
            replace H := H r16 hr16
            obtain ⟨a17, rfl, H⟩ := H
            obtain ⟨ht18, H⟩ := H
            refine g_getI rfl rfl rfl rfl ht18 (pc' := 95) rfl ?_
            refine g_ic_le rfl (pc' := 98) (pt := 102) rfl rfl ⟨fun hc => ?_, fun hc => ?_⟩
            · replace H := H.1 hc
              exact g_weak (show gm_Lle [some _, some _, some _, some _, some _, some _] _ from ⟨rfl, ⟨rfl, ⟨rfl, ⟨rfl, ⟨rfl, ⟨rfl, trivial⟩⟩⟩⟩⟩⟩) H
            · replace H := H.2 hc
              exact g_weak (show gm_Lle [some _, some _, some _, some _, none, some _, some _] _ from ⟨rfl, ⟨rfl, ⟨rfl, ⟨rfl, ⟨rfl, ⟨rfl, trivial⟩⟩⟩⟩⟩⟩) H
        · replace H := H.2 hc
          refine g_goto rfl (pc' := 102) rfl ?_
          exact g_weak (show gm_Lle [some _, some _, some _, some _, some _, some _] _ from ⟨rfl, ⟨rfl, ⟨rfl, ⟨rfl, ⟨rfl, ⟨rfl, trivial⟩⟩⟩⟩⟩⟩) H
      · exact H
    · exact H
  · refine g_call rfl (y := 45) (n := 2) (pc' := 65) (g_vt ht rfl rfl) rfl rfl ⟨(Nat.le_of_ble_eq_true rfl), (Nat.le_of_ble_eq_true rfl), (Nat.le_of_ble_eq_true rfl)⟩ rfl (gm_G.mono H (pI_elim (fun v24 h23 H' => ?_) (fun e40 h41 H => ?_)))
    · show gm_G _ 65 _ _ _ _
      replace H := H'
      clear H'
      obtain ⟨a25, rfl, H⟩ := H
      obtain ⟨ht26, H⟩ := H
      refine g_call rfl (y := 39) (n := 2) (pc' := 68) (g_vt ht26 rfl rfl) rfl rfl ⟨(Nat.le_of_ble_eq_true rfl), (Nat.le_of_ble_eq_true rfl), (Nat.le_of_ble_eq_true rfl)⟩ rfl (gm_G.mono H (pI_elim (fun v28 h27 H' => ?_) (fun e38 h39 H => ?_)))
      · show gm_G _ 68 _ _ _ _
        replace H := H'
        clear H'
        refine g_if_ge rfl (pc' := 71) (pt := 74) rfl rfl ⟨fun hc => ?_, fun hc => ?_⟩
        · replace H := H.1 hc
          refine g_aload (r := _) rfl rfl rfl (pc' := 76) ?_
          refine g_ifnull rfl (pc' := 79) (pt := 98) rfl rfl ⟨fun hc => ?_, fun a29 hc => ?_⟩
          · replace H := H.1 hc
            subst hc
            exact g_weak (show gm_Lle [some _, some _, some _, some _, none, some _, some _] _ from ⟨rfl, ⟨rfl, ⟨rfl, ⟨rfl, ⟨rfl, ⟨rfl, trivial⟩⟩⟩⟩⟩⟩) H
          · replace H := H.2 a29 hc
            subst hc
            refine g_aload (r := some _) rfl rfl rfl (pc' := 81) ?_
            obtain ⟨ht30, H⟩ := H
            refine g_getRv rfl rfl rfl rfl ht30 (pc' := 84) rfl (fun r31 hr31 => ?_)
            replace H := H r31 hr31
            obtain ⟨a32, rfl, H⟩ := H
            obtain ⟨ht33, H⟩ := H
            refine g_getI rfl rfl rfl rfl ht33 (pc' := 87) rfl ?_
            refine g_aload (r := some _) rfl rfl rfl (pc' := 89) ?_
            obtain ⟨ht34, H⟩ := H
            refine g_getRv rfl rfl rfl rfl ht34 (pc' := 92) rfl (fun r35 hr35 => ?_)
            replace H := H r35 hr35
            obtain ⟨a36, rfl, H⟩ := H
            obtain ⟨ht37, H⟩ := H
            refine g_getI rfl rfl rfl rfl ht37 (pc' := 95) rfl ?_
            refine g_ic_le rfl (pc' := 98) (pt := 102) rfl rfl ⟨fun hc => ?_, fun hc => ?_⟩
            · replace H := H.1 hc
              exact g_weak (show gm_Lle [some _, some _, some _, some _, some _, some _] _ from ⟨rfl, ⟨rfl, ⟨rfl, ⟨rfl, ⟨rfl, ⟨rfl, trivial⟩⟩⟩⟩⟩⟩) H
            · replace H := H.2 hc
              exact g_weak (show gm_Lle [some _, some _, some _, some _, none, some _, some _] _ from ⟨rfl, ⟨rfl, ⟨rfl, ⟨rfl, ⟨rfl, ⟨rfl, trivial⟩⟩⟩⟩⟩⟩) H
        · replace H := H.2 hc
          refine g_goto rfl (pc' := 102) rfl ?_
          exact g_weak (show gm_Lle [some _, some _, some _, some _, some _, some _] _ from ⟨rfl, ⟨rfl, ⟨rfl, ⟨rfl, ⟨rfl, ⟨rfl, trivial⟩⟩⟩⟩⟩⟩) H
      · exact H
    · exact H
set_option maxRecDepth 20000 in
theorem w_348_98 {a0 : Nat} {r_1 : Option Nat} {x2 : Int32} {x3 : Int32} {x5 : Int32} {r_6 : Option Nat} {h : hh_T} {Q : Option Value ⊕ Nat → hh_T → Prop} (H : gm_G 348 102 [some (.ref a0), some (va_rf r_1), some (.int x2), some (.int x3), some (va_rf r_6), some (.int x5)] [] h Q) : gm_G 348 98 [some (.ref a0), some (va_rf r_1), some (.int x2), some (.int x3), none, some (.int x5), some (va_rf r_6)] [] h Q := by
  refine g_aload (r := _) rfl rfl rfl (pc' := 100) ?_
  refine g_astore (r := _) rfl rfl rfl (pc' := 102) ?_
  exact g_weak (show gm_Lle [some _, some _, some _, some _, some _, some _] _ from ⟨rfl, ⟨rfl, ⟨rfl, ⟨rfl, ⟨rfl, ⟨rfl, trivial⟩⟩⟩⟩⟩⟩) H
set_option maxRecDepth 20000 in
theorem w_348_102 {a0 : Nat} {r_1 : Option Nat} {x2 : Int32} {x3 : Int32} {r_4 : Option Nat} {x5 : Int32} {h : hh_T} {Q : Option Value ⊕ Nat → hh_T → Prop} (H : gm_G 348 6 [some (.ref a0), some (va_rf r_1), some (.int x2), some (.int x3), some (va_rf r_4), some (.int (x5 + (Int32.ofNat 1)))] [] h Q) : gm_G 348 102 [some (.ref a0), some (va_rf r_1), some (.int x2), some (.int x3), some (va_rf r_4), some (.int x5)] [] h Q := by
  refine g_iinc (c := (Int32.ofNat 1)) rfl rfl rfl gm_sto_rf4 rfl (pc' := 105) ?_
  refine g_goto rfl (pc' := 6) rfl ?_
  exact g_weak (show gm_Lle [some _, some _, some _, some _, some _, some _] _ from ⟨rfl, ⟨rfl, ⟨rfl, ⟨rfl, ⟨rfl, ⟨rfl, trivial⟩⟩⟩⟩⟩⟩) H
set_option maxRecDepth 20000 in
theorem w_349_0 {a0 : Nat} {x1 : Int32} {x2 : Int32} {h : hh_T} {Q : Option Value ⊕ Nat → hh_T → Prop} (H : gm_sub (hh_tg h a0) 0 = true ∧ (∀ r2, r2 = hh_r h a0 33 → ((∀ a3, r2 = some a3 → (∀ r4, r4 = hh_r h a0 33 → (∃ a5, r4 = some a5 ∧ (hh_tg h a5 = 23 ∧ (gm_G 179 0 [some (.ref a5), some (.int x1)] [] h (pR (fun r8 h7 => gm_G 349 19 [some (.ref a0), some (.int x1), some (.int x2)] [va_rf r8] h7 Q) (fun e9 h10 => hh_tg h10 e9 = 21 ∧ Q (.inr e9) h10))))))) ∧ (r2 = none → (gm_G 349 19 [some (.ref a0), some (.int x1), some (.int x2)] [va_rf none] h Q))))) : gm_G 349 0 [some (.ref a0), some (.int x1), some (.int x2)] [] h Q := by
  refine g_aload (r := some _) rfl rfl rfl (pc' := 1) ?_
  obtain ⟨ht1, H⟩ := H
  refine g_getRv rfl rfl rfl rfl ht1 (pc' := 4) rfl (fun r2 hr2 => ?_)
  replace H := H r2 hr2
  refine g_ifnonnull rfl (pc' := 7) (pt := 11) rfl rfl ⟨fun a3 hc => ?_, fun hc => ?_⟩
  · replace H := H.1 a3 hc
    subst hc
    refine g_aload (r := some _) rfl rfl rfl (pc' := 12) ?_
    refine g_getRv rfl rfl rfl rfl ht1 (pc' := 15) rfl (fun r4 hr4 => ?_)
    replace H := H r4 hr4
    refine g_iload rfl rfl rfl (pc' := 16) ?_
    obtain ⟨a5, rfl, H⟩ := H
    obtain ⟨ht6, H⟩ := H
    refine g_call rfl (y := 179) (n := 2) (pc' := 19) (g_vt ht6 rfl rfl) rfl rfl ⟨(Nat.le_of_ble_eq_true rfl), (Nat.le_of_ble_eq_true rfl), (Nat.le_of_ble_eq_true rfl)⟩ rfl (gm_G.mono H (pR_elim (fun r8 h7 H' => ?_) (fun e9 h10 H => ?_)))
    · show gm_G _ 19 _ _ _ _
      replace H := H'
      clear H'
      exact g_weak (show gm_Lle [some _, some _, some _] _ from ⟨rfl, ⟨rfl, ⟨rfl, trivial⟩⟩⟩) H
    · exact H
  · replace H := H.2 hc
    subst hc
    refine g_null rfl rfl (pc' := 8) ?_
    refine g_goto rfl (pc' := 19) rfl ?_
    exact g_weak (show gm_Lle [some _, some _, some _] _ from ⟨rfl, ⟨rfl, ⟨rfl, trivial⟩⟩⟩) H
set_option maxRecDepth 20000 in
theorem w_349_19 {a0 : Nat} {x1 : Int32} {x2 : Int32} {q0 : Option Nat} {h : hh_T} {Q : Option Value ⊕ Nat → hh_T → Prop} (H : (∀ a1, q0 = some a1 → ((¬ (0 ≤ x2.toInt ∧ x2.toInt ≤ 4) → (gm_sub (hh_tg h a1) 29 = true ∧ (gm_G 234 0 [some (.long (hh_j h a1 4)), none, some (.int x2)] [] h (pI (fun v4 h3 => Q (.inl (some (.int v4))) h3) (fun e5 h6 => hh_tg h6 e5 = 21 ∧ Q (.inr e5) h6))))) ∧ (x2.toInt = 0 → (gm_sub (hh_tg h a1) 29 = true ∧ (Q (.inl (some (.int (hh_i h a1 1)))) h))) ∧ (x2.toInt = 1 → (gm_sub (hh_tg h a0) 0 = true ∧ (∀ r9, r9 = hh_r h a0 33 → (gm_sub (hh_tg h a1) 29 = true ∧ (∃ a11, r9 = some a11 ∧ (hh_tg h a11 = 23 ∧ (gm_G 178 0 [some (.ref a11), some (.int (hh_i h a1 1))] [] h (pR (fun r14 h13 => ∃ a15, r14 = some a15 ∧ (hh_tg h13 a15 = 24 ∧ (gm_G 185 0 [some (.ref a15), some (.int x1)] [] h13 (pI (fun v18 h17 => Q (.inl (some (.int v18))) h17) (fun e19 h20 => hh_tg h20 e19 = 21 ∧ Q (.inr e19) h20))))) (fun e21 h22 => hh_tg h22 e21 = 21 ∧ Q (.inr e21) h22))))))))) ∧ (x2.toInt = 2 → (gm_sub (hh_tg h a1) 29 = true ∧ (Q (.inl (some (.int (hh_i h a1 2)))) h))) ∧ (x2.toInt = 3 → (gm_sub (hh_tg h a1) 29 = true ∧ (Q (.inl (some (.int (hh_i h a1 3)))) h))) ∧ (x2.toInt = 4 → (gm_sub (hh_tg h a0) 0 = true ∧ (∀ r26, r26 = hh_r h a0 33 → (∃ a27, r26 = some a27 ∧ (hh_tg h a27 = 23 ∧ (gm_G 175 0 [some (.ref a27), some (.int x1)] [] h (pI (fun v30 h29 => Q (.inl (some (.int v30))) h29) (fun e31 h32 => hh_tg h32 e31 = 21 ∧ Q (.inr e31) h32)))))))))) ∧ (q0 = none → (Q (.inl (some (.int (Int32.ofInt (-2))))) h))) : gm_G 349 19 [some (.ref a0), some (.int x1), some (.int x2)] [va_rf q0] h Q := by
  refine g_astore (r := _) rfl rfl rfl (pc' := 20) ?_
  refine g_aload (r := _) rfl rfl rfl (pc' := 21) ?_
  refine g_ifnonnull rfl (pc' := 24) (pt := 27) rfl rfl ⟨fun a1 hc => ?_, fun hc => ?_⟩
  · replace H := H.1 a1 hc
    subst hc
    refine g_iload rfl rfl rfl (pc' := 28) ?_
    refine g_switch rfl ⟨fun hc => ?_, fun hc => ?_⟩
    · replace H := H.1 (fun hq => by omega)
      refine g_aload (r := some _) rfl rfl rfl (pc' := 105) ?_
      obtain ⟨ht2, H⟩ := H
      refine g_getJ rfl rfl rfl rfl ht2 (pc' := 108) rfl ?_
      refine g_iload rfl rfl rfl (pc' := 109) ?_
      refine g_call rfl (y := 234) (n := 2) (pc' := 112) (fun _ => rfl) rfl rfl ⟨(Nat.le_of_ble_eq_true rfl), (Nat.le_of_ble_eq_true rfl), (Nat.le_of_ble_eq_true rfl)⟩ rfl (gm_G.mono H (pI_elim (fun v4 h3 H' => ?_) (fun e5 h6 H => ?_)))
      · show gm_G _ 112 _ _ _ _
        replace H := H'
        clear H'
        exact g_ireturn rfl (Or.inl rfl) H
      · exact H
    · replace H := H.2
      have hq : x2.toInt = 0 ∨ x2.toInt = 1 ∨ x2.toInt = 2 ∨ x2.toInt = 3 ∨ x2.toInt = 4 := by omega
      rcases hq with hq | hq | hq | hq | hq
      · replace H := (H.1) hq
        refine ⟨64, by rw [hq]; rfl, ?_⟩
        show gm_G _ 64 _ _ _ _
        refine g_aload (r := some _) rfl rfl rfl (pc' := 65) ?_
        obtain ⟨ht7, H⟩ := H
        refine g_getI rfl rfl rfl rfl ht7 (pc' := 68) rfl ?_
        exact g_ireturn rfl (Or.inl rfl) H
      · replace H := (H.2.1) hq
        refine ⟨69, by rw [hq]; rfl, ?_⟩
        show gm_G _ 69 _ _ _ _
        refine g_aload (r := some _) rfl rfl rfl (pc' := 70) ?_
        obtain ⟨ht8, H⟩ := H
        refine g_getRv rfl rfl rfl rfl ht8 (pc' := 73) rfl (fun r9 hr9 => ?_)
        replace H := H r9 hr9
        refine g_aload (r := some _) rfl rfl rfl (pc' := 74) ?_
        obtain ⟨ht10, H⟩ := H
        refine g_getI rfl rfl rfl rfl ht10 (pc' := 77) rfl ?_
        obtain ⟨a11, rfl, H⟩ := H
        obtain ⟨ht12, H⟩ := H
        refine g_call rfl (y := 178) (n := 2) (pc' := 80) (g_vt ht12 rfl rfl) rfl rfl ⟨(Nat.le_of_ble_eq_true rfl), (Nat.le_of_ble_eq_true rfl), (Nat.le_of_ble_eq_true rfl)⟩ rfl (gm_G.mono H (pR_elim (fun r14 h13 H' => ?_) (fun e21 h22 H => ?_)))
        · show gm_G _ 80 _ _ _ _
          replace H := H'
          clear H'
          refine g_iload rfl rfl rfl (pc' := 81) ?_
          obtain ⟨a15, rfl, H⟩ := H
          obtain ⟨ht16, H⟩ := H
          refine g_call rfl (y := 185) (n := 2) (pc' := 84) (g_vt ht16 rfl rfl) rfl rfl ⟨(Nat.le_of_ble_eq_true rfl), (Nat.le_of_ble_eq_true rfl), (Nat.le_of_ble_eq_true rfl)⟩ rfl (gm_G.mono H (pI_elim (fun v18 h17 H' => ?_) (fun e19 h20 H => ?_)))
          · show gm_G _ 84 _ _ _ _
            replace H := H'
            clear H'
            exact g_ireturn rfl (Or.inl rfl) H
          · exact H
        · exact H
      · replace H := (H.2.2.1) hq
        refine ⟨85, by rw [hq]; rfl, ?_⟩
        show gm_G _ 85 _ _ _ _
        refine g_aload (r := some _) rfl rfl rfl (pc' := 86) ?_
        obtain ⟨ht23, H⟩ := H
        refine g_getI rfl rfl rfl rfl ht23 (pc' := 89) rfl ?_
        exact g_ireturn rfl (Or.inl rfl) H
      · replace H := (H.2.2.2.1) hq
        refine ⟨90, by rw [hq]; rfl, ?_⟩
        show gm_G _ 90 _ _ _ _
        refine g_aload (r := some _) rfl rfl rfl (pc' := 91) ?_
        obtain ⟨ht24, H⟩ := H
        refine g_getI rfl rfl rfl rfl ht24 (pc' := 94) rfl ?_
        exact g_ireturn rfl (Or.inl rfl) H
      · replace H := (H.2.2.2.2) hq
        refine ⟨95, by rw [hq]; rfl, ?_⟩
        show gm_G _ 95 _ _ _ _
        refine g_aload (r := some _) rfl rfl rfl (pc' := 96) ?_
        obtain ⟨ht25, H⟩ := H
        refine g_getRv rfl rfl rfl rfl ht25 (pc' := 99) rfl (fun r26 hr26 => ?_)
        replace H := H r26 hr26
        refine g_iload rfl rfl rfl (pc' := 100) ?_
        obtain ⟨a27, rfl, H⟩ := H
        obtain ⟨ht28, H⟩ := H
        refine g_call rfl (y := 175) (n := 2) (pc' := 103) (g_vt ht28 rfl rfl) rfl rfl ⟨(Nat.le_of_ble_eq_true rfl), (Nat.le_of_ble_eq_true rfl), (Nat.le_of_ble_eq_true rfl)⟩ rfl (gm_G.mono H (pI_elim (fun v30 h29 H' => ?_) (fun e31 h32 H => ?_)))
        · show gm_G _ 103 _ _ _ _
          replace H := H'
          clear H'
          exact g_ireturn rfl (Or.inl rfl) H
        · exact H
  · replace H := H.2 hc
    subst hc
    refine g_iconst rfl rfl rfl (pc' := 26) ?_
    exact g_ireturn rfl (Or.inl rfl) H
set_option maxRecDepth 20000 in
theorem w_350_0 {a0 : Nat} {x1 : Int32} {x2 : Int32} {x3 : Int32} {h : hh_T} {Q : Option Value ⊕ Nat → hh_T → Prop} (H : gm_G 5 0 [some (.int x1), some (.int (Int32.ofNat 0)), some (.int (Int32.ofNat 1))] [] h (pI (fun v2 h1 => (v2 = Int32.ofNat 0 → (Q (.inl (some (.int (Int32.ofInt (-1))))) h1)) ∧ (¬ v2 = Int32.ofNat 0 → (gm_G 5 0 [some (.int x3), some (.int (Int32.ofNat 0)), some (.int (Int32.ofNat 255))] [] h1 (pI (fun v4 h3 => (¬ v4 = Int32.ofNat 0 → (gm_sub (hh_tg h3 a0) 0 = true ∧ (∀ r6, r6 = hh_r h3 a0 53 → (∃ a7, r6 = some a7 ∧ ((hh_tg h3 a7 = 104 ∨ 200 ≤ hh_tg h3 a7) ∧ (∃ n8, gm_ix x1 n8 (hh_ln h3 a7) ∧ (∀ r10, r10 = hh_r h3 a7 n8 → (∃ a11, r10 = some a11 ∧ (gm_sub (hh_tg h3 a11) 16 = true ∧ (∀ r13, r13 = hh_r h3 a11 0 → (∃ a14, r13 = some a14 ∧ (gm_sub (hh_tg h3 a14) 12 = true ∧ (gm_G 5 0 [some (.int x2), some (.int (Int32.ofNat 0)), some (.int ((hh_i h3 a14 1) - (Int32.ofNat 1)))] [] h3 (pI (fun v17 h16 => (v17 = Int32.ofNat 0 → (Q (.inl (some (.int (Int32.ofInt (-2))))) h16)) ∧ (¬ v17 = Int32.ofNat 0 → (gm_sub (hh_tg h16 a0) 0 = true ∧ (∀ r19, r19 = hh_r h16 a0 53 → (∃ a20, r19 = some a20 ∧ ((hh_tg h16 a20 = 104 ∨ 200 ≤ hh_tg h16 a20) ∧ (∃ n21, gm_ix x1 n21 (hh_ln h16 a20) ∧ (∀ r23, r23 = hh_r h16 a20 n21 → (∃ a24, r23 = some a24 ∧ (hh_tg h16 a24 = 17 ∧ (gm_G 264 0 [some (.ref a24), some (.int x2), some (.int x3)] [] h16 (pI (fun v27 h26 => Q (.inl (some (.int v27))) h26) (fun e28 h29 => hh_tg h29 e28 = 21 ∧ Q (.inr e28) h29))))))))))))) (fun e30 h31 => hh_tg h31 e30 = 21 ∧ Q (.inr e30) h31))))))))))))))) ∧ (v4 = Int32.ofNat 0 → (Q (.inl (some (.int (Int32.ofInt (-1))))) h3))) (fun e32 h33 => hh_tg h33 e32 = 21 ∧ Q (.inr e32) h33))))) (fun e34 h35 => hh_tg h35 e34 = 21 ∧ Q (.inr e34) h35))) : gm_G 350 0 [some (.ref a0), some (.int x1), some (.int x2), some (.int x3)] [] h Q := by
  refine g_iload rfl rfl rfl (pc' := 1) ?_
  refine g_iconst rfl rfl rfl (pc' := 2) ?_
  refine g_iconst rfl rfl rfl (pc' := 3) ?_
  refine g_call rfl (y := 5) (n := 3) (pc' := 6) (fun _ => rfl) rfl rfl ⟨(Nat.le_of_ble_eq_true rfl), (Nat.le_of_ble_eq_true rfl), (Nat.le_of_ble_eq_true rfl)⟩ rfl (gm_G.mono H (pI_elim (fun v2 h1 H' => ?_) (fun e34 h35 H => ?_)))
  · show gm_G _ 6 _ _ _ _
    replace H := H'
    clear H'
    refine g_if_eq rfl (pc' := 9) (pt := 20) rfl rfl ⟨fun hc => ?_, fun hc => ?_⟩
    · replace H := H.1 hc
      refine g_iconst rfl rfl rfl (pc' := 21) ?_
      exact g_ireturn rfl (Or.inl rfl) H
    · replace H := H.2 hc
      refine g_iload rfl rfl rfl (pc' := 10) ?_
      refine g_iconst rfl rfl rfl (pc' := 11) ?_
      refine g_iconst rfl rfl rfl (pc' := 14) ?_
      refine g_call rfl (y := 5) (n := 3) (pc' := 17) (fun _ => rfl) rfl rfl ⟨(Nat.le_of_ble_eq_true rfl), (Nat.le_of_ble_eq_true rfl), (Nat.le_of_ble_eq_true rfl)⟩ rfl (gm_G.mono H (pI_elim (fun v4 h3 H' => ?_) (fun e32 h33 H => ?_)))
      · show gm_G _ 17 _ _ _ _
        replace H := H'
        clear H'
        refine g_if_ne rfl (pc' := 20) (pt := 22) rfl rfl ⟨fun hc => ?_, fun hc => ?_⟩
        · replace H := H.1 hc
          refine g_iload rfl rfl rfl (pc' := 23) ?_
          refine g_iconst rfl rfl rfl (pc' := 24) ?_
          refine g_aload (r := some _) rfl rfl rfl (pc' := 25) ?_
          obtain ⟨ht5, H⟩ := H
          refine g_getRv rfl rfl rfl rfl ht5 (pc' := 28) rfl (fun r6 hr6 => ?_)
          replace H := H r6 hr6
          refine g_iload rfl rfl rfl (pc' := 29) ?_
          obtain ⟨a7, rfl, H⟩ := H
          obtain ⟨ht9, H⟩ := H
          obtain ⟨n8, hn8, H⟩ := H
          refine g_aaloadv rfl ht9 hn8 (pc' := 30) rfl (fun r10 hr10 => ?_)
          replace H := H r10 hr10
          obtain ⟨a11, rfl, H⟩ := H
          obtain ⟨ht12, H⟩ := H
          refine g_getRv rfl rfl rfl rfl ht12 (pc' := 33) rfl (fun r13 hr13 => ?_)
          replace H := H r13 hr13
          obtain ⟨a14, rfl, H⟩ := H
          obtain ⟨ht15, H⟩ := H
          refine g_getI rfl rfl rfl rfl ht15 (pc' := 36) rfl ?_
          refine g_iconst rfl rfl rfl (pc' := 37) ?_
          refine g_isub rfl rfl (pc' := 38) ?_
          refine g_call rfl (y := 5) (n := 3) (pc' := 41) (fun _ => rfl) rfl rfl ⟨(Nat.le_of_ble_eq_true rfl), (Nat.le_of_ble_eq_true rfl), (Nat.le_of_ble_eq_true rfl)⟩ rfl (gm_G.mono H (pI_elim (fun v17 h16 H' => ?_) (fun e30 h31 H => ?_)))
          · show gm_G _ 41 _ _ _ _
            replace H := H'
            clear H'
            refine g_if_eq rfl (pc' := 44) (pt := 58) rfl rfl ⟨fun hc => ?_, fun hc => ?_⟩
            · replace H := H.1 hc
              refine g_iconst rfl rfl rfl (pc' := 60) ?_
              exact g_ireturn rfl (Or.inl rfl) H
            · replace H := H.2 hc
              refine g_aload (r := some _) rfl rfl rfl (pc' := 45) ?_
              obtain ⟨ht18, H⟩ := H
              refine g_getRv rfl rfl rfl rfl ht18 (pc' := 48) rfl (fun r19 hr19 => ?_)
              replace H := H r19 hr19
              refine g_iload rfl rfl rfl (pc' := 49) ?_
              obtain ⟨a20, rfl, H⟩ := H
              obtain ⟨ht22, H⟩ := H
              obtain ⟨n21, hn21, H⟩ := H
              refine g_aaloadv rfl ht22 hn21 (pc' := 50) rfl (fun r23 hr23 => ?_)
              replace H := H r23 hr23
              refine g_iload rfl rfl rfl (pc' := 51) ?_
              refine g_iload rfl rfl rfl (pc' := 52) ?_
              obtain ⟨a24, rfl, H⟩ := H
              obtain ⟨ht25, H⟩ := H
              refine g_call rfl (y := 264) (n := 3) (pc' := 55) (g_vt ht25 rfl rfl) rfl rfl ⟨(Nat.le_of_ble_eq_true rfl), (Nat.le_of_ble_eq_true rfl), (Nat.le_of_ble_eq_true rfl)⟩ rfl (gm_G.mono H (pI_elim (fun v27 h26 H' => ?_) (fun e28 h29 H => ?_)))
              · show gm_G _ 55 _ _ _ _
                replace H := H'
                clear H'
                refine g_goto rfl (pc' := 60) rfl ?_
                exact g_ireturn rfl (Or.inl rfl) H
              · exact H
          · exact H
        · replace H := H.2 hc
          refine g_iconst rfl rfl rfl (pc' := 21) ?_
          exact g_ireturn rfl (Or.inl rfl) H
      · exact H
  · exact H
set_option maxRecDepth 20000 in
theorem w_351_0 {a0 : Nat} {r_1 : Option Nat} {h : hh_T} {Q : Option Value ⊕ Nat → hh_T → Prop} (H : hh_tg h a0 = 1 ∧ (gm_G 237 0 [some (.ref a0)] [] h (pR (fun r3 h2 => gm_G 351 7 [some (.ref a0), some (va_rf r_1), some (va_rf r3), some (.int (Int32.ofNat 0))] [] h2 Q) (fun e4 h5 => hh_tg h5 e4 = 21 ∧ Q (.inr e4) h5)))) : gm_G 351 0 [some (.ref a0), some (va_rf r_1)] [] h Q := by
  refine g_aload (r := some _) rfl rfl rfl (pc' := 1) ?_
  obtain ⟨ht1, H⟩ := H
  refine g_call rfl (y := 237) (n := 1) (pc' := 4) (g_vt ht1 rfl rfl) rfl rfl ⟨(Nat.le_of_ble_eq_true rfl), (Nat.le_of_ble_eq_true rfl), (Nat.le_of_ble_eq_true rfl)⟩ rfl (gm_G.mono H (pR_elim (fun r3 h2 H' => ?_) (fun e4 h5 H => ?_)))
  · show gm_G _ 4 _ _ _ _
    replace H := H'
    clear H'
    refine g_astore (r := _) rfl gm_sto_rf1 rfl (pc' := 5) ?_
    refine g_iconst rfl rfl rfl (pc' := 6) ?_
    refine g_istore rfl gm_sto_rf2 rfl (pc' := 7) ?_
    exact g_weak (show gm_Lle [some _, some _, some _, some _] _ from ⟨rfl, ⟨rfl, ⟨rfl, ⟨rfl, trivial⟩⟩⟩⟩) H
  · exact H
set_option maxRecDepth 20000 in
theorem w_351_7 {a0 : Nat} {r_1 : Option Nat} {r_2 : Option Nat} {x3 : Int32} {h : hh_T} {Q : Option Value ⊕ Nat → hh_T → Prop} (H : ∃ a1, r_1 = some a1 ∧ (gm_sub (hh_tg h a1) 22 = true ∧ ((¬ x3 < (hh_i h a1 2) → (gm_G 351 46 [some (.ref a0), some (.ref a1), some (va_rf r_2), some (.int (Int32.ofNat 0))] [] h Q)) ∧ (x3 < (hh_i h a1 2) → (hh_tg h a0 = 1 ∧ (gm_G 235 0 [some (.ref a0)] [] h (pR (fun r5 h4 => gm_sub (hh_tg h4 a1) 22 = true ∧ (∀ r7, r7 = hh_r h4 a1 0 → (∃ a8, r7 = some a8 ∧ ((hh_tg h4 a8 = 104 ∨ 200 ≤ hh_tg h4 a8) ∧ (∃ n9, gm_ix x3 n9 (hh_ln h4 a8) ∧ (∀ r11, r11 = hh_r h4 a8 n9 → (∃ a12, r5 = some a12 ∧ (hh_tg h4 a12 = 24 ∧ (gm_G 182 0 [some (.ref a12), some (va_rf r11)] [] h4 (pV (fun h14 => ∃ a15, r_2 = some a15 ∧ (hh_tg h14 a15 = 23 ∧ (gm_G 172 0 [some (.ref a15), some (.ref a12)] [] h14 (pV (fun h17 => gm_G 351 7 [some (.ref a0), some (.ref a1), some (.ref a15), some (.int (x3 + (Int32.ofNat 1)))] [] h17 Q) (fun e18 h19 => hh_tg h19 e18 = 21 ∧ Q (.inr e18) h19))))) (fun e20 h21 => hh_tg h21 e20 = 21 ∧ Q (.inr e20) h21))))))))))) (fun e22 h23 => hh_tg h23 e22 = 21 ∧ Q (.inr e22) h23)))))))) : gm_G 351 7 [some (.ref a0), some (va_rf r_1), some (va_rf r_2), some (.int x3)] [] h Q := by
  refine g_iload rfl rfl rfl (pc' := 8) ?_
  refine g_aload (r := _) rfl rfl rfl (pc' := 9) ?_
  obtain ⟨a1, rfl, H⟩ := H
  obtain ⟨ht2, H⟩ := H
  refine g_getI rfl rfl rfl rfl ht2 (pc' := 12) rfl ?_
  refine g_ic_ge rfl (pc' := 15) (pt := 44) rfl rfl ⟨fun hc => ?_, fun hc => ?_⟩
  · replace H := H.1 hc
    refine g_iconst rfl rfl rfl (pc' := 45) ?_
    refine g_istore rfl gm_sto_rf2 rfl (pc' := 46) ?_
    exact g_weak (show gm_Lle [some _, some _, some _, some _] _ from ⟨rfl, ⟨rfl, ⟨rfl, ⟨rfl, trivial⟩⟩⟩⟩) H
  · replace H := H.2 hc
    refine g_aload (r := some _) rfl rfl rfl (pc' := 16) ?_
    obtain ⟨ht3, H⟩ := H
    refine g_call rfl (y := 235) (n := 1) (pc' := 19) (g_vt ht3 rfl rfl) rfl rfl ⟨(Nat.le_of_ble_eq_true rfl), (Nat.le_of_ble_eq_true rfl), (Nat.le_of_ble_eq_true rfl)⟩ rfl (gm_G.mono H (pR_elim (fun r5 h4 H' => ?_) (fun e22 h23 H => ?_)))
    · show gm_G _ 19 _ _ _ _
      replace H := H'
      clear H'
      refine g_astore (r := _) rfl rfl rfl (pc' := 21) ?_
      refine g_aload (r := _) rfl rfl rfl (pc' := 23) ?_
      refine g_aload (r := some _) rfl rfl rfl (pc' := 24) ?_
      obtain ⟨ht6, H⟩ := H
      refine g_getRv rfl rfl rfl rfl ht6 (pc' := 27) rfl (fun r7 hr7 => ?_)
      replace H := H r7 hr7
      refine g_iload rfl rfl rfl (pc' := 28) ?_
      obtain ⟨a8, rfl, H⟩ := H
      obtain ⟨ht10, H⟩ := H
      obtain ⟨n9, hn9, H⟩ := H
      refine g_aaloadv rfl ht10 hn9 (pc' := 29) rfl (fun r11 hr11 => ?_)
      replace H := H r11 hr11
      obtain ⟨a12, rfl, H⟩ := H
      obtain ⟨ht13, H⟩ := H
      refine g_call rfl (y := 182) (n := 2) (pc' := 32) (g_vt ht13 rfl rfl) (by cases r11 <;> rfl) rfl ⟨(Nat.le_of_ble_eq_true rfl), (Nat.le_of_ble_eq_true rfl), (Nat.le_of_ble_eq_true rfl)⟩ rfl (gm_G.mono H (pV_elim (fun h14 H' => ?_) (fun e20 h21 H => ?_)))
      · show gm_G _ 32 _ _ _ _
        replace H := H'
        clear H'
        refine g_aload (r := _) rfl rfl rfl (pc' := 33) ?_
        refine g_aload (r := some _) rfl rfl rfl (pc' := 35) ?_
        obtain ⟨a15, rfl, H⟩ := H
        obtain ⟨ht16, H⟩ := H
        refine g_call rfl (y := 172) (n := 2) (pc' := 38) (g_vt ht16 rfl rfl) rfl rfl ⟨(Nat.le_of_ble_eq_true rfl), (Nat.le_of_ble_eq_true rfl), (Nat.le_of_ble_eq_true rfl)⟩ rfl (gm_G.mono H (pV_elim (fun h17 H' => ?_) (fun e18 h19 H => ?_)))
        · show gm_G _ 38 _ _ _ _
          replace H := H'
          clear H'
          refine g_iinc (c := (Int32.ofNat 1)) rfl rfl rfl rfl rfl (pc' := 41) ?_
          refine g_goto rfl (pc' := 7) rfl ?_
          exact g_weak (show gm_Lle [some _, some _, some _, some _] _ from ⟨rfl, ⟨rfl, ⟨rfl, ⟨rfl, trivial⟩⟩⟩⟩) H
        · exact H
      · exact H
    · exact H
set_option maxRecDepth 20000 in
theorem w_351_46 {a0 : Nat} {r_1 : Option Nat} {r_2 : Option Nat} {x3 : Int32} {h : hh_T} {Q : Option Value ⊕ Nat → hh_T → Prop} (H : ∃ a1, r_1 = some a1 ∧ (gm_sub (hh_tg h a1) 22 = true ∧ ((¬ x3 < (hh_i h a1 3) → (∃ a3, r_2 = some a3 ∧ (gm_sub (hh_tg h a3) 22 = true ∧ (∀ h5, h5 = hh_wi h a3 4 (hh_i h a1 4) → (∀ h6, h6 = hh_wi h5 a3 5 (hh_i h5 a1 5) → (gm_G 351 99 [none, some (.ref a1), some (.ref a3)] [] h6 Q)))))) ∧ (x3 < (hh_i h a1 3) → (hh_tg h a0 = 1 ∧ (gm_G 236 0 [some (.ref a0)] [] h (pR (fun r9 h8 => gm_sub (hh_tg h8 a1) 22 = true ∧ (∀ r11, r11 = hh_r h8 a1 1 → (∃ a12, r11 = some a12 ∧ ((hh_tg h8 a12 = 104 ∨ 200 ≤ hh_tg h8 a12) ∧ (∃ n13, gm_ix x3 n13 (hh_ln h8 a12) ∧ (∀ r15, r15 = hh_r h8 a12 n13 → (∃ a16, r9 = some a16 ∧ (hh_tg h8 a16 = 30 ∧ (gm_G 200 0 [some (.ref a16), some (va_rf r15)] [] h8 (pV (fun h18 => ∃ a19, r_2 = some a19 ∧ (hh_tg h18 a19 = 23 ∧ (gm_G 173 0 [some (.ref a19), some (.ref a16)] [] h18 (pV (fun h21 => gm_G 351 46 [some (.ref a0), some (.ref a1), some (.ref a19), some (.int (x3 + (Int32.ofNat 1)))] [] h21 Q) (fun e22 h23 => hh_tg h23 e22 = 21 ∧ Q (.inr e22) h23))))) (fun e24 h25 => hh_tg h25 e24 = 21 ∧ Q (.inr e24) h25))))))))))) (fun e26 h27 => hh_tg h27 e26 = 21 ∧ Q (.inr e26) h27)))))))) : gm_G 351 46 [some (.ref a0), some (va_rf r_1), some (va_rf r_2), some (.int x3)] [] h Q := by
  refine g_iload rfl rfl rfl (pc' := 47) ?_
  refine g_aload (r := _) rfl rfl rfl (pc' := 48) ?_
  obtain ⟨a1, rfl, H⟩ := H
  obtain ⟨ht2, H⟩ := H
  refine g_getI rfl rfl rfl rfl ht2 (pc' := 51) rfl ?_
  refine g_ic_ge rfl (pc' := 54) (pt := 83) rfl rfl ⟨fun hc => ?_, fun hc => ?_⟩
  · replace H := H.1 hc
    refine g_aload (r := _) rfl rfl rfl (pc' := 84) ?_
    refine g_aload (r := some _) rfl rfl rfl (pc' := 85) ?_
    refine g_getI rfl rfl rfl rfl ht2 (pc' := 88) rfl ?_
    obtain ⟨a3, rfl, H⟩ := H
    obtain ⟨ht4, H⟩ := H
    refine g_putI rfl rfl rfl rfl ht4  (pc' := 91) rfl ?_
    replace H := H _ rfl
    refine g_aload (r := some _) rfl rfl rfl (pc' := 92) ?_
    refine g_aload (r := some _) rfl rfl rfl (pc' := 93) ?_
    refine g_getI rfl rfl rfl rfl ht2 (pc' := 96) rfl ?_
    refine g_putI rfl rfl rfl rfl ht4  (pc' := 99) rfl ?_
    replace H := H _ rfl
    exact g_weak (show gm_Lle [none, some _, some _] _ from ⟨rfl, ⟨rfl, trivial⟩⟩) H
  · replace H := H.2 hc
    refine g_aload (r := some _) rfl rfl rfl (pc' := 55) ?_
    obtain ⟨ht7, H⟩ := H
    refine g_call rfl (y := 236) (n := 1) (pc' := 58) (g_vt ht7 rfl rfl) rfl rfl ⟨(Nat.le_of_ble_eq_true rfl), (Nat.le_of_ble_eq_true rfl), (Nat.le_of_ble_eq_true rfl)⟩ rfl (gm_G.mono H (pR_elim (fun r9 h8 H' => ?_) (fun e26 h27 H => ?_)))
    · show gm_G _ 58 _ _ _ _
      replace H := H'
      clear H'
      refine g_astore (r := _) rfl rfl rfl (pc' := 60) ?_
      refine g_aload (r := _) rfl rfl rfl (pc' := 62) ?_
      refine g_aload (r := some _) rfl rfl rfl (pc' := 63) ?_
      obtain ⟨ht10, H⟩ := H
      refine g_getRv rfl rfl rfl rfl ht10 (pc' := 66) rfl (fun r11 hr11 => ?_)
      replace H := H r11 hr11
      refine g_iload rfl rfl rfl (pc' := 67) ?_
      obtain ⟨a12, rfl, H⟩ := H
      obtain ⟨ht14, H⟩ := H
      obtain ⟨n13, hn13, H⟩ := H
      refine g_aaloadv rfl ht14 hn13 (pc' := 68) rfl (fun r15 hr15 => ?_)
      replace H := H r15 hr15
      obtain ⟨a16, rfl, H⟩ := H
      obtain ⟨ht17, H⟩ := H
      refine g_call rfl (y := 200) (n := 2) (pc' := 71) (g_vt ht17 rfl rfl) (by cases r15 <;> rfl) rfl ⟨(Nat.le_of_ble_eq_true rfl), (Nat.le_of_ble_eq_true rfl), (Nat.le_of_ble_eq_true rfl)⟩ rfl (gm_G.mono H (pV_elim (fun h18 H' => ?_) (fun e24 h25 H => ?_)))
      · show gm_G _ 71 _ _ _ _
        replace H := H'
        clear H'
        refine g_aload (r := _) rfl rfl rfl (pc' := 72) ?_
        refine g_aload (r := some _) rfl rfl rfl (pc' := 74) ?_
        obtain ⟨a19, rfl, H⟩ := H
        obtain ⟨ht20, H⟩ := H
        refine g_call rfl (y := 173) (n := 2) (pc' := 77) (g_vt ht20 rfl rfl) rfl rfl ⟨(Nat.le_of_ble_eq_true rfl), (Nat.le_of_ble_eq_true rfl), (Nat.le_of_ble_eq_true rfl)⟩ rfl (gm_G.mono H (pV_elim (fun h21 H' => ?_) (fun e22 h23 H => ?_)))
        · show gm_G _ 77 _ _ _ _
          replace H := H'
          clear H'
          refine g_iinc (c := (Int32.ofNat 1)) rfl rfl rfl rfl rfl (pc' := 80) ?_
          refine g_goto rfl (pc' := 46) rfl ?_
          exact g_weak (show gm_Lle [some _, some _, some _, some _] _ from ⟨rfl, ⟨rfl, ⟨rfl, ⟨rfl, trivial⟩⟩⟩⟩) H
        · exact H
      · exact H
    · exact H
set_option maxRecDepth 20000 in
theorem w_351_99 {a0 : Nat} {r_1 : Option Nat} {r_2 : Option Nat} {h : hh_T} {Q : Option Value ⊕ Nat → hh_T → Prop} (H : ∃ a1, r_1 = some a1 ∧ (gm_sub (hh_tg h a1) 22 = true ∧ (∃ a3, r_2 = some a3 ∧ (gm_sub (hh_tg h a3) 22 = true ∧ (∀ h5, h5 = hh_wi h a3 6 (hh_i h a1 6) → (Q (.inl (some (.ref a3))) h5)))))) : gm_G 351 99 [none, some (va_rf r_1), some (va_rf r_2)] [] h Q := by
  refine g_aload (r := _) rfl rfl rfl (pc' := 100) ?_
  refine g_aload (r := _) rfl rfl rfl (pc' := 101) ?_
  obtain ⟨a1, rfl, H⟩ := H
  obtain ⟨ht2, H⟩ := H
  refine g_getI rfl rfl rfl rfl ht2 (pc' := 104) rfl ?_
  obtain ⟨a3, rfl, H⟩ := H
  obtain ⟨ht4, H⟩ := H
  refine g_putI rfl rfl rfl rfl ht4  (pc' := 107) rfl ?_
  replace H := H _ rfl
  refine g_aload (r := some _) rfl rfl rfl (pc' := 108) ?_
  exact g_areturn (r := some _) rfl H
set_option maxRecDepth 20000 in
theorem w_352_0 {a0 : Nat} {x1 : Int32} {x2 : Int32} {h : hh_T} {Q : Option Value ⊕ Nat → hh_T → Prop} (H : gm_sub (hh_tg h a0) 0 = true ∧ (∀ r2, r2 = hh_r h a0 33 → ((∀ a3, r2 = some a3 → (∀ r4, r4 = hh_r h a0 33 → (∃ a5, r4 = some a5 ∧ (hh_tg h a5 = 23 ∧ (gm_G 178 0 [some (.ref a5), some (.int x1)] [] h (pR (fun r8 h7 => gm_G 352 19 [none, none, some (.int x2)] [va_rf r8] h7 Q) (fun e9 h10 => hh_tg h10 e9 = 21 ∧ Q (.inr e9) h10))))))) ∧ (r2 = none → (gm_G 352 19 [none, none, some (.int x2)] [va_rf none] h Q))))) : gm_G 352 0 [some (.ref a0), some (.int x1), some (.int x2)] [] h Q := by
  refine g_aload (r := some _) rfl rfl rfl (pc' := 1) ?_
  obtain ⟨ht1, H⟩ := H
  refine g_getRv rfl rfl rfl rfl ht1 (pc' := 4) rfl (fun r2 hr2 => ?_)
  replace H := H r2 hr2
  refine g_ifnonnull rfl (pc' := 7) (pt := 11) rfl rfl ⟨fun a3 hc => ?_, fun hc => ?_⟩
  · replace H := H.1 a3 hc
    subst hc
    refine g_aload (r := some _) rfl rfl rfl (pc' := 12) ?_
    refine g_getRv rfl rfl rfl rfl ht1 (pc' := 15) rfl (fun r4 hr4 => ?_)
    replace H := H r4 hr4
    refine g_iload rfl rfl rfl (pc' := 16) ?_
    obtain ⟨a5, rfl, H⟩ := H
    obtain ⟨ht6, H⟩ := H
    refine g_call rfl (y := 178) (n := 2) (pc' := 19) (g_vt ht6 rfl rfl) rfl rfl ⟨(Nat.le_of_ble_eq_true rfl), (Nat.le_of_ble_eq_true rfl), (Nat.le_of_ble_eq_true rfl)⟩ rfl (gm_G.mono H (pR_elim (fun r8 h7 H' => ?_) (fun e9 h10 H => ?_)))
    · show gm_G _ 19 _ _ _ _
      replace H := H'
      clear H'
      exact g_weak (show gm_Lle [none, none, some _] _ from ⟨rfl, trivial⟩) H
    · exact H
  · replace H := H.2 hc
    subst hc
    refine g_null rfl rfl (pc' := 8) ?_
    refine g_goto rfl (pc' := 19) rfl ?_
    exact g_weak (show gm_Lle [none, none, some _] _ from ⟨rfl, trivial⟩) H
set_option maxRecDepth 20000 in
theorem w_352_19 {a0 : Nat} {x2 : Int32} {q0 : Option Nat} {h : hh_T} {Q : Option Value ⊕ Nat → hh_T → Prop} (H : (∀ a1, q0 = some a1 → (gm_sub (hh_tg h a1) 23 = true ∧ (gm_G 5 0 [some (.int x2), some (.int (Int32.ofNat 4)), some (.int ((Int32.ofNat 3) + (hh_i h a1 8)))] [] h (pI (fun v4 h3 => (v4 = Int32.ofNat 0 → (gm_G 5 0 [some (.int x2), some (.int (Int32.ofNat 1000)), some (.int (Int32.ofNat 1004))] [] h3 (pI (fun v6 h5 => (v6 = Int32.ofNat 0 → (gm_G 5 0 [some (.int x2), some (.int (Int32.ofNat 2000)), some (.int (Int32.ofNat 2008))] [] h5 (pI (fun v8 h7 => (v8 = Int32.ofNat 0 → ((¬ (0 ≤ x2.toInt ∧ x2.toInt ≤ 3) → (gm_sub (hh_tg h7 a1) 23 = true ∧ (gm_G 234 0 [some (.long (hh_j h7 a1 4)), none, some (.int x2)] [] h7 (pI (fun v11 h10 => Q (.inl (some (.int v11))) h10) (fun e12 h13 => hh_tg h13 e12 = 21 ∧ Q (.inr e12) h13))))) ∧ (x2.toInt = 0 → (gm_sub (hh_tg h7 a1) 23 = true ∧ (Q (.inl (some (.int (hh_i h7 a1 2)))) h7))) ∧ (x2.toInt = 1 → (gm_sub (hh_tg h7 a1) 23 = true ∧ (Q (.inl (some (.int (hh_i h7 a1 1)))) h7))) ∧ (x2.toInt = 2 → (gm_sub (hh_tg h7 a1) 23 = true ∧ (Q (.inl (some (.int (hh_i h7 a1 3)))) h7))) ∧ (x2.toInt = 3 → (gm_sub (hh_tg h7 a1) 23 = true ∧ (Q (.inl (some (.int (hh_i h7 a1 8)))) h7))))) ∧ (¬ v8 = Int32.ofNat 0 → (gm_sub (hh_tg h7 a1) 23 = true ∧ (∀ r19, r19 = hh_r h7 a1 6 → (∃ a20, r19 = some a20 ∧ ((hh_tg h7 a20 = 100 ∨ hh_tg h7 a20 = 105) ∧ (∃ n21, gm_ix (x2 - (Int32.ofNat 2000)) n21 (hh_ln h7 a20) ∧ (Q (.inl (some (.int (hh_i h7 a20 n21)))) h7)))))))) (fun e23 h24 => hh_tg h24 e23 = 21 ∧ Q (.inr e23) h24)))) ∧ (¬ v6 = Int32.ofNat 0 → (gm_sub (hh_tg h5 a1) 23 = true ∧ (∀ r26, r26 = hh_r h5 a1 5 → (∃ a27, r26 = some a27 ∧ ((hh_tg h5 a27 = 100 ∨ hh_tg h5 a27 = 105) ∧ (∃ n28, gm_ix (x2 - (Int32.ofNat 1000)) n28 (hh_ln h5 a27) ∧ (Q (.inl (some (.int (hh_i h5 a27 n28)))) h5)))))))) (fun e30 h31 => hh_tg h31 e30 = 21 ∧ Q (.inr e30) h31)))) ∧ (¬ v4 = Int32.ofNat 0 → (gm_sub (hh_tg h3 a1) 23 = true ∧ (∀ r33, r33 = hh_r h3 a1 7 → (∃ a34, r33 = some a34 ∧ ((hh_tg h3 a34 = 100 ∨ hh_tg h3 a34 = 105) ∧ (∃ n35, gm_ix (x2 - (Int32.ofNat 4)) n35 (hh_ln h3 a34) ∧ (Q (.inl (some (.int (hh_i h3 a34 n35)))) h3)))))))) (fun e37 h38 => hh_tg h38 e37 = 21 ∧ Q (.inr e37) h38))))) ∧ (q0 = none → (Q (.inl (some (.int (Int32.ofInt (-2))))) h))) : gm_G 352 19 [none, none, some (.int x2)] [va_rf q0] h Q := by
  refine g_astore (r := _) rfl rfl rfl (pc' := 20) ?_
  refine g_aload (r := _) rfl rfl rfl (pc' := 21) ?_
  refine g_ifnonnull rfl (pc' := 24) (pt := 27) rfl rfl ⟨fun a1 hc => ?_, fun hc => ?_⟩
  · replace H := H.1 a1 hc
    subst hc
    refine g_iload rfl rfl rfl (pc' := 28) ?_
    refine g_iconst rfl rfl rfl (pc' := 29) ?_
    refine g_iconst rfl rfl rfl (pc' := 30) ?_
    refine g_aload (r := some _) rfl rfl rfl (pc' := 31) ?_
    obtain ⟨ht2, H⟩ := H
    refine g_getI rfl rfl rfl rfl ht2 (pc' := 34) rfl ?_
    refine g_iadd rfl rfl (pc' := 35) ?_
    refine g_call rfl (y := 5) (n := 3) (pc' := 38) (fun _ => rfl) rfl rfl ⟨(Nat.le_of_ble_eq_true rfl), (Nat.le_of_ble_eq_true rfl), (Nat.le_of_ble_eq_true rfl)⟩ rfl (gm_G.mono H (pI_elim (fun v4 h3 H' => ?_) (fun e37 h38 H => ?_)))
    · show gm_G _ 38 _ _ _ _
      replace H := H'
      clear H'
      refine g_if_eq rfl (pc' := 41) (pt := 50) rfl rfl ⟨fun hc => ?_, fun hc => ?_⟩
      · replace H := H.1 hc
        refine g_iload rfl rfl rfl (pc' := 51) ?_
        refine g_iconst rfl rfl rfl (pc' := 54) ?_
        refine g_iconst rfl rfl rfl (pc' := 57) ?_
        refine g_call rfl (y := 5) (n := 3) (pc' := 60) (fun _ => rfl) rfl rfl ⟨(Nat.le_of_ble_eq_true rfl), (Nat.le_of_ble_eq_true rfl), (Nat.le_of_ble_eq_true rfl)⟩ rfl (gm_G.mono H (pI_elim (fun v6 h5 H' => ?_) (fun e30 h31 H => ?_)))
        · show gm_G _ 60 _ _ _ _
          replace H := H'
          clear H'
          refine g_if_eq rfl (pc' := 63) (pt := 74) rfl rfl ⟨fun hc => ?_, fun hc => ?_⟩
          · replace H := H.1 hc
            refine g_iload rfl rfl rfl (pc' := 75) ?_
            refine g_iconst rfl rfl rfl (pc' := 78) ?_
            refine g_iconst rfl rfl rfl (pc' := 81) ?_
            refine g_call rfl (y := 5) (n := 3) (pc' := 84) (fun _ => rfl) rfl rfl ⟨(Nat.le_of_ble_eq_true rfl), (Nat.le_of_ble_eq_true rfl), (Nat.le_of_ble_eq_true rfl)⟩ rfl (gm_G.mono H (pI_elim (fun v8 h7 H' => ?_) (fun e23 h24 H => ?_)))
            · show gm_G _ 84 _ _ _ _
              replace H := H'
              clear H'
              refine g_if_eq rfl (pc' := 87) (pt := 98) rfl rfl ⟨fun hc => ?_, fun hc => ?_⟩
              · replace H := H.1 hc
                refine g_iload rfl rfl rfl (pc' := 99) ?_
                refine g_switch rfl ⟨fun hc => ?_, fun hc => ?_⟩
                · replace H := H.1 (fun hq => by omega)
                  refine g_aload (r := some _) rfl rfl rfl (pc' := 149) ?_
                  obtain ⟨ht9, H⟩ := H
                  refine g_getJ rfl rfl rfl rfl ht9 (pc' := 152) rfl ?_
                  refine g_iload rfl rfl rfl (pc' := 153) ?_
                  refine g_call rfl (y := 234) (n := 2) (pc' := 156) (fun _ => rfl) rfl rfl ⟨(Nat.le_of_ble_eq_true rfl), (Nat.le_of_ble_eq_true rfl), (Nat.le_of_ble_eq_true rfl)⟩ rfl (gm_G.mono H (pI_elim (fun v11 h10 H' => ?_) (fun e12 h13 H => ?_)))
                  · show gm_G _ 156 _ _ _ _
                    replace H := H'
                    clear H'
                    exact g_ireturn rfl (Or.inl rfl) H
                  · exact H
                · replace H := H.2
                  have hq : x2.toInt = 0 ∨ x2.toInt = 1 ∨ x2.toInt = 2 ∨ x2.toInt = 3 := by omega
                  rcases hq with hq | hq | hq | hq
                  · replace H := (H.1) hq
                    refine ⟨128, by rw [hq]; rfl, ?_⟩
                    show gm_G _ 128 _ _ _ _
                    refine g_aload (r := some _) rfl rfl rfl (pc' := 129) ?_
                    obtain ⟨ht14, H⟩ := H
                    refine g_getI rfl rfl rfl rfl ht14 (pc' := 132) rfl ?_
                    exact g_ireturn rfl (Or.inl rfl) H
                  · replace H := (H.2.1) hq
                    refine ⟨133, by rw [hq]; rfl, ?_⟩
                    show gm_G _ 133 _ _ _ _
                    refine g_aload (r := some _) rfl rfl rfl (pc' := 134) ?_
                    obtain ⟨ht15, H⟩ := H
                    refine g_getI rfl rfl rfl rfl ht15 (pc' := 137) rfl ?_
                    exact g_ireturn rfl (Or.inl rfl) H
                  · replace H := (H.2.2.1) hq
                    refine ⟨138, by rw [hq]; rfl, ?_⟩
                    show gm_G _ 138 _ _ _ _
                    refine g_aload (r := some _) rfl rfl rfl (pc' := 139) ?_
                    obtain ⟨ht16, H⟩ := H
                    refine g_getI rfl rfl rfl rfl ht16 (pc' := 142) rfl ?_
                    exact g_ireturn rfl (Or.inl rfl) H
                  · replace H := (H.2.2.2) hq
                    refine ⟨143, by rw [hq]; rfl, ?_⟩
                    show gm_G _ 143 _ _ _ _
                    refine g_aload (r := some _) rfl rfl rfl (pc' := 144) ?_
                    obtain ⟨ht17, H⟩ := H
                    refine g_getI rfl rfl rfl rfl ht17 (pc' := 147) rfl ?_
                    exact g_ireturn rfl (Or.inl rfl) H
              · replace H := H.2 hc
                refine g_aload (r := some _) rfl rfl rfl (pc' := 88) ?_
                obtain ⟨ht18, H⟩ := H
                refine g_getRv rfl rfl rfl rfl ht18 (pc' := 91) rfl (fun r19 hr19 => ?_)
                replace H := H r19 hr19
                refine g_iload rfl rfl rfl (pc' := 92) ?_
                refine g_iconst rfl rfl rfl (pc' := 95) ?_
                refine g_isub rfl rfl (pc' := 96) ?_
                obtain ⟨a20, rfl, H⟩ := H
                obtain ⟨ht22, H⟩ := H
                obtain ⟨n21, hn21, H⟩ := H
                refine g_iaload rfl ht22 hn21 (pc' := 97) rfl ?_
                exact g_ireturn rfl (Or.inl rfl) H
            · exact H
          · replace H := H.2 hc
            refine g_aload (r := some _) rfl rfl rfl (pc' := 64) ?_
            obtain ⟨ht25, H⟩ := H
            refine g_getRv rfl rfl rfl rfl ht25 (pc' := 67) rfl (fun r26 hr26 => ?_)
            replace H := H r26 hr26
            refine g_iload rfl rfl rfl (pc' := 68) ?_
            refine g_iconst rfl rfl rfl (pc' := 71) ?_
            refine g_isub rfl rfl (pc' := 72) ?_
            obtain ⟨a27, rfl, H⟩ := H
            obtain ⟨ht29, H⟩ := H
            obtain ⟨n28, hn28, H⟩ := H
            refine g_iaload rfl ht29 hn28 (pc' := 73) rfl ?_
            exact g_ireturn rfl (Or.inl rfl) H
        · exact H
      · replace H := H.2 hc
        refine g_aload (r := some _) rfl rfl rfl (pc' := 42) ?_
        obtain ⟨ht32, H⟩ := H
        refine g_getRv rfl rfl rfl rfl ht32 (pc' := 45) rfl (fun r33 hr33 => ?_)
        replace H := H r33 hr33
        refine g_iload rfl rfl rfl (pc' := 46) ?_
        refine g_iconst rfl rfl rfl (pc' := 47) ?_
        refine g_isub rfl rfl (pc' := 48) ?_
        obtain ⟨a34, rfl, H⟩ := H
        obtain ⟨ht36, H⟩ := H
        obtain ⟨n35, hn35, H⟩ := H
        refine g_iaload rfl ht36 hn35 (pc' := 49) rfl ?_
        exact g_ireturn rfl (Or.inl rfl) H
    · exact H
  · replace H := H.2 hc
    subst hc
    refine g_iconst rfl rfl rfl (pc' := 26) ?_
    exact g_ireturn rfl (Or.inl rfl) H
set_option maxRecDepth 20000 in
theorem w_353_0 {a0 : Nat} {r_1 : Option Nat} {x2 : Int32} {h : hh_T} {Q : Option Value ⊕ Nat → hh_T → Prop} (H : gm_G 353 5 [some (.ref a0), some (va_rf r_1), some (.int x2), some (.int (Int32.ofNat 0)), some (.int (Int32.ofNat 0))] [] h Q) : gm_G 353 0 [some (.ref a0), some (va_rf r_1), some (.int x2)] [] h Q := by
  refine g_iconst rfl rfl rfl (pc' := 1) ?_
  refine g_istore rfl rfl rfl (pc' := 2) ?_
  refine g_iconst rfl rfl rfl (pc' := 3) ?_
  refine g_istore rfl rfl rfl (pc' := 5) ?_
  exact g_weak (show gm_Lle [some _, some _, some _, some _, some _] _ from ⟨rfl, ⟨rfl, ⟨rfl, ⟨rfl, ⟨rfl, trivial⟩⟩⟩⟩⟩) H
set_option maxRecDepth 20000 in
theorem w_353_5 {a0 : Nat} {r_1 : Option Nat} {x2 : Int32} {x3 : Int32} {x4 : Int32} {h : hh_T} {Q : Option Value ⊕ Nat → hh_T → Prop} (H : (¬ x4 < (Int32.ofNat 16) → (Q (.inl (some (.int x3))) h)) ∧ (x4 < (Int32.ofNat 16) → (∃ a1, r_1 = some a1 ∧ (gm_sub (hh_tg h a1) 24 = true ∧ (∀ r3, r3 = hh_r h a1 2 → (∃ a4, r3 = some a4 ∧ ((hh_tg h a4 = 104 ∨ 200 ≤ hh_tg h a4) ∧ (∃ n5, gm_ix x4 n5 (hh_ln h a4) ∧ (∀ r7, r7 = hh_r h a4 n5 → ((r7 = none → (gm_G 353 81 [some (.ref a0), some (.ref a1), some (.int x2), some (.int x3), some (.int x4)] [] h Q)) ∧ (∀ a8, r7 = some a8 → ((hh_tg h a8 = 27 ∧ (gm_G 194 0 [some (.ref a8)] [] h (pR (fun r10 h9 => (r10 = none → (gm_G 353 81 [some (.ref a0), some (.ref a1), some (.int x2), some (.int x3), some (.int x4)] [] h9 Q)) ∧ (∀ a11, r10 = some a11 → ((x2 < Int32.ofNat 0 → (gm_G 353 50 [some (.ref a0), some (.ref a1), some (.int x2), some (.int x3), some (.int x4), some (.ref a8)] [] h9 Q)) ∧ (¬ x2 < Int32.ofNat 0 → (gm_sub (hh_tg h9 a8) 25 = true ∧ (((hh_i h9 a8 3) = x2 → (gm_G 353 50 [some (.ref a0), some (.ref a1), some (.int x2), some (.int x3), some (.int x4), some (.ref a8)] [] h9 Q)) ∧ (¬ (hh_i h9 a8 3) = x2 → (gm_G 353 81 [some (.ref a0), some (.ref a1), some (.int x2), some (.int x3), some (.int x4)] [] h9 Q)))))))) (fun e13 h14 => hh_tg h14 e13 = 21 ∧ Q (.inr e13) h14)))) ∨ (hh_tg h a8 = 28 ∧ (gm_G 191 0 [some (.ref a8)] [] h (pR (fun r16 h15 => (r16 = none → (gm_G 353 81 [some (.ref a0), some (.ref a1), some (.int x2), some (.int x3), some (.int x4)] [] h15 Q)) ∧ (∀ a17, r16 = some a17 → ((x2 < Int32.ofNat 0 → (gm_G 353 50 [some (.ref a0), some (.ref a1), some (.int x2), some (.int x3), some (.int x4), some (.ref a8)] [] h15 Q)) ∧ (¬ x2 < Int32.ofNat 0 → (gm_sub (hh_tg h15 a8) 25 = true ∧ (((hh_i h15 a8 3) = x2 → (gm_G 353 50 [some (.ref a0), some (.ref a1), some (.int x2), some (.int x3), some (.int x4), some (.ref a8)] [] h15 Q)) ∧ (¬ (hh_i h15 a8 3) = x2 → (gm_G 353 81 [some (.ref a0), some (.ref a1), some (.int x2), some (.int x3), some (.int x4)] [] h15 Q)))))))) (fun e19 h20 => hh_tg h20 e19 = 21 ∧ Q (.inr e19) h20)))) ∨ (hh_tg h a8 = 29 ∧ (gm_G 191 0 [some (.ref a8)] [] h (pR (fun r22 h21 => (r22 = none → (gm_G 353 81 [some (.ref a0), some (.ref a1), some (.int x2), some (.int x3), some (.int x4)] [] h21 Q)) ∧ (∀ a23, r22 = some a23 → ((x2 < Int32.ofNat 0 → (gm_G 353 50 [some (.ref a0), some (.ref a1), some (.int x2), some (.int x3), some (.int x4), some (.ref a8)] [] h21 Q)) ∧ (¬ x2 < Int32.ofNat 0 → (gm_sub (hh_tg h21 a8) 25 = true ∧ (((hh_i h21 a8 3) = x2 → (gm_G 353 50 [some (.ref a0), some (.ref a1), some (.int x2), some (.int x3), some (.int x4), some (.ref a8)] [] h21 Q)) ∧ (¬ (hh_i h21 a8 3) = x2 → (gm_G 353 81 [some (.ref a0), some (.ref a1), some (.int x2), some (.int x3), some (.int x4)] [] h21 Q)))))))) (fun e25 h26 => hh_tg h26 e25 = 21 ∧ Q (.inr e25) h26)))))))))))))))) : gm_G 353 5 [some (.ref a0), some (va_rf r_1), some (.int x2), some (.int x3), some (.int x4)] [] h Q := by
  refine g_iload rfl rfl rfl (pc' := 7) ?_
  refine g_iconst rfl rfl rfl (pc' := 9) ?_
  refine g_ic_ge rfl (pc' := 12) (pt := 87) rfl rfl ⟨fun hc => ?_, fun hc => ?_⟩
  · replace H := H.1 hc
    refine g_iload rfl rfl rfl (pc' := 88) ?_
    exact g_ireturn rfl (Or.inl rfl) H
  · replace H := H.2 hc
    refine g_aload (r := _) rfl rfl rfl (pc' := 13) ?_
    obtain ⟨a1, rfl, H⟩ := H
    obtain ⟨ht2, H⟩ := H
    refine g_getRv rfl rfl rfl rfl ht2 (pc' := 16) rfl (fun r3 hr3 => ?_)
    replace H := H r3 hr3
    refine g_iload rfl rfl rfl (pc' := 18) ?_
    obtain ⟨a4, rfl, H⟩ := H
    obtain ⟨ht6, H⟩ := H
    obtain ⟨n5, hn5, H⟩ := H
    refine g_aaloadv rfl ht6 hn5 (pc' := 19) rfl (fun r7 hr7 => ?_)
    replace H := H r7 hr7
    refine g_astore (r := _) rfl rfl rfl (pc' := 21) ?_
    refine g_aload (r := _) rfl rfl rfl (pc' := 23) ?_
    refine g_ifnull rfl (pc' := 26) (pt := 81) rfl rfl ⟨fun hc => ?_, fun a8 hc => ?_⟩
    · replace H := H.1 hc
      subst hc
      exact g_weak (show gm_Lle [some _, some _, some _, some _, some _] _ from ⟨rfl, ⟨rfl, ⟨rfl, ⟨rfl, ⟨rfl, trivial⟩⟩⟩⟩⟩) H
    · replace H := H.2 a8 hc
      subst hc
      refine g_aload (r := some _) rfl rfl rfl (pc' := 28) ?_
      rcases H with ⟨ht, H⟩ | ⟨ht, H⟩ | ⟨ht, H⟩
      · refine g_call rfl (y := 194) (n := 1) (pc' := 31) (g_vt ht rfl rfl) rfl rfl ⟨(Nat.le_of_ble_eq_true rfl), (Nat.le_of_ble_eq_true rfl), (Nat.le_of_ble_eq_true rfl)⟩ rfl (gm_G.mono H (pR_elim (fun r10 h9 H' => ?_) (fun e13 h14 H => ?_)))
        · show gm_G _ 31 _ _ _ _
          replace H := H'
          clear H'
          refine g_ifnull rfl (pc' := 34) (pt := 81) rfl rfl ⟨fun hc => ?_, fun a11 hc => ?_⟩
          · replace H := H.1 hc
            subst hc
            exact g_weak (show gm_Lle [some _, some _, some _, some _, some _] _ from ⟨rfl, ⟨rfl, ⟨rfl, ⟨rfl, ⟨rfl, trivial⟩⟩⟩⟩⟩) H
          · replace H := H.2 a11 hc
            subst hc
            refine g_iload rfl rfl rfl (pc' := 35) ?_
            refine g_if_lt rfl (pc' := 38) (pt := 50) rfl rfl ⟨fun hc => ?_, fun hc => ?_⟩
            · replace H := H.1 hc
              exact g_weak (show gm_Lle [some _, some _, some _, some _, some _, some _] _ from ⟨rfl, ⟨rfl, ⟨rfl, ⟨rfl, ⟨rfl, ⟨rfl, trivial⟩⟩⟩⟩⟩⟩) H
            · replace H := H.2 hc
              refine g_aload (r := some _) rfl rfl rfl (pc' := 40) ?_
              obtain ⟨ht12, H⟩ := H
              refine g_getI rfl rfl rfl rfl ht12 (pc' := 43) rfl ?_
              refine g_iload rfl rfl rfl (pc' := 44) ?_
              refine g_ic_eq rfl (pc' := 47) (pt := 50) rfl rfl ⟨fun hc => ?_, fun hc => ?_⟩
              · replace H := H.1 hc
                exact g_weak (show gm_Lle [some _, some _, some _, some _, some _, some _] _ from ⟨rfl, ⟨rfl, ⟨rfl, ⟨rfl, ⟨rfl, ⟨rfl, trivial⟩⟩⟩⟩⟩⟩) H
              · replace H := H.2 hc
                refine g_goto rfl (pc' := 81) rfl ?_
                exact g_weak (show gm_Lle [some _, some _, some _, some _, some _] _ from ⟨rfl, ⟨rfl, ⟨rfl, ⟨rfl, ⟨rfl, trivial⟩⟩⟩⟩⟩) H
        · exact H
      · refine g_call rfl (y := 191) (n := 1) (pc' := 31) (g_vt ht rfl rfl) rfl rfl ⟨(Nat.le_of_ble_eq_true rfl), (Nat.le_of_ble_eq_true rfl), (Nat.le_of_ble_eq_true rfl)⟩ rfl (gm_G.mono H (pR_elim (fun r16 h15 H' => ?_) (fun e19 h20 H => ?_)))
        · show gm_G _ 31 _ _ _ _
          replace H := H'
          clear H'
          refine g_ifnull rfl (pc' := 34) (pt := 81) rfl rfl ⟨fun hc => ?_, fun a17 hc => ?_⟩
          · replace H := H.1 hc
            subst hc
            exact g_weak (show gm_Lle [some _, some _, some _, some _, some _] _ from ⟨rfl, ⟨rfl, ⟨rfl, ⟨rfl, ⟨rfl, trivial⟩⟩⟩⟩⟩) H
          · replace H := H.2 a17 hc
            subst hc
            refine g_iload rfl rfl rfl (pc' := 35) ?_
            refine g_if_lt rfl (pc' := 38) (pt := 50) rfl rfl ⟨fun hc => ?_, fun hc => ?_⟩
            · replace H := H.1 hc
              exact g_weak (show gm_Lle [some _, some _, some _, some _, some _, some _] _ from ⟨rfl, ⟨rfl, ⟨rfl, ⟨rfl, ⟨rfl, ⟨rfl, trivial⟩⟩⟩⟩⟩⟩) H
            · replace H := H.2 hc
              refine g_aload (r := some _) rfl rfl rfl (pc' := 40) ?_
              obtain ⟨ht18, H⟩ := H
              refine g_getI rfl rfl rfl rfl ht18 (pc' := 43) rfl ?_
              refine g_iload rfl rfl rfl (pc' := 44) ?_
              refine g_ic_eq rfl (pc' := 47) (pt := 50) rfl rfl ⟨fun hc => ?_, fun hc => ?_⟩
              · replace H := H.1 hc
                exact g_weak (show gm_Lle [some _, some _, some _, some _, some _, some _] _ from ⟨rfl, ⟨rfl, ⟨rfl, ⟨rfl, ⟨rfl, ⟨rfl, trivial⟩⟩⟩⟩⟩⟩) H
              · replace H := H.2 hc
                refine g_goto rfl (pc' := 81) rfl ?_
                exact g_weak (show gm_Lle [some _, some _, some _, some _, some _] _ from ⟨rfl, ⟨rfl, ⟨rfl, ⟨rfl, ⟨rfl, trivial⟩⟩⟩⟩⟩) H
        · exact H
      · refine g_call rfl (y := 191) (n := 1) (pc' := 31) (g_vt ht rfl rfl) rfl rfl ⟨(Nat.le_of_ble_eq_true rfl), (Nat.le_of_ble_eq_true rfl), (Nat.le_of_ble_eq_true rfl)⟩ rfl (gm_G.mono H (pR_elim (fun r22 h21 H' => ?_) (fun e25 h26 H => ?_)))
        · show gm_G _ 31 _ _ _ _
          replace H := H'
          clear H'
          refine g_ifnull rfl (pc' := 34) (pt := 81) rfl rfl ⟨fun hc => ?_, fun a23 hc => ?_⟩
          · replace H := H.1 hc
            subst hc
            exact g_weak (show gm_Lle [some _, some _, some _, some _, some _] _ from ⟨rfl, ⟨rfl, ⟨rfl, ⟨rfl, ⟨rfl, trivial⟩⟩⟩⟩⟩) H
          · replace H := H.2 a23 hc
            subst hc
            refine g_iload rfl rfl rfl (pc' := 35) ?_
            refine g_if_lt rfl (pc' := 38) (pt := 50) rfl rfl ⟨fun hc => ?_, fun hc => ?_⟩
            · replace H := H.1 hc
              exact g_weak (show gm_Lle [some _, some _, some _, some _, some _, some _] _ from ⟨rfl, ⟨rfl, ⟨rfl, ⟨rfl, ⟨rfl, ⟨rfl, trivial⟩⟩⟩⟩⟩⟩) H
            · replace H := H.2 hc
              refine g_aload (r := some _) rfl rfl rfl (pc' := 40) ?_
              obtain ⟨ht24, H⟩ := H
              refine g_getI rfl rfl rfl rfl ht24 (pc' := 43) rfl ?_
              refine g_iload rfl rfl rfl (pc' := 44) ?_
              refine g_ic_eq rfl (pc' := 47) (pt := 50) rfl rfl ⟨fun hc => ?_, fun hc => ?_⟩
              · replace H := H.1 hc
                exact g_weak (show gm_Lle [some _, some _, some _, some _, some _, some _] _ from ⟨rfl, ⟨rfl, ⟨rfl, ⟨rfl, ⟨rfl, ⟨rfl, trivial⟩⟩⟩⟩⟩⟩) H
              · replace H := H.2 hc
                refine g_goto rfl (pc' := 81) rfl ?_
                exact g_weak (show gm_Lle [some _, some _, some _, some _, some _] _ from ⟨rfl, ⟨rfl, ⟨rfl, ⟨rfl, ⟨rfl, trivial⟩⟩⟩⟩⟩) H
        · exact H
set_option maxRecDepth 20000 in
theorem w_353_50 {a0 : Nat} {r_1 : Option Nat} {x2 : Int32} {x3 : Int32} {x4 : Int32} {r_5 : Option Nat} {h : hh_T} {Q : Option Value ⊕ Nat → hh_T → Prop} (H : gm_G 353 53 [some (.ref a0), some (va_rf r_1), some (.int x2), some (.int x3), some (.int x4), some (va_rf r_5), some (.int (Int32.ofNat 0))] [] h Q) : gm_G 353 50 [some (.ref a0), some (va_rf r_1), some (.int x2), some (.int x3), some (.int x4), some (va_rf r_5)] [] h Q := by
  refine g_iconst rfl rfl rfl (pc' := 51) ?_
  refine g_istore rfl gm_sto_rf5 rfl (pc' := 53) ?_
  exact g_weak (show gm_Lle [some _, some _, some _, some _, some _, some _, some _] _ from ⟨rfl, ⟨rfl, ⟨rfl, ⟨rfl, ⟨rfl, ⟨rfl, ⟨rfl, trivial⟩⟩⟩⟩⟩⟩⟩) H
set_option maxRecDepth 20000 in
theorem w_353_53 {a0 : Nat} {r_1 : Option Nat} {x2 : Int32} {x3 : Int32} {x4 : Int32} {r_5 : Option Nat} {x6 : Int32} {h : hh_T} {Q : Option Value ⊕ Nat → hh_T → Prop} (H : (¬ x6 < (Int32.ofNat 8) → (gm_G 353 81 [some (.ref a0), some (va_rf r_1), some (.int x2), some (.int x3), some (.int x4)] [] h Q)) ∧ (x6 < (Int32.ofNat 8) → (∃ a1, r_5 = some a1 ∧ ((hh_tg h a1 = 27 ∧ (gm_G 194 0 [some (.ref a1)] [] h (pR (fun r3 h2 => ∃ a4, r3 = some a4 ∧ ((hh_tg h2 a4 = 104 ∨ 200 ≤ hh_tg h2 a4) ∧ (∃ n5, gm_ix x6 n5 (hh_ln h2 a4) ∧ (∀ r7, r7 = hh_r h2 a4 n5 → (hh_tg h2 a0 = 1 ∧ (gm_G 239 0 [some (.ref a0), some (va_rf r7)] [] h2 (pI (fun v10 h9 => gm_G 353 53 [some (.ref a0), some (va_rf r_1), some (.int x2), some (.int (x3 + v10)), some (.int x4), some (.ref a1), some (.int (x6 + (Int32.ofNat 1)))] [] h9 Q) (fun e11 h12 => hh_tg h12 e11 = 21 ∧ Q (.inr e11) h12)))))))) (fun e13 h14 => hh_tg h14 e13 = 21 ∧ Q (.inr e13) h14)))) ∨ (hh_tg h a1 = 28 ∧ (gm_G 191 0 [some (.ref a1)] [] h (pR (fun r16 h15 => ∃ a17, r16 = some a17 ∧ ((hh_tg h15 a17 = 104 ∨ 200 ≤ hh_tg h15 a17) ∧ (∃ n18, gm_ix x6 n18 (hh_ln h15 a17) ∧ (∀ r20, r20 = hh_r h15 a17 n18 → (hh_tg h15 a0 = 1 ∧ (gm_G 239 0 [some (.ref a0), some (va_rf r20)] [] h15 (pI (fun v23 h22 => gm_G 353 53 [some (.ref a0), some (va_rf r_1), some (.int x2), some (.int (x3 + v23)), some (.int x4), some (.ref a1), some (.int (x6 + (Int32.ofNat 1)))] [] h22 Q) (fun e24 h25 => hh_tg h25 e24 = 21 ∧ Q (.inr e24) h25)))))))) (fun e26 h27 => hh_tg h27 e26 = 21 ∧ Q (.inr e26) h27)))) ∨ (hh_tg h a1 = 29 ∧ (gm_G 191 0 [some (.ref a1)] [] h (pR (fun r29 h28 => ∃ a30, r29 = some a30 ∧ ((hh_tg h28 a30 = 104 ∨ 200 ≤ hh_tg h28 a30) ∧ (∃ n31, gm_ix x6 n31 (hh_ln h28 a30) ∧ (∀ r33, r33 = hh_r h28 a30 n31 → (hh_tg h28 a0 = 1 ∧ (gm_G 239 0 [some (.ref a0), some (va_rf r33)] [] h28 (pI (fun v36 h35 => gm_G 353 53 [some (.ref a0), some (va_rf r_1), some (.int x2), some (.int (x3 + v36)), some (.int x4), some (.ref a1), some (.int (x6 + (Int32.ofNat 1)))] [] h35 Q) (fun e37 h38 => hh_tg h38 e37 = 21 ∧ Q (.inr e37) h38)))))))) (fun e39 h40 => hh_tg h40 e39 = 21 ∧ Q (.inr e39) h40)))))))) : gm_G 353 53 [some (.ref a0), some (va_rf r_1), some (.int x2), some (.int x3), some (.int x4), some (va_rf r_5), some (.int x6)] [] h Q := by
  refine g_iload rfl rfl rfl (pc' := 55) ?_
  refine g_iconst rfl rfl rfl (pc' := 57) ?_
  refine g_ic_ge rfl (pc' := 60) (pt := 81) rfl rfl ⟨fun hc => ?_, fun hc => ?_⟩
  · replace H := H.1 hc
    exact g_weak (show gm_Lle [some _, some _, some _, some _, some _] _ from ⟨rfl, ⟨rfl, ⟨rfl, ⟨rfl, ⟨rfl, trivial⟩⟩⟩⟩⟩) H
  · replace H := H.2 hc
    refine g_iload rfl rfl rfl (pc' := 61) ?_
    refine g_aload (r := some _) rfl rfl rfl (pc' := 62) ?_
    refine g_aload (r := _) rfl rfl rfl (pc' := 64) ?_
    obtain ⟨a1, rfl, H⟩ := H
    rcases H with ⟨ht, H⟩ | ⟨ht, H⟩ | ⟨ht, H⟩
    · refine g_call rfl (y := 194) (n := 1) (pc' := 67) (g_vt ht rfl rfl) rfl rfl ⟨(Nat.le_of_ble_eq_true rfl), (Nat.le_of_ble_eq_true rfl), (Nat.le_of_ble_eq_true rfl)⟩ rfl (gm_G.mono H (pR_elim (fun r3 h2 H' => ?_) (fun e13 h14 H => ?_)))
      · show gm_G _ 67 _ _ _ _
        replace H := H'
        clear H'
        refine g_iload rfl rfl rfl (pc' := 69) ?_
        obtain ⟨a4, rfl, H⟩ := H
        obtain ⟨ht6, H⟩ := H
        obtain ⟨n5, hn5, H⟩ := H
        refine g_aaloadv rfl ht6 hn5 (pc' := 70) rfl (fun r7 hr7 => ?_)
        replace H := H r7 hr7
        obtain ⟨ht8, H⟩ := H
        refine g_call rfl (y := 239) (n := 2) (pc' := 73) (g_vt ht8 rfl rfl) (by cases r7 <;> rfl) rfl ⟨(Nat.le_of_ble_eq_true rfl), (Nat.le_of_ble_eq_true rfl), (Nat.le_of_ble_eq_true rfl)⟩ rfl (gm_G.mono H (pI_elim (fun v10 h9 H' => ?_) (fun e11 h12 H => ?_)))
        · show gm_G _ 73 _ _ _ _
          replace H := H'
          clear H'
          refine g_iadd rfl rfl (pc' := 74) ?_
          refine g_istore rfl rfl rfl (pc' := 75) ?_
          refine g_iinc (c := (Int32.ofNat 1)) rfl rfl rfl rfl rfl (pc' := 78) ?_
          refine g_goto rfl (pc' := 53) rfl ?_
          exact g_weak (show gm_Lle [some _, some _, some _, some _, some _, some _, some _] _ from ⟨rfl, ⟨rfl, ⟨rfl, ⟨rfl, ⟨rfl, ⟨rfl, ⟨rfl, trivial⟩⟩⟩⟩⟩⟩⟩) H
        · exact H
      · exact H
    · refine g_call rfl (y := 191) (n := 1) (pc' := 67) (g_vt ht rfl rfl) rfl rfl ⟨(Nat.le_of_ble_eq_true rfl), (Nat.le_of_ble_eq_true rfl), (Nat.le_of_ble_eq_true rfl)⟩ rfl (gm_G.mono H (pR_elim (fun r16 h15 H' => ?_) (fun e26 h27 H => ?_)))
      · show gm_G _ 67 _ _ _ _
        replace H := H'
        clear H'
        refine g_iload rfl rfl rfl (pc' := 69) ?_
        obtain ⟨a17, rfl, H⟩ := H
        obtain ⟨ht19, H⟩ := H
        obtain ⟨n18, hn18, H⟩ := H
        refine g_aaloadv rfl ht19 hn18 (pc' := 70) rfl (fun r20 hr20 => ?_)
        replace H := H r20 hr20
        obtain ⟨ht21, H⟩ := H
        refine g_call rfl (y := 239) (n := 2) (pc' := 73) (g_vt ht21 rfl rfl) (by cases r20 <;> rfl) rfl ⟨(Nat.le_of_ble_eq_true rfl), (Nat.le_of_ble_eq_true rfl), (Nat.le_of_ble_eq_true rfl)⟩ rfl (gm_G.mono H (pI_elim (fun v23 h22 H' => ?_) (fun e24 h25 H => ?_)))
        · show gm_G _ 73 _ _ _ _
          replace H := H'
          clear H'
          refine g_iadd rfl rfl (pc' := 74) ?_
          refine g_istore rfl rfl rfl (pc' := 75) ?_
          refine g_iinc (c := (Int32.ofNat 1)) rfl rfl rfl rfl rfl (pc' := 78) ?_
          refine g_goto rfl (pc' := 53) rfl ?_
          exact g_weak (show gm_Lle [some _, some _, some _, some _, some _, some _, some _] _ from ⟨rfl, ⟨rfl, ⟨rfl, ⟨rfl, ⟨rfl, ⟨rfl, ⟨rfl, trivial⟩⟩⟩⟩⟩⟩⟩) H
        · exact H
      · exact H
    · refine g_call rfl (y := 191) (n := 1) (pc' := 67) (g_vt ht rfl rfl) rfl rfl ⟨(Nat.le_of_ble_eq_true rfl), (Nat.le_of_ble_eq_true rfl), (Nat.le_of_ble_eq_true rfl)⟩ rfl (gm_G.mono H (pR_elim (fun r29 h28 H' => ?_) (fun e39 h40 H => ?_)))
      · show gm_G _ 67 _ _ _ _
        replace H := H'
        clear H'
        refine g_iload rfl rfl rfl (pc' := 69) ?_
        obtain ⟨a30, rfl, H⟩ := H
        obtain ⟨ht32, H⟩ := H
        obtain ⟨n31, hn31, H⟩ := H
        refine g_aaloadv rfl ht32 hn31 (pc' := 70) rfl (fun r33 hr33 => ?_)
        replace H := H r33 hr33
        obtain ⟨ht34, H⟩ := H
        refine g_call rfl (y := 239) (n := 2) (pc' := 73) (g_vt ht34 rfl rfl) (by cases r33 <;> rfl) rfl ⟨(Nat.le_of_ble_eq_true rfl), (Nat.le_of_ble_eq_true rfl), (Nat.le_of_ble_eq_true rfl)⟩ rfl (gm_G.mono H (pI_elim (fun v36 h35 H' => ?_) (fun e37 h38 H => ?_)))
        · show gm_G _ 73 _ _ _ _
          replace H := H'
          clear H'
          refine g_iadd rfl rfl (pc' := 74) ?_
          refine g_istore rfl rfl rfl (pc' := 75) ?_
          refine g_iinc (c := (Int32.ofNat 1)) rfl rfl rfl rfl rfl (pc' := 78) ?_
          refine g_goto rfl (pc' := 53) rfl ?_
          exact g_weak (show gm_Lle [some _, some _, some _, some _, some _, some _, some _] _ from ⟨rfl, ⟨rfl, ⟨rfl, ⟨rfl, ⟨rfl, ⟨rfl, ⟨rfl, trivial⟩⟩⟩⟩⟩⟩⟩) H
        · exact H
      · exact H
set_option maxRecDepth 20000 in
theorem w_353_81 {a0 : Nat} {r_1 : Option Nat} {x2 : Int32} {x3 : Int32} {x4 : Int32} {h : hh_T} {Q : Option Value ⊕ Nat → hh_T → Prop} (H : gm_G 353 5 [some (.ref a0), some (va_rf r_1), some (.int x2), some (.int x3), some (.int (x4 + (Int32.ofNat 1)))] [] h Q) : gm_G 353 81 [some (.ref a0), some (va_rf r_1), some (.int x2), some (.int x3), some (.int x4)] [] h Q := by
  refine g_iinc (c := (Int32.ofNat 1)) rfl rfl rfl rfl rfl (pc' := 84) ?_
  refine g_goto rfl (pc' := 5) rfl ?_
  exact g_weak (show gm_Lle [some _, some _, some _, some _, some _] _ from ⟨rfl, ⟨rfl, ⟨rfl, ⟨rfl, ⟨rfl, trivial⟩⟩⟩⟩⟩) H
set_option maxRecDepth 20000 in
theorem w_354_0 {a0 : Nat}  {h : hh_T} {Q : Option Value ⊕ Nat → hh_T → Prop} (H : gm_sub (hh_tg h a0) 3 = true ∧ (∀ r2, r2 = hh_r h a0 1 → (∃ a3, r2 = some a3 ∧ ((hh_tg h a3 = 104 ∨ 200 ≤ hh_tg h a3) ∧ (0 < hh_ln h a3 ∧ (∀ r6, r6 = hh_r h a3 0 → (∃ a7, r6 = some a7 ∧ (gm_sub (hh_tg h a7) 21 = true ∧ (∀ h9, h9 = hh_wi h a0 3 (hh_i h a7 0) → (gm_G 354 15 [some (.ref a0), some (.int (Int32.ofNat 1))] [] h9 Q)))))))))) : gm_G 354 0 [some (.ref a0)] [] h Q := by
  refine g_aload (r := some _) rfl rfl rfl (pc' := 1) ?_
  refine g_aload (r := some _) rfl rfl rfl (pc' := 2) ?_
  obtain ⟨ht1, H⟩ := H
  refine g_getRv rfl rfl rfl rfl ht1 (pc' := 5) rfl (fun r2 hr2 => ?_)
  replace H := H r2 hr2
  refine g_iconst rfl rfl rfl (pc' := 6) ?_
  obtain ⟨a3, rfl, H⟩ := H
  obtain ⟨ht5, H⟩ := H
  obtain ⟨hn4, H⟩ := H
  refine g_aaloadv rfl ht5 ⟨rfl, by decide, hn4⟩ (pc' := 7) rfl (fun r6 hr6 => ?_)
  replace H := H r6 hr6
  obtain ⟨a7, rfl, H⟩ := H
  obtain ⟨ht8, H⟩ := H
  refine g_getI rfl rfl rfl rfl ht8 (pc' := 10) rfl ?_
  refine g_putI rfl rfl rfl rfl ht1  (pc' := 13) rfl ?_
  replace H := H _ rfl
  refine g_iconst rfl rfl rfl (pc' := 14) ?_
  refine g_istore rfl rfl rfl (pc' := 15) ?_
  exact g_weak (show gm_Lle [some _, some _] _ from ⟨rfl, ⟨rfl, trivial⟩⟩) H
set_option maxRecDepth 20000 in
theorem w_354_15 {a0 : Nat} {x1 : Int32} {h : hh_T} {Q : Option Value ⊕ Nat → hh_T → Prop} (H : gm_sub (hh_tg h a0) 3 = true ∧ ((¬ x1 < (hh_i h a0 2) → ((hh_tg h a0 = 5 ∧ (gm_G 31 0 [some (.ref a0)] [] h (pI (fun v3 h2 => gm_sub (hh_tg h2 a0) 3 = true ∧ (∀ h5, h5 = hh_wi h2 a0 4 v3 → (∀ r6, r6 = hh_r h5 a0 5 → (∃ a7, r6 = some a7 ∧ (hh_tg h5 a7 = 6 ∧ (gm_G 37 0 [some (.ref a7), some (.int (hh_i h5 a0 4))] [] h5 (pV (fun h9 => Q (.inl none) h9) (fun e10 h11 => hh_tg h11 e10 = 21 ∧ Q (.inr e10) h11)))))))) (fun e12 h13 => hh_tg h13 e12 = 21 ∧ Q (.inr e12) h13)))) ∨ (hh_tg h a0 = 7 ∧ (gm_G 251 0 [some (.ref a0)] [] h (pI (fun v15 h14 => gm_sub (hh_tg h14 a0) 3 = true ∧ (∀ h17, h17 = hh_wi h14 a0 4 v15 → (∀ r18, r18 = hh_r h17 a0 5 → (∃ a19, r18 = some a19 ∧ (hh_tg h17 a19 = 6 ∧ (gm_G 37 0 [some (.ref a19), some (.int (hh_i h17 a0 4))] [] h17 (pV (fun h21 => Q (.inl none) h21) (fun e22 h23 => hh_tg h23 e22 = 21 ∧ Q (.inr e22) h23)))))))) (fun e24 h25 => hh_tg h25 e24 = 21 ∧ Q (.inr e24) h25)))))) ∧ (x1 < (hh_i h a0 2) → (∀ r26, r26 = hh_r h a0 1 → (∃ a27, r26 = some a27 ∧ ((hh_tg h a27 = 104 ∨ 200 ≤ hh_tg h a27) ∧ (∃ n28, gm_ix x1 n28 (hh_ln h a27) ∧ (∀ r30, r30 = hh_r h a27 n28 → (∃ a31, r30 = some a31 ∧ (gm_sub (hh_tg h a31) 21 = true ∧ ((¬ (hh_i h a31 0) < (hh_i h a0 3) → (gm_G 354 52 [some (.ref a0), some (.int x1)] [] h Q)) ∧ ((hh_i h a31 0) < (hh_i h a0 3) → (∀ r33, r33 = hh_r h a0 1 → (∃ a34, r33 = some a34 ∧ ((hh_tg h a34 = 104 ∨ 200 ≤ hh_tg h a34) ∧ (∃ n35, gm_ix x1 n35 (hh_ln h a34) ∧ (∀ r37, r37 = hh_r h a34 n35 → (∃ a38, r37 = some a38 ∧ (gm_sub (hh_tg h a38) 21 = true ∧ (∀ h40, h40 = hh_wi h a0 3 (hh_i h a38 0) → (gm_G 354 52 [some (.ref a0), some (.int x1)] [] h40 Q))))))))))))))))))))) : gm_G 354 15 [some (.ref a0), some (.int x1)] [] h Q := by
  refine g_iload rfl rfl rfl (pc' := 16) ?_
  refine g_aload (r := some _) rfl rfl rfl (pc' := 17) ?_
  obtain ⟨ht1, H⟩ := H
  refine g_getI rfl rfl rfl rfl ht1 (pc' := 20) rfl ?_
  refine g_ic_ge rfl (pc' := 23) (pt := 58) rfl rfl ⟨fun hc => ?_, fun hc => ?_⟩
  · replace H := H.1 hc
    refine g_aload (r := some _) rfl rfl rfl (pc' := 59) ?_
    refine g_aload (r := some _) rfl rfl rfl (pc' := 60) ?_
    rcases H with ⟨ht, H⟩ | ⟨ht, H⟩
    · refine g_call rfl (y := 31) (n := 1) (pc' := 63) (g_vt ht rfl rfl) rfl rfl ⟨(Nat.le_of_ble_eq_true rfl), (Nat.le_of_ble_eq_true rfl), (Nat.le_of_ble_eq_true rfl)⟩ rfl (gm_G.mono H (pI_elim (fun v3 h2 H' => ?_) (fun e12 h13 H => ?_)))
      · show gm_G _ 63 _ _ _ _
        replace H := H'
        clear H'
        obtain ⟨ht4, H⟩ := H
        refine g_putI rfl rfl rfl rfl ht4  (pc' := 66) rfl ?_
        replace H := H _ rfl
        refine g_aload (r := some _) rfl rfl rfl (pc' := 67) ?_
        refine g_getRv rfl rfl rfl rfl ht4 (pc' := 70) rfl (fun r6 hr6 => ?_)
        replace H := H r6 hr6
        refine g_aload (r := some _) rfl rfl rfl (pc' := 71) ?_
        refine g_getI rfl rfl rfl rfl ht4 (pc' := 74) rfl ?_
        obtain ⟨a7, rfl, H⟩ := H
        obtain ⟨ht8, H⟩ := H
        refine g_call rfl (y := 37) (n := 2) (pc' := 77) (g_vt ht8 rfl rfl) rfl rfl ⟨(Nat.le_of_ble_eq_true rfl), (Nat.le_of_ble_eq_true rfl), (Nat.le_of_ble_eq_true rfl)⟩ rfl (gm_G.mono H (pV_elim (fun h9 H' => ?_) (fun e10 h11 H => ?_)))
        · show gm_G _ 77 _ _ _ _
          replace H := H'
          clear H'
          exact g_return rfl H
        · exact H
      · exact H
    · refine g_call rfl (y := 251) (n := 1) (pc' := 63) (g_vt ht rfl rfl) rfl rfl ⟨(Nat.le_of_ble_eq_true rfl), (Nat.le_of_ble_eq_true rfl), (Nat.le_of_ble_eq_true rfl)⟩ rfl (gm_G.mono H (pI_elim (fun v15 h14 H' => ?_) (fun e24 h25 H => ?_)))
      · show gm_G _ 63 _ _ _ _
        replace H := H'
        clear H'
        obtain ⟨ht16, H⟩ := H
        refine g_putI rfl rfl rfl rfl ht16  (pc' := 66) rfl ?_
        replace H := H _ rfl
        refine g_aload (r := some _) rfl rfl rfl (pc' := 67) ?_
        refine g_getRv rfl rfl rfl rfl ht16 (pc' := 70) rfl (fun r18 hr18 => ?_)
        replace H := H r18 hr18
        refine g_aload (r := some _) rfl rfl rfl (pc' := 71) ?_
        refine g_getI rfl rfl rfl rfl ht16 (pc' := 74) rfl ?_
        obtain ⟨a19, rfl, H⟩ := H
        obtain ⟨ht20, H⟩ := H
        refine g_call rfl (y := 37) (n := 2) (pc' := 77) (g_vt ht20 rfl rfl) rfl rfl ⟨(Nat.le_of_ble_eq_true rfl), (Nat.le_of_ble_eq_true rfl), (Nat.le_of_ble_eq_true rfl)⟩ rfl (gm_G.mono H (pV_elim (fun h21 H' => ?_) (fun e22 h23 H => ?_)))
        · show gm_G _ 77 _ _ _ _
          replace H := H'
          clear H'
          exact g_return rfl H
        · exact H
      · exact H
  · replace H := H.2 hc
    refine g_aload (r := some _) rfl rfl rfl (pc' := 24) ?_
    refine g_getRv rfl rfl rfl rfl ht1 (pc' := 27) rfl (fun r26 hr26 => ?_)
    replace H := H r26 hr26
    refine g_iload rfl rfl rfl (pc' := 28) ?_
    obtain ⟨a27, rfl, H⟩ := H
    obtain ⟨ht29, H⟩ := H
    obtain ⟨n28, hn28, H⟩ := H
    refine g_aaloadv rfl ht29 hn28 (pc' := 29) rfl (fun r30 hr30 => ?_)
    replace H := H r30 hr30
    obtain ⟨a31, rfl, H⟩ := H
    obtain ⟨ht32, H⟩ := H
    refine g_getI rfl rfl rfl rfl ht32 (pc' := 32) rfl ?_
    refine g_aload (r := some _) rfl rfl rfl (pc' := 33) ?_
    refine g_getI rfl rfl rfl rfl ht1 (pc' := 36) rfl ?_
    refine g_ic_ge rfl (pc' := 39) (pt := 52) rfl rfl ⟨fun hc => ?_, fun hc => ?_⟩
    · replace H := H.1 hc
      exact g_weak (show gm_Lle [some _, some _] _ from ⟨rfl, ⟨rfl, trivial⟩⟩) H
    · replace H := H.2 hc
      refine g_aload (r := some _) rfl rfl rfl (pc' := 40) ?_
      refine g_aload (r := some _) rfl rfl rfl (pc' := 41) ?_
      refine g_getRv rfl rfl rfl rfl ht1 (pc' := 44) rfl (fun r33 hr33 => ?_)
      replace H := H r33 hr33
      refine g_iload rfl rfl rfl (pc' := 45) ?_
      obtain ⟨a34, rfl, H⟩ := H
      obtain ⟨ht36, H⟩ := H
      obtain ⟨n35, hn35, H⟩ := H
      refine g_aaloadv rfl ht36 hn35 (pc' := 46) rfl (fun r37 hr37 => ?_)
      replace H := H r37 hr37
      obtain ⟨a38, rfl, H⟩ := H
      obtain ⟨ht39, H⟩ := H
      refine g_getI rfl rfl rfl rfl ht39 (pc' := 49) rfl ?_
      refine g_putI rfl rfl rfl rfl ht1  (pc' := 52) rfl ?_
      replace H := H _ rfl
      exact g_weak (show gm_Lle [some _, some _] _ from ⟨rfl, ⟨rfl, trivial⟩⟩) H
set_option maxRecDepth 20000 in
theorem w_354_52 {a0 : Nat} {x1 : Int32} {h : hh_T} {Q : Option Value ⊕ Nat → hh_T → Prop} (H : gm_G 354 15 [some (.ref a0), some (.int (x1 + (Int32.ofNat 1)))] [] h Q) : gm_G 354 52 [some (.ref a0), some (.int x1)] [] h Q := by
  refine g_iinc (c := (Int32.ofNat 1)) rfl rfl rfl rfl rfl (pc' := 55) ?_
  refine g_goto rfl (pc' := 15) rfl ?_
  exact g_weak (show gm_Lle [some _, some _] _ from ⟨rfl, ⟨rfl, trivial⟩⟩) H
set_option maxRecDepth 20000 in
theorem w_355_0 {a0 : Nat} {r_1 : Option Nat} {x2 : Int32} {h : hh_T} {Q : Option Value ⊕ Nat → hh_T → Prop} (H : gm_sub (hh_tg h a0) 4 = true ∧ (∀ h2, h2 = hh_wr h a0 8 r_1 → (gm_G 245 0 [some (.ref a0), some (va_rf r_1), some (.int x2)] [] h2 (pV (fun h3 => Q (.inl none) h3) (fun e4 h5 => hh_tg h5 e4 = 21 ∧ Q (.inr e4) h5))))) : gm_G 355 0 [some (.ref a0), some (va_rf r_1), some (.int x2)] [] h Q := by
  refine g_aload (r := some _) rfl rfl rfl (pc' := 1) ?_
  refine g_aload (r := _) rfl rfl rfl (pc' := 2) ?_
  obtain ⟨ht1, H⟩ := H
  refine g_putR rfl rfl rfl rfl ht1  (pc' := 5) rfl ?_
  replace H := H _ rfl
  refine g_aload (r := some _) rfl rfl rfl (pc' := 6) ?_
  refine g_aload (r := _) rfl rfl rfl (pc' := 7) ?_
  refine g_iload rfl rfl rfl (pc' := 8) ?_
  refine g_call rfl (y := 245) (n := 3) (pc' := 11) (fun _ => rfl) (by cases r_1 <;> rfl) rfl ⟨(Nat.le_of_ble_eq_true rfl), (Nat.le_of_ble_eq_true rfl), (Nat.le_of_ble_eq_true rfl)⟩ rfl (gm_G.mono H (pV_elim (fun h3 H' => ?_) (fun e4 h5 H => ?_)))
  · show gm_G _ 11 _ _ _ _
    replace H := H'
    clear H'
    exact g_return rfl H
  · exact H
