/-! STAGE 2, 7: the component, label by label (printed) -/
set_option maxRecDepth 20000 in
theorem w_578_23 {a0 : Nat} {x2 : Int32} {r_3 : Option Nat} {h : hh_T} {Q : Option Value ⊕ Nat → hh_T → Prop} (H : gm_G 578 28 [some (.ref a0), none, some (.int x2), some (va_rf r_3)] [.int (Int32.ofNat 1)] h Q) : gm_G 578 23 [some (.ref a0), none, some (.int x2), some (va_rf r_3)] [] h Q := by
  refine g_iconst rfl rfl rfl (pc' := 24) ?_
  refine g_goto rfl (pc' := 28) rfl ?_
  exact g_weak (show gm_Lle [some _, none, some _, some _] _ from ⟨rfl, ⟨rfl, ⟨rfl, trivial⟩⟩⟩) H
set_option maxRecDepth 20000 in
theorem w_578_28 {a0 : Nat} {x2 : Int32} {r_3 : Option Nat} {y0 : Int32} {h : hh_T} {Q : Option Value ⊕ Nat → hh_T → Prop} (H : gm_G 431 0 [some (.int y0), some (.int (Int32.ofInt (-3)))] [] h (pV (fun h1 => (¬ x2 = Int32.ofNat 0 → (gm_G 578 44 [some (.ref a0), none, some (.int x2), some (va_rf r_3)] [] h1 Q)) ∧ (x2 = Int32.ofNat 0 → (∃ a2, r_3 = some a2 ∧ (gm_sub (hh_tg h1 a2) 29 = true ∧ ((¬ Int32.ofNat 0 < (hh_i h1 a2 2) → (gm_G 578 49 [some (.ref a0), none, some (.int x2), some (.ref a2)] [.int (Int32.ofNat 0)] h1 Q)) ∧ (Int32.ofNat 0 < (hh_i h1 a2 2) → (gm_G 578 44 [some (.ref a0), none, some (.int x2), some (.ref a2)] [] h1 Q))))))) (fun e4 h5 => hh_tg h5 e4 = 21 ∧ gm_G 578 79 [some (.ref a0)] [.ref e4] h5 Q))) : gm_G 578 28 [some (.ref a0), none, some (.int x2), some (va_rf r_3)] [.int y0] h Q := by
  refine g_iconst rfl rfl rfl (pc' := 30) ?_
  refine g_call rfl (y := 431) (n := 2) (pc' := 33) (fun _ => rfl) rfl rfl ⟨(Nat.le_of_ble_eq_true rfl), (Nat.le_of_ble_eq_true rfl), (Nat.le_of_ble_eq_true rfl)⟩ rfl (gm_G.mono H (pV_elim (fun h1 H' => ?_) (fun e4 h5 H => ?_)))
  · show gm_G _ 33 _ _ _ _
    replace H := H'
    clear H'
    refine g_iload rfl rfl rfl (pc' := 34) ?_
    refine g_if_ne rfl (pc' := 37) (pt := 44) rfl rfl ⟨fun hc => ?_, fun hc => ?_⟩
    · replace H := H.1 hc
      exact g_weak (show gm_Lle [some _, none, some _, some _] _ from ⟨rfl, ⟨rfl, ⟨rfl, trivial⟩⟩⟩) H
    · replace H := H.2 hc
      refine g_aload (r := _) rfl rfl rfl (pc' := 38) ?_
      obtain ⟨a2, rfl, H⟩ := H
      obtain ⟨ht3, H⟩ := H
      refine g_getI rfl rfl rfl rfl ht3 (pc' := 41) rfl ?_
      refine g_if_le rfl (pc' := 44) (pt := 48) rfl rfl ⟨fun hc => ?_, fun hc => ?_⟩
      · replace H := H.1 hc
        refine g_iconst rfl rfl rfl (pc' := 49) ?_
        exact g_weak (show gm_Lle [some _, none, some _, some _] _ from ⟨rfl, ⟨rfl, ⟨rfl, trivial⟩⟩⟩) H
      · replace H := H.2 hc
        exact g_weak (show gm_Lle [some _, none, some _, some _] _ from ⟨rfl, ⟨rfl, ⟨rfl, trivial⟩⟩⟩) H
  · exact ⟨H.1, g_weak (show gm_Lle [some _] _ from ⟨rfl, trivial⟩) H.2⟩
set_option maxRecDepth 20000 in
theorem w_578_44 {a0 : Nat} {x2 : Int32} {r_3 : Option Nat} {h : hh_T} {Q : Option Value ⊕ Nat → hh_T → Prop} (H : gm_G 578 49 [some (.ref a0), none, some (.int x2), some (va_rf r_3)] [.int (Int32.ofNat 1)] h Q) : gm_G 578 44 [some (.ref a0), none, some (.int x2), some (va_rf r_3)] [] h Q := by
  refine g_iconst rfl rfl rfl (pc' := 45) ?_
  refine g_goto rfl (pc' := 49) rfl ?_
  exact g_weak (show gm_Lle [some _, none, some _, some _] _ from ⟨rfl, ⟨rfl, ⟨rfl, trivial⟩⟩⟩) H
set_option maxRecDepth 20000 in
theorem w_578_49 {a0 : Nat} {x2 : Int32} {r_3 : Option Nat} {y0 : Int32} {h : hh_T} {Q : Option Value ⊕ Nat → hh_T → Prop} (H : gm_G 452 0 [some (.int y0)] [] h (pV (fun h1 => ∃ a2, r_3 = some a2 ∧ (gm_sub (hh_tg h1 a2) 29 = true ∧ ((x2 = Int32.ofNat 0 → (gm_G 578 66 [some (.ref a0), none, none, some (.ref a2)] [.int (Int32.ofInt (-1)), .int (hh_i h1 a2 2), .ref a2] h1 Q)) ∧ (¬ x2 = Int32.ofNat 0 → (gm_G 578 66 [some (.ref a0), none, none, some (.ref a2)] [.int (Int32.ofNat 1), .int (hh_i h1 a2 2), .ref a2] h1 Q))))) (fun e4 h5 => hh_tg h5 e4 = 21 ∧ gm_G 578 79 [some (.ref a0)] [.ref e4] h5 Q))) : gm_G 578 49 [some (.ref a0), none, some (.int x2), some (va_rf r_3)] [.int y0] h Q := by
  refine g_call rfl (y := 452) (n := 1) (pc' := 52) (fun _ => rfl) rfl rfl ⟨(Nat.le_of_ble_eq_true rfl), (Nat.le_of_ble_eq_true rfl), (Nat.le_of_ble_eq_true rfl)⟩ rfl (gm_G.mono H (pV_elim (fun h1 H' => ?_) (fun e4 h5 H => ?_)))
  · show gm_G _ 52 _ _ _ _
    replace H := H'
    clear H'
    refine g_aload (r := _) rfl rfl rfl (pc' := 53) ?_
    refine g_dup_a (r := _) rfl rfl (pc' := 54) ?_
    obtain ⟨a2, rfl, H⟩ := H
    obtain ⟨ht3, H⟩ := H
    refine g_getI rfl rfl rfl rfl ht3 (pc' := 57) rfl ?_
    refine g_iload rfl rfl rfl (pc' := 58) ?_
    refine g_if_eq rfl (pc' := 61) (pt := 65) rfl rfl ⟨fun hc => ?_, fun hc => ?_⟩
    · replace H := H.1 hc
      refine g_iconst rfl rfl rfl (pc' := 66) ?_
      exact g_weak (show gm_Lle [some _, none, none, some _] _ from ⟨rfl, ⟨rfl, trivial⟩⟩) H
    · replace H := H.2 hc
      refine g_iconst rfl rfl rfl (pc' := 62) ?_
      refine g_goto rfl (pc' := 66) rfl ?_
      exact g_weak (show gm_Lle [some _, none, none, some _] _ from ⟨rfl, ⟨rfl, trivial⟩⟩) H
  · exact ⟨H.1, g_weak (show gm_Lle [some _] _ from ⟨rfl, trivial⟩) H.2⟩
set_option maxRecDepth 20000 in
theorem w_578_66 {a0 : Nat} {r_3 : Option Nat} {y0 : Int32} {y1 : Int32} {q2 : Option Nat} {h : hh_T} {Q : Option Value ⊕ Nat → hh_T → Prop} (H : ∃ a1, q2 = some a1 ∧ (gm_sub (hh_tg h a1) 29 = true ∧ (∀ h3, h3 = hh_wi h a1 2 (y1 + y0) → (∃ a4, r_3 = some a4 ∧ (gm_sub (hh_tg h3 a4) 29 = true ∧ (hh_tg h3 a0 = 1 ∧ (gm_G 565 0 [some (.ref a0), some (.int (hh_i h3 a4 2))] [] h3 (pI (fun v8 h7 => Q (.inl (some (.int v8))) h7) (fun e9 h10 => hh_tg h10 e9 = 21 ∧ gm_G 578 79 [some (.ref a0)] [.ref e9] h10 Q))))))))) : gm_G 578 66 [some (.ref a0), none, none, some (va_rf r_3)] [.int y0, .int y1, va_rf q2] h Q := by
  refine g_iadd rfl rfl (pc' := 67) ?_
  obtain ⟨a1, rfl, H⟩ := H
  obtain ⟨ht2, H⟩ := H
  refine g_putI rfl rfl rfl rfl ht2  (pc' := 70) rfl ?_
  replace H := H _ rfl
  refine g_aload (r := some _) rfl rfl rfl (pc' := 71) ?_
  refine g_aload (r := _) rfl rfl rfl (pc' := 72) ?_
  obtain ⟨a4, rfl, H⟩ := H
  obtain ⟨ht5, H⟩ := H
  refine g_getI rfl rfl rfl rfl ht5 (pc' := 75) rfl ?_
  obtain ⟨ht6, H⟩ := H
  refine g_call rfl (y := 565) (n := 2) (pc' := 78) (g_vt ht6 rfl rfl) rfl rfl ⟨(Nat.le_of_ble_eq_true rfl), (Nat.le_of_ble_eq_true rfl), (Nat.le_of_ble_eq_true rfl)⟩ rfl (gm_G.mono H (pI_elim (fun v8 h7 H' => ?_) (fun e9 h10 H => ?_)))
  · show gm_G _ 78 _ _ _ _
    replace H := H'
    clear H'
    exact g_ireturn rfl (Or.inl rfl) H
  · exact ⟨H.1, g_weak (show gm_Lle [some _] _ from ⟨rfl, trivial⟩) H.2⟩
set_option maxRecDepth 20000 in
theorem w_578_79 {a0 : Nat} {ex : Nat} {h : hh_T} {Q : Option Value ⊕ Nat → hh_T → Prop} (H : hh_tg h a0 = 1 ∧ (gm_G 1 0 [some (.ref a0), some (.ref ex)] [] h (pI (fun v3 h2 => Q (.inl (some (.int v3))) h2) (fun e4 h5 => hh_tg h5 e4 = 21 ∧ Q (.inr e4) h5)))) : gm_G 578 79 [some (.ref a0)] [.ref ex] h Q := by
  refine g_astore (r := some _) rfl rfl rfl (pc' := 80) ?_
  refine g_aload (r := some _) rfl rfl rfl (pc' := 81) ?_
  refine g_aload (r := some _) rfl rfl rfl (pc' := 82) ?_
  obtain ⟨ht1, H⟩ := H
  refine g_call rfl (y := 1) (n := 2) (pc' := 85) (g_vt ht1 rfl rfl) rfl rfl ⟨(Nat.le_of_ble_eq_true rfl), (Nat.le_of_ble_eq_true rfl), (Nat.le_of_ble_eq_true rfl)⟩ rfl (gm_G.mono H (pI_elim (fun v3 h2 H' => ?_) (fun e4 h5 H => ?_)))
  · show gm_G _ 85 _ _ _ _
    replace H := H'
    clear H'
    exact g_ireturn rfl (Or.inl rfl) H
  · exact H
set_option maxRecDepth 20000 in
theorem w_579_0 {a0 : Nat} {r_1 : Option Nat} {h : hh_T} {Q : Option Value ⊕ Nat → hh_T → Prop} (H : gm_G 579 2 [some (.ref a0), some (va_rf r_1), some (.int (Int32.ofNat 0))] [] h Q) : gm_G 579 0 [some (.ref a0), some (va_rf r_1)] [] h Q := by
  refine g_iconst rfl rfl rfl (pc' := 1) ?_
  refine g_istore rfl gm_sto_rf1 rfl (pc' := 2) ?_
  exact g_weak (show gm_Lle [some _, some _, some _] _ from ⟨rfl, ⟨rfl, ⟨rfl, trivial⟩⟩⟩) H
set_option maxRecDepth 20000 in
theorem w_579_2 {a0 : Nat} {r_1 : Option Nat} {x2 : Int32} {h : hh_T} {Q : Option Value ⊕ Nat → hh_T → Prop} (H : ∃ a1, r_1 = some a1 ∧ (gm_sub (hh_tg h a1) 31 = true ∧ ((¬ x2 < (hh_i h a1 2) → (Q (.inl none) h)) ∧ (x2 < (hh_i h a1 2) → (gm_sub (hh_tg h a0) 0 = true ∧ (∀ r4, r4 = hh_r h a0 7 → (∀ r5, r5 = hh_r h a1 4 → (∃ a6, r5 = some a6 ∧ ((hh_tg h a6 = 100 ∨ hh_tg h a6 = 105) ∧ (∃ n7, gm_ix x2 n7 (hh_ln h a6) ∧ (∃ a9, r4 = some a9 ∧ ((hh_tg h a9 = 104 ∨ 200 ≤ hh_tg h a9) ∧ (∃ n10, gm_ix (hh_i h a6 n7) n10 (hh_ln h a9) ∧ (∀ r12, r12 = hh_r h a9 n10 → (∀ r13, r13 = hh_r h a1 5 → (∃ a14, r13 = some a14 ∧ ((hh_tg h a14 = 100 ∨ hh_tg h a14 = 105) ∧ (∃ n15, gm_ix x2 n15 (hh_ln h a14) ∧ (∀ r17, r17 = hh_r h a0 19 → (∃ a18, r12 = some a18 ∧ ((hh_tg h a18 = 5 ∧ (gm_G 570 0 [some (.ref a18), some (.int (hh_i h a14 n15)), some (.int (hh_i h a1 1)), some (va_rf r17), some (.int (Int32.ofNat 1))] [] h (pV (fun h19 => gm_G 579 2 [some (.ref a0), some (.ref a1), some (.int (x2 + (Int32.ofNat 1)))] [] h19 Q) (fun e20 h21 => hh_tg h21 e20 = 21 ∧ Q (.inr e20) h21)))) ∨ (hh_tg h a18 = 7 ∧ (gm_G 571 0 [some (.ref a18), some (.int (hh_i h a14 n15)), some (.int (hh_i h a1 1)), some (va_rf r17), some (.int (Int32.ofNat 1))] [] h (pV (fun h22 => gm_G 579 2 [some (.ref a0), some (.ref a1), some (.int (x2 + (Int32.ofNat 1)))] [] h22 Q) (fun e23 h24 => hh_tg h24 e23 = 21 ∧ Q (.inr e23) h24))))))))))))))))))))))))) : gm_G 579 2 [some (.ref a0), some (va_rf r_1), some (.int x2)] [] h Q := by
  refine g_iload rfl rfl rfl (pc' := 3) ?_
  refine g_aload (r := _) rfl rfl rfl (pc' := 4) ?_
  obtain ⟨a1, rfl, H⟩ := H
  obtain ⟨ht2, H⟩ := H
  refine g_getI rfl rfl rfl rfl ht2 (pc' := 7) rfl ?_
  refine g_ic_ge rfl (pc' := 10) (pt := 45) rfl rfl ⟨fun hc => ?_, fun hc => ?_⟩
  · replace H := H.1 hc
    exact g_return rfl H
  · replace H := H.2 hc
    refine g_aload (r := some _) rfl rfl rfl (pc' := 11) ?_
    obtain ⟨ht3, H⟩ := H
    refine g_getRv rfl rfl rfl rfl ht3 (pc' := 14) rfl (fun r4 hr4 => ?_)
    replace H := H r4 hr4
    refine g_aload (r := some _) rfl rfl rfl (pc' := 15) ?_
    refine g_getRv rfl rfl rfl rfl ht2 (pc' := 18) rfl (fun r5 hr5 => ?_)
    replace H := H r5 hr5
    refine g_iload rfl rfl rfl (pc' := 19) ?_
    obtain ⟨a6, rfl, H⟩ := H
    obtain ⟨ht8, H⟩ := H
    obtain ⟨n7, hn7, H⟩ := H
    refine g_iaload rfl ht8 hn7 (pc' := 20) rfl ?_
    obtain ⟨a9, rfl, H⟩ := H
    obtain ⟨ht11, H⟩ := H
    obtain ⟨n10, hn10, H⟩ := H
    refine g_aaloadv rfl ht11 hn10 (pc' := 21) rfl (fun r12 hr12 => ?_)
    replace H := H r12 hr12
    refine g_aload (r := some _) rfl rfl rfl (pc' := 22) ?_
    refine g_getRv rfl rfl rfl rfl ht2 (pc' := 25) rfl (fun r13 hr13 => ?_)
    replace H := H r13 hr13
    refine g_iload rfl rfl rfl (pc' := 26) ?_
    obtain ⟨a14, rfl, H⟩ := H
    obtain ⟨ht16, H⟩ := H
    obtain ⟨n15, hn15, H⟩ := H
    refine g_iaload rfl ht16 hn15 (pc' := 27) rfl ?_
    refine g_aload (r := some _) rfl rfl rfl (pc' := 28) ?_
    refine g_getI rfl rfl rfl rfl ht2 (pc' := 31) rfl ?_
    refine g_aload (r := some _) rfl rfl rfl (pc' := 32) ?_
    refine g_getRv rfl rfl rfl rfl ht3 (pc' := 35) rfl (fun r17 hr17 => ?_)
    replace H := H r17 hr17
    refine g_iconst rfl rfl rfl (pc' := 36) ?_
    obtain ⟨a18, rfl, H⟩ := H
    rcases H with ⟨ht, H⟩ | ⟨ht, H⟩
    · refine g_call rfl (y := 570) (n := 5) (pc' := 39) (g_vt ht rfl rfl) (by cases r17 <;> rfl) rfl ⟨(Nat.le_of_ble_eq_true rfl), (Nat.le_of_ble_eq_true rfl), (Nat.le_of_ble_eq_true rfl)⟩ rfl (gm_G.mono H (pV_elim (fun h19 H' => ?_) (fun e20 h21 H => ?_)))
      · show gm_G _ 39 _ _ _ _
        replace H := H'
        clear H'
        refine g_iinc (c := (Int32.ofNat 1)) rfl rfl rfl rfl rfl (pc' := 42) ?_
        refine g_goto rfl (pc' := 2) rfl ?_
        exact g_weak (show gm_Lle [some _, some _, some _] _ from ⟨rfl, ⟨rfl, ⟨rfl, trivial⟩⟩⟩) H
      · exact H
    · refine g_call rfl (y := 571) (n := 5) (pc' := 39) (g_vt ht rfl rfl) (by cases r17 <;> rfl) rfl ⟨(Nat.le_of_ble_eq_true rfl), (Nat.le_of_ble_eq_true rfl), (Nat.le_of_ble_eq_true rfl)⟩ rfl (gm_G.mono H (pV_elim (fun h22 H' => ?_) (fun e23 h24 H => ?_)))
      · show gm_G _ 39 _ _ _ _
        replace H := H'
        clear H'
        refine g_iinc (c := (Int32.ofNat 1)) rfl rfl rfl rfl rfl (pc' := 42) ?_
        refine g_goto rfl (pc' := 2) rfl ?_
        exact g_weak (show gm_Lle [some _, some _, some _] _ from ⟨rfl, ⟨rfl, ⟨rfl, trivial⟩⟩⟩) H
      · exact H
set_option maxRecDepth 20000 in
theorem w_580_0 {a0 : Nat} {r_1 : Option Nat} {h : hh_T} {Q : Option Value ⊕ Nat → hh_T → Prop} (H : gm_sub (hh_tg h a0) 0 = true ∧ (∀ r2, r2 = hh_r h a0 33 → (∃ a3, r2 = some a3 ∧ (hh_tg h a3 = 23 ∧ (gm_G 311 0 [some (.ref a3), some (va_rf r_1), some (.int (Int32.ofNat 4))] [] h (pI (fun v6 h5 => (v6 = (Int32.ofNat 2) → (gm_G 580 28 [some (.ref a0), some (va_rf r_1)] [] h5 Q)) ∧ (¬ v6 = (Int32.ofNat 2) → (gm_sub (hh_tg h5 a0) 0 = true ∧ (∀ r8, r8 = hh_r h5 a0 49 → (∃ a9, r_1 = some a9 ∧ (gm_sub (hh_tg h5 a9) 23 = true ∧ (∃ a11, r8 = some a11 ∧ (hh_tg h5 a11 = 14 ∧ (gm_G 258 0 [some (.ref a11), some (.int (hh_i h5 a9 0))] [] h5 (pR (fun r14 h13 => hh_tg h13 a0 = 1 ∧ (gm_G 567 0 [some (.ref a0), some (va_rf r14)] [] h13 (pV (fun h16 => gm_G 580 28 [some (.ref a0), some (.ref a9)] [] h16 Q) (fun e17 h18 => hh_tg h18 e17 = 21 ∧ Q (.inr e17) h18)))) (fun e19 h20 => hh_tg h20 e19 = 21 ∧ Q (.inr e19) h20))))))))))) (fun e21 h22 => hh_tg h22 e21 = 21 ∧ Q (.inr e21) h22))))))) : gm_G 580 0 [some (.ref a0), some (va_rf r_1)] [] h Q := by
  refine g_aload (r := some _) rfl rfl rfl (pc' := 1) ?_
  obtain ⟨ht1, H⟩ := H
  refine g_getRv rfl rfl rfl rfl ht1 (pc' := 4) rfl (fun r2 hr2 => ?_)
  replace H := H r2 hr2
  refine g_aload (r := _) rfl rfl rfl (pc' := 5) ?_
  refine g_iconst rfl rfl rfl (pc' := 6) ?_
  obtain ⟨a3, rfl, H⟩ := H
  obtain ⟨ht4, H⟩ := H
  refine g_call rfl (y := 311) (n := 3) (pc' := 9) (g_vt ht4 rfl rfl) (by cases r_1 <;> rfl) rfl ⟨(Nat.le_of_ble_eq_true rfl), (Nat.le_of_ble_eq_true rfl), (Nat.le_of_ble_eq_true rfl)⟩ rfl (gm_G.mono H (pI_elim (fun v6 h5 H' => ?_) (fun e21 h22 H => ?_)))
  · show gm_G _ 9 _ _ _ _
    replace H := H'
    clear H'
    refine g_iconst rfl rfl rfl (pc' := 10) ?_
    refine g_ic_eq rfl (pc' := 13) (pt := 28) rfl rfl ⟨fun hc => ?_, fun hc => ?_⟩
    · replace H := H.1 hc
      exact g_weak (show gm_Lle [some _, some _] _ from ⟨rfl, ⟨rfl, trivial⟩⟩) H
    · replace H := H.2 hc
      refine g_aload (r := some _) rfl rfl rfl (pc' := 14) ?_
      refine g_aload (r := some _) rfl rfl rfl (pc' := 15) ?_
      obtain ⟨ht7, H⟩ := H
      refine g_getRv rfl rfl rfl rfl ht7 (pc' := 18) rfl (fun r8 hr8 => ?_)
      replace H := H r8 hr8
      refine g_aload (r := _) rfl rfl rfl (pc' := 19) ?_
      obtain ⟨a9, rfl, H⟩ := H
      obtain ⟨ht10, H⟩ := H
      refine g_getI rfl rfl rfl rfl ht10 (pc' := 22) rfl ?_
      obtain ⟨a11, rfl, H⟩ := H
      obtain ⟨ht12, H⟩ := H
      refine g_call rfl (y := 258) (n := 2) (pc' := 25) (g_vt ht12 rfl rfl) rfl rfl ⟨(Nat.le_of_ble_eq_true rfl), (Nat.le_of_ble_eq_true rfl), (Nat.le_of_ble_eq_true rfl)⟩ rfl (gm_G.mono H (pR_elim (fun r14 h13 H' => ?_) (fun e19 h20 H => ?_)))
      · show gm_G _ 25 _ _ _ _
        replace H := H'
        clear H'
        obtain ⟨ht15, H⟩ := H
        refine g_call rfl (y := 567) (n := 2) (pc' := 28) (g_vt ht15 rfl rfl) (by cases r14 <;> rfl) rfl ⟨(Nat.le_of_ble_eq_true rfl), (Nat.le_of_ble_eq_true rfl), (Nat.le_of_ble_eq_true rfl)⟩ rfl (gm_G.mono H (pV_elim (fun h16 H' => ?_) (fun e17 h18 H => ?_)))
        · show gm_G _ 28 _ _ _ _
          replace H := H'
          clear H'
          exact g_weak (show gm_Lle [some _, some _] _ from ⟨rfl, ⟨rfl, trivial⟩⟩) H
        · exact H
      · exact H
  · exact H
set_option maxRecDepth 20000 in
theorem w_580_28 {a0 : Nat} {r_1 : Option Nat} {h : hh_T} {Q : Option Value ⊕ Nat → hh_T → Prop} (H : gm_sub (hh_tg h a0) 0 = true ∧ (∀ r2, r2 = hh_r h a0 49 → (∃ a3, r_1 = some a3 ∧ (gm_sub (hh_tg h a3) 23 = true ∧ (∃ a5, r2 = some a5 ∧ (hh_tg h a5 = 14 ∧ (gm_G 258 0 [some (.ref a5), some (.int (hh_i h a3 0))] [] h (pR (fun r8 h7 => ∃ a9, r8 = some a9 ∧ (gm_sub (hh_tg h7 a9) 30 = true ∧ (Q (.inl (some (.int (hh_i h7 a9 2)))) h7))) (fun e11 h12 => hh_tg h12 e11 = 21 ∧ Q (.inr e11) h12))))))))) : gm_G 580 28 [some (.ref a0), some (va_rf r_1)] [] h Q := by
  refine g_aload (r := some _) rfl rfl rfl (pc' := 29) ?_
  obtain ⟨ht1, H⟩ := H
  refine g_getRv rfl rfl rfl rfl ht1 (pc' := 32) rfl (fun r2 hr2 => ?_)
  replace H := H r2 hr2
  refine g_aload (r := _) rfl rfl rfl (pc' := 33) ?_
  obtain ⟨a3, rfl, H⟩ := H
  obtain ⟨ht4, H⟩ := H
  refine g_getI rfl rfl rfl rfl ht4 (pc' := 36) rfl ?_
  obtain ⟨a5, rfl, H⟩ := H
  obtain ⟨ht6, H⟩ := H
  refine g_call rfl (y := 258) (n := 2) (pc' := 39) (g_vt ht6 rfl rfl) rfl rfl ⟨(Nat.le_of_ble_eq_true rfl), (Nat.le_of_ble_eq_true rfl), (Nat.le_of_ble_eq_true rfl)⟩ rfl (gm_G.mono H (pR_elim (fun r8 h7 H' => ?_) (fun e11 h12 H => ?_)))
  · show gm_G _ 39 _ _ _ _
    replace H := H'
    clear H'
    obtain ⟨a9, rfl, H⟩ := H
    obtain ⟨ht10, H⟩ := H
    refine g_getI rfl rfl rfl rfl ht10 (pc' := 42) rfl ?_
    exact g_ireturn rfl (Or.inl rfl) H
  · exact H
set_option maxRecDepth 20000 in
theorem w_581_0 {a0 : Nat} {x1 : Int32} {h : hh_T} {Q : Option Value ⊕ Nat → hh_T → Prop} (H : hh_tg h a0 = 1 ∧ (gm_G 456 0 [some (.ref a0)] [] h (pV (fun h2 => hh_tg h2 a0 = 1 ∧ (gm_G 453 0 [some (.ref a0), some (.int x1)] [] h2 (pR (fun r5 h4 => ∃ a6, r5 = some a6 ∧ (gm_sub (hh_tg h4 a6) 23 = true ∧ (((hh_i h4 a6 3) = (Int32.ofInt (-2)) → (gm_G 581 24 [some (.ref a0), some (.int x1), some (.ref a6)] [.int (Int32.ofNat 0)] h4 Q)) ∧ (¬ (hh_i h4 a6 3) = (Int32.ofInt (-2)) → (gm_G 581 24 [some (.ref a0), some (.int x1), some (.ref a6)] [.int (Int32.ofNat 1)] h4 Q))))) (fun e8 h9 => hh_tg h9 e8 = 21 ∧ gm_G 581 194 [some (.ref a0)] [.ref e8] h9 Q)))) (fun e10 h11 => hh_tg h11 e10 = 21 ∧ gm_G 581 194 [some (.ref a0)] [.ref e10] h11 Q)))) : gm_G 581 0 [some (.ref a0), some (.int x1)] [] h Q := by
  refine g_aload (r := some _) rfl rfl rfl (pc' := 1) ?_
  obtain ⟨ht1, H⟩ := H
  refine g_call rfl (y := 456) (n := 1) (pc' := 4) (g_vt ht1 rfl rfl) rfl rfl ⟨(Nat.le_of_ble_eq_true rfl), (Nat.le_of_ble_eq_true rfl), (Nat.le_of_ble_eq_true rfl)⟩ rfl (gm_G.mono H (pV_elim (fun h2 H' => ?_) (fun e10 h11 H => ?_)))
  · show gm_G _ 4 _ _ _ _
    replace H := H'
    clear H'
    refine g_aload (r := some _) rfl rfl rfl (pc' := 5) ?_
    refine g_iload rfl rfl rfl (pc' := 6) ?_
    obtain ⟨ht3, H⟩ := H
    refine g_call rfl (y := 453) (n := 2) (pc' := 9) (g_vt ht3 rfl rfl) rfl rfl ⟨(Nat.le_of_ble_eq_true rfl), (Nat.le_of_ble_eq_true rfl), (Nat.le_of_ble_eq_true rfl)⟩ rfl (gm_G.mono H (pR_elim (fun r5 h4 H' => ?_) (fun e8 h9 H => ?_)))
    · show gm_G _ 9 _ _ _ _
      replace H := H'
      clear H'
      refine g_astore (r := _) rfl rfl rfl (pc' := 10) ?_
      refine g_aload (r := _) rfl rfl rfl (pc' := 11) ?_
      obtain ⟨a6, rfl, H⟩ := H
      obtain ⟨ht7, H⟩ := H
      refine g_getI rfl rfl rfl rfl ht7 (pc' := 14) rfl ?_
      refine g_iconst rfl rfl rfl (pc' := 16) ?_
      refine g_ic_eq rfl (pc' := 19) (pt := 23) rfl rfl ⟨fun hc => ?_, fun hc => ?_⟩
      · replace H := H.1 hc
        refine g_iconst rfl rfl rfl (pc' := 24) ?_
        exact g_weak (show gm_Lle [some _, some _, some _] _ from ⟨rfl, ⟨rfl, ⟨rfl, trivial⟩⟩⟩) H
      · replace H := H.2 hc
        refine g_iconst rfl rfl rfl (pc' := 20) ?_
        refine g_goto rfl (pc' := 24) rfl ?_
        exact g_weak (show gm_Lle [some _, some _, some _] _ from ⟨rfl, ⟨rfl, ⟨rfl, trivial⟩⟩⟩) H
    · exact ⟨H.1, g_weak (show gm_Lle [some _] _ from ⟨rfl, trivial⟩) H.2⟩
  · exact ⟨H.1, g_weak (show gm_Lle [some _] _ from ⟨rfl, trivial⟩) H.2⟩
set_option maxRecDepth 20000 in
theorem w_581_24 {a0 : Nat} {x1 : Int32} {r_2 : Option Nat} {y0 : Int32} {h : hh_T} {Q : Option Value ⊕ Nat → hh_T → Prop} (H : gm_G 431 0 [some (.int y0), some (.int (Int32.ofInt (-10)))] [] h (pV (fun h1 => gm_sub (hh_tg h1 a0) 0 = true ∧ (∀ r3, r3 = hh_r h1 a0 33 → (∀ r4, r4 = hh_r h1 a0 33 → (∃ a5, r_2 = some a5 ∧ (gm_sub (hh_tg h1 a5) 23 = true ∧ (∃ a7, r4 = some a7 ∧ (hh_tg h1 a7 = 23 ∧ (gm_G 179 0 [some (.ref a7), some (.int (hh_i h1 a5 3))] [] h1 (pR (fun r10 h9 => ∃ a11, r10 = some a11 ∧ (gm_sub (hh_tg h9 a11) 29 = true ∧ (∃ a13, r3 = some a13 ∧ (hh_tg h9 a13 = 23 ∧ (gm_G 178 0 [some (.ref a13), some (.int (hh_i h9 a11 1))] [] h9 (pR (fun r16 h15 => gm_sub (hh_tg h15 a5) 23 = true ∧ (∃ a18, r16 = some a18 ∧ (hh_tg h15 a18 = 24 ∧ (gm_G 185 0 [some (.ref a18), some (.int (hh_i h15 a5 3))] [] h15 (pI (fun v21 h20 => gm_G 581 66 [some (.ref a0), some (.int x1), some (.ref a5), some (.ref a18), some (.int (v21 + (Int32.ofNat 1))), some (.int (Int32.ofNat 0))] [] h20 Q) (fun e22 h23 => hh_tg h23 e22 = 21 ∧ gm_G 581 194 [some (.ref a0)] [.ref e22] h23 Q)))))) (fun e24 h25 => hh_tg h25 e24 = 21 ∧ gm_G 581 194 [some (.ref a0)] [.ref e24] h25 Q))))))) (fun e26 h27 => hh_tg h27 e26 = 21 ∧ gm_G 581 194 [some (.ref a0)] [.ref e26] h27 Q)))))))))) (fun e28 h29 => hh_tg h29 e28 = 21 ∧ gm_G 581 194 [some (.ref a0)] [.ref e28] h29 Q))) : gm_G 581 24 [some (.ref a0), some (.int x1), some (va_rf r_2)] [.int y0] h Q := by
  refine g_iconst rfl rfl rfl (pc' := 26) ?_
  refine g_call rfl (y := 431) (n := 2) (pc' := 29) (fun _ => rfl) rfl rfl ⟨(Nat.le_of_ble_eq_true rfl), (Nat.le_of_ble_eq_true rfl), (Nat.le_of_ble_eq_true rfl)⟩ rfl (gm_G.mono H (pV_elim (fun h1 H' => ?_) (fun e28 h29 H => ?_)))
  · show gm_G _ 29 _ _ _ _
    replace H := H'
    clear H'
    refine g_aload (r := some _) rfl rfl rfl (pc' := 30) ?_
    obtain ⟨ht2, H⟩ := H
    refine g_getRv rfl rfl rfl rfl ht2 (pc' := 33) rfl (fun r3 hr3 => ?_)
    replace H := H r3 hr3
    refine g_aload (r := some _) rfl rfl rfl (pc' := 34) ?_
    refine g_getRv rfl rfl rfl rfl ht2 (pc' := 37) rfl (fun r4 hr4 => ?_)
    replace H := H r4 hr4
    refine g_aload (r := _) rfl rfl rfl (pc' := 38) ?_
    obtain ⟨a5, rfl, H⟩ := H
    obtain ⟨ht6, H⟩ := H
    refine g_getI rfl rfl rfl rfl ht6 (pc' := 41) rfl ?_
    obtain ⟨a7, rfl, H⟩ := H
    obtain ⟨ht8, H⟩ := H
    refine g_call rfl (y := 179) (n := 2) (pc' := 44) (g_vt ht8 rfl rfl) rfl rfl ⟨(Nat.le_of_ble_eq_true rfl), (Nat.le_of_ble_eq_true rfl), (Nat.le_of_ble_eq_true rfl)⟩ rfl (gm_G.mono H (pR_elim (fun r10 h9 H' => ?_) (fun e26 h27 H => ?_)))
    · show gm_G _ 44 _ _ _ _
      replace H := H'
      clear H'
      obtain ⟨a11, rfl, H⟩ := H
      obtain ⟨ht12, H⟩ := H
      refine g_getI rfl rfl rfl rfl ht12 (pc' := 47) rfl ?_
      obtain ⟨a13, rfl, H⟩ := H
      obtain ⟨ht14, H⟩ := H
      refine g_call rfl (y := 178) (n := 2) (pc' := 50) (g_vt ht14 rfl rfl) rfl rfl ⟨(Nat.le_of_ble_eq_true rfl), (Nat.le_of_ble_eq_true rfl), (Nat.le_of_ble_eq_true rfl)⟩ rfl (gm_G.mono H (pR_elim (fun r16 h15 H' => ?_) (fun e24 h25 H => ?_)))
      · show gm_G _ 50 _ _ _ _
        replace H := H'
        clear H'
        refine g_astore (r := _) rfl rfl rfl (pc' := 51) ?_
        refine g_aload (r := _) rfl rfl rfl (pc' := 52) ?_
        refine g_aload (r := some _) rfl rfl rfl (pc' := 53) ?_
        obtain ⟨ht17, H⟩ := H
        refine g_getI rfl rfl rfl rfl ht17 (pc' := 56) rfl ?_
        obtain ⟨a18, rfl, H⟩ := H
        obtain ⟨ht19, H⟩ := H
        refine g_call rfl (y := 185) (n := 2) (pc' := 59) (g_vt ht19 rfl rfl) rfl rfl ⟨(Nat.le_of_ble_eq_true rfl), (Nat.le_of_ble_eq_true rfl), (Nat.le_of_ble_eq_true rfl)⟩ rfl (gm_G.mono H (pI_elim (fun v21 h20 H' => ?_) (fun e22 h23 H => ?_)))
        · show gm_G _ 59 _ _ _ _
          replace H := H'
          clear H'
          refine g_iconst rfl rfl rfl (pc' := 60) ?_
          refine g_iadd rfl rfl (pc' := 61) ?_
          refine g_istore rfl rfl rfl (pc' := 63) ?_
          refine g_iconst rfl rfl rfl (pc' := 64) ?_
          refine g_istore rfl rfl rfl (pc' := 66) ?_
          exact g_weak (show gm_Lle [some _, some _, some _, some _, some _, some _] _ from ⟨rfl, ⟨rfl, ⟨rfl, ⟨rfl, ⟨rfl, ⟨rfl, trivial⟩⟩⟩⟩⟩⟩) H
        · exact ⟨H.1, g_weak (show gm_Lle [some _] _ from ⟨rfl, trivial⟩) H.2⟩
      · exact ⟨H.1, g_weak (show gm_Lle [some _] _ from ⟨rfl, trivial⟩) H.2⟩
    · exact ⟨H.1, g_weak (show gm_Lle [some _] _ from ⟨rfl, trivial⟩) H.2⟩
  · exact ⟨H.1, g_weak (show gm_Lle [some _] _ from ⟨rfl, trivial⟩) H.2⟩
set_option maxRecDepth 20000 in
theorem w_581_66 {a0 : Nat} {x1 : Int32} {r_2 : Option Nat} {r_3 : Option Nat} {x4 : Int32} {x5 : Int32} {h : hh_T} {Q : Option Value ⊕ Nat → hh_T → Prop} (H : (¬ x5 < x4 → (gm_G 581 120 [some (.ref a0), some (.int x1), some (va_rf r_2), some (va_rf r_3), some (.int x4), some (.int (Int32.ofNat 0))] [] h Q)) ∧ (x5 < x4 → (gm_sub (hh_tg h a0) 0 = true ∧ (∀ r2, r2 = hh_r h a0 33 → (∀ r3, r3 = hh_r h a0 33 → (∃ a4, r_3 = some a4 ∧ (gm_sub (hh_tg h a4) 23 = true ∧ (∀ r6, r6 = hh_r h a4 7 → (∃ a7, r6 = some a7 ∧ ((hh_tg h a7 = 100 ∨ hh_tg h a7 = 105) ∧ (∃ n8, gm_ix x5 n8 (hh_ln h a7) ∧ (∃ a10, r3 = some a10 ∧ (hh_tg h a10 = 23 ∧ (gm_G 179 0 [some (.ref a10), some (.int (hh_i h a7 n8))] [] h (pR (fun r13 h12 => ∃ a14, r13 = some a14 ∧ (gm_sub (hh_tg h12 a14) 29 = true ∧ (∃ a16, r2 = some a16 ∧ (hh_tg h12 a16 = 23 ∧ (gm_G 310 0 [some (.ref a16), some (va_rf r_2), some (.long (hh_j h12 a14 4)), none] [] h12 (pR (fun r19 h18 => (∀ a20, r19 = some a20 → (gm_G 581 106 [some (.ref a0), some (.int x1), some (va_rf r_2), some (.ref a4), some (.int x4), some (.int x5)] [.int (Int32.ofNat 0)] h18 Q)) ∧ (r19 = none → (gm_G 581 106 [some (.ref a0), some (.int x1), some (va_rf r_2), some (.ref a4), some (.int x4), some (.int x5)] [.int (Int32.ofNat 1)] h18 Q))) (fun e21 h22 => hh_tg h22 e21 = 21 ∧ gm_G 581 194 [some (.ref a0)] [.ref e21] h22 Q))))))) (fun e23 h24 => hh_tg h24 e23 = 21 ∧ gm_G 581 194 [some (.ref a0)] [.ref e23] h24 Q)))))))))))))))) : gm_G 581 66 [some (.ref a0), some (.int x1), some (va_rf r_2), some (va_rf r_3), some (.int x4), some (.int x5)] [] h Q := by
  refine g_iload rfl rfl rfl (pc' := 68) ?_
  refine g_iload rfl rfl rfl (pc' := 70) ?_
  refine g_ic_ge rfl (pc' := 73) (pt := 117) rfl rfl ⟨fun hc => ?_, fun hc => ?_⟩
  · replace H := H.1 hc
    refine g_iconst rfl rfl rfl (pc' := 118) ?_
    refine g_istore rfl rfl rfl (pc' := 120) ?_
    exact g_weak (show gm_Lle [some _, some _, some _, some _, some _, some _] _ from ⟨rfl, ⟨rfl, ⟨rfl, ⟨rfl, ⟨rfl, ⟨rfl, trivial⟩⟩⟩⟩⟩⟩) H
  · replace H := H.2 hc
    refine g_aload (r := some _) rfl rfl rfl (pc' := 74) ?_
    obtain ⟨ht1, H⟩ := H
    refine g_getRv rfl rfl rfl rfl ht1 (pc' := 77) rfl (fun r2 hr2 => ?_)
    replace H := H r2 hr2
    refine g_aload (r := _) rfl rfl rfl (pc' := 78) ?_
    refine g_aload (r := some _) rfl rfl rfl (pc' := 79) ?_
    refine g_getRv rfl rfl rfl rfl ht1 (pc' := 82) rfl (fun r3 hr3 => ?_)
    replace H := H r3 hr3
    refine g_aload (r := _) rfl rfl rfl (pc' := 83) ?_
    obtain ⟨a4, rfl, H⟩ := H
    obtain ⟨ht5, H⟩ := H
    refine g_getRv rfl rfl rfl rfl ht5 (pc' := 86) rfl (fun r6 hr6 => ?_)
    replace H := H r6 hr6
    refine g_iload rfl rfl rfl (pc' := 88) ?_
    obtain ⟨a7, rfl, H⟩ := H
    obtain ⟨ht9, H⟩ := H
    obtain ⟨n8, hn8, H⟩ := H
    refine g_iaload rfl ht9 hn8 (pc' := 89) rfl ?_
    obtain ⟨a10, rfl, H⟩ := H
    obtain ⟨ht11, H⟩ := H
    refine g_call rfl (y := 179) (n := 2) (pc' := 92) (g_vt ht11 rfl rfl) rfl rfl ⟨(Nat.le_of_ble_eq_true rfl), (Nat.le_of_ble_eq_true rfl), (Nat.le_of_ble_eq_true rfl)⟩ rfl (gm_G.mono H (pR_elim (fun r13 h12 H' => ?_) (fun e23 h24 H => ?_)))
    · show gm_G _ 92 _ _ _ _
      replace H := H'
      clear H'
      obtain ⟨a14, rfl, H⟩ := H
      obtain ⟨ht15, H⟩ := H
      refine g_getJ rfl rfl rfl rfl ht15 (pc' := 95) rfl ?_
      obtain ⟨a16, rfl, H⟩ := H
      obtain ⟨ht17, H⟩ := H
      refine g_call rfl (y := 310) (n := 3) (pc' := 98) (g_vt ht17 rfl rfl) (by cases r_2 <;> rfl) rfl ⟨(Nat.le_of_ble_eq_true rfl), (Nat.le_of_ble_eq_true rfl), (Nat.le_of_ble_eq_true rfl)⟩ rfl (gm_G.mono H (pR_elim (fun r19 h18 H' => ?_) (fun e21 h22 H => ?_)))
      · show gm_G _ 98 _ _ _ _
        replace H := H'
        clear H'
        refine g_ifnonnull rfl (pc' := 101) (pt := 105) rfl rfl ⟨fun a20 hc => ?_, fun hc => ?_⟩
        · replace H := H.1 a20 hc
          subst hc
          refine g_iconst rfl rfl rfl (pc' := 106) ?_
          exact g_weak (show gm_Lle [some _, some _, some _, some _, some _, some _] _ from ⟨rfl, ⟨rfl, ⟨rfl, ⟨rfl, ⟨rfl, ⟨rfl, trivial⟩⟩⟩⟩⟩⟩) H
        · replace H := H.2 hc
          subst hc
          refine g_iconst rfl rfl rfl (pc' := 102) ?_
          refine g_goto rfl (pc' := 106) rfl ?_
          exact g_weak (show gm_Lle [some _, some _, some _, some _, some _, some _] _ from ⟨rfl, ⟨rfl, ⟨rfl, ⟨rfl, ⟨rfl, ⟨rfl, trivial⟩⟩⟩⟩⟩⟩) H
      · exact ⟨H.1, g_weak (show gm_Lle [some _] _ from ⟨rfl, trivial⟩) H.2⟩
    · exact ⟨H.1, g_weak (show gm_Lle [some _] _ from ⟨rfl, trivial⟩) H.2⟩
set_option maxRecDepth 20000 in
theorem w_581_106 {a0 : Nat} {x1 : Int32} {r_2 : Option Nat} {r_3 : Option Nat} {x4 : Int32} {x5 : Int32} {y0 : Int32} {h : hh_T} {Q : Option Value ⊕ Nat → hh_T → Prop} (H : gm_G 431 0 [some (.int y0), some (.int (Int32.ofInt (-4)))] [] h (pV (fun h1 => gm_G 581 66 [some (.ref a0), some (.int x1), some (va_rf r_2), some (va_rf r_3), some (.int x4), some (.int (x5 + (Int32.ofNat 1)))] [] h1 Q) (fun e2 h3 => hh_tg h3 e2 = 21 ∧ gm_G 581 194 [some (.ref a0)] [.ref e2] h3 Q))) : gm_G 581 106 [some (.ref a0), some (.int x1), some (va_rf r_2), some (va_rf r_3), some (.int x4), some (.int x5)] [.int y0] h Q := by
  refine g_iconst rfl rfl rfl (pc' := 108) ?_
  refine g_call rfl (y := 431) (n := 2) (pc' := 111) (fun _ => rfl) rfl rfl ⟨(Nat.le_of_ble_eq_true rfl), (Nat.le_of_ble_eq_true rfl), (Nat.le_of_ble_eq_true rfl)⟩ rfl (gm_G.mono H (pV_elim (fun h1 H' => ?_) (fun e2 h3 H => ?_)))
  · show gm_G _ 111 _ _ _ _
    replace H := H'
    clear H'
    refine g_iinc (c := (Int32.ofNat 1)) rfl rfl rfl rfl rfl (pc' := 114) ?_
    refine g_goto rfl (pc' := 66) rfl ?_
    exact g_weak (show gm_Lle [some _, some _, some _, some _, some _, some _] _ from ⟨rfl, ⟨rfl, ⟨rfl, ⟨rfl, ⟨rfl, ⟨rfl, trivial⟩⟩⟩⟩⟩⟩) H
  · exact ⟨H.1, g_weak (show gm_Lle [some _] _ from ⟨rfl, trivial⟩) H.2⟩
set_option maxRecDepth 20000 in
theorem w_581_120 {a0 : Nat} {x1 : Int32} {r_2 : Option Nat} {r_3 : Option Nat} {x4 : Int32} {x5 : Int32} {h : hh_T} {Q : Option Value ⊕ Nat → hh_T → Prop} (H : (¬ x5 < x4 → (∃ a1, r_2 = some a1 ∧ (gm_sub (hh_tg h a1) 23 = true ∧ (∃ a3, r_3 = some a3 ∧ (gm_sub (hh_tg h a3) 23 = true ∧ (∀ h5, h5 = hh_wi h a1 3 (hh_i h a3 3) → (gm_G 581 181 [some (.ref a0), none, none, some (.ref a3), some (.int x4), some (.int (hh_i h a1 3))] [] h5 Q))))))) ∧ (x5 < x4 → (∃ a6, r_3 = some a6 ∧ (gm_sub (hh_tg h a6) 23 = true ∧ (∀ r8, r8 = hh_r h a6 7 → (∃ a9, r8 = some a9 ∧ ((hh_tg h a9 = 100 ∨ hh_tg h a9 = 105) ∧ (0 < hh_ln h a9 ∧ (hh_tg h a6 = 24 ∧ (gm_G 183 0 [some (.ref a6), some (.int (Int32.ofNat 0))] [] h (pV (fun h13 => ∃ a14, r_2 = some a14 ∧ (hh_tg h13 a14 = 24 ∧ (gm_G 186 0 [some (.ref a14), some (.int x5), some (.int (hh_i h a9 0))] [] h13 (pV (fun h16 => gm_sub (hh_tg h16 a0) 0 = true ∧ (∀ r18, r18 = hh_r h16 a0 33 → (∃ a19, r18 = some a19 ∧ (hh_tg h16 a19 = 23 ∧ (gm_G 179 0 [some (.ref a19), some (.int (hh_i h a9 0))] [] h16 (pR (fun r22 h21 => ∃ a23, r22 = some a23 ∧ (gm_sub (hh_tg h21 a23) 29 = true ∧ (∀ h25, h25 = hh_wi h21 a23 1 x1 → (gm_G 581 120 [some (.ref a0), some (.int x1), some (.ref a14), some (.ref a6), some (.int x4), some (.int (x5 + (Int32.ofNat 1)))] [] h25 Q)))) (fun e26 h27 => hh_tg h27 e26 = 21 ∧ gm_G 581 194 [some (.ref a0)] [.ref e26] h27 Q))))))) (fun e28 h29 => hh_tg h29 e28 = 21 ∧ gm_G 581 194 [some (.ref a0)] [.ref e28] h29 Q))))) (fun e30 h31 => hh_tg h31 e30 = 21 ∧ gm_G 581 194 [some (.ref a0)] [.ref e30] h31 Q)))))))))))) : gm_G 581 120 [some (.ref a0), some (.int x1), some (va_rf r_2), some (va_rf r_3), some (.int x4), some (.int x5)] [] h Q := by
  refine g_iload rfl rfl rfl (pc' := 122) ?_
  refine g_iload rfl rfl rfl (pc' := 124) ?_
  refine g_ic_ge rfl (pc' := 127) (pt := 167) rfl rfl ⟨fun hc => ?_, fun hc => ?_⟩
  · replace H := H.1 hc
    refine g_aload (r := _) rfl rfl rfl (pc' := 168) ?_
    obtain ⟨a1, rfl, H⟩ := H
    obtain ⟨ht2, H⟩ := H
    refine g_getI rfl rfl rfl rfl ht2 (pc' := 171) rfl ?_
    refine g_istore rfl rfl rfl (pc' := 173) ?_
    refine g_aload (r := some _) rfl rfl rfl (pc' := 174) ?_
    refine g_aload (r := _) rfl rfl rfl (pc' := 175) ?_
    obtain ⟨a3, rfl, H⟩ := H
    obtain ⟨ht4, H⟩ := H
    refine g_getI rfl rfl rfl rfl ht4 (pc' := 178) rfl ?_
    refine g_putI rfl rfl rfl rfl ht2  (pc' := 181) rfl ?_
    replace H := H _ rfl
    exact g_weak (show gm_Lle [some _, none, none, some _, some _, some _] _ from ⟨rfl, ⟨rfl, ⟨rfl, ⟨rfl, trivial⟩⟩⟩⟩) H
  · replace H := H.2 hc
    refine g_aload (r := _) rfl rfl rfl (pc' := 128) ?_
    obtain ⟨a6, rfl, H⟩ := H
    obtain ⟨ht7, H⟩ := H
    refine g_getRv rfl rfl rfl rfl ht7 (pc' := 131) rfl (fun r8 hr8 => ?_)
    replace H := H r8 hr8
    refine g_iconst rfl rfl rfl (pc' := 132) ?_
    obtain ⟨a9, rfl, H⟩ := H
    obtain ⟨ht11, H⟩ := H
    obtain ⟨hn10, H⟩ := H
    refine g_iaload rfl ht11 ⟨rfl, by decide, hn10⟩ (pc' := 133) rfl ?_
    refine g_istore rfl rfl rfl (pc' := 135) ?_
    refine g_aload (r := some _) rfl rfl rfl (pc' := 136) ?_
    refine g_iconst rfl rfl rfl (pc' := 137) ?_
    obtain ⟨ht12, H⟩ := H
    refine g_call rfl (y := 183) (n := 2) (pc' := 140) (g_vt ht12 rfl rfl) rfl rfl ⟨(Nat.le_of_ble_eq_true rfl), (Nat.le_of_ble_eq_true rfl), (Nat.le_of_ble_eq_true rfl)⟩ rfl (gm_G.mono H (pV_elim (fun h13 H' => ?_) (fun e30 h31 H => ?_)))
    · show gm_G _ 140 _ _ _ _
      replace H := H'
      clear H'
      refine g_aload (r := _) rfl rfl rfl (pc' := 141) ?_
      refine g_iload rfl rfl rfl (pc' := 143) ?_
      refine g_iload rfl rfl rfl (pc' := 145) ?_
      obtain ⟨a14, rfl, H⟩ := H
      obtain ⟨ht15, H⟩ := H
      refine g_call rfl (y := 186) (n := 3) (pc' := 148) (g_vt ht15 rfl rfl) rfl rfl ⟨(Nat.le_of_ble_eq_true rfl), (Nat.le_of_ble_eq_true rfl), (Nat.le_of_ble_eq_true rfl)⟩ rfl (gm_G.mono H (pV_elim (fun h16 H' => ?_) (fun e28 h29 H => ?_)))
      · show gm_G _ 148 _ _ _ _
        replace H := H'
        clear H'
        refine g_aload (r := some _) rfl rfl rfl (pc' := 149) ?_
        obtain ⟨ht17, H⟩ := H
        refine g_getRv rfl rfl rfl rfl ht17 (pc' := 152) rfl (fun r18 hr18 => ?_)
        replace H := H r18 hr18
        refine g_iload rfl rfl rfl (pc' := 154) ?_
        obtain ⟨a19, rfl, H⟩ := H
        obtain ⟨ht20, H⟩ := H
        refine g_call rfl (y := 179) (n := 2) (pc' := 157) (g_vt ht20 rfl rfl) rfl rfl ⟨(Nat.le_of_ble_eq_true rfl), (Nat.le_of_ble_eq_true rfl), (Nat.le_of_ble_eq_true rfl)⟩ rfl (gm_G.mono H (pR_elim (fun r22 h21 H' => ?_) (fun e26 h27 H => ?_)))
        · show gm_G _ 157 _ _ _ _
          replace H := H'
          clear H'
          refine g_iload rfl rfl rfl (pc' := 158) ?_
          obtain ⟨a23, rfl, H⟩ := H
          obtain ⟨ht24, H⟩ := H
          refine g_putI rfl rfl rfl rfl ht24  (pc' := 161) rfl ?_
          replace H := H _ rfl
          refine g_iinc (c := (Int32.ofNat 1)) rfl rfl rfl rfl rfl (pc' := 164) ?_
          refine g_goto rfl (pc' := 120) rfl ?_
          exact g_weak (show gm_Lle [some _, some _, some _, some _, some _, some _] _ from ⟨rfl, ⟨rfl, ⟨rfl, ⟨rfl, ⟨rfl, ⟨rfl, trivial⟩⟩⟩⟩⟩⟩) H
        · exact ⟨H.1, g_weak (show gm_Lle [some _] _ from ⟨rfl, trivial⟩) H.2⟩
      · exact ⟨H.1, g_weak (show gm_Lle [some _] _ from ⟨rfl, trivial⟩) H.2⟩
    · exact ⟨H.1, g_weak (show gm_Lle [some _] _ from ⟨rfl, trivial⟩) H.2⟩
set_option maxRecDepth 20000 in
theorem w_581_181 {a0 : Nat} {r_3 : Option Nat} {x4 : Int32} {x5 : Int32} {h : hh_T} {Q : Option Value ⊕ Nat → hh_T → Prop} (H : ∃ a1, r_3 = some a1 ∧ (gm_sub (hh_tg h a1) 23 = true ∧ (∀ h3, h3 = hh_wi h a1 3 x5 → (hh_tg h3 a0 = 1 ∧ (gm_G 565 0 [some (.ref a0), some (.int x4)] [] h3 (pI (fun v6 h5 => Q (.inl (some (.int v6))) h5) (fun e7 h8 => hh_tg h8 e7 = 21 ∧ gm_G 581 194 [some (.ref a0)] [.ref e7] h8 Q))))))) : gm_G 581 181 [some (.ref a0), none, none, some (va_rf r_3), some (.int x4), some (.int x5)] [] h Q := by
  refine g_aload (r := _) rfl rfl rfl (pc' := 182) ?_
  refine g_iload rfl rfl rfl (pc' := 184) ?_
  obtain ⟨a1, rfl, H⟩ := H
  obtain ⟨ht2, H⟩ := H
  refine g_putI rfl rfl rfl rfl ht2  (pc' := 187) rfl ?_
  replace H := H _ rfl
  refine g_aload (r := some _) rfl rfl rfl (pc' := 188) ?_
  refine g_iload rfl rfl rfl (pc' := 190) ?_
  obtain ⟨ht4, H⟩ := H
  refine g_call rfl (y := 565) (n := 2) (pc' := 193) (g_vt ht4 rfl rfl) rfl rfl ⟨(Nat.le_of_ble_eq_true rfl), (Nat.le_of_ble_eq_true rfl), (Nat.le_of_ble_eq_true rfl)⟩ rfl (gm_G.mono H (pI_elim (fun v6 h5 H' => ?_) (fun e7 h8 H => ?_)))
  · show gm_G _ 193 _ _ _ _
    replace H := H'
    clear H'
    exact g_ireturn rfl (Or.inl rfl) H
  · exact ⟨H.1, g_weak (show gm_Lle [some _] _ from ⟨rfl, trivial⟩) H.2⟩
set_option maxRecDepth 20000 in
theorem w_581_194 {a0 : Nat} {ex : Nat} {h : hh_T} {Q : Option Value ⊕ Nat → hh_T → Prop} (H : hh_tg h a0 = 1 ∧ (gm_G 1 0 [some (.ref a0), some (.ref ex)] [] h (pI (fun v3 h2 => Q (.inl (some (.int v3))) h2) (fun e4 h5 => hh_tg h5 e4 = 21 ∧ Q (.inr e4) h5)))) : gm_G 581 194 [some (.ref a0)] [.ref ex] h Q := by
  refine g_astore (r := some _) rfl rfl rfl (pc' := 195) ?_
  refine g_aload (r := some _) rfl rfl rfl (pc' := 196) ?_
  refine g_aload (r := some _) rfl rfl rfl (pc' := 197) ?_
  obtain ⟨ht1, H⟩ := H
  refine g_call rfl (y := 1) (n := 2) (pc' := 200) (g_vt ht1 rfl rfl) rfl rfl ⟨(Nat.le_of_ble_eq_true rfl), (Nat.le_of_ble_eq_true rfl), (Nat.le_of_ble_eq_true rfl)⟩ rfl (gm_G.mono H (pI_elim (fun v3 h2 H' => ?_) (fun e4 h5 H => ?_)))
  · show gm_G _ 200 _ _ _ _
    replace H := H'
    clear H'
    exact g_ireturn rfl (Or.inl rfl) H
  · exact H
set_option maxRecDepth 20000 in
theorem w_582_0 {a0 : Nat} {x1 : Int32} {x2 : Int32} {x3 : Int32} {h : hh_T} {Q : Option Value ⊕ Nat → hh_T → Prop} (H : hh_tg h a0 = 1 ∧ (gm_G 456 0 [some (.ref a0)] [] h (pV (fun h2 => gm_G 5 0 [some (.int x2), some (.int (Int32.ofInt (-1))), some (.int (Int32.ofNat 7))] [] h2 (pI (fun v4 h3 => (v4 = Int32.ofNat 0 → (gm_G 582 29 [some (.ref a0), some (.int x1), some (.int x2), some (.int x3)] [] h3 Q)) ∧ (¬ v4 = Int32.ofNat 0 → (gm_G 5 0 [some (.int x3), some (.int (Int32.ofInt (-1))), some (.int (Int32.ofNat 100000))] [] h3 (pI (fun v6 h5 => (v6 = Int32.ofNat 0 → (gm_G 582 29 [some (.ref a0), some (.int x1), some (.int x2), some (.int x3)] [] h5 Q)) ∧ (¬ v6 = Int32.ofNat 0 → (gm_G 582 30 [some (.ref a0), some (.int x1), some (.int x2), some (.int x3)] [.int (Int32.ofNat 1)] h5 Q))) (fun e7 h8 => hh_tg h8 e7 = 21 ∧ gm_G 582 52 [some (.ref a0)] [.ref e7] h8 Q))))) (fun e9 h10 => hh_tg h10 e9 = 21 ∧ gm_G 582 52 [some (.ref a0)] [.ref e9] h10 Q))) (fun e11 h12 => hh_tg h12 e11 = 21 ∧ gm_G 582 52 [some (.ref a0)] [.ref e11] h12 Q)))) : gm_G 582 0 [some (.ref a0), some (.int x1), some (.int x2), some (.int x3)] [] h Q := by
  refine g_aload (r := some _) rfl rfl rfl (pc' := 1) ?_
  obtain ⟨ht1, H⟩ := H
  refine g_call rfl (y := 456) (n := 1) (pc' := 4) (g_vt ht1 rfl rfl) rfl rfl ⟨(Nat.le_of_ble_eq_true rfl), (Nat.le_of_ble_eq_true rfl), (Nat.le_of_ble_eq_true rfl)⟩ rfl (gm_G.mono H (pV_elim (fun h2 H' => ?_) (fun e11 h12 H => ?_)))
  · show gm_G _ 4 _ _ _ _
    replace H := H'
    clear H'
    refine g_iload rfl rfl rfl (pc' := 5) ?_
    refine g_iconst rfl rfl rfl (pc' := 6) ?_
    refine g_iconst rfl rfl rfl (pc' := 8) ?_
    refine g_call rfl (y := 5) (n := 3) (pc' := 11) (fun _ => rfl) rfl rfl ⟨(Nat.le_of_ble_eq_true rfl), (Nat.le_of_ble_eq_true rfl), (Nat.le_of_ble_eq_true rfl)⟩ rfl (gm_G.mono H (pI_elim (fun v4 h3 H' => ?_) (fun e9 h10 H => ?_)))
    · show gm_G _ 11 _ _ _ _
      replace H := H'
      clear H'
      refine g_if_eq rfl (pc' := 14) (pt := 29) rfl rfl ⟨fun hc => ?_, fun hc => ?_⟩
      · replace H := H.1 hc
        exact g_weak (show gm_Lle [some _, some _, some _, some _] _ from ⟨rfl, ⟨rfl, ⟨rfl, ⟨rfl, trivial⟩⟩⟩⟩) H
      · replace H := H.2 hc
        refine g_iload rfl rfl rfl (pc' := 15) ?_
        refine g_iconst rfl rfl rfl (pc' := 16) ?_
        refine g_iconst rfl rfl rfl (pc' := 19) ?_
        refine g_call rfl (y := 5) (n := 3) (pc' := 22) (fun _ => rfl) rfl rfl ⟨(Nat.le_of_ble_eq_true rfl), (Nat.le_of_ble_eq_true rfl), (Nat.le_of_ble_eq_true rfl)⟩ rfl (gm_G.mono H (pI_elim (fun v6 h5 H' => ?_) (fun e7 h8 H => ?_)))
        · show gm_G _ 22 _ _ _ _
          replace H := H'
          clear H'
          refine g_if_eq rfl (pc' := 25) (pt := 29) rfl rfl ⟨fun hc => ?_, fun hc => ?_⟩
          · replace H := H.1 hc
            exact g_weak (show gm_Lle [some _, some _, some _, some _] _ from ⟨rfl, ⟨rfl, ⟨rfl, ⟨rfl, trivial⟩⟩⟩⟩) H
          · replace H := H.2 hc
            refine g_iconst rfl rfl rfl (pc' := 26) ?_
            refine g_goto rfl (pc' := 30) rfl ?_
            exact g_weak (show gm_Lle [some _, some _, some _, some _] _ from ⟨rfl, ⟨rfl, ⟨rfl, ⟨rfl, trivial⟩⟩⟩⟩) H
        · exact ⟨H.1, g_weak (show gm_Lle [some _] _ from ⟨rfl, trivial⟩) H.2⟩
    · exact ⟨H.1, g_weak (show gm_Lle [some _] _ from ⟨rfl, trivial⟩) H.2⟩
  · exact ⟨H.1, g_weak (show gm_Lle [some _] _ from ⟨rfl, trivial⟩) H.2⟩
set_option maxRecDepth 20000 in
theorem w_582_29 {a0 : Nat} {x1 : Int32} {x2 : Int32} {x3 : Int32} {h : hh_T} {Q : Option Value ⊕ Nat → hh_T → Prop} (H : gm_G 582 30 [some (.ref a0), some (.int x1), some (.int x2), some (.int x3)] [.int (Int32.ofNat 0)] h Q) : gm_G 582 29 [some (.ref a0), some (.int x1), some (.int x2), some (.int x3)] [] h Q := by
  refine g_iconst rfl rfl rfl (pc' := 30) ?_
  exact g_weak (show gm_Lle [some _, some _, some _, some _] _ from ⟨rfl, ⟨rfl, ⟨rfl, ⟨rfl, trivial⟩⟩⟩⟩) H
set_option maxRecDepth 20000 in
theorem w_582_30 {a0 : Nat} {x1 : Int32} {x2 : Int32} {x3 : Int32} {y0 : Int32} {h : hh_T} {Q : Option Value ⊕ Nat → hh_T → Prop} (H : gm_G 452 0 [some (.int y0)] [] h (pV (fun h1 => hh_tg h1 a0 = 1 ∧ (gm_G 453 0 [some (.ref a0), some (.int x1)] [] h1 (pR (fun r4 h3 => ∃ a5, r4 = some a5 ∧ (gm_sub (hh_tg h3 a5) 23 = true ∧ (∀ r7, r7 = hh_r h3 a5 6 → (∃ a8, r7 = some a8 ∧ (hh_tg h3 a8 = 100 ∧ (∃ n9, gm_ix (x2 + (Int32.ofNat 1)) n9 (hh_ln h3 a8) ∧ (∀ h10, h10 = hh_wi h3 a8 n9 x3 → (hh_tg h10 a0 = 1 ∧ (gm_G 565 0 [some (.ref a0), some (.int (Int32.ofNat 0))] [] h10 (pI (fun v13 h12 => Q (.inl (some (.int v13))) h12) (fun e14 h15 => hh_tg h15 e14 = 21 ∧ gm_G 582 52 [some (.ref a0)] [.ref e14] h15 Q))))))))))) (fun e17 h18 => hh_tg h18 e17 = 21 ∧ gm_G 582 52 [some (.ref a0)] [.ref e17] h18 Q)))) (fun e19 h20 => hh_tg h20 e19 = 21 ∧ gm_G 582 52 [some (.ref a0)] [.ref e19] h20 Q))) : gm_G 582 30 [some (.ref a0), some (.int x1), some (.int x2), some (.int x3)] [.int y0] h Q := by
  refine g_call rfl (y := 452) (n := 1) (pc' := 33) (fun _ => rfl) rfl rfl ⟨(Nat.le_of_ble_eq_true rfl), (Nat.le_of_ble_eq_true rfl), (Nat.le_of_ble_eq_true rfl)⟩ rfl (gm_G.mono H (pV_elim (fun h1 H' => ?_) (fun e19 h20 H => ?_)))
  · show gm_G _ 33 _ _ _ _
    replace H := H'
    clear H'
    refine g_aload (r := some _) rfl rfl rfl (pc' := 34) ?_
    refine g_iload rfl rfl rfl (pc' := 35) ?_
    obtain ⟨ht2, H⟩ := H
    refine g_call rfl (y := 453) (n := 2) (pc' := 38) (g_vt ht2 rfl rfl) rfl rfl ⟨(Nat.le_of_ble_eq_true rfl), (Nat.le_of_ble_eq_true rfl), (Nat.le_of_ble_eq_true rfl)⟩ rfl (gm_G.mono H (pR_elim (fun r4 h3 H' => ?_) (fun e17 h18 H => ?_)))
    · show gm_G _ 38 _ _ _ _
      replace H := H'
      clear H'
      obtain ⟨a5, rfl, H⟩ := H
      obtain ⟨ht6, H⟩ := H
      refine g_getRv rfl rfl rfl rfl ht6 (pc' := 41) rfl (fun r7 hr7 => ?_)
      replace H := H r7 hr7
      refine g_iload rfl rfl rfl (pc' := 42) ?_
      refine g_iconst rfl rfl rfl (pc' := 43) ?_
      refine g_iadd rfl rfl (pc' := 44) ?_
      refine g_iload rfl rfl rfl (pc' := 45) ?_
      obtain ⟨a8, rfl, H⟩ := H
      obtain ⟨ht16, H⟩ := H
      obtain ⟨n9, hn9, H⟩ := H
      refine g_iastore rfl ht16 hn9  (pc' := 46) rfl ?_
      replace H := H _ rfl
      refine g_aload (r := some _) rfl rfl rfl (pc' := 47) ?_
      refine g_iconst rfl rfl rfl (pc' := 48) ?_
      obtain ⟨ht11, H⟩ := H
      refine g_call rfl (y := 565) (n := 2) (pc' := 51) (g_vt ht11 rfl rfl) rfl rfl ⟨(Nat.le_of_ble_eq_true rfl), (Nat.le_of_ble_eq_true rfl), (Nat.le_of_ble_eq_true rfl)⟩ rfl (gm_G.mono H (pI_elim (fun v13 h12 H' => ?_) (fun e14 h15 H => ?_)))
      · show gm_G _ 51 _ _ _ _
        replace H := H'
        clear H'
        exact g_ireturn rfl (Or.inl rfl) H
      · exact ⟨H.1, g_weak (show gm_Lle [some _] _ from ⟨rfl, trivial⟩) H.2⟩
    · exact ⟨H.1, g_weak (show gm_Lle [some _] _ from ⟨rfl, trivial⟩) H.2⟩
  · exact ⟨H.1, g_weak (show gm_Lle [some _] _ from ⟨rfl, trivial⟩) H.2⟩
set_option maxRecDepth 20000 in
theorem w_582_52 {a0 : Nat} {ex : Nat} {h : hh_T} {Q : Option Value ⊕ Nat → hh_T → Prop} (H : hh_tg h a0 = 1 ∧ (gm_G 1 0 [some (.ref a0), some (.ref ex)] [] h (pI (fun v3 h2 => Q (.inl (some (.int v3))) h2) (fun e4 h5 => hh_tg h5 e4 = 21 ∧ Q (.inr e4) h5)))) : gm_G 582 52 [some (.ref a0)] [.ref ex] h Q := by
  refine g_astore (r := some _) rfl rfl rfl (pc' := 54) ?_
  refine g_aload (r := some _) rfl rfl rfl (pc' := 55) ?_
  refine g_aload (r := some _) rfl rfl rfl (pc' := 57) ?_
  obtain ⟨ht1, H⟩ := H
  refine g_call rfl (y := 1) (n := 2) (pc' := 60) (g_vt ht1 rfl rfl) rfl rfl ⟨(Nat.le_of_ble_eq_true rfl), (Nat.le_of_ble_eq_true rfl), (Nat.le_of_ble_eq_true rfl)⟩ rfl (gm_G.mono H (pI_elim (fun v3 h2 H' => ?_) (fun e4 h5 H => ?_)))
  · show gm_G _ 60 _ _ _ _
    replace H := H'
    clear H'
    exact g_ireturn rfl (Or.inl rfl) H
  · exact H
set_option maxRecDepth 20000 in
theorem w_583_0 {a0 : Nat} {x1 : Int32} {x2 : Int32} {h : hh_T} {Q : Option Value ⊕ Nat → hh_T → Prop} (H : hh_tg h a0 = 1 ∧ (gm_G 243 0 [some (.ref a0)] [] h (pV (fun h2 => hh_tg h2 a0 = 1 ∧ (gm_G 456 0 [some (.ref a0)] [] h2 (pV (fun h4 => (x1 = Int32.ofNat 0 → (gm_G 583 17 [some (.ref a0), some (.int x1), some (.int x2)] [.int (Int32.ofNat 0)] h4 Q)) ∧ (¬ x1 = Int32.ofNat 0 → (gm_G 583 17 [some (.ref a0), some (.int x1), some (.int x2)] [.int (Int32.ofNat 1)] h4 Q))) (fun e5 h6 => hh_tg h6 e5 = 21 ∧ gm_G 583 154 [some (.ref a0)] [.ref e5] h6 Q)))) (fun e7 h8 => hh_tg h8 e7 = 21 ∧ Q (.inr e7) h8)))) : gm_G 583 0 [some (.ref a0), some (.int x1), some (.int x2)] [] h Q := by
  refine g_aload (r := some _) rfl rfl rfl (pc' := 1) ?_
  obtain ⟨ht1, H⟩ := H
  refine g_call rfl (y := 243) (n := 1) (pc' := 4) (g_vt ht1 rfl rfl) rfl rfl ⟨(Nat.le_of_ble_eq_true rfl), (Nat.le_of_ble_eq_true rfl), (Nat.le_of_ble_eq_true rfl)⟩ rfl (gm_G.mono H (pV_elim (fun h2 H' => ?_) (fun e7 h8 H => ?_)))
  · show gm_G _ 4 _ _ _ _
    replace H := H'
    clear H'
    refine g_aload (r := some _) rfl rfl rfl (pc' := 5) ?_
    obtain ⟨ht3, H⟩ := H
    refine g_call rfl (y := 456) (n := 1) (pc' := 8) (g_vt ht3 rfl rfl) rfl rfl ⟨(Nat.le_of_ble_eq_true rfl), (Nat.le_of_ble_eq_true rfl), (Nat.le_of_ble_eq_true rfl)⟩ rfl (gm_G.mono H (pV_elim (fun h4 H' => ?_) (fun e5 h6 H => ?_)))
    · show gm_G _ 8 _ _ _ _
      replace H := H'
      clear H'
      refine g_iload rfl rfl rfl (pc' := 9) ?_
      refine g_if_eq rfl (pc' := 12) (pt := 16) rfl rfl ⟨fun hc => ?_, fun hc => ?_⟩
      · replace H := H.1 hc
        refine g_iconst rfl rfl rfl (pc' := 17) ?_
        exact g_weak (show gm_Lle [some _, some _, some _] _ from ⟨rfl, ⟨rfl, ⟨rfl, trivial⟩⟩⟩) H
      · replace H := H.2 hc
        refine g_iconst rfl rfl rfl (pc' := 13) ?_
        refine g_goto rfl (pc' := 17) rfl ?_
        exact g_weak (show gm_Lle [some _, some _, some _] _ from ⟨rfl, ⟨rfl, ⟨rfl, trivial⟩⟩⟩) H
    · exact ⟨H.1, g_weak (show gm_Lle [some _] _ from ⟨rfl, trivial⟩) H.2⟩
  · exact H
set_option maxRecDepth 20000 in
theorem w_583_17 {a0 : Nat} {x1 : Int32} {x2 : Int32} {y0 : Int32} {h : hh_T} {Q : Option Value ⊕ Nat → hh_T → Prop} (H : gm_G 452 0 [some (.int y0)] [] h (pV (fun h1 => hh_tg h1 a0 = 1 ∧ (gm_G 498 0 [some (.ref a0)] [] h1 (pL (fun v4 h3 => hh_tg h3 a0 = 1 ∧ (gm_G 453 0 [some (.ref a0), some (.int x1)] [] h3 (pR (fun r7 h6 => hh_tg h6 a0 = 1 ∧ (gm_G 453 0 [some (.ref a0), some (.int x2)] [] h6 (pR (fun r10 h9 => ∃ a11, r10 = some a11 ∧ (gm_sub (hh_tg h9 a11) 23 = true ∧ ((¬ (hh_i h9 a11 2) = Int32.ofNat 0 → (gm_G 583 52 [some (.ref a0), none, some (.int x2), some (.long v4), none, some (va_rf r7), some (.ref a11)] [.int (Int32.ofNat 0)] h9 Q)) ∧ ((hh_i h9 a11 2) = Int32.ofNat 0 → (gm_G 583 52 [some (.ref a0), none, some (.int x2), some (.long v4), none, some (va_rf r7), some (.ref a11)] [.int (Int32.ofNat 1)] h9 Q))))) (fun e13 h14 => hh_tg h14 e13 = 21 ∧ gm_G 583 154 [some (.ref a0)] [.ref e13] h14 Q)))) (fun e15 h16 => hh_tg h16 e15 = 21 ∧ gm_G 583 154 [some (.ref a0)] [.ref e15] h16 Q)))) (fun e17 h18 => hh_tg h18 e17 = 21 ∧ gm_G 583 154 [some (.ref a0)] [.ref e17] h18 Q)))) (fun e19 h20 => hh_tg h20 e19 = 21 ∧ gm_G 583 154 [some (.ref a0)] [.ref e19] h20 Q))) : gm_G 583 17 [some (.ref a0), some (.int x1), some (.int x2)] [.int y0] h Q := by
  refine g_call rfl (y := 452) (n := 1) (pc' := 20) (fun _ => rfl) rfl rfl ⟨(Nat.le_of_ble_eq_true rfl), (Nat.le_of_ble_eq_true rfl), (Nat.le_of_ble_eq_true rfl)⟩ rfl (gm_G.mono H (pV_elim (fun h1 H' => ?_) (fun e19 h20 H => ?_)))
  · show gm_G _ 20 _ _ _ _
    replace H := H'
    clear H'
    refine g_aload (r := some _) rfl rfl rfl (pc' := 21) ?_
    obtain ⟨ht2, H⟩ := H
    refine g_call rfl (y := 498) (n := 1) (pc' := 24) (g_vt ht2 rfl rfl) rfl rfl ⟨(Nat.le_of_ble_eq_true rfl), (Nat.le_of_ble_eq_true rfl), (Nat.le_of_ble_eq_true rfl)⟩ rfl (gm_G.mono H (pL_elim (fun v4 h3 H' => ?_) (fun e17 h18 H => ?_)))
    · show gm_G _ 24 _ _ _ _
      replace H := H'
      clear H'
      refine g_lstore rfl rfl rfl (pc' := 25) ?_
      refine g_aload (r := some _) rfl rfl rfl (pc' := 26) ?_
      refine g_iload rfl rfl rfl (pc' := 27) ?_
      obtain ⟨ht5, H⟩ := H
      refine g_call rfl (y := 453) (n := 2) (pc' := 30) (g_vt ht5 rfl rfl) rfl rfl ⟨(Nat.le_of_ble_eq_true rfl), (Nat.le_of_ble_eq_true rfl), (Nat.le_of_ble_eq_true rfl)⟩ rfl (gm_G.mono H (pR_elim (fun r7 h6 H' => ?_) (fun e15 h16 H => ?_)))
      · show gm_G _ 30 _ _ _ _
        replace H := H'
        clear H'
        refine g_astore (r := _) rfl rfl rfl (pc' := 32) ?_
        refine g_aload (r := some _) rfl rfl rfl (pc' := 33) ?_
        refine g_iload rfl rfl rfl (pc' := 34) ?_
        obtain ⟨ht8, H⟩ := H
        refine g_call rfl (y := 453) (n := 2) (pc' := 37) (g_vt ht8 rfl rfl) rfl rfl ⟨(Nat.le_of_ble_eq_true rfl), (Nat.le_of_ble_eq_true rfl), (Nat.le_of_ble_eq_true rfl)⟩ rfl (gm_G.mono H (pR_elim (fun r10 h9 H' => ?_) (fun e13 h14 H => ?_)))
        · show gm_G _ 37 _ _ _ _
          replace H := H'
          clear H'
          refine g_astore (r := _) rfl gm_sto_rf5 rfl (pc' := 39) ?_
          refine g_aload (r := _) rfl rfl rfl (pc' := 41) ?_
          obtain ⟨a11, rfl, H⟩ := H
          obtain ⟨ht12, H⟩ := H
          refine g_getI rfl rfl rfl rfl ht12 (pc' := 44) rfl ?_
          refine g_if_ne rfl (pc' := 47) (pt := 51) rfl rfl ⟨fun hc => ?_, fun hc => ?_⟩
          · replace H := H.1 hc
            refine g_iconst rfl rfl rfl (pc' := 52) ?_
            exact g_weak (show gm_Lle [some _, none, some _, some _, none, some _, some _] _ from ⟨rfl, ⟨rfl, ⟨rfl, ⟨rfl, ⟨rfl, trivial⟩⟩⟩⟩⟩) H
          · replace H := H.2 hc
            refine g_iconst rfl rfl rfl (pc' := 48) ?_
            refine g_goto rfl (pc' := 52) rfl ?_
            exact g_weak (show gm_Lle [some _, none, some _, some _, none, some _, some _] _ from ⟨rfl, ⟨rfl, ⟨rfl, ⟨rfl, ⟨rfl, trivial⟩⟩⟩⟩⟩) H
        · exact ⟨H.1, g_weak (show gm_Lle [some _] _ from ⟨rfl, trivial⟩) H.2⟩
      · exact ⟨H.1, g_weak (show gm_Lle [some _] _ from ⟨rfl, trivial⟩) H.2⟩
    · exact ⟨H.1, g_weak (show gm_Lle [some _] _ from ⟨rfl, trivial⟩) H.2⟩
  · exact ⟨H.1, g_weak (show gm_Lle [some _] _ from ⟨rfl, trivial⟩) H.2⟩
set_option maxRecDepth 20000 in
theorem w_583_52 {a0 : Nat} {x2 : Int32} {j3 : Int64} {r_5 : Option Nat} {r_6 : Option Nat} {y0 : Int32} {h : hh_T} {Q : Option Value ⊕ Nat → hh_T → Prop} (H : gm_G 431 0 [some (.int y0), some (.int (Int32.ofInt (-10)))] [] h (pV (fun h1 => gm_G 583 61 [some (.ref a0), none, some (.int x2), some (.long j3), none, some (va_rf r_5), none, some (va_rf r_6)] [] h1 Q) (fun e2 h3 => hh_tg h3 e2 = 21 ∧ gm_G 583 154 [some (.ref a0)] [.ref e2] h3 Q))) : gm_G 583 52 [some (.ref a0), none, some (.int x2), some (.long j3), none, some (va_rf r_5), some (va_rf r_6)] [.int y0] h Q := by
  refine g_iconst rfl rfl rfl (pc' := 54) ?_
  refine g_call rfl (y := 431) (n := 2) (pc' := 57) (fun _ => rfl) rfl rfl ⟨(Nat.le_of_ble_eq_true rfl), (Nat.le_of_ble_eq_true rfl), (Nat.le_of_ble_eq_true rfl)⟩ rfl (gm_G.mono H (pV_elim (fun h1 H' => ?_) (fun e2 h3 H => ?_)))
  · show gm_G _ 57 _ _ _ _
    replace H := H'
    clear H'
    refine g_aload (r := _) rfl rfl rfl (pc' := 59) ?_
    refine g_astore (r := _) rfl gm_sto_rf6 rfl (pc' := 61) ?_
    exact g_weak (show gm_Lle [some _, none, some _, some _, none, some _, none, some _] _ from ⟨rfl, ⟨rfl, ⟨rfl, ⟨rfl, ⟨rfl, trivial⟩⟩⟩⟩⟩) H
  · exact ⟨H.1, g_weak (show gm_Lle [some _] _ from ⟨rfl, trivial⟩) H.2⟩
set_option maxRecDepth 20000 in
theorem w_583_61 {a0 : Nat} {x2 : Int32} {j3 : Int64} {r_5 : Option Nat} {r_7 : Option Nat} {h : hh_T} {Q : Option Value ⊕ Nat → hh_T → Prop} (H : ∃ a1, r_7 = some a1 ∧ (gm_sub (hh_tg h a1) 23 = true ∧ ((¬ Int32.ofNat 0 < (hh_i h a1 0) → (gm_sub (hh_tg h a0) 0 = true ∧ (∀ r4, r4 = hh_r h a0 33 → (∃ a5, r4 = some a5 ∧ (hh_tg h a5 = 23 ∧ (gm_G 174 0 [some (.ref a5), some (.int x2), some (.long j3), none] [] h (pR (fun r8 h7 => (r8 = none → (gm_G 583 126 [some (.ref a0), none, some (.int x2), some (.long j3), none, some (va_rf r_5)] [] h7 Q)) ∧ (∀ a9, r8 = some a9 → ((¬ some a9 = r_5 → (gm_G 583 131 [some (.ref a0), none, some (.int x2), some (.long j3), none, some (va_rf r_5)] [.int (Int32.ofNat 0)] h7 Q)) ∧ (some a9 = r_5 → (gm_G 583 126 [some (.ref a0), none, some (.int x2), some (.long j3), none, some (va_rf r_5)] [] h7 Q))))) (fun e10 h11 => hh_tg h11 e10 = 21 ∧ gm_G 583 154 [some (.ref a0)] [.ref e10] h11 Q)))))))) ∧ (Int32.ofNat 0 < (hh_i h a1 0) → ((some a1 = r_5 → (gm_G 583 81 [some (.ref a0), none, some (.int x2), some (.long j3), none, some (va_rf r_5), none, some (.ref a1)] [.int (Int32.ofNat 0)] h Q)) ∧ (¬ some a1 = r_5 → (gm_G 583 81 [some (.ref a0), none, some (.int x2), some (.long j3), none, some (va_rf r_5), none, some (.ref a1)] [.int (Int32.ofNat 1)] h Q))))))) : gm_G 583 61 [some (.ref a0), none, some (.int x2), some (.long j3), none, some (va_rf r_5), none, some (va_rf r_7)] [] h Q := by
  refine g_aload (r := _) rfl rfl rfl (pc' := 63) ?_
  obtain ⟨a1, rfl, H⟩ := H
  obtain ⟨ht2, H⟩ := H
  refine g_getI rfl rfl rfl rfl ht2 (pc' := 66) rfl ?_
  refine g_if_le rfl (pc' := 69) (pt := 103) rfl rfl ⟨fun hc => ?_, fun hc => ?_⟩
  · replace H := H.1 hc
    refine g_aload (r := some _) rfl rfl rfl (pc' := 104) ?_
    obtain ⟨ht3, H⟩ := H
    refine g_getRv rfl rfl rfl rfl ht3 (pc' := 107) rfl (fun r4 hr4 => ?_)
    replace H := H r4 hr4
    refine g_iload rfl rfl rfl (pc' := 108) ?_
    refine g_lload rfl rfl rfl (pc' := 109) ?_
    obtain ⟨a5, rfl, H⟩ := H
    obtain ⟨ht6, H⟩ := H
    refine g_call rfl (y := 174) (n := 3) (pc' := 112) (g_vt ht6 rfl rfl) rfl rfl ⟨(Nat.le_of_ble_eq_true rfl), (Nat.le_of_ble_eq_true rfl), (Nat.le_of_ble_eq_true rfl)⟩ rfl (gm_G.mono H (pR_elim (fun r8 h7 H' => ?_) (fun e10 h11 H => ?_)))
    · show gm_G _ 112 _ _ _ _
      replace H := H'
      clear H'
      refine g_astore (r := _) rfl rfl rfl (pc' := 114) ?_
      refine g_aload (r := _) rfl rfl rfl (pc' := 116) ?_
      refine g_ifnull rfl (pc' := 119) (pt := 126) rfl rfl ⟨fun hc => ?_, fun a9 hc => ?_⟩
      · replace H := H.1 hc
        subst hc
        exact g_weak (show gm_Lle [some _, none, some _, some _, none, some _] _ from ⟨rfl, ⟨rfl, ⟨rfl, ⟨rfl, trivial⟩⟩⟩⟩) H
      · replace H := H.2 a9 hc
        subst hc
        refine g_aload (r := some _) rfl rfl rfl (pc' := 121) ?_
        refine g_aload (r := _) rfl rfl rfl (pc' := 123) ?_
        refine g_ac_ne (r1 := _) (r2 := some _) rfl (pc' := 126) (pt := 130) rfl rfl ⟨fun hc => ?_, fun hc => ?_⟩
        · replace H := H.1 hc
          refine g_iconst rfl rfl rfl (pc' := 131) ?_
          exact g_weak (show gm_Lle [some _, none, some _, some _, none, some _] _ from ⟨rfl, ⟨rfl, ⟨rfl, ⟨rfl, trivial⟩⟩⟩⟩) H
        · replace H := H.2 hc
          exact g_weak (show gm_Lle [some _, none, some _, some _, none, some _] _ from ⟨rfl, ⟨rfl, ⟨rfl, ⟨rfl, trivial⟩⟩⟩⟩) H
    · exact ⟨H.1, g_weak (show gm_Lle [some _] _ from ⟨rfl, trivial⟩) H.2⟩
  · replace H := H.2 hc
    refine g_aload (r := some _) rfl rfl rfl (pc' := 71) ?_
    refine g_aload (r := _) rfl rfl rfl (pc' := 73) ?_
    refine g_ac_eq (r1 := _) (r2 := some _) rfl (pc' := 76) (pt := 80) rfl rfl ⟨fun hc => ?_, fun hc => ?_⟩
    · replace H := H.1 hc
      refine g_iconst rfl rfl rfl (pc' := 81) ?_
      exact g_weak (show gm_Lle [some _, none, some _, some _, none, some _, none, some _] _ from ⟨rfl, ⟨rfl, ⟨rfl, ⟨rfl, ⟨rfl, trivial⟩⟩⟩⟩⟩) H
    · replace H := H.2 hc
      refine g_iconst rfl rfl rfl (pc' := 77) ?_
      refine g_goto rfl (pc' := 81) rfl ?_
      exact g_weak (show gm_Lle [some _, none, some _, some _, none, some _, none, some _] _ from ⟨rfl, ⟨rfl, ⟨rfl, ⟨rfl, ⟨rfl, trivial⟩⟩⟩⟩⟩) H
set_option maxRecDepth 20000 in
theorem w_583_81 {a0 : Nat} {x2 : Int32} {j3 : Int64} {r_5 : Option Nat} {r_7 : Option Nat} {y0 : Int32} {h : hh_T} {Q : Option Value ⊕ Nat → hh_T → Prop} (H : gm_G 431 0 [some (.int y0), some (.int (Int32.ofInt (-5)))] [] h (pV (fun h1 => gm_sub (hh_tg h1 a0) 0 = true ∧ (∀ r3, r3 = hh_r h1 a0 33 → (∃ a4, r_7 = some a4 ∧ (gm_sub (hh_tg h1 a4) 23 = true ∧ (∃ a6, r3 = some a6 ∧ (hh_tg h1 a6 = 23 ∧ (gm_G 178 0 [some (.ref a6), some (.int (hh_i h1 a4 1))] [] h1 (pR (fun r9 h8 => gm_G 583 61 [some (.ref a0), none, some (.int x2), some (.long j3), none, some (va_rf r_5), none, some (va_rf r9)] [] h8 Q) (fun e10 h11 => hh_tg h11 e10 = 21 ∧ gm_G 583 154 [some (.ref a0)] [.ref e10] h11 Q))))))))) (fun e12 h13 => hh_tg h13 e12 = 21 ∧ gm_G 583 154 [some (.ref a0)] [.ref e12] h13 Q))) : gm_G 583 81 [some (.ref a0), none, some (.int x2), some (.long j3), none, some (va_rf r_5), none, some (va_rf r_7)] [.int y0] h Q := by
  refine g_iconst rfl rfl rfl (pc' := 83) ?_
  refine g_call rfl (y := 431) (n := 2) (pc' := 86) (fun _ => rfl) rfl rfl ⟨(Nat.le_of_ble_eq_true rfl), (Nat.le_of_ble_eq_true rfl), (Nat.le_of_ble_eq_true rfl)⟩ rfl (gm_G.mono H (pV_elim (fun h1 H' => ?_) (fun e12 h13 H => ?_)))
  · show gm_G _ 86 _ _ _ _
    replace H := H'
    clear H'
    refine g_aload (r := some _) rfl rfl rfl (pc' := 87) ?_
    obtain ⟨ht2, H⟩ := H
    refine g_getRv rfl rfl rfl rfl ht2 (pc' := 90) rfl (fun r3 hr3 => ?_)
    replace H := H r3 hr3
    refine g_aload (r := _) rfl rfl rfl (pc' := 92) ?_
    obtain ⟨a4, rfl, H⟩ := H
    obtain ⟨ht5, H⟩ := H
    refine g_getI rfl rfl rfl rfl ht5 (pc' := 95) rfl ?_
    obtain ⟨a6, rfl, H⟩ := H
    obtain ⟨ht7, H⟩ := H
    refine g_call rfl (y := 178) (n := 2) (pc' := 98) (g_vt ht7 rfl rfl) rfl rfl ⟨(Nat.le_of_ble_eq_true rfl), (Nat.le_of_ble_eq_true rfl), (Nat.le_of_ble_eq_true rfl)⟩ rfl (gm_G.mono H (pR_elim (fun r9 h8 H' => ?_) (fun e10 h11 H => ?_)))
    · show gm_G _ 98 _ _ _ _
      replace H := H'
      clear H'
      refine g_astore (r := _) rfl rfl rfl (pc' := 100) ?_
      refine g_goto rfl (pc' := 61) rfl ?_
      exact g_weak (show gm_Lle [some _, none, some _, some _, none, some _, none, some _] _ from ⟨rfl, ⟨rfl, ⟨rfl, ⟨rfl, ⟨rfl, trivial⟩⟩⟩⟩⟩) H
    · exact ⟨H.1, g_weak (show gm_Lle [some _] _ from ⟨rfl, trivial⟩) H.2⟩
  · exact ⟨H.1, g_weak (show gm_Lle [some _] _ from ⟨rfl, trivial⟩) H.2⟩
set_option maxRecDepth 20000 in
theorem w_583_126 {a0 : Nat} {x2 : Int32} {j3 : Int64} {r_5 : Option Nat} {h : hh_T} {Q : Option Value ⊕ Nat → hh_T → Prop} (H : gm_G 583 131 [some (.ref a0), none, some (.int x2), some (.long j3), none, some (va_rf r_5)] [.int (Int32.ofNat 1)] h Q) : gm_G 583 126 [some (.ref a0), none, some (.int x2), some (.long j3), none, some (va_rf r_5)] [] h Q := by
  refine g_iconst rfl rfl rfl (pc' := 127) ?_
  refine g_goto rfl (pc' := 131) rfl ?_
  exact g_weak (show gm_Lle [some _, none, some _, some _, none, some _] _ from ⟨rfl, ⟨rfl, ⟨rfl, ⟨rfl, trivial⟩⟩⟩⟩) H
set_option maxRecDepth 20000 in
theorem w_583_131 {a0 : Nat} {x2 : Int32} {j3 : Int64} {r_5 : Option Nat} {y0 : Int32} {h : hh_T} {Q : Option Value ⊕ Nat → hh_T → Prop} (H : gm_G 431 0 [some (.int y0), some (.int (Int32.ofInt (-4)))] [] h (pV (fun h1 => ∃ a2, r_5 = some a2 ∧ (gm_sub (hh_tg h1 a2) 23 = true ∧ (∀ h4, h4 = hh_wj h1 a2 4 j3 → (∀ h5, h5 = hh_wi h4 a2 1 x2 → (hh_tg h5 a0 = 1 ∧ (gm_G 565 0 [some (.ref a0), some (.int (Int32.ofNat 0))] [] h5 (pI (fun v8 h7 => Q (.inl (some (.int v8))) h7) (fun e9 h10 => hh_tg h10 e9 = 21 ∧ gm_G 583 154 [some (.ref a0)] [.ref e9] h10 Q)))))))) (fun e11 h12 => hh_tg h12 e11 = 21 ∧ gm_G 583 154 [some (.ref a0)] [.ref e11] h12 Q))) : gm_G 583 131 [some (.ref a0), none, some (.int x2), some (.long j3), none, some (va_rf r_5)] [.int y0] h Q := by
  refine g_iconst rfl rfl rfl (pc' := 133) ?_
  refine g_call rfl (y := 431) (n := 2) (pc' := 136) (fun _ => rfl) rfl rfl ⟨(Nat.le_of_ble_eq_true rfl), (Nat.le_of_ble_eq_true rfl), (Nat.le_of_ble_eq_true rfl)⟩ rfl (gm_G.mono H (pV_elim (fun h1 H' => ?_) (fun e11 h12 H => ?_)))
  · show gm_G _ 136 _ _ _ _
    replace H := H'
    clear H'
    refine g_aload (r := _) rfl rfl rfl (pc' := 138) ?_
    refine g_lload rfl rfl rfl (pc' := 139) ?_
    obtain ⟨a2, rfl, H⟩ := H
    obtain ⟨ht3, H⟩ := H
    refine g_putJ rfl rfl rfl rfl ht3  (pc' := 142) rfl ?_
    replace H := H _ rfl
    refine g_aload (r := some _) rfl rfl rfl (pc' := 144) ?_
    refine g_iload rfl rfl rfl (pc' := 145) ?_
    refine g_putI rfl rfl rfl rfl ht3  (pc' := 148) rfl ?_
    replace H := H _ rfl
    refine g_aload (r := some _) rfl rfl rfl (pc' := 149) ?_
    refine g_iconst rfl rfl rfl (pc' := 150) ?_
    obtain ⟨ht6, H⟩ := H
    refine g_call rfl (y := 565) (n := 2) (pc' := 153) (g_vt ht6 rfl rfl) rfl rfl ⟨(Nat.le_of_ble_eq_true rfl), (Nat.le_of_ble_eq_true rfl), (Nat.le_of_ble_eq_true rfl)⟩ rfl (gm_G.mono H (pI_elim (fun v8 h7 H' => ?_) (fun e9 h10 H => ?_)))
    · show gm_G _ 153 _ _ _ _
      replace H := H'
      clear H'
      exact g_ireturn rfl (Or.inl rfl) H
    · exact ⟨H.1, g_weak (show gm_Lle [some _] _ from ⟨rfl, trivial⟩) H.2⟩
  · exact ⟨H.1, g_weak (show gm_Lle [some _] _ from ⟨rfl, trivial⟩) H.2⟩
set_option maxRecDepth 20000 in
theorem w_583_154 {a0 : Nat} {ex : Nat} {h : hh_T} {Q : Option Value ⊕ Nat → hh_T → Prop} (H : hh_tg h a0 = 1 ∧ (gm_G 1 0 [some (.ref a0), some (.ref ex)] [] h (pI (fun v3 h2 => Q (.inl (some (.int v3))) h2) (fun e4 h5 => hh_tg h5 e4 = 21 ∧ Q (.inr e4) h5)))) : gm_G 583 154 [some (.ref a0)] [.ref ex] h Q := by
  refine g_astore (r := some _) rfl rfl rfl (pc' := 155) ?_
  refine g_aload (r := some _) rfl rfl rfl (pc' := 156) ?_
  refine g_aload (r := some _) rfl rfl rfl (pc' := 157) ?_
  obtain ⟨ht1, H⟩ := H
  refine g_call rfl (y := 1) (n := 2) (pc' := 160) (g_vt ht1 rfl rfl) rfl rfl ⟨(Nat.le_of_ble_eq_true rfl), (Nat.le_of_ble_eq_true rfl), (Nat.le_of_ble_eq_true rfl)⟩ rfl (gm_G.mono H (pI_elim (fun v3 h2 H' => ?_) (fun e4 h5 H => ?_)))
  · show gm_G _ 160 _ _ _ _
    replace H := H'
    clear H'
    exact g_ireturn rfl (Or.inl rfl) H
  · exact H
set_option maxRecDepth 20000 in
theorem w_584_0 {a0 : Nat} {x1 : Int32} {h : hh_T} {Q : Option Value ⊕ Nat → hh_T → Prop} (H : hh_tg h a0 = 1 ∧ (gm_G 456 0 [some (.ref a0)] [] h (pV (fun h2 => hh_tg h2 a0 = 1 ∧ (gm_G 453 0 [some (.ref a0), some (.int x1)] [] h2 (pR (fun r5 h4 => ∃ a6, r5 = some a6 ∧ (gm_sub (hh_tg h4 a6) 23 = true ∧ ((¬ Int32.ofNat 0 < (hh_i h4 a6 8) → (gm_G 584 22 [some (.ref a0), some (.int x1), some (.ref a6)] [.int (Int32.ofNat 0)] h4 Q)) ∧ (Int32.ofNat 0 < (hh_i h4 a6 8) → (gm_G 584 22 [some (.ref a0), some (.int x1), some (.ref a6)] [.int (Int32.ofNat 1)] h4 Q))))) (fun e8 h9 => hh_tg h9 e8 = 21 ∧ gm_G 584 90 [some (.ref a0)] [.ref e8] h9 Q)))) (fun e10 h11 => hh_tg h11 e10 = 21 ∧ gm_G 584 90 [some (.ref a0)] [.ref e10] h11 Q)))) : gm_G 584 0 [some (.ref a0), some (.int x1)] [] h Q := by
  refine g_aload (r := some _) rfl rfl rfl (pc' := 1) ?_
  obtain ⟨ht1, H⟩ := H
  refine g_call rfl (y := 456) (n := 1) (pc' := 4) (g_vt ht1 rfl rfl) rfl rfl ⟨(Nat.le_of_ble_eq_true rfl), (Nat.le_of_ble_eq_true rfl), (Nat.le_of_ble_eq_true rfl)⟩ rfl (gm_G.mono H (pV_elim (fun h2 H' => ?_) (fun e10 h11 H => ?_)))
  · show gm_G _ 4 _ _ _ _
    replace H := H'
    clear H'
    refine g_aload (r := some _) rfl rfl rfl (pc' := 5) ?_
    refine g_iload rfl rfl rfl (pc' := 6) ?_
    obtain ⟨ht3, H⟩ := H
    refine g_call rfl (y := 453) (n := 2) (pc' := 9) (g_vt ht3 rfl rfl) rfl rfl ⟨(Nat.le_of_ble_eq_true rfl), (Nat.le_of_ble_eq_true rfl), (Nat.le_of_ble_eq_true rfl)⟩ rfl (gm_G.mono H (pR_elim (fun r5 h4 H' => ?_) (fun e8 h9 H => ?_)))
    · show gm_G _ 9 _ _ _ _
      replace H := H'
      clear H'
      refine g_astore (r := _) rfl rfl rfl (pc' := 10) ?_
      refine g_aload (r := _) rfl rfl rfl (pc' := 11) ?_
      obtain ⟨a6, rfl, H⟩ := H
      obtain ⟨ht7, H⟩ := H
      refine g_getI rfl rfl rfl rfl ht7 (pc' := 14) rfl ?_
      refine g_if_le rfl (pc' := 17) (pt := 21) rfl rfl ⟨fun hc => ?_, fun hc => ?_⟩
      · replace H := H.1 hc
        refine g_iconst rfl rfl rfl (pc' := 22) ?_
        exact g_weak (show gm_Lle [some _, some _, some _] _ from ⟨rfl, ⟨rfl, ⟨rfl, trivial⟩⟩⟩) H
      · replace H := H.2 hc
        refine g_iconst rfl rfl rfl (pc' := 18) ?_
        refine g_goto rfl (pc' := 22) rfl ?_
        exact g_weak (show gm_Lle [some _, some _, some _] _ from ⟨rfl, ⟨rfl, ⟨rfl, trivial⟩⟩⟩) H
    · exact ⟨H.1, g_weak (show gm_Lle [some _] _ from ⟨rfl, trivial⟩) H.2⟩
  · exact ⟨H.1, g_weak (show gm_Lle [some _] _ from ⟨rfl, trivial⟩) H.2⟩
set_option maxRecDepth 20000 in
theorem w_584_22 {a0 : Nat} {x1 : Int32} {r_2 : Option Nat} {y0 : Int32} {h : hh_T} {Q : Option Value ⊕ Nat → hh_T → Prop} (H : gm_G 431 0 [some (.int y0), some (.int (Int32.ofInt (-2)))] [] h (pV (fun h1 => gm_sub (hh_tg h1 a0) 0 = true ∧ (∀ r3, r3 = hh_r h1 a0 51 → (∃ a4, r3 = some a4 ∧ (hh_tg h1 a4 = 15 ∧ (gm_G 75 0 [some (.ref a4), some (.int ((Int32.ofNat 2) * x1))] [] h1 (pI (fun v7 h6 => (¬ v7 = Int32.ofNat 0 → (gm_G 584 45 [some (.ref a0), none, some (va_rf r_2)] [.int (Int32.ofNat 0)] h6 Q)) ∧ (v7 = Int32.ofNat 0 → (gm_G 584 45 [some (.ref a0), none, some (va_rf r_2)] [.int (Int32.ofNat 1)] h6 Q))) (fun e8 h9 => hh_tg h9 e8 = 21 ∧ gm_G 584 90 [some (.ref a0)] [.ref e8] h9 Q))))))) (fun e10 h11 => hh_tg h11 e10 = 21 ∧ gm_G 584 90 [some (.ref a0)] [.ref e10] h11 Q))) : gm_G 584 22 [some (.ref a0), some (.int x1), some (va_rf r_2)] [.int y0] h Q := by
  refine g_iconst rfl rfl rfl (pc' := 24) ?_
  refine g_call rfl (y := 431) (n := 2) (pc' := 27) (fun _ => rfl) rfl rfl ⟨(Nat.le_of_ble_eq_true rfl), (Nat.le_of_ble_eq_true rfl), (Nat.le_of_ble_eq_true rfl)⟩ rfl (gm_G.mono H (pV_elim (fun h1 H' => ?_) (fun e10 h11 H => ?_)))
  · show gm_G _ 27 _ _ _ _
    replace H := H'
    clear H'
    refine g_aload (r := some _) rfl rfl rfl (pc' := 28) ?_
    obtain ⟨ht2, H⟩ := H
    refine g_getRv rfl rfl rfl rfl ht2 (pc' := 31) rfl (fun r3 hr3 => ?_)
    replace H := H r3 hr3
    refine g_iconst rfl rfl rfl (pc' := 32) ?_
    refine g_iload rfl rfl rfl (pc' := 33) ?_
    refine g_imul rfl rfl (pc' := 34) ?_
    obtain ⟨a4, rfl, H⟩ := H
    obtain ⟨ht5, H⟩ := H
    refine g_call rfl (y := 75) (n := 2) (pc' := 37) (g_vt ht5 rfl rfl) rfl rfl ⟨(Nat.le_of_ble_eq_true rfl), (Nat.le_of_ble_eq_true rfl), (Nat.le_of_ble_eq_true rfl)⟩ rfl (gm_G.mono H (pI_elim (fun v7 h6 H' => ?_) (fun e8 h9 H => ?_)))
    · show gm_G _ 37 _ _ _ _
      replace H := H'
      clear H'
      refine g_if_ne rfl (pc' := 40) (pt := 44) rfl rfl ⟨fun hc => ?_, fun hc => ?_⟩
      · replace H := H.1 hc
        refine g_iconst rfl rfl rfl (pc' := 45) ?_
        exact g_weak (show gm_Lle [some _, none, some _] _ from ⟨rfl, ⟨rfl, trivial⟩⟩) H
      · replace H := H.2 hc
        refine g_iconst rfl rfl rfl (pc' := 41) ?_
        refine g_goto rfl (pc' := 45) rfl ?_
        exact g_weak (show gm_Lle [some _, none, some _] _ from ⟨rfl, ⟨rfl, trivial⟩⟩) H
    · exact ⟨H.1, g_weak (show gm_Lle [some _] _ from ⟨rfl, trivial⟩) H.2⟩
  · exact ⟨H.1, g_weak (show gm_Lle [some _] _ from ⟨rfl, trivial⟩) H.2⟩
set_option maxRecDepth 20000 in
theorem w_584_45 {a0 : Nat} {r_2 : Option Nat} {y0 : Int32} {h : hh_T} {Q : Option Value ⊕ Nat → hh_T → Prop} (H : gm_G 431 0 [some (.int y0), some (.int (Int32.ofInt (-5)))] [] h (pV (fun h1 => gm_sub (hh_tg h1 a0) 0 = true ∧ (∀ r3, r3 = hh_r h1 a0 33 → (∃ a4, r_2 = some a4 ∧ (hh_tg h1 a4 = 24 ∧ (gm_G 184 0 [some (.ref a4)] [] h1 (pI (fun v7 h6 => ∃ a8, r3 = some a8 ∧ (hh_tg h6 a8 = 23 ∧ (gm_G 179 0 [some (.ref a8), some (.int v7)] [] h6 (pR (fun r11 h10 => ∃ a12, r11 = some a12 ∧ (gm_sub (hh_tg h10 a12) 29 = true ∧ (∀ r14, r14 = hh_r h10 a12 5 → (∃ a15, r14 = some a15 ∧ (gm_sub (hh_tg h10 a15) 24 = true ∧ (∀ h17, h17 = hh_wi h10 a15 0 ((hh_i h10 a15 0) + (Int32.ofNat 1)) → (hh_tg h17 a0 = 1 ∧ (gm_G 449 0 [some (.ref a0), some (.ref a4), some (.ref a15)] [] h17 (pV (fun h19 => gm_G 584 81 [some (.ref a0), none, some (.ref a4)] [] h19 Q) (fun e20 h21 => hh_tg h21 e20 = 21 ∧ gm_G 584 90 [some (.ref a0)] [.ref e20] h21 Q)))))))))) (fun e22 h23 => hh_tg h23 e22 = 21 ∧ gm_G 584 90 [some (.ref a0)] [.ref e22] h23 Q))))) (fun e24 h25 => hh_tg h25 e24 = 21 ∧ gm_G 584 90 [some (.ref a0)] [.ref e24] h25 Q))))))) (fun e26 h27 => hh_tg h27 e26 = 21 ∧ gm_G 584 90 [some (.ref a0)] [.ref e26] h27 Q))) : gm_G 584 45 [some (.ref a0), none, some (va_rf r_2)] [.int y0] h Q := by
  refine g_iconst rfl rfl rfl (pc' := 47) ?_
  refine g_call rfl (y := 431) (n := 2) (pc' := 50) (fun _ => rfl) rfl rfl ⟨(Nat.le_of_ble_eq_true rfl), (Nat.le_of_ble_eq_true rfl), (Nat.le_of_ble_eq_true rfl)⟩ rfl (gm_G.mono H (pV_elim (fun h1 H' => ?_) (fun e26 h27 H => ?_)))
  · show gm_G _ 50 _ _ _ _
    replace H := H'
    clear H'
    refine g_aload (r := some _) rfl rfl rfl (pc' := 51) ?_
    obtain ⟨ht2, H⟩ := H
    refine g_getRv rfl rfl rfl rfl ht2 (pc' := 54) rfl (fun r3 hr3 => ?_)
    replace H := H r3 hr3
    refine g_aload (r := _) rfl rfl rfl (pc' := 55) ?_
    obtain ⟨a4, rfl, H⟩ := H
    obtain ⟨ht5, H⟩ := H
    refine g_call rfl (y := 184) (n := 1) (pc' := 58) (g_vt ht5 rfl rfl) rfl rfl ⟨(Nat.le_of_ble_eq_true rfl), (Nat.le_of_ble_eq_true rfl), (Nat.le_of_ble_eq_true rfl)⟩ rfl (gm_G.mono H (pI_elim (fun v7 h6 H' => ?_) (fun e24 h25 H => ?_)))
    · show gm_G _ 58 _ _ _ _
      replace H := H'
      clear H'
      obtain ⟨a8, rfl, H⟩ := H
      obtain ⟨ht9, H⟩ := H
      refine g_call rfl (y := 179) (n := 2) (pc' := 61) (g_vt ht9 rfl rfl) rfl rfl ⟨(Nat.le_of_ble_eq_true rfl), (Nat.le_of_ble_eq_true rfl), (Nat.le_of_ble_eq_true rfl)⟩ rfl (gm_G.mono H (pR_elim (fun r11 h10 H' => ?_) (fun e22 h23 H => ?_)))
      · show gm_G _ 61 _ _ _ _
        replace H := H'
        clear H'
        obtain ⟨a12, rfl, H⟩ := H
        obtain ⟨ht13, H⟩ := H
        refine g_getRv rfl rfl rfl rfl ht13 (pc' := 64) rfl (fun r14 hr14 => ?_)
        replace H := H r14 hr14
        refine g_astore (r := _) rfl rfl rfl (pc' := 65) ?_
        refine g_aload (r := _) rfl rfl rfl (pc' := 66) ?_
        refine g_dup_a (r := _) rfl rfl (pc' := 67) ?_
        obtain ⟨a15, rfl, H⟩ := H
        obtain ⟨ht16, H⟩ := H
        refine g_getI rfl rfl rfl rfl ht16 (pc' := 70) rfl ?_
        refine g_iconst rfl rfl rfl (pc' := 71) ?_
        refine g_iadd rfl rfl (pc' := 72) ?_
        refine g_putI rfl rfl rfl rfl ht16  (pc' := 75) rfl ?_
        replace H := H _ rfl
        refine g_aload (r := some _) rfl rfl rfl (pc' := 76) ?_
        refine g_aload (r := some _) rfl rfl rfl (pc' := 77) ?_
        refine g_aload (r := some _) rfl rfl rfl (pc' := 78) ?_
        obtain ⟨ht18, H⟩ := H
        refine g_call rfl (y := 449) (n := 3) (pc' := 81) (g_vt ht18 rfl rfl) rfl rfl ⟨(Nat.le_of_ble_eq_true rfl), (Nat.le_of_ble_eq_true rfl), (Nat.le_of_ble_eq_true rfl)⟩ rfl (gm_G.mono H (pV_elim (fun h19 H' => ?_) (fun e20 h21 H => ?_)))
        · show gm_G _ 81 _ _ _ _
          replace H := H'
          clear H'
          exact g_weak (show gm_Lle [some _, none, some _] _ from ⟨rfl, ⟨rfl, trivial⟩⟩) H
        · exact ⟨H.1, g_weak (show gm_Lle [some _] _ from ⟨rfl, trivial⟩) H.2⟩
      · exact ⟨H.1, g_weak (show gm_Lle [some _] _ from ⟨rfl, trivial⟩) H.2⟩
    · exact ⟨H.1, g_weak (show gm_Lle [some _] _ from ⟨rfl, trivial⟩) H.2⟩
  · exact ⟨H.1, g_weak (show gm_Lle [some _] _ from ⟨rfl, trivial⟩) H.2⟩
set_option maxRecDepth 20000 in
theorem w_584_81 {a0 : Nat} {r_2 : Option Nat} {h : hh_T} {Q : Option Value ⊕ Nat → hh_T → Prop} (H : ∃ a1, r_2 = some a1 ∧ (hh_tg h a1 = 24 ∧ (gm_G 184 0 [some (.ref a1)] [] h (pI (fun v4 h3 => hh_tg h3 a0 = 1 ∧ (gm_G 565 0 [some (.ref a0), some (.int v4)] [] h3 (pI (fun v7 h6 => Q (.inl (some (.int v7))) h6) (fun e8 h9 => hh_tg h9 e8 = 21 ∧ gm_G 584 90 [some (.ref a0)] [.ref e8] h9 Q)))) (fun e10 h11 => hh_tg h11 e10 = 21 ∧ gm_G 584 90 [some (.ref a0)] [.ref e10] h11 Q))))) : gm_G 584 81 [some (.ref a0), none, some (va_rf r_2)] [] h Q := by
  refine g_aload (r := some _) rfl rfl rfl (pc' := 82) ?_
  refine g_aload (r := _) rfl rfl rfl (pc' := 83) ?_
  obtain ⟨a1, rfl, H⟩ := H
  obtain ⟨ht2, H⟩ := H
  refine g_call rfl (y := 184) (n := 1) (pc' := 86) (g_vt ht2 rfl rfl) rfl rfl ⟨(Nat.le_of_ble_eq_true rfl), (Nat.le_of_ble_eq_true rfl), (Nat.le_of_ble_eq_true rfl)⟩ rfl (gm_G.mono H (pI_elim (fun v4 h3 H' => ?_) (fun e10 h11 H => ?_)))
  · show gm_G _ 86 _ _ _ _
    replace H := H'
    clear H'
    obtain ⟨ht5, H⟩ := H
    refine g_call rfl (y := 565) (n := 2) (pc' := 89) (g_vt ht5 rfl rfl) rfl rfl ⟨(Nat.le_of_ble_eq_true rfl), (Nat.le_of_ble_eq_true rfl), (Nat.le_of_ble_eq_true rfl)⟩ rfl (gm_G.mono H (pI_elim (fun v7 h6 H' => ?_) (fun e8 h9 H => ?_)))
    · show gm_G _ 89 _ _ _ _
      replace H := H'
      clear H'
      exact g_ireturn rfl (Or.inl rfl) H
    · exact ⟨H.1, g_weak (show gm_Lle [some _] _ from ⟨rfl, trivial⟩) H.2⟩
  · exact ⟨H.1, g_weak (show gm_Lle [some _] _ from ⟨rfl, trivial⟩) H.2⟩
set_option maxRecDepth 20000 in
theorem w_584_90 {a0 : Nat} {ex : Nat} {h : hh_T} {Q : Option Value ⊕ Nat → hh_T → Prop} (H : hh_tg h a0 = 1 ∧ (gm_G 1 0 [some (.ref a0), some (.ref ex)] [] h (pI (fun v3 h2 => Q (.inl (some (.int v3))) h2) (fun e4 h5 => hh_tg h5 e4 = 21 ∧ Q (.inr e4) h5)))) : gm_G 584 90 [some (.ref a0)] [.ref ex] h Q := by
  refine g_astore (r := some _) rfl rfl rfl (pc' := 91) ?_
  refine g_aload (r := some _) rfl rfl rfl (pc' := 92) ?_
  refine g_aload (r := some _) rfl rfl rfl (pc' := 93) ?_
  obtain ⟨ht1, H⟩ := H
  refine g_call rfl (y := 1) (n := 2) (pc' := 96) (g_vt ht1 rfl rfl) rfl rfl ⟨(Nat.le_of_ble_eq_true rfl), (Nat.le_of_ble_eq_true rfl), (Nat.le_of_ble_eq_true rfl)⟩ rfl (gm_G.mono H (pI_elim (fun v3 h2 H' => ?_) (fun e4 h5 H => ?_)))
  · show gm_G _ 96 _ _ _ _
    replace H := H'
    clear H'
    exact g_ireturn rfl (Or.inl rfl) H
  · exact H
set_option maxRecDepth 20000 in
theorem w_585_0 {a0 : Nat} {x1 : Int32} {x2 : Int32} {x3 : Int32} {h : hh_T} {Q : Option Value ⊕ Nat → hh_T → Prop} (H : hh_tg h a0 = 1 ∧ (gm_G 456 0 [some (.ref a0)] [] h (pV (fun h2 => (¬ x2 = (Int32.ofNat 1) → (gm_G 585 14 [some (.ref a0), some (.int x1), some (.int x2), some (.int x3)] [.int (Int32.ofNat 0)] h2 Q)) ∧ (x2 = (Int32.ofNat 1) → (gm_G 585 14 [some (.ref a0), some (.int x1), some (.int x2), some (.int x3)] [.int (Int32.ofNat 1)] h2 Q))) (fun e3 h4 => hh_tg h4 e3 = 21 ∧ gm_G 585 97 [some (.ref a0)] [.ref e3] h4 Q)))) : gm_G 585 0 [some (.ref a0), some (.int x1), some (.int x2), some (.int x3)] [] h Q := by
  refine g_aload (r := some _) rfl rfl rfl (pc' := 1) ?_
  obtain ⟨ht1, H⟩ := H
  refine g_call rfl (y := 456) (n := 1) (pc' := 4) (g_vt ht1 rfl rfl) rfl rfl ⟨(Nat.le_of_ble_eq_true rfl), (Nat.le_of_ble_eq_true rfl), (Nat.le_of_ble_eq_true rfl)⟩ rfl (gm_G.mono H (pV_elim (fun h2 H' => ?_) (fun e3 h4 H => ?_)))
  · show gm_G _ 4 _ _ _ _
    replace H := H'
    clear H'
    refine g_iload rfl rfl rfl (pc' := 5) ?_
    refine g_iconst rfl rfl rfl (pc' := 6) ?_
    refine g_ic_ne rfl (pc' := 9) (pt := 13) rfl rfl ⟨fun hc => ?_, fun hc => ?_⟩
    · replace H := H.1 hc
      refine g_iconst rfl rfl rfl (pc' := 14) ?_
      exact g_weak (show gm_Lle [some _, some _, some _, some _] _ from ⟨rfl, ⟨rfl, ⟨rfl, ⟨rfl, trivial⟩⟩⟩⟩) H
    · replace H := H.2 hc
      refine g_iconst rfl rfl rfl (pc' := 10) ?_
      refine g_goto rfl (pc' := 14) rfl ?_
      exact g_weak (show gm_Lle [some _, some _, some _, some _] _ from ⟨rfl, ⟨rfl, ⟨rfl, ⟨rfl, trivial⟩⟩⟩⟩) H
  · exact ⟨H.1, g_weak (show gm_Lle [some _] _ from ⟨rfl, trivial⟩) H.2⟩
set_option maxRecDepth 20000 in
theorem w_585_14 {a0 : Nat} {x1 : Int32} {x2 : Int32} {x3 : Int32} {y0 : Int32} {h : hh_T} {Q : Option Value ⊕ Nat → hh_T → Prop} (H : (x2 = Int32.ofNat 0 → (gm_G 585 30 [some (.ref a0), some (.int x1), some (.int x2), some (.int x3), some (.int y0)] [] h Q)) ∧ (¬ x2 = Int32.ofNat 0 → ((x2 = (Int32.ofNat 4) → (gm_G 585 30 [some (.ref a0), some (.int x1), some (.int x2), some (.int x3), some (.int y0)] [] h Q)) ∧ (¬ x2 = (Int32.ofNat 4) → ((¬ x2 = (Int32.ofNat 1) → (gm_G 585 35 [some (.ref a0), some (.int x1), some (.int x2), some (.int x3), some (.int y0)] [.int (Int32.ofNat 1)] h Q)) ∧ (x2 = (Int32.ofNat 1) → (gm_G 585 30 [some (.ref a0), some (.int x1), some (.int x2), some (.int x3), some (.int y0)] [] h Q))))))) : gm_G 585 14 [some (.ref a0), some (.int x1), some (.int x2), some (.int x3)] [.int y0] h Q := by
  refine g_istore rfl rfl rfl (pc' := 16) ?_
  refine g_iload rfl rfl rfl (pc' := 17) ?_
  refine g_if_eq rfl (pc' := 20) (pt := 30) rfl rfl ⟨fun hc => ?_, fun hc => ?_⟩
  · replace H := H.1 hc
    exact g_weak (show gm_Lle [some _, some _, some _, some _, some _] _ from ⟨rfl, ⟨rfl, ⟨rfl, ⟨rfl, ⟨rfl, trivial⟩⟩⟩⟩⟩) H
  · replace H := H.2 hc
    refine g_iload rfl rfl rfl (pc' := 21) ?_
    refine g_iconst rfl rfl rfl (pc' := 22) ?_
    refine g_ic_eq rfl (pc' := 25) (pt := 30) rfl rfl ⟨fun hc => ?_, fun hc => ?_⟩
    · replace H := H.1 hc
      exact g_weak (show gm_Lle [some _, some _, some _, some _, some _] _ from ⟨rfl, ⟨rfl, ⟨rfl, ⟨rfl, ⟨rfl, trivial⟩⟩⟩⟩⟩) H
    · replace H := H.2 hc
      refine g_iload rfl rfl rfl (pc' := 26) ?_
      refine g_iconst rfl rfl rfl (pc' := 27) ?_
      refine g_ic_ne rfl (pc' := 30) (pt := 34) rfl rfl ⟨fun hc => ?_, fun hc => ?_⟩
      · replace H := H.1 hc
        refine g_iconst rfl rfl rfl (pc' := 35) ?_
        exact g_weak (show gm_Lle [some _, some _, some _, some _, some _] _ from ⟨rfl, ⟨rfl, ⟨rfl, ⟨rfl, ⟨rfl, trivial⟩⟩⟩⟩⟩) H
      · replace H := H.2 hc
        exact g_weak (show gm_Lle [some _, some _, some _, some _, some _] _ from ⟨rfl, ⟨rfl, ⟨rfl, ⟨rfl, ⟨rfl, trivial⟩⟩⟩⟩⟩) H
set_option maxRecDepth 20000 in
theorem w_585_30 {a0 : Nat} {x1 : Int32} {x2 : Int32} {x3 : Int32} {x4 : Int32} {h : hh_T} {Q : Option Value ⊕ Nat → hh_T → Prop} (H : gm_G 585 35 [some (.ref a0), some (.int x1), some (.int x2), some (.int x3), some (.int x4)] [.int (Int32.ofNat 2)] h Q) : gm_G 585 30 [some (.ref a0), some (.int x1), some (.int x2), some (.int x3), some (.int x4)] [] h Q := by
  refine g_iconst rfl rfl rfl (pc' := 31) ?_
  refine g_goto rfl (pc' := 35) rfl ?_
  exact g_weak (show gm_Lle [some _, some _, some _, some _, some _] _ from ⟨rfl, ⟨rfl, ⟨rfl, ⟨rfl, ⟨rfl, trivial⟩⟩⟩⟩⟩) H
set_option maxRecDepth 20000 in
theorem w_585_35 {a0 : Nat} {x1 : Int32} {x2 : Int32} {x3 : Int32} {x4 : Int32} {y0 : Int32} {h : hh_T} {Q : Option Value ⊕ Nat → hh_T → Prop} (H : gm_G 5 0 [some (.int x2), some (.int (Int32.ofNat 0)), some (.int (Int32.ofNat 4))] [] h (pI (fun v2 h1 => (v2 = Int32.ofNat 0 → (gm_G 585 66 [some (.ref a0), some (.int x1), some (.int x2), some (.int x3)] [] h1 Q)) ∧ (¬ v2 = Int32.ofNat 0 → ((x3 = (Int32.ofInt (-1)) → (gm_G 585 62 [some (.ref a0), some (.int x1), some (.int x2), some (.int x3)] [] h1 Q)) ∧ (¬ x3 = (Int32.ofInt (-1)) → (gm_G 5 0 [some (.int x3), some (.int x4), some (.int y0)] [] h1 (pI (fun v4 h3 => (v4 = Int32.ofNat 0 → (gm_G 585 66 [some (.ref a0), some (.int x1), some (.int x2), some (.int x3)] [] h3 Q)) ∧ (¬ v4 = Int32.ofNat 0 → (gm_G 585 62 [some (.ref a0), some (.int x1), some (.int x2), some (.int x3)] [] h3 Q))) (fun e5 h6 => hh_tg h6 e5 = 21 ∧ gm_G 585 97 [some (.ref a0)] [.ref e5] h6 Q))))))) (fun e7 h8 => hh_tg h8 e7 = 21 ∧ gm_G 585 97 [some (.ref a0)] [.ref e7] h8 Q))) : gm_G 585 35 [some (.ref a0), some (.int x1), some (.int x2), some (.int x3), some (.int x4)] [.int y0] h Q := by
  refine g_istore rfl rfl rfl (pc' := 37) ?_
  refine g_iload rfl rfl rfl (pc' := 38) ?_
  refine g_iconst rfl rfl rfl (pc' := 39) ?_
  refine g_iconst rfl rfl rfl (pc' := 40) ?_
  refine g_call rfl (y := 5) (n := 3) (pc' := 43) (fun _ => rfl) rfl rfl ⟨(Nat.le_of_ble_eq_true rfl), (Nat.le_of_ble_eq_true rfl), (Nat.le_of_ble_eq_true rfl)⟩ rfl (gm_G.mono H (pI_elim (fun v2 h1 H' => ?_) (fun e7 h8 H => ?_)))
  · show gm_G _ 43 _ _ _ _
    replace H := H'
    clear H'
    refine g_if_eq rfl (pc' := 46) (pt := 66) rfl rfl ⟨fun hc => ?_, fun hc => ?_⟩
    · replace H := H.1 hc
      exact g_weak (show gm_Lle [some _, some _, some _, some _] _ from ⟨rfl, ⟨rfl, ⟨rfl, ⟨rfl, trivial⟩⟩⟩⟩) H
    · replace H := H.2 hc
      refine g_iload rfl rfl rfl (pc' := 47) ?_
      refine g_iconst rfl rfl rfl (pc' := 48) ?_
      refine g_ic_eq rfl (pc' := 51) (pt := 62) rfl rfl ⟨fun hc => ?_, fun hc => ?_⟩
      · replace H := H.1 hc
        exact g_weak (show gm_Lle [some _, some _, some _, some _] _ from ⟨rfl, ⟨rfl, ⟨rfl, ⟨rfl, trivial⟩⟩⟩⟩) H
      · replace H := H.2 hc
        refine g_iload rfl rfl rfl (pc' := 52) ?_
        refine g_iload rfl rfl rfl (pc' := 54) ?_
        refine g_iload rfl rfl rfl (pc' := 56) ?_
        refine g_call rfl (y := 5) (n := 3) (pc' := 59) (fun _ => rfl) rfl rfl ⟨(Nat.le_of_ble_eq_true rfl), (Nat.le_of_ble_eq_true rfl), (Nat.le_of_ble_eq_true rfl)⟩ rfl (gm_G.mono H (pI_elim (fun v4 h3 H' => ?_) (fun e5 h6 H => ?_)))
        · show gm_G _ 59 _ _ _ _
          replace H := H'
          clear H'
          refine g_if_eq rfl (pc' := 62) (pt := 66) rfl rfl ⟨fun hc => ?_, fun hc => ?_⟩
          · replace H := H.1 hc
            exact g_weak (show gm_Lle [some _, some _, some _, some _] _ from ⟨rfl, ⟨rfl, ⟨rfl, ⟨rfl, trivial⟩⟩⟩⟩) H
          · replace H := H.2 hc
            exact g_weak (show gm_Lle [some _, some _, some _, some _] _ from ⟨rfl, ⟨rfl, ⟨rfl, ⟨rfl, trivial⟩⟩⟩⟩) H
        · exact ⟨H.1, g_weak (show gm_Lle [some _] _ from ⟨rfl, trivial⟩) H.2⟩
  · exact ⟨H.1, g_weak (show gm_Lle [some _] _ from ⟨rfl, trivial⟩) H.2⟩
set_option maxRecDepth 20000 in
theorem w_585_62 {a0 : Nat} {x1 : Int32} {x2 : Int32} {x3 : Int32} {h : hh_T} {Q : Option Value ⊕ Nat → hh_T → Prop} (H : gm_G 585 67 [some (.ref a0), some (.int x1), some (.int x2), some (.int x3)] [.int (Int32.ofNat 1)] h Q) : gm_G 585 62 [some (.ref a0), some (.int x1), some (.int x2), some (.int x3)] [] h Q := by
  refine g_iconst rfl rfl rfl (pc' := 63) ?_
  refine g_goto rfl (pc' := 67) rfl ?_
  exact g_weak (show gm_Lle [some _, some _, some _, some _] _ from ⟨rfl, ⟨rfl, ⟨rfl, ⟨rfl, trivial⟩⟩⟩⟩) H
set_option maxRecDepth 20000 in
theorem w_585_66 {a0 : Nat} {x1 : Int32} {x2 : Int32} {x3 : Int32} {h : hh_T} {Q : Option Value ⊕ Nat → hh_T → Prop} (H : gm_G 585 67 [some (.ref a0), some (.int x1), some (.int x2), some (.int x3)] [.int (Int32.ofNat 0)] h Q) : gm_G 585 66 [some (.ref a0), some (.int x1), some (.int x2), some (.int x3)] [] h Q := by
  refine g_iconst rfl rfl rfl (pc' := 67) ?_
  exact g_weak (show gm_Lle [some _, some _, some _, some _] _ from ⟨rfl, ⟨rfl, ⟨rfl, ⟨rfl, trivial⟩⟩⟩⟩) H
set_option maxRecDepth 20000 in
theorem w_585_67 {a0 : Nat} {x1 : Int32} {x2 : Int32} {x3 : Int32} {y0 : Int32} {h : hh_T} {Q : Option Value ⊕ Nat → hh_T → Prop} (H : gm_G 452 0 [some (.int y0)] [] h (pV (fun h1 => hh_tg h1 a0 = 1 ∧ (gm_G 453 0 [some (.ref a0), some (.int x1)] [] h1 (pR (fun r4 h3 => ∃ a5, r4 = some a5 ∧ (gm_sub (hh_tg h3 a5) 23 = true ∧ (∀ r7, r7 = hh_r h3 a5 5 → ((¬ x3 = (Int32.ofInt (-1)) → (gm_G 585 90 [some (.ref a0)] [.int x3, .int x2, va_rf r7] h3 Q)) ∧ (x3 = (Int32.ofInt (-1)) → (gm_G 585 90 [some (.ref a0)] [.int (Int32.ofInt (-2)), .int x2, va_rf r7] h3 Q)))))) (fun e8 h9 => hh_tg h9 e8 = 21 ∧ gm_G 585 97 [some (.ref a0)] [.ref e8] h9 Q)))) (fun e10 h11 => hh_tg h11 e10 = 21 ∧ gm_G 585 97 [some (.ref a0)] [.ref e10] h11 Q))) : gm_G 585 67 [some (.ref a0), some (.int x1), some (.int x2), some (.int x3)] [.int y0] h Q := by
  refine g_call rfl (y := 452) (n := 1) (pc' := 70) (fun _ => rfl) rfl rfl ⟨(Nat.le_of_ble_eq_true rfl), (Nat.le_of_ble_eq_true rfl), (Nat.le_of_ble_eq_true rfl)⟩ rfl (gm_G.mono H (pV_elim (fun h1 H' => ?_) (fun e10 h11 H => ?_)))
  · show gm_G _ 70 _ _ _ _
    replace H := H'
    clear H'
    refine g_aload (r := some _) rfl rfl rfl (pc' := 71) ?_
    refine g_iload rfl rfl rfl (pc' := 72) ?_
    obtain ⟨ht2, H⟩ := H
    refine g_call rfl (y := 453) (n := 2) (pc' := 75) (g_vt ht2 rfl rfl) rfl rfl ⟨(Nat.le_of_ble_eq_true rfl), (Nat.le_of_ble_eq_true rfl), (Nat.le_of_ble_eq_true rfl)⟩ rfl (gm_G.mono H (pR_elim (fun r4 h3 H' => ?_) (fun e8 h9 H => ?_)))
    · show gm_G _ 75 _ _ _ _
      replace H := H'
      clear H'
      obtain ⟨a5, rfl, H⟩ := H
      obtain ⟨ht6, H⟩ := H
      refine g_getRv rfl rfl rfl rfl ht6 (pc' := 78) rfl (fun r7 hr7 => ?_)
      replace H := H r7 hr7
      refine g_iload rfl rfl rfl (pc' := 79) ?_
      refine g_iload rfl rfl rfl (pc' := 80) ?_
      refine g_iconst rfl rfl rfl (pc' := 81) ?_
      refine g_ic_ne rfl (pc' := 84) (pt := 89) rfl rfl ⟨fun hc => ?_, fun hc => ?_⟩
      · replace H := H.1 hc
        refine g_iload rfl rfl rfl (pc' := 90) ?_
        exact g_weak (show gm_Lle [some _] _ from ⟨rfl, trivial⟩) H
      · replace H := H.2 hc
        refine g_iconst rfl rfl rfl (pc' := 86) ?_
        refine g_goto rfl (pc' := 90) rfl ?_
        exact g_weak (show gm_Lle [some _] _ from ⟨rfl, trivial⟩) H
    · exact ⟨H.1, g_weak (show gm_Lle [some _] _ from ⟨rfl, trivial⟩) H.2⟩
  · exact ⟨H.1, g_weak (show gm_Lle [some _] _ from ⟨rfl, trivial⟩) H.2⟩
set_option maxRecDepth 20000 in
theorem w_585_90 {a0 : Nat} {y0 : Int32} {y1 : Int32} {q2 : Option Nat} {h : hh_T} {Q : Option Value ⊕ Nat → hh_T → Prop} (H : ∃ a1, q2 = some a1 ∧ (hh_tg h a1 = 100 ∧ (∃ n2, gm_ix y1 n2 (hh_ln h a1) ∧ (∀ h3, h3 = hh_wi h a1 n2 y0 → (hh_tg h3 a0 = 1 ∧ (gm_G 565 0 [some (.ref a0), some (.int (Int32.ofNat 0))] [] h3 (pI (fun v6 h5 => Q (.inl (some (.int v6))) h5) (fun e7 h8 => hh_tg h8 e7 = 21 ∧ gm_G 585 97 [some (.ref a0)] [.ref e7] h8 Q)))))))) : gm_G 585 90 [some (.ref a0)] [.int y0, .int y1, va_rf q2] h Q := by
  obtain ⟨a1, rfl, H⟩ := H
  obtain ⟨ht9, H⟩ := H
  obtain ⟨n2, hn2, H⟩ := H
  refine g_iastore rfl ht9 hn2  (pc' := 91) rfl ?_
  replace H := H _ rfl
  refine g_aload (r := some _) rfl rfl rfl (pc' := 92) ?_
  refine g_iconst rfl rfl rfl (pc' := 93) ?_
  obtain ⟨ht4, H⟩ := H
  refine g_call rfl (y := 565) (n := 2) (pc' := 96) (g_vt ht4 rfl rfl) rfl rfl ⟨(Nat.le_of_ble_eq_true rfl), (Nat.le_of_ble_eq_true rfl), (Nat.le_of_ble_eq_true rfl)⟩ rfl (gm_G.mono H (pI_elim (fun v6 h5 H' => ?_) (fun e7 h8 H => ?_)))
  · show gm_G _ 96 _ _ _ _
    replace H := H'
    clear H'
    exact g_ireturn rfl (Or.inl rfl) H
  · exact ⟨H.1, g_weak (show gm_Lle [some _] _ from ⟨rfl, trivial⟩) H.2⟩
set_option maxRecDepth 20000 in
theorem w_585_97 {a0 : Nat} {ex : Nat} {h : hh_T} {Q : Option Value ⊕ Nat → hh_T → Prop} (H : hh_tg h a0 = 1 ∧ (gm_G 1 0 [some (.ref a0), some (.ref ex)] [] h (pI (fun v3 h2 => Q (.inl (some (.int v3))) h2) (fun e4 h5 => hh_tg h5 e4 = 21 ∧ Q (.inr e4) h5)))) : gm_G 585 97 [some (.ref a0)] [.ref ex] h Q := by
  refine g_astore (r := some _) rfl rfl rfl (pc' := 99) ?_
  refine g_aload (r := some _) rfl rfl rfl (pc' := 100) ?_
  refine g_aload (r := some _) rfl rfl rfl (pc' := 102) ?_
  obtain ⟨ht1, H⟩ := H
  refine g_call rfl (y := 1) (n := 2) (pc' := 105) (g_vt ht1 rfl rfl) rfl rfl ⟨(Nat.le_of_ble_eq_true rfl), (Nat.le_of_ble_eq_true rfl), (Nat.le_of_ble_eq_true rfl)⟩ rfl (gm_G.mono H (pI_elim (fun v3 h2 H' => ?_) (fun e4 h5 H => ?_)))
  · show gm_G _ 105 _ _ _ _
    replace H := H'
    clear H'
    exact g_ireturn rfl (Or.inl rfl) H
  · exact H
set_option maxRecDepth 20000 in
theorem w_586_0 {a0 : Nat} {x1 : Int32} {h : hh_T} {Q : Option Value ⊕ Nat → hh_T → Prop} (H : hh_tg h a0 = 1 ∧ (gm_G 243 0 [some (.ref a0)] [] h (pV (fun h2 => hh_tg h2 a0 = 1 ∧ (gm_G 456 0 [some (.ref a0)] [] h2 (pV (fun h4 => hh_tg h4 a0 = 1 ∧ (gm_G 498 0 [some (.ref a0)] [] h4 (pL (fun v7 h6 => hh_tg h6 a0 = 1 ∧ (gm_G 453 0 [some (.ref a0), some (.int x1)] [] h6 (pR (fun r10 h9 => gm_sub (hh_tg h9 a0) 0 = true ∧ (∀ r12, r12 = hh_r h9 a0 33 → (∃ a13, r12 = some a13 ∧ (hh_tg h9 a13 = 23 ∧ (gm_G 310 0 [some (.ref a13), some (va_rf r10), some (.long v7), none] [] h9 (pR (fun r16 h15 => (∀ a17, r16 = some a17 → (gm_G 586 38 [some (.ref a0), none, some (.long v7), none, some (va_rf r10)] [.int (Int32.ofNat 0)] h15 Q)) ∧ (r16 = none → (gm_G 586 33 [some (.ref a0), none, some (.long v7), none, some (va_rf r10)] [] h15 Q))) (fun e18 h19 => hh_tg h19 e18 = 21 ∧ gm_G 586 94 [some (.ref a0)] [.ref e18] h19 Q))))))) (fun e20 h21 => hh_tg h21 e20 = 21 ∧ gm_G 586 94 [some (.ref a0)] [.ref e20] h21 Q)))) (fun e22 h23 => hh_tg h23 e22 = 21 ∧ gm_G 586 94 [some (.ref a0)] [.ref e22] h23 Q)))) (fun e24 h25 => hh_tg h25 e24 = 21 ∧ gm_G 586 94 [some (.ref a0)] [.ref e24] h25 Q)))) (fun e26 h27 => hh_tg h27 e26 = 21 ∧ Q (.inr e26) h27)))) : gm_G 586 0 [some (.ref a0), some (.int x1)] [] h Q := by
  refine g_aload (r := some _) rfl rfl rfl (pc' := 1) ?_
  obtain ⟨ht1, H⟩ := H
  refine g_call rfl (y := 243) (n := 1) (pc' := 4) (g_vt ht1 rfl rfl) rfl rfl ⟨(Nat.le_of_ble_eq_true rfl), (Nat.le_of_ble_eq_true rfl), (Nat.le_of_ble_eq_true rfl)⟩ rfl (gm_G.mono H (pV_elim (fun h2 H' => ?_) (fun e26 h27 H => ?_)))
  · show gm_G _ 4 _ _ _ _
    replace H := H'
    clear H'
    refine g_aload (r := some _) rfl rfl rfl (pc' := 5) ?_
    obtain ⟨ht3, H⟩ := H
    refine g_call rfl (y := 456) (n := 1) (pc' := 8) (g_vt ht3 rfl rfl) rfl rfl ⟨(Nat.le_of_ble_eq_true rfl), (Nat.le_of_ble_eq_true rfl), (Nat.le_of_ble_eq_true rfl)⟩ rfl (gm_G.mono H (pV_elim (fun h4 H' => ?_) (fun e24 h25 H => ?_)))
    · show gm_G _ 8 _ _ _ _
      replace H := H'
      clear H'
      refine g_aload (r := some _) rfl rfl rfl (pc' := 9) ?_
      obtain ⟨ht5, H⟩ := H
      refine g_call rfl (y := 498) (n := 1) (pc' := 12) (g_vt ht5 rfl rfl) rfl rfl ⟨(Nat.le_of_ble_eq_true rfl), (Nat.le_of_ble_eq_true rfl), (Nat.le_of_ble_eq_true rfl)⟩ rfl (gm_G.mono H (pL_elim (fun v7 h6 H' => ?_) (fun e22 h23 H => ?_)))
      · show gm_G _ 12 _ _ _ _
        replace H := H'
        clear H'
        refine g_lstore rfl rfl rfl (pc' := 13) ?_
        refine g_aload (r := some _) rfl rfl rfl (pc' := 14) ?_
        refine g_iload rfl rfl rfl (pc' := 15) ?_
        obtain ⟨ht8, H⟩ := H
        refine g_call rfl (y := 453) (n := 2) (pc' := 18) (g_vt ht8 rfl rfl) rfl rfl ⟨(Nat.le_of_ble_eq_true rfl), (Nat.le_of_ble_eq_true rfl), (Nat.le_of_ble_eq_true rfl)⟩ rfl (gm_G.mono H (pR_elim (fun r10 h9 H' => ?_) (fun e20 h21 H => ?_)))
        · show gm_G _ 18 _ _ _ _
          replace H := H'
          clear H'
          refine g_astore (r := _) rfl rfl rfl (pc' := 20) ?_
          refine g_aload (r := some _) rfl rfl rfl (pc' := 21) ?_
          obtain ⟨ht11, H⟩ := H
          refine g_getRv rfl rfl rfl rfl ht11 (pc' := 24) rfl (fun r12 hr12 => ?_)
          replace H := H r12 hr12
          refine g_aload (r := _) rfl rfl rfl (pc' := 26) ?_
          refine g_lload rfl rfl rfl (pc' := 27) ?_
          obtain ⟨a13, rfl, H⟩ := H
          obtain ⟨ht14, H⟩ := H
          refine g_call rfl (y := 310) (n := 3) (pc' := 30) (g_vt ht14 rfl rfl) (by cases r10 <;> rfl) rfl ⟨(Nat.le_of_ble_eq_true rfl), (Nat.le_of_ble_eq_true rfl), (Nat.le_of_ble_eq_true rfl)⟩ rfl (gm_G.mono H (pR_elim (fun r16 h15 H' => ?_) (fun e18 h19 H => ?_)))
          · show gm_G _ 30 _ _ _ _
            replace H := H'
            clear H'
            refine g_ifnonnull rfl (pc' := 33) (pt := 37) rfl rfl ⟨fun a17 hc => ?_, fun hc => ?_⟩
            · replace H := H.1 a17 hc
              subst hc
              refine g_iconst rfl rfl rfl (pc' := 38) ?_
              exact g_weak (show gm_Lle [some _, none, some _, none, some _] _ from ⟨rfl, ⟨rfl, ⟨rfl, trivial⟩⟩⟩) H
            · replace H := H.2 hc
              subst hc
              exact g_weak (show gm_Lle [some _, none, some _, none, some _] _ from ⟨rfl, ⟨rfl, ⟨rfl, trivial⟩⟩⟩) H
          · exact ⟨H.1, g_weak (show gm_Lle [some _] _ from ⟨rfl, trivial⟩) H.2⟩
        · exact ⟨H.1, g_weak (show gm_Lle [some _] _ from ⟨rfl, trivial⟩) H.2⟩
      · exact ⟨H.1, g_weak (show gm_Lle [some _] _ from ⟨rfl, trivial⟩) H.2⟩
    · exact ⟨H.1, g_weak (show gm_Lle [some _] _ from ⟨rfl, trivial⟩) H.2⟩
  · exact H
set_option maxRecDepth 20000 in
theorem w_586_33 {a0 : Nat} {j2 : Int64} {r_4 : Option Nat} {h : hh_T} {Q : Option Value ⊕ Nat → hh_T → Prop} (H : gm_G 586 38 [some (.ref a0), none, some (.long j2), none, some (va_rf r_4)] [.int (Int32.ofNat 1)] h Q) : gm_G 586 33 [some (.ref a0), none, some (.long j2), none, some (va_rf r_4)] [] h Q := by
  refine g_iconst rfl rfl rfl (pc' := 34) ?_
  refine g_goto rfl (pc' := 38) rfl ?_
  exact g_weak (show gm_Lle [some _, none, some _, none, some _] _ from ⟨rfl, ⟨rfl, ⟨rfl, trivial⟩⟩⟩) H
set_option maxRecDepth 20000 in
theorem w_586_38 {a0 : Nat} {j2 : Int64} {r_4 : Option Nat} {y0 : Int32} {h : hh_T} {Q : Option Value ⊕ Nat → hh_T → Prop} (H : gm_G 431 0 [some (.int y0), some (.int (Int32.ofInt (-4)))] [] h (pV (fun h1 => gm_sub (hh_tg h1 a0) 0 = true ∧ (∀ r3, r3 = hh_r h1 a0 33 → (∃ a4, r3 = some a4 ∧ (gm_sub (hh_tg h1 a4) 22 = true ∧ ((¬ (hh_i h1 a4 3) < (Int32.ofNat 12) → (gm_G 586 60 [some (.ref a0), none, some (.long j2), none, some (va_rf r_4)] [.int (Int32.ofNat 0)] h1 Q)) ∧ ((hh_i h1 a4 3) < (Int32.ofNat 12) → (gm_G 586 60 [some (.ref a0), none, some (.long j2), none, some (va_rf r_4)] [.int (Int32.ofNat 1)] h1 Q))))))) (fun e6 h7 => hh_tg h7 e6 = 21 ∧ gm_G 586 94 [some (.ref a0)] [.ref e6] h7 Q))) : gm_G 586 38 [some (.ref a0), none, some (.long j2), none, some (va_rf r_4)] [.int y0] h Q := by
  refine g_iconst rfl rfl rfl (pc' := 40) ?_
  refine g_call rfl (y := 431) (n := 2) (pc' := 43) (fun _ => rfl) rfl rfl ⟨(Nat.le_of_ble_eq_true rfl), (Nat.le_of_ble_eq_true rfl), (Nat.le_of_ble_eq_true rfl)⟩ rfl (gm_G.mono H (pV_elim (fun h1 H' => ?_) (fun e6 h7 H => ?_)))
  · show gm_G _ 43 _ _ _ _
    replace H := H'
    clear H'
    refine g_aload (r := some _) rfl rfl rfl (pc' := 44) ?_
    obtain ⟨ht2, H⟩ := H
    refine g_getRv rfl rfl rfl rfl ht2 (pc' := 47) rfl (fun r3 hr3 => ?_)
    replace H := H r3 hr3
    obtain ⟨a4, rfl, H⟩ := H
    obtain ⟨ht5, H⟩ := H
    refine g_getI rfl rfl rfl rfl ht5 (pc' := 50) rfl ?_
    refine g_iconst rfl rfl rfl (pc' := 52) ?_
    refine g_ic_ge rfl (pc' := 55) (pt := 59) rfl rfl ⟨fun hc => ?_, fun hc => ?_⟩
    · replace H := H.1 hc
      refine g_iconst rfl rfl rfl (pc' := 60) ?_
      exact g_weak (show gm_Lle [some _, none, some _, none, some _] _ from ⟨rfl, ⟨rfl, ⟨rfl, trivial⟩⟩⟩) H
    · replace H := H.2 hc
      refine g_iconst rfl rfl rfl (pc' := 56) ?_
      refine g_goto rfl (pc' := 60) rfl ?_
      exact g_weak (show gm_Lle [some _, none, some _, none, some _] _ from ⟨rfl, ⟨rfl, ⟨rfl, trivial⟩⟩⟩) H
  · exact ⟨H.1, g_weak (show gm_Lle [some _] _ from ⟨rfl, trivial⟩) H.2⟩
set_option maxRecDepth 20000 in
theorem w_586_60 {a0 : Nat} {j2 : Int64} {r_4 : Option Nat} {y0 : Int32} {h : hh_T} {Q : Option Value ⊕ Nat → hh_T → Prop} (H : gm_G 431 0 [some (.int y0), some (.int (Int32.ofInt (-3)))] [] h (pV (fun h1 => gm_sub (hh_tg h1 a0) 0 = true ∧ (∀ h3, h3 = hh_wi h1 a0 37 ((hh_i h1 a0 37) + (Int32.ofNat 1)) → (hh_tg h3 a0 = 1 ∧ (gm_G 334 0 [some (.ref a0), some (va_rf r_4), some (.long j2), none, some (.int (hh_i h3 a0 37))] [] h3 (pR (fun r6 h5 => ∃ a7, r6 = some a7 ∧ (gm_sub (hh_tg h5 a7) 29 = true ∧ (hh_tg h5 a0 = 1 ∧ (gm_G 565 0 [some (.ref a0), some (.int (hh_i h5 a7 0))] [] h5 (pI (fun v11 h10 => Q (.inl (some (.int v11))) h10) (fun e12 h13 => hh_tg h13 e12 = 21 ∧ gm_G 586 94 [some (.ref a0)] [.ref e12] h13 Q)))))) (fun e14 h15 => hh_tg h15 e14 = 21 ∧ gm_G 586 94 [some (.ref a0)] [.ref e14] h15 Q)))))) (fun e16 h17 => hh_tg h17 e16 = 21 ∧ gm_G 586 94 [some (.ref a0)] [.ref e16] h17 Q))) : gm_G 586 60 [some (.ref a0), none, some (.long j2), none, some (va_rf r_4)] [.int y0] h Q := by
  refine g_iconst rfl rfl rfl (pc' := 62) ?_
  refine g_call rfl (y := 431) (n := 2) (pc' := 65) (fun _ => rfl) rfl rfl ⟨(Nat.le_of_ble_eq_true rfl), (Nat.le_of_ble_eq_true rfl), (Nat.le_of_ble_eq_true rfl)⟩ rfl (gm_G.mono H (pV_elim (fun h1 H' => ?_) (fun e16 h17 H => ?_)))
  · show gm_G _ 65 _ _ _ _
    replace H := H'
    clear H'
    refine g_aload (r := some _) rfl rfl rfl (pc' := 66) ?_
    refine g_dup_a (r := some _) rfl rfl (pc' := 67) ?_
    obtain ⟨ht2, H⟩ := H
    refine g_getI rfl rfl rfl rfl ht2 (pc' := 70) rfl ?_
    refine g_iconst rfl rfl rfl (pc' := 71) ?_
    refine g_iadd rfl rfl (pc' := 72) ?_
    refine g_putI rfl rfl rfl rfl ht2  (pc' := 75) rfl ?_
    replace H := H _ rfl
    refine g_aload (r := some _) rfl rfl rfl (pc' := 76) ?_
    refine g_aload (r := some _) rfl rfl rfl (pc' := 77) ?_
    refine g_aload (r := _) rfl rfl rfl (pc' := 79) ?_
    refine g_lload rfl rfl rfl (pc' := 80) ?_
    refine g_aload (r := some _) rfl rfl rfl (pc' := 81) ?_
    refine g_getI rfl rfl rfl rfl ht2 (pc' := 84) rfl ?_
    obtain ⟨ht4, H⟩ := H
    refine g_call rfl (y := 334) (n := 4) (pc' := 87) (g_vt ht4 rfl rfl) (by cases r_4 <;> rfl) rfl ⟨(Nat.le_of_ble_eq_true rfl), (Nat.le_of_ble_eq_true rfl), (Nat.le_of_ble_eq_true rfl)⟩ rfl (gm_G.mono H (pR_elim (fun r6 h5 H' => ?_) (fun e14 h15 H => ?_)))
    · show gm_G _ 87 _ _ _ _
      replace H := H'
      clear H'
      obtain ⟨a7, rfl, H⟩ := H
      obtain ⟨ht8, H⟩ := H
      refine g_getI rfl rfl rfl rfl ht8 (pc' := 90) rfl ?_
      obtain ⟨ht9, H⟩ := H
      refine g_call rfl (y := 565) (n := 2) (pc' := 93) (g_vt ht9 rfl rfl) rfl rfl ⟨(Nat.le_of_ble_eq_true rfl), (Nat.le_of_ble_eq_true rfl), (Nat.le_of_ble_eq_true rfl)⟩ rfl (gm_G.mono H (pI_elim (fun v11 h10 H' => ?_) (fun e12 h13 H => ?_)))
      · show gm_G _ 93 _ _ _ _
        replace H := H'
        clear H'
        exact g_ireturn rfl (Or.inl rfl) H
      · exact ⟨H.1, g_weak (show gm_Lle [some _] _ from ⟨rfl, trivial⟩) H.2⟩
    · exact ⟨H.1, g_weak (show gm_Lle [some _] _ from ⟨rfl, trivial⟩) H.2⟩
  · exact ⟨H.1, g_weak (show gm_Lle [some _] _ from ⟨rfl, trivial⟩) H.2⟩
set_option maxRecDepth 20000 in
theorem w_586_94 {a0 : Nat} {ex : Nat} {h : hh_T} {Q : Option Value ⊕ Nat → hh_T → Prop} (H : hh_tg h a0 = 1 ∧ (gm_G 1 0 [some (.ref a0), some (.ref ex)] [] h (pI (fun v3 h2 => Q (.inl (some (.int v3))) h2) (fun e4 h5 => hh_tg h5 e4 = 21 ∧ Q (.inr e4) h5)))) : gm_G 586 94 [some (.ref a0)] [.ref ex] h Q := by
  refine g_astore (r := some _) rfl rfl rfl (pc' := 95) ?_
  refine g_aload (r := some _) rfl rfl rfl (pc' := 96) ?_
  refine g_aload (r := some _) rfl rfl rfl (pc' := 97) ?_
  obtain ⟨ht1, H⟩ := H
  refine g_call rfl (y := 1) (n := 2) (pc' := 100) (g_vt ht1 rfl rfl) rfl rfl ⟨(Nat.le_of_ble_eq_true rfl), (Nat.le_of_ble_eq_true rfl), (Nat.le_of_ble_eq_true rfl)⟩ rfl (gm_G.mono H (pI_elim (fun v3 h2 H' => ?_) (fun e4 h5 H => ?_)))
  · show gm_G _ 100 _ _ _ _
    replace H := H'
    clear H'
    exact g_ireturn rfl (Or.inl rfl) H
  · exact H
set_option maxRecDepth 20000 in
theorem w_587_0 {a0 : Nat} {r_1 : Option Nat} {x2 : Int32} {h : hh_T} {Q : Option Value ⊕ Nat → hh_T → Prop} (H : gm_G 587 5 [some (.ref a0), some (va_rf r_1), some (.int x2), some (.int (Int32.ofNat 1)), some (.int (Int32.ofNat 0))] [] h Q) : gm_G 587 0 [some (.ref a0), some (va_rf r_1), some (.int x2)] [] h Q := by
  refine g_iconst rfl rfl rfl (pc' := 1) ?_
  refine g_istore rfl rfl rfl (pc' := 2) ?_
  refine g_iconst rfl rfl rfl (pc' := 3) ?_
  refine g_istore rfl rfl rfl (pc' := 5) ?_
  exact g_weak (show gm_Lle [some _, some _, some _, some _, some _] _ from ⟨rfl, ⟨rfl, ⟨rfl, ⟨rfl, ⟨rfl, trivial⟩⟩⟩⟩⟩) H
set_option maxRecDepth 20000 in
theorem w_587_5 {a0 : Nat} {r_1 : Option Nat} {x2 : Int32} {x3 : Int32} {x4 : Int32} {h : hh_T} {Q : Option Value ⊕ Nat → hh_T → Prop} (H : ∃ a1, r_1 = some a1 ∧ (gm_sub (hh_tg h a1) 31 = true ∧ ((¬ x4 < (hh_i h a1 2) → (gm_sub (hh_tg h a0) 0 = true ∧ (∀ r4, r4 = hh_r h a0 21 → (∀ r5, r5 = hh_r h a0 21 → (∃ a6, r5 = some a6 ∧ (100 ≤ hh_tg h a6 ∧ ((Int32.ofNat (hh_ln h a6)) ≠ 0 ∧ (∀ r7, r7 = hh_r h a1 5 → (∃ a8, r7 = some a8 ∧ ((hh_tg h a8 = 100 ∨ hh_tg h a8 = 105) ∧ (0 < hh_ln h a8 ∧ (∀ r11, r11 = hh_r h a1 4 → (∃ a12, r11 = some a12 ∧ ((hh_tg h a12 = 100 ∨ hh_tg h a12 = 105) ∧ (0 < hh_ln h a12 ∧ (∃ a15, r4 = some a15 ∧ (hh_tg h a15 = 100 ∧ (∃ n16, gm_ix ((hh_i h a0 22) - (hh_i h a0 22) / (Int32.ofNat (hh_ln h a6)) * (Int32.ofNat (hh_ln h a6))) n16 (hh_ln h a15) ∧ (∀ h17, h17 = hh_wi h a15 n16 ((hh_i h a8 0) + ((Int32.ofNat 512) * (hh_i h a12 0))) → (∀ h18, h18 = hh_wi h17 a0 22 ((hh_i h17 a0 22) + (Int32.ofNat 1)) → (Q (.inl (some (.int (Int32.ofNat 0)))) h18))))))))))))))))))))) ∧ (x4 < (hh_i h a1 2) → (gm_sub (hh_tg h a0) 0 = true ∧ (∀ r21, r21 = hh_r h a0 7 → (∀ r22, r22 = hh_r h a1 4 → (∃ a23, r22 = some a23 ∧ ((hh_tg h a23 = 100 ∨ hh_tg h a23 = 105) ∧ (∃ n24, gm_ix x4 n24 (hh_ln h a23) ∧ (∃ a26, r21 = some a26 ∧ ((hh_tg h a26 = 104 ∨ 200 ≤ hh_tg h a26) ∧ (∃ n27, gm_ix (hh_i h a23 n24) n27 (hh_ln h a26) ∧ (∀ r29, r29 = hh_r h a26 n27 → (gm_G 587 31 [some (.ref a0), some (.ref a1), some (.int x2), some (.int x3), some (.int x4), some (va_rf r29), some (.int (Int32.ofNat 0))] [] h Q))))))))))))))) : gm_G 587 5 [some (.ref a0), some (va_rf r_1), some (.int x2), some (.int x3), some (.int x4)] [] h Q := by
  refine g_iload rfl rfl rfl (pc' := 7) ?_
  refine g_aload (r := _) rfl rfl rfl (pc' := 8) ?_
  obtain ⟨a1, rfl, H⟩ := H
  obtain ⟨ht2, H⟩ := H
  refine g_getI rfl rfl rfl rfl ht2 (pc' := 11) rfl ?_
  refine g_ic_ge rfl (pc' := 14) (pt := 114) rfl rfl ⟨fun hc => ?_, fun hc => ?_⟩
  · replace H := H.1 hc
    refine g_aload (r := some _) rfl rfl rfl (pc' := 115) ?_
    obtain ⟨ht3, H⟩ := H
    refine g_getRv rfl rfl rfl rfl ht3 (pc' := 118) rfl (fun r4 hr4 => ?_)
    replace H := H r4 hr4
    refine g_aload (r := some _) rfl rfl rfl (pc' := 119) ?_
    refine g_getI rfl rfl rfl rfl ht3 (pc' := 122) rfl ?_
    refine g_aload (r := some _) rfl rfl rfl (pc' := 123) ?_
    refine g_getRv rfl rfl rfl rfl ht3 (pc' := 126) rfl (fun r5 hr5 => ?_)
    replace H := H r5 hr5
    obtain ⟨a6, rfl, H⟩ := H
    obtain ⟨Hp, H⟩ := H
    refine g_alen rfl Hp (pc' := 127) rfl ?_
    obtain ⟨Hp, H⟩ := H
    refine g_irem rfl Hp (pc' := 128) rfl ?_
    refine g_aload (r := some _) rfl rfl rfl (pc' := 129) ?_
    refine g_getRv rfl rfl rfl rfl ht2 (pc' := 132) rfl (fun r7 hr7 => ?_)
    replace H := H r7 hr7
    refine g_iconst rfl rfl rfl (pc' := 133) ?_
    obtain ⟨a8, rfl, H⟩ := H
    obtain ⟨ht10, H⟩ := H
    obtain ⟨hn9, H⟩ := H
    refine g_iaload rfl ht10 ⟨rfl, by decide, hn9⟩ (pc' := 134) rfl ?_
    refine g_iconst rfl rfl rfl (pc' := 137) ?_
    refine g_aload (r := some _) rfl rfl rfl (pc' := 138) ?_
    refine g_getRv rfl rfl rfl rfl ht2 (pc' := 141) rfl (fun r11 hr11 => ?_)
    replace H := H r11 hr11
    refine g_iconst rfl rfl rfl (pc' := 142) ?_
    obtain ⟨a12, rfl, H⟩ := H
    obtain ⟨ht14, H⟩ := H
    obtain ⟨hn13, H⟩ := H
    refine g_iaload rfl ht14 ⟨rfl, by decide, hn13⟩ (pc' := 143) rfl ?_
    refine g_imul rfl rfl (pc' := 144) ?_
    refine g_iadd rfl rfl (pc' := 145) ?_
    obtain ⟨a15, rfl, H⟩ := H
    obtain ⟨ht19, H⟩ := H
    obtain ⟨n16, hn16, H⟩ := H
    refine g_iastore rfl ht19 hn16  (pc' := 146) rfl ?_
    replace H := H _ rfl
    refine g_aload (r := some _) rfl rfl rfl (pc' := 147) ?_
    refine g_dup_a (r := some _) rfl rfl (pc' := 148) ?_
    refine g_getI rfl rfl rfl rfl ht3 (pc' := 151) rfl ?_
    refine g_iconst rfl rfl rfl (pc' := 152) ?_
    refine g_iadd rfl rfl (pc' := 153) ?_
    refine g_putI rfl rfl rfl rfl ht3  (pc' := 156) rfl ?_
    replace H := H _ rfl
    refine g_iconst rfl rfl rfl (pc' := 157) ?_
    exact g_ireturn rfl (Or.inr (by decide)) H
  · replace H := H.2 hc
    refine g_aload (r := some _) rfl rfl rfl (pc' := 15) ?_
    obtain ⟨ht20, H⟩ := H
    refine g_getRv rfl rfl rfl rfl ht20 (pc' := 18) rfl (fun r21 hr21 => ?_)
    replace H := H r21 hr21
    refine g_aload (r := some _) rfl rfl rfl (pc' := 19) ?_
    refine g_getRv rfl rfl rfl rfl ht2 (pc' := 22) rfl (fun r22 hr22 => ?_)
    replace H := H r22 hr22
    refine g_iload rfl rfl rfl (pc' := 24) ?_
    obtain ⟨a23, rfl, H⟩ := H
    obtain ⟨ht25, H⟩ := H
    obtain ⟨n24, hn24, H⟩ := H
    refine g_iaload rfl ht25 hn24 (pc' := 25) rfl ?_
    obtain ⟨a26, rfl, H⟩ := H
    obtain ⟨ht28, H⟩ := H
    obtain ⟨n27, hn27, H⟩ := H
    refine g_aaloadv rfl ht28 hn27 (pc' := 26) rfl (fun r29 hr29 => ?_)
    replace H := H r29 hr29
    refine g_astore (r := _) rfl rfl rfl (pc' := 28) ?_
    refine g_iconst rfl rfl rfl (pc' := 29) ?_
    refine g_istore rfl gm_sto_rf5 rfl (pc' := 31) ?_
    exact g_weak (show gm_Lle [some _, some _, some _, some _, some _, some _, some _] _ from ⟨rfl, ⟨rfl, ⟨rfl, ⟨rfl, ⟨rfl, ⟨rfl, ⟨rfl, trivial⟩⟩⟩⟩⟩⟩⟩) H
set_option maxRecDepth 20000 in
theorem w_587_31 {a0 : Nat} {r_1 : Option Nat} {x2 : Int32} {x3 : Int32} {x4 : Int32} {r_5 : Option Nat} {x6 : Int32} {h : hh_T} {Q : Option Value ⊕ Nat → hh_T → Prop} (H : ∃ a1, r_5 = some a1 ∧ ((hh_tg h a1 = 5 ∧ (gm_G 35 0 [some (.ref a1)] [] h (pI (fun v3 h2 => (¬ x6 < v3 → (gm_G 587 5 [some (.ref a0), some (va_rf r_1), some (.int x2), some (.int x3), some (.int (x4 + (Int32.ofNat 1)))] [] h2 Q)) ∧ (x6 < v3 → (∃ a4, r_1 = some a4 ∧ (gm_sub (hh_tg h2 a4) 31 = true ∧ (∀ r6, r6 = hh_r h2 a4 5 → (∃ a7, r6 = some a7 ∧ ((hh_tg h2 a7 = 100 ∨ hh_tg h2 a7 = 105) ∧ (∃ n8, gm_ix x4 n8 (hh_ln h2 a7) ∧ (gm_sub (hh_tg h2 a0) 0 = true ∧ (∀ r11, r11 = hh_r h2 a0 19 → ((hh_tg h2 a1 = 5 ∧ (gm_G 246 0 [some (.ref a1), some (.int x6), some (.int (hh_i h2 a7 n8)), some (.int (hh_i h2 a4 1)), some (va_rf r11)] [] h2 (pI (fun v13 h12 => (v13 = Int32.ofNat 0 → (gm_G 587 100 [some (.ref a0), some (.ref a4), some (.int x2), none, some (.int x4), some (.ref a1), some (.int x6)] [] h12 Q)) ∧ (¬ v13 = Int32.ofNat 0 → (hh_tg h12 a0 = 1 ∧ (gm_G 340 0 [some (.ref a0), some (.ref a4)] [] h12 (pI (fun v16 h15 => (v16 = Int32.ofNat 0 → (gm_G 587 100 [some (.ref a0), some (.ref a4), some (.int x2), none, some (.int x4), some (.ref a1), some (.int x6)] [] h15 Q)) ∧ (¬ v16 = Int32.ofNat 0 → ((¬ x2 = Int32.ofNat 0 → (gm_G 587 93 [some (.ref a0), some (.ref a4)] [] h15 Q)) ∧ (x2 = Int32.ofNat 0 → ((x3 = Int32.ofNat 0 → (gm_G 587 93 [some (.ref a0), some (.ref a4)] [] h15 Q)) ∧ (¬ x3 = Int32.ofNat 0 → (gm_sub (hh_tg h15 a0) 0 = true ∧ (((hh_i h15 a0 4) = Int32.ofNat 0 → (Q (.inl (some (.int (Int32.ofNat 1)))) h15)) ∧ (¬ (hh_i h15 a0 4) = Int32.ofNat 0 → (gm_G 587 93 [some (.ref a0), some (.ref a4)] [] h15 Q)))))))))) (fun e18 h19 => hh_tg h19 e18 = 21 ∧ Q (.inr e18) h19)))))) (fun e20 h21 => hh_tg h21 e20 = 21 ∧ Q (.inr e20) h21)))) ∨ (hh_tg h2 a1 = 7 ∧ (gm_G 398 0 [some (.ref a1), some (.int x6), some (.int (hh_i h2 a7 n8)), some (.int (hh_i h2 a4 1)), some (va_rf r11)] [] h2 (pI (fun v23 h22 => (v23 = Int32.ofNat 0 → (gm_G 587 100 [some (.ref a0), some (.ref a4), some (.int x2), none, some (.int x4), some (.ref a1), some (.int x6)] [] h22 Q)) ∧ (¬ v23 = Int32.ofNat 0 → (hh_tg h22 a0 = 1 ∧ (gm_G 340 0 [some (.ref a0), some (.ref a4)] [] h22 (pI (fun v26 h25 => (v26 = Int32.ofNat 0 → (gm_G 587 100 [some (.ref a0), some (.ref a4), some (.int x2), none, some (.int x4), some (.ref a1), some (.int x6)] [] h25 Q)) ∧ (¬ v26 = Int32.ofNat 0 → ((¬ x2 = Int32.ofNat 0 → (gm_G 587 93 [some (.ref a0), some (.ref a4)] [] h25 Q)) ∧ (x2 = Int32.ofNat 0 → ((x3 = Int32.ofNat 0 → (gm_G 587 93 [some (.ref a0), some (.ref a4)] [] h25 Q)) ∧ (¬ x3 = Int32.ofNat 0 → (gm_sub (hh_tg h25 a0) 0 = true ∧ (((hh_i h25 a0 4) = Int32.ofNat 0 → (Q (.inl (some (.int (Int32.ofNat 1)))) h25)) ∧ (¬ (hh_i h25 a0 4) = Int32.ofNat 0 → (gm_G 587 93 [some (.ref a0), some (.ref a4)] [] h25 Q)))))))))) (fun e28 h29 => hh_tg h29 e28 = 21 ∧ Q (.inr e28) h29)))))) (fun e30 h31 => hh_tg h31 e30 = 21 ∧ Q (.inr e30) h31))))))))))))))) (fun e32 h33 => hh_tg h33 e32 = 21 ∧ Q (.inr e32) h33)))) ∨ (hh_tg h a1 = 7 ∧ (gm_G 46 0 [some (.ref a1)] [] h (pI (fun v35 h34 => (¬ x6 < v35 → (gm_G 587 5 [some (.ref a0), some (va_rf r_1), some (.int x2), some (.int x3), some (.int (x4 + (Int32.ofNat 1)))] [] h34 Q)) ∧ (x6 < v35 → (∃ a36, r_1 = some a36 ∧ (gm_sub (hh_tg h34 a36) 31 = true ∧ (∀ r38, r38 = hh_r h34 a36 5 → (∃ a39, r38 = some a39 ∧ ((hh_tg h34 a39 = 100 ∨ hh_tg h34 a39 = 105) ∧ (∃ n40, gm_ix x4 n40 (hh_ln h34 a39) ∧ (gm_sub (hh_tg h34 a0) 0 = true ∧ (∀ r43, r43 = hh_r h34 a0 19 → ((hh_tg h34 a1 = 5 ∧ (gm_G 246 0 [some (.ref a1), some (.int x6), some (.int (hh_i h34 a39 n40)), some (.int (hh_i h34 a36 1)), some (va_rf r43)] [] h34 (pI (fun v45 h44 => (v45 = Int32.ofNat 0 → (gm_G 587 100 [some (.ref a0), some (.ref a36), some (.int x2), none, some (.int x4), some (.ref a1), some (.int x6)] [] h44 Q)) ∧ (¬ v45 = Int32.ofNat 0 → (hh_tg h44 a0 = 1 ∧ (gm_G 340 0 [some (.ref a0), some (.ref a36)] [] h44 (pI (fun v48 h47 => (v48 = Int32.ofNat 0 → (gm_G 587 100 [some (.ref a0), some (.ref a36), some (.int x2), none, some (.int x4), some (.ref a1), some (.int x6)] [] h47 Q)) ∧ (¬ v48 = Int32.ofNat 0 → ((¬ x2 = Int32.ofNat 0 → (gm_G 587 93 [some (.ref a0), some (.ref a36)] [] h47 Q)) ∧ (x2 = Int32.ofNat 0 → ((x3 = Int32.ofNat 0 → (gm_G 587 93 [some (.ref a0), some (.ref a36)] [] h47 Q)) ∧ (¬ x3 = Int32.ofNat 0 → (gm_sub (hh_tg h47 a0) 0 = true ∧ (((hh_i h47 a0 4) = Int32.ofNat 0 → (Q (.inl (some (.int (Int32.ofNat 1)))) h47)) ∧ (¬ (hh_i h47 a0 4) = Int32.ofNat 0 → (gm_G 587 93 [some (.ref a0), some (.ref a36)] [] h47 Q)))))))))) (fun e50 h51 => hh_tg h51 e50 = 21 ∧ Q (.inr e50) h51)))))) (fun e52 h53 => hh_tg h53 e52 = 21 ∧ Q (.inr e52) h53)))) ∨ (hh_tg h34 a1 = 7 ∧ (gm_G 398 0 [some (.ref a1), some (.int x6), some (.int (hh_i h34 a39 n40)), some (.int (hh_i h34 a36 1)), some (va_rf r43)] [] h34 (pI (fun v55 h54 => (v55 = Int32.ofNat 0 → (gm_G 587 100 [some (.ref a0), some (.ref a36), some (.int x2), none, some (.int x4), some (.ref a1), some (.int x6)] [] h54 Q)) ∧ (¬ v55 = Int32.ofNat 0 → (hh_tg h54 a0 = 1 ∧ (gm_G 340 0 [some (.ref a0), some (.ref a36)] [] h54 (pI (fun v58 h57 => (v58 = Int32.ofNat 0 → (gm_G 587 100 [some (.ref a0), some (.ref a36), some (.int x2), none, some (.int x4), some (.ref a1), some (.int x6)] [] h57 Q)) ∧ (¬ v58 = Int32.ofNat 0 → ((¬ x2 = Int32.ofNat 0 → (gm_G 587 93 [some (.ref a0), some (.ref a36)] [] h57 Q)) ∧ (x2 = Int32.ofNat 0 → ((x3 = Int32.ofNat 0 → (gm_G 587 93 [some (.ref a0), some (.ref a36)] [] h57 Q)) ∧ (¬ x3 = Int32.ofNat 0 → (gm_sub (hh_tg h57 a0) 0 = true ∧ (((hh_i h57 a0 4) = Int32.ofNat 0 → (Q (.inl (some (.int (Int32.ofNat 1)))) h57)) ∧ (¬ (hh_i h57 a0 4) = Int32.ofNat 0 → (gm_G 587 93 [some (.ref a0), some (.ref a36)] [] h57 Q)))))))))) (fun e60 h61 => hh_tg h61 e60 = 21 ∧ Q (.inr e60) h61)))))) (fun e62 h63 => hh_tg h63 e62 = 21 ∧ Q (.inr e62) h63))))))))))))))) (fun e64 h65 => hh_tg h65 e64 = 21 ∧ Q (.inr e64) h65)))))) : gm_G 587 31 [some (.ref a0), some (va_rf r_1), some (.int x2), some (.int x3), some (.int x4), some (va_rf r_5), some (.int x6)] [] h Q := by
  refine g_iload rfl rfl rfl (pc' := 33) ?_
  refine g_aload (r := _) rfl rfl rfl (pc' := 35) ?_
  obtain ⟨a1, rfl, H⟩ := H
  rcases H with ⟨ht, H⟩ | ⟨ht, H⟩
  · refine g_call rfl (y := 35) (n := 1) (pc' := 38) (g_vt ht rfl rfl) rfl rfl ⟨(Nat.le_of_ble_eq_true rfl), (Nat.le_of_ble_eq_true rfl), (Nat.le_of_ble_eq_true rfl)⟩ rfl (gm_G.mono H (pI_elim (fun v3 h2 H' => ?_) (fun e32 h33 H => ?_)))
    · show gm_G _ 38 _ _ _ _
      replace H := H'
      clear H'
      refine g_ic_ge rfl (pc' := 41) (pt := 108) rfl rfl ⟨fun hc => ?_, fun hc => ?_⟩
      · replace H := H.1 hc
        refine g_iinc (c := (Int32.ofNat 1)) rfl rfl rfl rfl rfl (pc' := 111) ?_
        refine g_goto rfl (pc' := 5) rfl ?_
        exact g_weak (show gm_Lle [some _, some _, some _, some _, some _] _ from ⟨rfl, ⟨rfl, ⟨rfl, ⟨rfl, ⟨rfl, trivial⟩⟩⟩⟩⟩) H
      · replace H := H.2 hc
        refine g_aload (r := some _) rfl rfl rfl (pc' := 43) ?_
        refine g_iload rfl rfl rfl (pc' := 45) ?_
        refine g_aload (r := _) rfl rfl rfl (pc' := 46) ?_
        obtain ⟨a4, rfl, H⟩ := H
        obtain ⟨ht5, H⟩ := H
        refine g_getRv rfl rfl rfl rfl ht5 (pc' := 49) rfl (fun r6 hr6 => ?_)
        replace H := H r6 hr6
        refine g_iload rfl rfl rfl (pc' := 51) ?_
        obtain ⟨a7, rfl, H⟩ := H
        obtain ⟨ht9, H⟩ := H
        obtain ⟨n8, hn8, H⟩ := H
        refine g_iaload rfl ht9 hn8 (pc' := 52) rfl ?_
        refine g_aload (r := some _) rfl rfl rfl (pc' := 53) ?_
        refine g_getI rfl rfl rfl rfl ht5 (pc' := 56) rfl ?_
        refine g_aload (r := some _) rfl rfl rfl (pc' := 57) ?_
        obtain ⟨ht10, H⟩ := H
        refine g_getRv rfl rfl rfl rfl ht10 (pc' := 60) rfl (fun r11 hr11 => ?_)
        replace H := H r11 hr11
        rcases H with ⟨ht, H⟩ | ⟨ht, H⟩
        · refine g_call rfl (y := 246) (n := 5) (pc' := 63) (g_vt ht rfl rfl) (by cases r11 <;> rfl) rfl ⟨(Nat.le_of_ble_eq_true rfl), (Nat.le_of_ble_eq_true rfl), (Nat.le_of_ble_eq_true rfl)⟩ rfl (gm_G.mono H (pI_elim (fun v13 h12 H' => ?_) (fun e20 h21 H => ?_)))
          · show gm_G _ 63 _ _ _ _
            replace H := H'
            clear H'
            refine g_istore rfl rfl rfl (pc' := 65) ?_
            refine g_iload rfl rfl rfl (pc' := 67) ?_
            refine g_if_eq rfl (pc' := 70) (pt := 100) rfl rfl ⟨fun hc => ?_, fun hc => ?_⟩
            · replace H := H.1 hc
              exact g_weak (show gm_Lle [some _, some _, some _, none, some _, some _, some _] _ from ⟨rfl, ⟨rfl, ⟨rfl, ⟨rfl, ⟨rfl, ⟨rfl, trivial⟩⟩⟩⟩⟩⟩) H
            · replace H := H.2 hc
              refine g_aload (r := some _) rfl rfl rfl (pc' := 71) ?_
              refine g_aload (r := some _) rfl rfl rfl (pc' := 72) ?_
              obtain ⟨ht14, H⟩ := H
              refine g_call rfl (y := 340) (n := 2) (pc' := 75) (g_vt ht14 rfl rfl) rfl rfl ⟨(Nat.le_of_ble_eq_true rfl), (Nat.le_of_ble_eq_true rfl), (Nat.le_of_ble_eq_true rfl)⟩ rfl (gm_G.mono H (pI_elim (fun v16 h15 H' => ?_) (fun e18 h19 H => ?_)))
              · show gm_G _ 75 _ _ _ _
                replace H := H'
                clear H'
                refine g_if_eq rfl (pc' := 78) (pt := 100) rfl rfl ⟨fun hc => ?_, fun hc => ?_⟩
                · replace H := H.1 hc
                  exact g_weak (show gm_Lle [some _, some _, some _, none, some _, some _, some _] _ from ⟨rfl, ⟨rfl, ⟨rfl, ⟨rfl, ⟨rfl, ⟨rfl, trivial⟩⟩⟩⟩⟩⟩) H
                · replace H := H.2 hc
                  refine g_iload rfl rfl rfl (pc' := 79) ?_
                  refine g_if_ne rfl (pc' := 82) (pt := 93) rfl rfl ⟨fun hc => ?_, fun hc => ?_⟩
                  · replace H := H.1 hc
                    exact g_weak (show gm_Lle [some _, some _] _ from ⟨rfl, ⟨rfl, trivial⟩⟩) H
                  · replace H := H.2 hc
                    refine g_iload rfl rfl rfl (pc' := 83) ?_
                    refine g_if_eq rfl (pc' := 86) (pt := 93) rfl rfl ⟨fun hc => ?_, fun hc => ?_⟩
                    · replace H := H.1 hc
                      exact g_weak (show gm_Lle [some _, some _] _ from ⟨rfl, ⟨rfl, trivial⟩⟩) H
                    · replace H := H.2 hc
                      refine g_aload (r := some _) rfl rfl rfl (pc' := 87) ?_
                      obtain ⟨ht17, H⟩ := H
                      refine g_getZ rfl rfl rfl rfl ht17 (pc' := 90) rfl ?_
                      refine g_if_eq rfl (pc' := 93) (pt := 98) rfl rfl ⟨fun hc => ?_, fun hc => ?_⟩
                      · replace H := H.1 hc
                        refine g_iconst rfl rfl rfl (pc' := 99) ?_
                        exact g_ireturn rfl (Or.inr (by decide)) H
                      · replace H := H.2 hc
                        exact g_weak (show gm_Lle [some _, some _] _ from ⟨rfl, ⟨rfl, trivial⟩⟩) H
              · exact H
          · exact H
        · refine g_call rfl (y := 398) (n := 5) (pc' := 63) (g_vt ht rfl rfl) (by cases r11 <;> rfl) rfl ⟨(Nat.le_of_ble_eq_true rfl), (Nat.le_of_ble_eq_true rfl), (Nat.le_of_ble_eq_true rfl)⟩ rfl (gm_G.mono H (pI_elim (fun v23 h22 H' => ?_) (fun e30 h31 H => ?_)))
          · show gm_G _ 63 _ _ _ _
            replace H := H'
            clear H'
            refine g_istore rfl rfl rfl (pc' := 65) ?_
            refine g_iload rfl rfl rfl (pc' := 67) ?_
            refine g_if_eq rfl (pc' := 70) (pt := 100) rfl rfl ⟨fun hc => ?_, fun hc => ?_⟩
            · replace H := H.1 hc
              exact g_weak (show gm_Lle [some _, some _, some _, none, some _, some _, some _] _ from ⟨rfl, ⟨rfl, ⟨rfl, ⟨rfl, ⟨rfl, ⟨rfl, trivial⟩⟩⟩⟩⟩⟩) H
            · replace H := H.2 hc
              refine g_aload (r := some _) rfl rfl rfl (pc' := 71) ?_
              refine g_aload (r := some _) rfl rfl rfl (pc' := 72) ?_
              obtain ⟨ht24, H⟩ := H
              refine g_call rfl (y := 340) (n := 2) (pc' := 75) (g_vt ht24 rfl rfl) rfl rfl ⟨(Nat.le_of_ble_eq_true rfl), (Nat.le_of_ble_eq_true rfl), (Nat.le_of_ble_eq_true rfl)⟩ rfl (gm_G.mono H (pI_elim (fun v26 h25 H' => ?_) (fun e28 h29 H => ?_)))
              · show gm_G _ 75 _ _ _ _
                replace H := H'
                clear H'
                refine g_if_eq rfl (pc' := 78) (pt := 100) rfl rfl ⟨fun hc => ?_, fun hc => ?_⟩
                · replace H := H.1 hc
                  exact g_weak (show gm_Lle [some _, some _, some _, none, some _, some _, some _] _ from ⟨rfl, ⟨rfl, ⟨rfl, ⟨rfl, ⟨rfl, ⟨rfl, trivial⟩⟩⟩⟩⟩⟩) H
                · replace H := H.2 hc
                  refine g_iload rfl rfl rfl (pc' := 79) ?_
                  refine g_if_ne rfl (pc' := 82) (pt := 93) rfl rfl ⟨fun hc => ?_, fun hc => ?_⟩
                  · replace H := H.1 hc
                    exact g_weak (show gm_Lle [some _, some _] _ from ⟨rfl, ⟨rfl, trivial⟩⟩) H
                  · replace H := H.2 hc
                    refine g_iload rfl rfl rfl (pc' := 83) ?_
                    refine g_if_eq rfl (pc' := 86) (pt := 93) rfl rfl ⟨fun hc => ?_, fun hc => ?_⟩
                    · replace H := H.1 hc
                      exact g_weak (show gm_Lle [some _, some _] _ from ⟨rfl, ⟨rfl, trivial⟩⟩) H
                    · replace H := H.2 hc
                      refine g_aload (r := some _) rfl rfl rfl (pc' := 87) ?_
                      obtain ⟨ht27, H⟩ := H
                      refine g_getZ rfl rfl rfl rfl ht27 (pc' := 90) rfl ?_
                      refine g_if_eq rfl (pc' := 93) (pt := 98) rfl rfl ⟨fun hc => ?_, fun hc => ?_⟩
                      · replace H := H.1 hc
                        refine g_iconst rfl rfl rfl (pc' := 99) ?_
                        exact g_ireturn rfl (Or.inr (by decide)) H
                      · replace H := H.2 hc
                        exact g_weak (show gm_Lle [some _, some _] _ from ⟨rfl, ⟨rfl, trivial⟩⟩) H
              · exact H
          · exact H
    · exact H
  · refine g_call rfl (y := 46) (n := 1) (pc' := 38) (g_vt ht rfl rfl) rfl rfl ⟨(Nat.le_of_ble_eq_true rfl), (Nat.le_of_ble_eq_true rfl), (Nat.le_of_ble_eq_true rfl)⟩ rfl (gm_G.mono H (pI_elim (fun v35 h34 H' => ?_) (fun e64 h65 H => ?_)))
    · show gm_G _ 38 _ _ _ _
      replace H := H'
      clear H'
      refine g_ic_ge rfl (pc' := 41) (pt := 108) rfl rfl ⟨fun hc => ?_, fun hc => ?_⟩
      · replace H := H.1 hc
        refine g_iinc (c := (Int32.ofNat 1)) rfl rfl rfl rfl rfl (pc' := 111) ?_
        refine g_goto rfl (pc' := 5) rfl ?_
        exact g_weak (show gm_Lle [some _, some _, some _, some _, some _] _ from ⟨rfl, ⟨rfl, ⟨rfl, ⟨rfl, ⟨rfl, trivial⟩⟩⟩⟩⟩) H
      · replace H := H.2 hc
        refine g_aload (r := some _) rfl rfl rfl (pc' := 43) ?_
        refine g_iload rfl rfl rfl (pc' := 45) ?_
        refine g_aload (r := _) rfl rfl rfl (pc' := 46) ?_
        obtain ⟨a36, rfl, H⟩ := H
        obtain ⟨ht37, H⟩ := H
        refine g_getRv rfl rfl rfl rfl ht37 (pc' := 49) rfl (fun r38 hr38 => ?_)
        replace H := H r38 hr38
        refine g_iload rfl rfl rfl (pc' := 51) ?_
        obtain ⟨a39, rfl, H⟩ := H
        obtain ⟨ht41, H⟩ := H
        obtain ⟨n40, hn40, H⟩ := H
        refine g_iaload rfl ht41 hn40 (pc' := 52) rfl ?_
        refine g_aload (r := some _) rfl rfl rfl (pc' := 53) ?_
        refine g_getI rfl rfl rfl rfl ht37 (pc' := 56) rfl ?_
        refine g_aload (r := some _) rfl rfl rfl (pc' := 57) ?_
        obtain ⟨ht42, H⟩ := H
        refine g_getRv rfl rfl rfl rfl ht42 (pc' := 60) rfl (fun r43 hr43 => ?_)
        replace H := H r43 hr43
        rcases H with ⟨ht, H⟩ | ⟨ht, H⟩
        · refine g_call rfl (y := 246) (n := 5) (pc' := 63) (g_vt ht rfl rfl) (by cases r43 <;> rfl) rfl ⟨(Nat.le_of_ble_eq_true rfl), (Nat.le_of_ble_eq_true rfl), (Nat.le_of_ble_eq_true rfl)⟩ rfl (gm_G.mono H (pI_elim (fun v45 h44 H' => ?_) (fun e52 h53 H => ?_)))
          · show gm_G _ 63 _ _ _ _
            replace H := H'
            clear H'
            refine g_istore rfl rfl rfl (pc' := 65) ?_
            refine g_iload rfl rfl rfl (pc' := 67) ?_
            refine g_if_eq rfl (pc' := 70) (pt := 100) rfl rfl ⟨fun hc => ?_, fun hc => ?_⟩
            · replace H := H.1 hc
              exact g_weak (show gm_Lle [some _, some _, some _, none, some _, some _, some _] _ from ⟨rfl, ⟨rfl, ⟨rfl, ⟨rfl, ⟨rfl, ⟨rfl, trivial⟩⟩⟩⟩⟩⟩) H
            · replace H := H.2 hc
              refine g_aload (r := some _) rfl rfl rfl (pc' := 71) ?_
              refine g_aload (r := some _) rfl rfl rfl (pc' := 72) ?_
              obtain ⟨ht46, H⟩ := H
              refine g_call rfl (y := 340) (n := 2) (pc' := 75) (g_vt ht46 rfl rfl) rfl rfl ⟨(Nat.le_of_ble_eq_true rfl), (Nat.le_of_ble_eq_true rfl), (Nat.le_of_ble_eq_true rfl)⟩ rfl (gm_G.mono H (pI_elim (fun v48 h47 H' => ?_) (fun e50 h51 H => ?_)))
              · show gm_G _ 75 _ _ _ _
                replace H := H'
                clear H'
                refine g_if_eq rfl (pc' := 78) (pt := 100) rfl rfl ⟨fun hc => ?_, fun hc => ?_⟩
                · replace H := H.1 hc
                  exact g_weak (show gm_Lle [some _, some _, some _, none, some _, some _, some _] _ from ⟨rfl, ⟨rfl, ⟨rfl, ⟨rfl, ⟨rfl, ⟨rfl, trivial⟩⟩⟩⟩⟩⟩) H
                · replace H := H.2 hc
                  refine g_iload rfl rfl rfl (pc' := 79) ?_
                  refine g_if_ne rfl (pc' := 82) (pt := 93) rfl rfl ⟨fun hc => ?_, fun hc => ?_⟩
                  · replace H := H.1 hc
                    exact g_weak (show gm_Lle [some _, some _] _ from ⟨rfl, ⟨rfl, trivial⟩⟩) H
                  · replace H := H.2 hc
                    refine g_iload rfl rfl rfl (pc' := 83) ?_
                    refine g_if_eq rfl (pc' := 86) (pt := 93) rfl rfl ⟨fun hc => ?_, fun hc => ?_⟩
                    · replace H := H.1 hc
                      exact g_weak (show gm_Lle [some _, some _] _ from ⟨rfl, ⟨rfl, trivial⟩⟩) H
                    · replace H := H.2 hc
                      refine g_aload (r := some _) rfl rfl rfl (pc' := 87) ?_
                      obtain ⟨ht49, H⟩ := H
                      refine g_getZ rfl rfl rfl rfl ht49 (pc' := 90) rfl ?_
                      refine g_if_eq rfl (pc' := 93) (pt := 98) rfl rfl ⟨fun hc => ?_, fun hc => ?_⟩
                      · replace H := H.1 hc
                        refine g_iconst rfl rfl rfl (pc' := 99) ?_
                        exact g_ireturn rfl (Or.inr (by decide)) H
                      · replace H := H.2 hc
                        exact g_weak (show gm_Lle [some _, some _] _ from ⟨rfl, ⟨rfl, trivial⟩⟩) H
              · exact H
          · exact H
        · refine g_call rfl (y := 398) (n := 5) (pc' := 63) (g_vt ht rfl rfl) (by cases r43 <;> rfl) rfl ⟨(Nat.le_of_ble_eq_true rfl), (Nat.le_of_ble_eq_true rfl), (Nat.le_of_ble_eq_true rfl)⟩ rfl (gm_G.mono H (pI_elim (fun v55 h54 H' => ?_) (fun e62 h63 H => ?_)))
          · show gm_G _ 63 _ _ _ _
            replace H := H'
            clear H'
            refine g_istore rfl rfl rfl (pc' := 65) ?_
            refine g_iload rfl rfl rfl (pc' := 67) ?_
            refine g_if_eq rfl (pc' := 70) (pt := 100) rfl rfl ⟨fun hc => ?_, fun hc => ?_⟩
            · replace H := H.1 hc
              exact g_weak (show gm_Lle [some _, some _, some _, none, some _, some _, some _] _ from ⟨rfl, ⟨rfl, ⟨rfl, ⟨rfl, ⟨rfl, ⟨rfl, trivial⟩⟩⟩⟩⟩⟩) H
            · replace H := H.2 hc
              refine g_aload (r := some _) rfl rfl rfl (pc' := 71) ?_
              refine g_aload (r := some _) rfl rfl rfl (pc' := 72) ?_
              obtain ⟨ht56, H⟩ := H
              refine g_call rfl (y := 340) (n := 2) (pc' := 75) (g_vt ht56 rfl rfl) rfl rfl ⟨(Nat.le_of_ble_eq_true rfl), (Nat.le_of_ble_eq_true rfl), (Nat.le_of_ble_eq_true rfl)⟩ rfl (gm_G.mono H (pI_elim (fun v58 h57 H' => ?_) (fun e60 h61 H => ?_)))
              · show gm_G _ 75 _ _ _ _
                replace H := H'
                clear H'
                refine g_if_eq rfl (pc' := 78) (pt := 100) rfl rfl ⟨fun hc => ?_, fun hc => ?_⟩
                · replace H := H.1 hc
                  exact g_weak (show gm_Lle [some _, some _, some _, none, some _, some _, some _] _ from ⟨rfl, ⟨rfl, ⟨rfl, ⟨rfl, ⟨rfl, ⟨rfl, trivial⟩⟩⟩⟩⟩⟩) H
                · replace H := H.2 hc
                  refine g_iload rfl rfl rfl (pc' := 79) ?_
                  refine g_if_ne rfl (pc' := 82) (pt := 93) rfl rfl ⟨fun hc => ?_, fun hc => ?_⟩
                  · replace H := H.1 hc
                    exact g_weak (show gm_Lle [some _, some _] _ from ⟨rfl, ⟨rfl, trivial⟩⟩) H
                  · replace H := H.2 hc
                    refine g_iload rfl rfl rfl (pc' := 83) ?_
                    refine g_if_eq rfl (pc' := 86) (pt := 93) rfl rfl ⟨fun hc => ?_, fun hc => ?_⟩
                    · replace H := H.1 hc
                      exact g_weak (show gm_Lle [some _, some _] _ from ⟨rfl, ⟨rfl, trivial⟩⟩) H
                    · replace H := H.2 hc
                      refine g_aload (r := some _) rfl rfl rfl (pc' := 87) ?_
                      obtain ⟨ht59, H⟩ := H
                      refine g_getZ rfl rfl rfl rfl ht59 (pc' := 90) rfl ?_
                      refine g_if_eq rfl (pc' := 93) (pt := 98) rfl rfl ⟨fun hc => ?_, fun hc => ?_⟩
                      · replace H := H.1 hc
                        refine g_iconst rfl rfl rfl (pc' := 99) ?_
                        exact g_ireturn rfl (Or.inr (by decide)) H
                      · replace H := H.2 hc
                        exact g_weak (show gm_Lle [some _, some _] _ from ⟨rfl, ⟨rfl, trivial⟩⟩) H
              · exact H
          · exact H
    · exact H
set_option maxRecDepth 20000 in
theorem w_587_93 {a0 : Nat} {r_1 : Option Nat} {h : hh_T} {Q : Option Value ⊕ Nat → hh_T → Prop} (H : hh_tg h a0 = 1 ∧ (gm_G 579 0 [some (.ref a0), some (va_rf r_1)] [] h (pV (fun h2 => Q (.inl (some (.int (Int32.ofNat 1)))) h2) (fun e3 h4 => hh_tg h4 e3 = 21 ∧ Q (.inr e3) h4)))) : gm_G 587 93 [some (.ref a0), some (va_rf r_1)] [] h Q := by
  refine g_aload (r := some _) rfl rfl rfl (pc' := 94) ?_
  refine g_aload (r := _) rfl rfl rfl (pc' := 95) ?_
  obtain ⟨ht1, H⟩ := H
  refine g_call rfl (y := 579) (n := 2) (pc' := 98) (g_vt ht1 rfl rfl) (by cases r_1 <;> rfl) rfl ⟨(Nat.le_of_ble_eq_true rfl), (Nat.le_of_ble_eq_true rfl), (Nat.le_of_ble_eq_true rfl)⟩ rfl (gm_G.mono H (pV_elim (fun h2 H' => ?_) (fun e3 h4 H => ?_)))
  · show gm_G _ 98 _ _ _ _
    replace H := H'
    clear H'
    refine g_iconst rfl rfl rfl (pc' := 99) ?_
    exact g_ireturn rfl (Or.inr (by decide)) H
  · exact H
set_option maxRecDepth 20000 in
theorem w_587_100 {a0 : Nat} {r_1 : Option Nat} {x2 : Int32} {x4 : Int32} {r_5 : Option Nat} {x6 : Int32} {h : hh_T} {Q : Option Value ⊕ Nat → hh_T → Prop} (H : gm_G 587 31 [some (.ref a0), some (va_rf r_1), some (.int x2), some (.int (Int32.ofNat 0)), some (.int x4), some (va_rf r_5), some (.int (x6 + (Int32.ofNat 1)))] [] h Q) : gm_G 587 100 [some (.ref a0), some (va_rf r_1), some (.int x2), none, some (.int x4), some (va_rf r_5), some (.int x6)] [] h Q := by
  refine g_iconst rfl rfl rfl (pc' := 101) ?_
  refine g_istore rfl rfl rfl (pc' := 102) ?_
  refine g_iinc (c := (Int32.ofNat 1)) rfl rfl rfl gm_sto_rf5 rfl (pc' := 105) ?_
  refine g_goto rfl (pc' := 31) rfl ?_
  exact g_weak (show gm_Lle [some _, some _, some _, some _, some _, some _, some _] _ from ⟨rfl, ⟨rfl, ⟨rfl, ⟨rfl, ⟨rfl, ⟨rfl, ⟨rfl, trivial⟩⟩⟩⟩⟩⟩⟩) H
set_option maxRecDepth 20000 in
theorem w_588_0 {a0 : Nat} {x1 : Int32} {x2 : Int32} {h : hh_T} {Q : Option Value ⊕ Nat → hh_T → Prop} (H : hh_tg h a0 = 1 ∧ (gm_G 456 0 [some (.ref a0)] [] h (pV (fun h2 => gm_G 5 0 [some (.int x1), some (.int (Int32.ofNat 0)), some (.int (Int32.ofNat 1))] [] h2 (pI (fun v4 h3 => gm_G 452 0 [some (.int v4)] [] h3 (pV (fun h5 => gm_sub (hh_tg h5 a0) 0 = true ∧ (∀ r7, r7 = hh_r h5 a0 53 → (∃ a8, r7 = some a8 ∧ ((hh_tg h5 a8 = 104 ∨ 200 ≤ hh_tg h5 a8) ∧ (∃ n9, gm_ix x1 n9 (hh_ln h5 a8) ∧ (∀ r11, r11 = hh_r h5 a8 n9 → (∃ a12, r11 = some a12 ∧ (gm_sub (hh_tg h5 a12) 16 = true ∧ (∀ r14, r14 = hh_r h5 a12 0 → (∃ a15, r14 = some a15 ∧ (gm_sub (hh_tg h5 a15) 12 = true ∧ ((¬ Int32.ofNat 0 < (hh_i h5 a15 1) → (gm_G 588 39 [some (.ref a0), none, some (.int x2), some (va_rf none), some (.ref a12)] [.int (Int32.ofNat 0)] h5 Q)) ∧ (Int32.ofNat 0 < (hh_i h5 a15 1) → (gm_G 588 39 [some (.ref a0), none, some (.int x2), some (va_rf none), some (.ref a12)] [.int (Int32.ofNat 1)] h5 Q)))))))))))))) (fun e17 h18 => hh_tg h18 e17 = 21 ∧ gm_G 588 372 [some (.ref a0), none, none, some (va_rf none)] [.ref e17] h18 Q))) (fun e19 h20 => hh_tg h20 e19 = 21 ∧ gm_G 588 372 [some (.ref a0), none, none, some (va_rf none)] [.ref e19] h20 Q))) (fun e21 h22 => hh_tg h22 e21 = 21 ∧ gm_G 588 372 [some (.ref a0), none, none, some (va_rf none)] [.ref e21] h22 Q)))) : gm_G 588 0 [some (.ref a0), some (.int x1), some (.int x2)] [] h Q := by
  refine g_null rfl rfl (pc' := 1) ?_
  refine g_astore (r := _) rfl rfl rfl (pc' := 2) ?_
  refine g_aload (r := some _) rfl rfl rfl (pc' := 3) ?_
  obtain ⟨ht1, H⟩ := H
  refine g_call rfl (y := 456) (n := 1) (pc' := 6) (g_vt ht1 rfl rfl) rfl rfl ⟨(Nat.le_of_ble_eq_true rfl), (Nat.le_of_ble_eq_true rfl), (Nat.le_of_ble_eq_true rfl)⟩ rfl (gm_G.mono H (pV_elim (fun h2 H' => ?_) (fun e21 h22 H => ?_)))
  · show gm_G _ 6 _ _ _ _
    replace H := H'
    clear H'
    refine g_iload rfl rfl rfl (pc' := 7) ?_
    refine g_iconst rfl rfl rfl (pc' := 8) ?_
    refine g_iconst rfl rfl rfl (pc' := 9) ?_
    refine g_call rfl (y := 5) (n := 3) (pc' := 12) (fun _ => rfl) rfl rfl ⟨(Nat.le_of_ble_eq_true rfl), (Nat.le_of_ble_eq_true rfl), (Nat.le_of_ble_eq_true rfl)⟩ rfl (gm_G.mono H (pI_elim (fun v4 h3 H' => ?_) (fun e19 h20 H => ?_)))
    · show gm_G _ 12 _ _ _ _
      replace H := H'
      clear H'
      refine g_call rfl (y := 452) (n := 1) (pc' := 15) (fun _ => rfl) rfl rfl ⟨(Nat.le_of_ble_eq_true rfl), (Nat.le_of_ble_eq_true rfl), (Nat.le_of_ble_eq_true rfl)⟩ rfl (gm_G.mono H (pV_elim (fun h5 H' => ?_) (fun e17 h18 H => ?_)))
      · show gm_G _ 15 _ _ _ _
        replace H := H'
        clear H'
        refine g_aload (r := some _) rfl rfl rfl (pc' := 16) ?_
        obtain ⟨ht6, H⟩ := H
        refine g_getRv rfl rfl rfl rfl ht6 (pc' := 19) rfl (fun r7 hr7 => ?_)
        replace H := H r7 hr7
        refine g_iload rfl rfl rfl (pc' := 20) ?_
        obtain ⟨a8, rfl, H⟩ := H
        obtain ⟨ht10, H⟩ := H
        obtain ⟨n9, hn9, H⟩ := H
        refine g_aaloadv rfl ht10 hn9 (pc' := 21) rfl (fun r11 hr11 => ?_)
        replace H := H r11 hr11
        refine g_astore (r := _) rfl rfl rfl (pc' := 23) ?_
        refine g_aload (r := _) rfl rfl rfl (pc' := 25) ?_
        obtain ⟨a12, rfl, H⟩ := H
        obtain ⟨ht13, H⟩ := H
        refine g_getRv rfl rfl rfl rfl ht13 (pc' := 28) rfl (fun r14 hr14 => ?_)
        replace H := H r14 hr14
        obtain ⟨a15, rfl, H⟩ := H
        obtain ⟨ht16, H⟩ := H
        refine g_getI rfl rfl rfl rfl ht16 (pc' := 31) rfl ?_
        refine g_if_le rfl (pc' := 34) (pt := 38) rfl rfl ⟨fun hc => ?_, fun hc => ?_⟩
        · replace H := H.1 hc
          refine g_iconst rfl rfl rfl (pc' := 39) ?_
          exact g_weak (show gm_Lle [some _, none, some _, some _, some _] _ from ⟨rfl, ⟨rfl, ⟨rfl, ⟨rfl, trivial⟩⟩⟩⟩) H
        · replace H := H.2 hc
          refine g_iconst rfl rfl rfl (pc' := 35) ?_
          refine g_goto rfl (pc' := 39) rfl ?_
          exact g_weak (show gm_Lle [some _, none, some _, some _, some _] _ from ⟨rfl, ⟨rfl, ⟨rfl, ⟨rfl, trivial⟩⟩⟩⟩) H
      · exact ⟨H.1, g_weak (show gm_Lle [some _, none, none, some _] _ from ⟨rfl, ⟨rfl, trivial⟩⟩) H.2⟩
    · exact ⟨H.1, g_weak (show gm_Lle [some _, none, none, some _] _ from ⟨rfl, ⟨rfl, trivial⟩⟩) H.2⟩
  · exact ⟨H.1, g_weak (show gm_Lle [some _, none, none, some _] _ from ⟨rfl, ⟨rfl, trivial⟩⟩) H.2⟩
set_option maxRecDepth 20000 in
theorem w_588_39 {a0 : Nat} {x2 : Int32} {r_3 : Option Nat} {r_4 : Option Nat} {y0 : Int32} {h : hh_T} {Q : Option Value ⊕ Nat → hh_T → Prop} (H : gm_G 431 0 [some (.int y0), some (.int (Int32.ofInt (-2)))] [] h (pV (fun h1 => ∃ a2, r_4 = some a2 ∧ (gm_sub (hh_tg h1 a2) 16 = true ∧ ((¬ (hh_i h1 a2 2) = Int32.ofNat 0 → (gm_G 588 57 [some (.ref a0), none, some (.int x2), some (va_rf r_3), some (.ref a2)] [.int (Int32.ofNat 0)] h1 Q)) ∧ ((hh_i h1 a2 2) = Int32.ofNat 0 → (gm_G 588 57 [some (.ref a0), none, some (.int x2), some (va_rf r_3), some (.ref a2)] [.int (Int32.ofNat 1)] h1 Q))))) (fun e4 h5 => hh_tg h5 e4 = 21 ∧ gm_G 588 372 [some (.ref a0), none, none, some (va_rf r_3)] [.ref e4] h5 Q))) : gm_G 588 39 [some (.ref a0), none, some (.int x2), some (va_rf r_3), some (va_rf r_4)] [.int y0] h Q := by
  refine g_iconst rfl rfl rfl (pc' := 41) ?_
  refine g_call rfl (y := 431) (n := 2) (pc' := 44) (fun _ => rfl) rfl rfl ⟨(Nat.le_of_ble_eq_true rfl), (Nat.le_of_ble_eq_true rfl), (Nat.le_of_ble_eq_true rfl)⟩ rfl (gm_G.mono H (pV_elim (fun h1 H' => ?_) (fun e4 h5 H => ?_)))
  · show gm_G _ 44 _ _ _ _
    replace H := H'
    clear H'
    refine g_aload (r := _) rfl rfl rfl (pc' := 46) ?_
    obtain ⟨a2, rfl, H⟩ := H
    obtain ⟨ht3, H⟩ := H
    refine g_getI rfl rfl rfl rfl ht3 (pc' := 49) rfl ?_
    refine g_if_ne rfl (pc' := 52) (pt := 56) rfl rfl ⟨fun hc => ?_, fun hc => ?_⟩
    · replace H := H.1 hc
      refine g_iconst rfl rfl rfl (pc' := 57) ?_
      exact g_weak (show gm_Lle [some _, none, some _, some _, some _] _ from ⟨rfl, ⟨rfl, ⟨rfl, ⟨rfl, trivial⟩⟩⟩⟩) H
    · replace H := H.2 hc
      refine g_iconst rfl rfl rfl (pc' := 53) ?_
      refine g_goto rfl (pc' := 57) rfl ?_
      exact g_weak (show gm_Lle [some _, none, some _, some _, some _] _ from ⟨rfl, ⟨rfl, ⟨rfl, ⟨rfl, trivial⟩⟩⟩⟩) H
  · exact ⟨H.1, g_weak (show gm_Lle [some _, none, none, some _] _ from ⟨rfl, ⟨rfl, trivial⟩⟩) H.2⟩
set_option maxRecDepth 20000 in
theorem w_588_57 {a0 : Nat} {x2 : Int32} {r_3 : Option Nat} {r_4 : Option Nat} {y0 : Int32} {h : hh_T} {Q : Option Value ⊕ Nat → hh_T → Prop} (H : gm_G 431 0 [some (.int y0), some (.int (Int32.ofInt (-11)))] [] h (pV (fun h1 => hh_tg h1 a0 = 1 ∧ (gm_G 453 0 [some (.ref a0), some (.int x2)] [] h1 (pR (fun r4 h3 => ∃ a5, r_4 = some a5 ∧ (gm_sub (hh_tg h3 a5) 16 = true ∧ (∀ r7, r7 = hh_r h3 a5 0 → (∃ a8, r7 = some a8 ∧ (hh_tg h3 a8 = 13 ∧ (gm_G 63 0 [some (.ref a8), some (.int (Int32.ofNat 2))] [] h3 (pI (fun v11 h10 => ∃ a12, r4 = some a12 ∧ (gm_sub (hh_tg h10 a12) 23 = true ∧ ((¬ v11 = (hh_i h10 a12 2) → (gm_G 588 91 [some (.ref a0), none, some (.int x2), some (va_rf r_3), some (.ref a5), some (.ref a12)] [.int (Int32.ofNat 0)] h10 Q)) ∧ (v11 = (hh_i h10 a12 2) → (gm_G 588 91 [some (.ref a0), none, some (.int x2), some (va_rf r_3), some (.ref a5), some (.ref a12)] [.int (Int32.ofNat 1)] h10 Q))))) (fun e14 h15 => hh_tg h15 e14 = 21 ∧ gm_G 588 372 [some (.ref a0), none, none, some (va_rf r_3)] [.ref e14] h15 Q)))))))) (fun e16 h17 => hh_tg h17 e16 = 21 ∧ gm_G 588 372 [some (.ref a0), none, none, some (va_rf r_3)] [.ref e16] h17 Q)))) (fun e18 h19 => hh_tg h19 e18 = 21 ∧ gm_G 588 372 [some (.ref a0), none, none, some (va_rf r_3)] [.ref e18] h19 Q))) : gm_G 588 57 [some (.ref a0), none, some (.int x2), some (va_rf r_3), some (va_rf r_4)] [.int y0] h Q := by
  refine g_iconst rfl rfl rfl (pc' := 59) ?_
  refine g_call rfl (y := 431) (n := 2) (pc' := 62) (fun _ => rfl) rfl rfl ⟨(Nat.le_of_ble_eq_true rfl), (Nat.le_of_ble_eq_true rfl), (Nat.le_of_ble_eq_true rfl)⟩ rfl (gm_G.mono H (pV_elim (fun h1 H' => ?_) (fun e18 h19 H => ?_)))
  · show gm_G _ 62 _ _ _ _
    replace H := H'
    clear H'
    refine g_aload (r := some _) rfl rfl rfl (pc' := 63) ?_
    refine g_iload rfl rfl rfl (pc' := 64) ?_
    obtain ⟨ht2, H⟩ := H
    refine g_call rfl (y := 453) (n := 2) (pc' := 67) (g_vt ht2 rfl rfl) rfl rfl ⟨(Nat.le_of_ble_eq_true rfl), (Nat.le_of_ble_eq_true rfl), (Nat.le_of_ble_eq_true rfl)⟩ rfl (gm_G.mono H (pR_elim (fun r4 h3 H' => ?_) (fun e16 h17 H => ?_)))
    · show gm_G _ 67 _ _ _ _
      replace H := H'
      clear H'
      refine g_astore (r := _) rfl gm_sto_rf4 rfl (pc' := 69) ?_
      refine g_aload (r := _) rfl rfl rfl (pc' := 71) ?_
      obtain ⟨a5, rfl, H⟩ := H
      obtain ⟨ht6, H⟩ := H
      refine g_getRv rfl rfl rfl rfl ht6 (pc' := 74) rfl (fun r7 hr7 => ?_)
      replace H := H r7 hr7
      refine g_iconst rfl rfl rfl (pc' := 75) ?_
      obtain ⟨a8, rfl, H⟩ := H
      obtain ⟨ht9, H⟩ := H
      refine g_call rfl (y := 63) (n := 2) (pc' := 78) (g_vt ht9 rfl rfl) rfl rfl ⟨(Nat.le_of_ble_eq_true rfl), (Nat.le_of_ble_eq_true rfl), (Nat.le_of_ble_eq_true rfl)⟩ rfl (gm_G.mono H (pI_elim (fun v11 h10 H' => ?_) (fun e14 h15 H => ?_)))
      · show gm_G _ 78 _ _ _ _
        replace H := H'
        clear H'
        refine g_aload (r := _) rfl rfl rfl (pc' := 80) ?_
        obtain ⟨a12, rfl, H⟩ := H
        obtain ⟨ht13, H⟩ := H
        refine g_getI rfl rfl rfl rfl ht13 (pc' := 83) rfl ?_
        refine g_ic_ne rfl (pc' := 86) (pt := 90) rfl rfl ⟨fun hc => ?_, fun hc => ?_⟩
        · replace H := H.1 hc
          refine g_iconst rfl rfl rfl (pc' := 91) ?_
          exact g_weak (show gm_Lle [some _, none, some _, some _, some _, some _] _ from ⟨rfl, ⟨rfl, ⟨rfl, ⟨rfl, ⟨rfl, trivial⟩⟩⟩⟩⟩) H
        · replace H := H.2 hc
          refine g_iconst rfl rfl rfl (pc' := 87) ?_
          refine g_goto rfl (pc' := 91) rfl ?_
          exact g_weak (show gm_Lle [some _, none, some _, some _, some _, some _] _ from ⟨rfl, ⟨rfl, ⟨rfl, ⟨rfl, ⟨rfl, trivial⟩⟩⟩⟩⟩) H
      · exact ⟨H.1, g_weak (show gm_Lle [some _, none, none, some _] _ from ⟨rfl, ⟨rfl, trivial⟩⟩) H.2⟩
    · exact ⟨H.1, g_weak (show gm_Lle [some _, none, none, some _] _ from ⟨rfl, ⟨rfl, trivial⟩⟩) H.2⟩
  · exact ⟨H.1, g_weak (show gm_Lle [some _, none, none, some _] _ from ⟨rfl, ⟨rfl, trivial⟩⟩) H.2⟩
set_option maxRecDepth 20000 in
theorem w_588_91 {a0 : Nat} {x2 : Int32} {r_3 : Option Nat} {r_4 : Option Nat} {r_5 : Option Nat} {y0 : Int32} {h : hh_T} {Q : Option Value ⊕ Nat → hh_T → Prop} (H : gm_G 431 0 [some (.int y0), some (.int (Int32.ofInt (-10)))] [] h (pV (fun h1 => gm_sub (hh_tg h1 a0) 0 = true ∧ (∀ r3, r3 = hh_r h1 a0 51 → (∃ a4, r3 = some a4 ∧ (hh_tg h1 a4 = 15 ∧ (gm_G 75 0 [some (.ref a4), some (.int ((Int32.ofNat 2) * x2))] [] h1 (pI (fun v7 h6 => (¬ v7 = Int32.ofNat 0 → (gm_G 588 114 [some (.ref a0), none, none, some (va_rf r_3), some (va_rf r_4), some (va_rf r_5)] [.int (Int32.ofNat 0)] h6 Q)) ∧ (v7 = Int32.ofNat 0 → (gm_G 588 114 [some (.ref a0), none, none, some (va_rf r_3), some (va_rf r_4), some (va_rf r_5)] [.int (Int32.ofNat 1)] h6 Q))) (fun e8 h9 => hh_tg h9 e8 = 21 ∧ gm_G 588 372 [some (.ref a0), none, none, some (va_rf r_3)] [.ref e8] h9 Q))))))) (fun e10 h11 => hh_tg h11 e10 = 21 ∧ gm_G 588 372 [some (.ref a0), none, none, some (va_rf r_3)] [.ref e10] h11 Q))) : gm_G 588 91 [some (.ref a0), none, some (.int x2), some (va_rf r_3), some (va_rf r_4), some (va_rf r_5)] [.int y0] h Q := by
  refine g_iconst rfl rfl rfl (pc' := 93) ?_
  refine g_call rfl (y := 431) (n := 2) (pc' := 96) (fun _ => rfl) rfl rfl ⟨(Nat.le_of_ble_eq_true rfl), (Nat.le_of_ble_eq_true rfl), (Nat.le_of_ble_eq_true rfl)⟩ rfl (gm_G.mono H (pV_elim (fun h1 H' => ?_) (fun e10 h11 H => ?_)))
  · show gm_G _ 96 _ _ _ _
    replace H := H'
    clear H'
    refine g_aload (r := some _) rfl rfl rfl (pc' := 97) ?_
    obtain ⟨ht2, H⟩ := H
    refine g_getRv rfl rfl rfl rfl ht2 (pc' := 100) rfl (fun r3 hr3 => ?_)
    replace H := H r3 hr3
    refine g_iconst rfl rfl rfl (pc' := 101) ?_
    refine g_iload rfl rfl rfl (pc' := 102) ?_
    refine g_imul rfl rfl (pc' := 103) ?_
    obtain ⟨a4, rfl, H⟩ := H
    obtain ⟨ht5, H⟩ := H
    refine g_call rfl (y := 75) (n := 2) (pc' := 106) (g_vt ht5 rfl rfl) rfl rfl ⟨(Nat.le_of_ble_eq_true rfl), (Nat.le_of_ble_eq_true rfl), (Nat.le_of_ble_eq_true rfl)⟩ rfl (gm_G.mono H (pI_elim (fun v7 h6 H' => ?_) (fun e8 h9 H => ?_)))
    · show gm_G _ 106 _ _ _ _
      replace H := H'
      clear H'
      refine g_if_ne rfl (pc' := 109) (pt := 113) rfl rfl ⟨fun hc => ?_, fun hc => ?_⟩
      · replace H := H.1 hc
        refine g_iconst rfl rfl rfl (pc' := 114) ?_
        exact g_weak (show gm_Lle [some _, none, none, some _, some _, some _] _ from ⟨rfl, ⟨rfl, ⟨rfl, ⟨rfl, trivial⟩⟩⟩⟩) H
      · replace H := H.2 hc
        refine g_iconst rfl rfl rfl (pc' := 110) ?_
        refine g_goto rfl (pc' := 114) rfl ?_
        exact g_weak (show gm_Lle [some _, none, none, some _, some _, some _] _ from ⟨rfl, ⟨rfl, ⟨rfl, ⟨rfl, trivial⟩⟩⟩⟩) H
    · exact ⟨H.1, g_weak (show gm_Lle [some _, none, none, some _] _ from ⟨rfl, ⟨rfl, trivial⟩⟩) H.2⟩
  · exact ⟨H.1, g_weak (show gm_Lle [some _, none, none, some _] _ from ⟨rfl, ⟨rfl, trivial⟩⟩) H.2⟩
set_option maxRecDepth 20000 in
theorem w_588_114 {a0 : Nat} {r_3 : Option Nat} {r_4 : Option Nat} {r_5 : Option Nat} {y0 : Int32} {h : hh_T} {Q : Option Value ⊕ Nat → hh_T → Prop} (H : gm_G 431 0 [some (.int y0), some (.int (Int32.ofInt (-5)))] [] h (pV (fun h1 => ∃ a2, r_4 = some a2 ∧ (gm_sub (hh_tg h1 a2) 16 = true ∧ (∀ r4, r4 = hh_r h1 a2 0 → (∃ a5, r4 = some a5 ∧ (hh_tg h1 a5 = 13 ∧ (gm_G 63 0 [some (.ref a5), some (.int (Int32.ofNat 3))] [] h1 (pI (fun v8 h7 => (¬ v8 = (Int32.ofNat 1) → (gm_G 588 137 [some (.ref a0), none, none, some (va_rf r_3), some (.ref a2), some (va_rf r_5)] [.int (Int32.ofNat 0)] h7 Q)) ∧ (v8 = (Int32.ofNat 1) → (gm_G 588 137 [some (.ref a0), none, none, some (va_rf r_3), some (.ref a2), some (va_rf r_5)] [.int (Int32.ofNat 1)] h7 Q))) (fun e9 h10 => hh_tg h10 e9 = 21 ∧ gm_G 588 372 [some (.ref a0), none, none, some (va_rf r_3)] [.ref e9] h10 Q)))))))) (fun e11 h12 => hh_tg h12 e11 = 21 ∧ gm_G 588 372 [some (.ref a0), none, none, some (va_rf r_3)] [.ref e11] h12 Q))) : gm_G 588 114 [some (.ref a0), none, none, some (va_rf r_3), some (va_rf r_4), some (va_rf r_5)] [.int y0] h Q := by
  refine g_iconst rfl rfl rfl (pc' := 116) ?_
  refine g_call rfl (y := 431) (n := 2) (pc' := 119) (fun _ => rfl) rfl rfl ⟨(Nat.le_of_ble_eq_true rfl), (Nat.le_of_ble_eq_true rfl), (Nat.le_of_ble_eq_true rfl)⟩ rfl (gm_G.mono H (pV_elim (fun h1 H' => ?_) (fun e11 h12 H => ?_)))
  · show gm_G _ 119 _ _ _ _
    replace H := H'
    clear H'
    refine g_aload (r := _) rfl rfl rfl (pc' := 121) ?_
    obtain ⟨a2, rfl, H⟩ := H
    obtain ⟨ht3, H⟩ := H
    refine g_getRv rfl rfl rfl rfl ht3 (pc' := 124) rfl (fun r4 hr4 => ?_)
    replace H := H r4 hr4
    refine g_iconst rfl rfl rfl (pc' := 125) ?_
    obtain ⟨a5, rfl, H⟩ := H
    obtain ⟨ht6, H⟩ := H
    refine g_call rfl (y := 63) (n := 2) (pc' := 128) (g_vt ht6 rfl rfl) rfl rfl ⟨(Nat.le_of_ble_eq_true rfl), (Nat.le_of_ble_eq_true rfl), (Nat.le_of_ble_eq_true rfl)⟩ rfl (gm_G.mono H (pI_elim (fun v8 h7 H' => ?_) (fun e9 h10 H => ?_)))
    · show gm_G _ 128 _ _ _ _
      replace H := H'
      clear H'
      refine g_iconst rfl rfl rfl (pc' := 129) ?_
      refine g_ic_ne rfl (pc' := 132) (pt := 136) rfl rfl ⟨fun hc => ?_, fun hc => ?_⟩
      · replace H := H.1 hc
        refine g_iconst rfl rfl rfl (pc' := 137) ?_
        exact g_weak (show gm_Lle [some _, none, none, some _, some _, some _] _ from ⟨rfl, ⟨rfl, ⟨rfl, ⟨rfl, trivial⟩⟩⟩⟩) H
      · replace H := H.2 hc
        refine g_iconst rfl rfl rfl (pc' := 133) ?_
        refine g_goto rfl (pc' := 137) rfl ?_
        exact g_weak (show gm_Lle [some _, none, none, some _, some _, some _] _ from ⟨rfl, ⟨rfl, ⟨rfl, ⟨rfl, trivial⟩⟩⟩⟩) H
    · exact ⟨H.1, g_weak (show gm_Lle [some _, none, none, some _] _ from ⟨rfl, ⟨rfl, trivial⟩⟩) H.2⟩
  · exact ⟨H.1, g_weak (show gm_Lle [some _, none, none, some _] _ from ⟨rfl, ⟨rfl, trivial⟩⟩) H.2⟩
set_option maxRecDepth 20000 in
theorem w_588_137 {a0 : Nat} {r_3 : Option Nat} {r_4 : Option Nat} {r_5 : Option Nat} {y0 : Int32} {h : hh_T} {Q : Option Value ⊕ Nat → hh_T → Prop} (H : (y0 = Int32.ofNat 0 → (∃ a1, r_5 = some a1 ∧ (gm_sub (hh_tg h a1) 23 = true ∧ ((¬ (hh_i h a1 8) = Int32.ofNat 0 → (gm_G 588 205 [some (.ref a0), none, none, some (va_rf r_3), some (va_rf r_4), some (.ref a1), some (.int y0)] [.int (Int32.ofNat 0)] h Q)) ∧ ((hh_i h a1 8) = Int32.ofNat 0 → (gm_G 588 205 [some (.ref a0), none, none, some (va_rf r_3), some (va_rf r_4), some (.ref a1), some (.int y0)] [.int (Int32.ofNat 1)] h Q)))))) ∧ (¬ y0 = Int32.ofNat 0 → (∃ a3, r_5 = some a3 ∧ (gm_sub (hh_tg h a3) 23 = true ∧ ((¬ Int32.ofNat 0 < (hh_i h a3 8) → (gm_G 588 183 [some (.ref a0), none, none, some (va_rf r_3), some (va_rf r_4), some (.ref a3), some (.int y0)] [] h Q)) ∧ (Int32.ofNat 0 < (hh_i h a3 8) → (gm_sub (hh_tg h a0) 0 = true ∧ (∀ r6, r6 = hh_r h a0 33 → (hh_tg h a3 = 24 ∧ (gm_G 184 0 [some (.ref a3)] [] h (pI (fun v9 h8 => ∃ a10, r6 = some a10 ∧ (hh_tg h8 a10 = 23 ∧ (gm_G 179 0 [some (.ref a10), some (.int v9)] [] h8 (pR (fun r13 h12 => ∃ a14, r13 = some a14 ∧ (gm_sub (hh_tg h12 a14) 29 = true ∧ (∃ a16, r_4 = some a16 ∧ (gm_sub (hh_tg h12 a16) 16 = true ∧ (∀ r18, r18 = hh_r h12 a16 0 → (gm_G 341 0 [some (va_rf r18), some (.int (Int32.ofNat 4))] [] h12 (pI (fun v20 h19 => (¬ (hh_i h12 a14 3) = v20 → (gm_G 588 183 [some (.ref a0), none, none, some (va_rf r_3), some (.ref a16), some (.ref a3), some (.int y0)] [] h19 Q)) ∧ ((hh_i h12 a14 3) = v20 → (gm_G 588 184 [some (.ref a0), none, none, some (va_rf r_3), some (.ref a16), some (.ref a3), some (.int y0)] [.int (Int32.ofNat 1)] h19 Q))) (fun e21 h22 => hh_tg h22 e21 = 21 ∧ gm_G 588 372 [some (.ref a0), none, none, some (va_rf r_3)] [.ref e21] h22 Q)))))))) (fun e23 h24 => hh_tg h24 e23 = 21 ∧ gm_G 588 372 [some (.ref a0), none, none, some (va_rf r_3)] [.ref e23] h24 Q))))) (fun e25 h26 => hh_tg h26 e25 = 21 ∧ gm_G 588 372 [some (.ref a0), none, none, some (va_rf r_3)] [.ref e25] h26 Q)))))))))))) : gm_G 588 137 [some (.ref a0), none, none, some (va_rf r_3), some (va_rf r_4), some (va_rf r_5)] [.int y0] h Q := by
  refine g_istore rfl gm_sto_rf5 rfl (pc' := 139) ?_
  refine g_iload rfl rfl rfl (pc' := 141) ?_
  refine g_if_eq rfl (pc' := 144) (pt := 192) rfl rfl ⟨fun hc => ?_, fun hc => ?_⟩
  · replace H := H.1 hc
    refine g_aload (r := _) rfl rfl rfl (pc' := 194) ?_
    obtain ⟨a1, rfl, H⟩ := H
    obtain ⟨ht2, H⟩ := H
    refine g_getI rfl rfl rfl rfl ht2 (pc' := 197) rfl ?_
    refine g_if_ne rfl (pc' := 200) (pt := 204) rfl rfl ⟨fun hc => ?_, fun hc => ?_⟩
    · replace H := H.1 hc
      refine g_iconst rfl rfl rfl (pc' := 205) ?_
      exact g_weak (show gm_Lle [some _, none, none, some _, some _, some _, some _] _ from ⟨rfl, ⟨rfl, ⟨rfl, ⟨rfl, ⟨rfl, trivial⟩⟩⟩⟩⟩) H
    · replace H := H.2 hc
      refine g_iconst rfl rfl rfl (pc' := 201) ?_
      refine g_goto rfl (pc' := 205) rfl ?_
      exact g_weak (show gm_Lle [some _, none, none, some _, some _, some _, some _] _ from ⟨rfl, ⟨rfl, ⟨rfl, ⟨rfl, ⟨rfl, trivial⟩⟩⟩⟩⟩) H
  · replace H := H.2 hc
    refine g_aload (r := _) rfl rfl rfl (pc' := 146) ?_
    obtain ⟨a3, rfl, H⟩ := H
    obtain ⟨ht4, H⟩ := H
    refine g_getI rfl rfl rfl rfl ht4 (pc' := 149) rfl ?_
    refine g_if_le rfl (pc' := 152) (pt := 183) rfl rfl ⟨fun hc => ?_, fun hc => ?_⟩
    · replace H := H.1 hc
      exact g_weak (show gm_Lle [some _, none, none, some _, some _, some _, some _] _ from ⟨rfl, ⟨rfl, ⟨rfl, ⟨rfl, ⟨rfl, trivial⟩⟩⟩⟩⟩) H
    · replace H := H.2 hc
      refine g_aload (r := some _) rfl rfl rfl (pc' := 153) ?_
      obtain ⟨ht5, H⟩ := H
      refine g_getRv rfl rfl rfl rfl ht5 (pc' := 156) rfl (fun r6 hr6 => ?_)
      replace H := H r6 hr6
      refine g_aload (r := some _) rfl rfl rfl (pc' := 158) ?_
      obtain ⟨ht7, H⟩ := H
      refine g_call rfl (y := 184) (n := 1) (pc' := 161) (g_vt ht7 rfl rfl) rfl rfl ⟨(Nat.le_of_ble_eq_true rfl), (Nat.le_of_ble_eq_true rfl), (Nat.le_of_ble_eq_true rfl)⟩ rfl (gm_G.mono H (pI_elim (fun v9 h8 H' => ?_) (fun e25 h26 H => ?_)))
      · show gm_G _ 161 _ _ _ _
        replace H := H'
        clear H'
        obtain ⟨a10, rfl, H⟩ := H
        obtain ⟨ht11, H⟩ := H
        refine g_call rfl (y := 179) (n := 2) (pc' := 164) (g_vt ht11 rfl rfl) rfl rfl ⟨(Nat.le_of_ble_eq_true rfl), (Nat.le_of_ble_eq_true rfl), (Nat.le_of_ble_eq_true rfl)⟩ rfl (gm_G.mono H (pR_elim (fun r13 h12 H' => ?_) (fun e23 h24 H => ?_)))
        · show gm_G _ 164 _ _ _ _
          replace H := H'
          clear H'
          obtain ⟨a14, rfl, H⟩ := H
          obtain ⟨ht15, H⟩ := H
          refine g_getI rfl rfl rfl rfl ht15 (pc' := 167) rfl ?_
          refine g_aload (r := _) rfl rfl rfl (pc' := 169) ?_
          obtain ⟨a16, rfl, H⟩ := H
          obtain ⟨ht17, H⟩ := H
          refine g_getRv rfl rfl rfl rfl ht17 (pc' := 172) rfl (fun r18 hr18 => ?_)
          replace H := H r18 hr18
          refine g_iconst rfl rfl rfl (pc' := 173) ?_
          refine g_call rfl (y := 341) (n := 2) (pc' := 176) (fun _ => rfl) (by cases r18 <;> rfl) rfl ⟨(Nat.le_of_ble_eq_true rfl), (Nat.le_of_ble_eq_true rfl), (Nat.le_of_ble_eq_true rfl)⟩ rfl (gm_G.mono H (pI_elim (fun v20 h19 H' => ?_) (fun e21 h22 H => ?_)))
          · show gm_G _ 176 _ _ _ _
            replace H := H'
            clear H'
            refine g_ic_ne rfl (pc' := 179) (pt := 183) rfl rfl ⟨fun hc => ?_, fun hc => ?_⟩
            · replace H := H.1 hc
              exact g_weak (show gm_Lle [some _, none, none, some _, some _, some _, some _] _ from ⟨rfl, ⟨rfl, ⟨rfl, ⟨rfl, ⟨rfl, trivial⟩⟩⟩⟩⟩) H
            · replace H := H.2 hc
              refine g_iconst rfl rfl rfl (pc' := 180) ?_
              refine g_goto rfl (pc' := 184) rfl ?_
              exact g_weak (show gm_Lle [some _, none, none, some _, some _, some _, some _] _ from ⟨rfl, ⟨rfl, ⟨rfl, ⟨rfl, ⟨rfl, trivial⟩⟩⟩⟩⟩) H
          · exact ⟨H.1, g_weak (show gm_Lle [some _, none, none, some _] _ from ⟨rfl, ⟨rfl, trivial⟩⟩) H.2⟩
        · exact ⟨H.1, g_weak (show gm_Lle [some _, none, none, some _] _ from ⟨rfl, ⟨rfl, trivial⟩⟩) H.2⟩
      · exact ⟨H.1, g_weak (show gm_Lle [some _, none, none, some _] _ from ⟨rfl, ⟨rfl, trivial⟩⟩) H.2⟩
set_option maxRecDepth 20000 in
theorem w_588_183 {a0 : Nat} {r_3 : Option Nat} {r_4 : Option Nat} {r_5 : Option Nat} {x6 : Int32} {h : hh_T} {Q : Option Value ⊕ Nat → hh_T → Prop} (H : gm_G 588 184 [some (.ref a0), none, none, some (va_rf r_3), some (va_rf r_4), some (va_rf r_5), some (.int x6)] [.int (Int32.ofNat 0)] h Q) : gm_G 588 183 [some (.ref a0), none, none, some (va_rf r_3), some (va_rf r_4), some (va_rf r_5), some (.int x6)] [] h Q := by
  refine g_iconst rfl rfl rfl (pc' := 184) ?_
  exact g_weak (show gm_Lle [some _, none, none, some _, some _, some _, some _] _ from ⟨rfl, ⟨rfl, ⟨rfl, ⟨rfl, ⟨rfl, trivial⟩⟩⟩⟩⟩) H
set_option maxRecDepth 20000 in
theorem w_588_184 {a0 : Nat} {r_3 : Option Nat} {r_4 : Option Nat} {r_5 : Option Nat} {x6 : Int32} {y0 : Int32} {h : hh_T} {Q : Option Value ⊕ Nat → hh_T → Prop} (H : gm_G 431 0 [some (.int y0), some (.int (Int32.ofInt (-10)))] [] h (pV (fun h1 => gm_G 588 210 [some (.ref a0), none, none, some (va_rf r_3), some (va_rf r_4), some (va_rf r_5), some (.int x6)] [] h1 Q) (fun e2 h3 => hh_tg h3 e2 = 21 ∧ gm_G 588 372 [some (.ref a0), none, none, some (va_rf r_3)] [.ref e2] h3 Q))) : gm_G 588 184 [some (.ref a0), none, none, some (va_rf r_3), some (va_rf r_4), some (va_rf r_5), some (.int x6)] [.int y0] h Q := by
  refine g_iconst rfl rfl rfl (pc' := 186) ?_
  refine g_call rfl (y := 431) (n := 2) (pc' := 189) (fun _ => rfl) rfl rfl ⟨(Nat.le_of_ble_eq_true rfl), (Nat.le_of_ble_eq_true rfl), (Nat.le_of_ble_eq_true rfl)⟩ rfl (gm_G.mono H (pV_elim (fun h1 H' => ?_) (fun e2 h3 H => ?_)))
  · show gm_G _ 189 _ _ _ _
    replace H := H'
    clear H'
    refine g_goto rfl (pc' := 210) rfl ?_
    exact g_weak (show gm_Lle [some _, none, none, some _, some _, some _, some _] _ from ⟨rfl, ⟨rfl, ⟨rfl, ⟨rfl, ⟨rfl, trivial⟩⟩⟩⟩⟩) H
  · exact ⟨H.1, g_weak (show gm_Lle [some _, none, none, some _] _ from ⟨rfl, ⟨rfl, trivial⟩⟩) H.2⟩
set_option maxRecDepth 20000 in
theorem w_588_205 {a0 : Nat} {r_3 : Option Nat} {r_4 : Option Nat} {r_5 : Option Nat} {x6 : Int32} {y0 : Int32} {h : hh_T} {Q : Option Value ⊕ Nat → hh_T → Prop} (H : gm_G 431 0 [some (.int y0), some (.int (Int32.ofInt (-5)))] [] h (pV (fun h1 => gm_G 588 210 [some (.ref a0), none, none, some (va_rf r_3), some (va_rf r_4), some (va_rf r_5), some (.int x6)] [] h1 Q) (fun e2 h3 => hh_tg h3 e2 = 21 ∧ gm_G 588 372 [some (.ref a0), none, none, some (va_rf r_3)] [.ref e2] h3 Q))) : gm_G 588 205 [some (.ref a0), none, none, some (va_rf r_3), some (va_rf r_4), some (va_rf r_5), some (.int x6)] [.int y0] h Q := by
  refine g_iconst rfl rfl rfl (pc' := 207) ?_
  refine g_call rfl (y := 431) (n := 2) (pc' := 210) (fun _ => rfl) rfl rfl ⟨(Nat.le_of_ble_eq_true rfl), (Nat.le_of_ble_eq_true rfl), (Nat.le_of_ble_eq_true rfl)⟩ rfl (gm_G.mono H (pV_elim (fun h1 H' => ?_) (fun e2 h3 H => ?_)))
  · show gm_G _ 210 _ _ _ _
    replace H := H'
    clear H'
    exact g_weak (show gm_Lle [some _, none, none, some _, some _, some _, some _] _ from ⟨rfl, ⟨rfl, ⟨rfl, ⟨rfl, ⟨rfl, trivial⟩⟩⟩⟩⟩) H
  · exact ⟨H.1, g_weak (show gm_Lle [some _, none, none, some _] _ from ⟨rfl, ⟨rfl, trivial⟩⟩) H.2⟩
set_option maxRecDepth 20000 in
theorem w_588_210 {a0 : Nat} {r_3 : Option Nat} {r_4 : Option Nat} {r_5 : Option Nat} {x6 : Int32} {h : hh_T} {Q : Option Value ⊕ Nat → hh_T → Prop} (H : ∃ a1, r_4 = some a1 ∧ (gm_sub (hh_tg h a1) 16 = true ∧ (∀ r3, r3 = hh_r h a1 0 → (∀ r4, r4 = hh_r h a1 0 → (∃ a5, r4 = some a5 ∧ (hh_tg h a5 = 13 ∧ (gm_G 63 0 [some (.ref a5), some (.int (Int32.ofNat 12))] [] h (pI (fun v8 h7 => gm_G 233 0 [some (va_rf r3), some (.int (Int32.ofNat 13)), some (.int ((Int32.ofNat 13) + v8))] [] h7 (pL (fun v10 h9 => gm_sub (hh_tg h9 a0) 0 = true ∧ (∀ r12, r12 = hh_r h9 a0 33 → (∃ a13, r12 = some a13 ∧ (hh_tg h9 a13 = 23 ∧ (gm_G 310 0 [some (.ref a13), some (va_rf r_5), some (.long v10), none] [] h9 (pR (fun r16 h15 => (∀ a17, r16 = some a17 → (gm_G 588 254 [some (.ref a0), none, none, some (va_rf r_3), some (.ref a1), some (va_rf r_5), some (.int x6), some (.long v10)] [.int (Int32.ofNat 0)] h15 Q)) ∧ (r16 = none → (gm_G 588 254 [some (.ref a0), none, none, some (va_rf r_3), some (.ref a1), some (va_rf r_5), some (.int x6), some (.long v10)] [.int (Int32.ofNat 1)] h15 Q))) (fun e18 h19 => hh_tg h19 e18 = 21 ∧ gm_G 588 372 [some (.ref a0), none, none, some (va_rf r_3)] [.ref e18] h19 Q))))))) (fun e20 h21 => hh_tg h21 e20 = 21 ∧ gm_G 588 372 [some (.ref a0), none, none, some (va_rf r_3)] [.ref e20] h21 Q))) (fun e22 h23 => hh_tg h23 e22 = 21 ∧ gm_G 588 372 [some (.ref a0), none, none, some (va_rf r_3)] [.ref e22] h23 Q))))))))) : gm_G 588 210 [some (.ref a0), none, none, some (va_rf r_3), some (va_rf r_4), some (va_rf r_5), some (.int x6)] [] h Q := by
  refine g_aload (r := _) rfl rfl rfl (pc' := 212) ?_
  obtain ⟨a1, rfl, H⟩ := H
  obtain ⟨ht2, H⟩ := H
  refine g_getRv rfl rfl rfl rfl ht2 (pc' := 215) rfl (fun r3 hr3 => ?_)
  replace H := H r3 hr3
  refine g_iconst rfl rfl rfl (pc' := 217) ?_
  refine g_iconst rfl rfl rfl (pc' := 219) ?_
  refine g_aload (r := some _) rfl rfl rfl (pc' := 221) ?_
  refine g_getRv rfl rfl rfl rfl ht2 (pc' := 224) rfl (fun r4 hr4 => ?_)
  replace H := H r4 hr4
  refine g_iconst rfl rfl rfl (pc' := 226) ?_
  obtain ⟨a5, rfl, H⟩ := H
  obtain ⟨ht6, H⟩ := H
  refine g_call rfl (y := 63) (n := 2) (pc' := 229) (g_vt ht6 rfl rfl) rfl rfl ⟨(Nat.le_of_ble_eq_true rfl), (Nat.le_of_ble_eq_true rfl), (Nat.le_of_ble_eq_true rfl)⟩ rfl (gm_G.mono H (pI_elim (fun v8 h7 H' => ?_) (fun e22 h23 H => ?_)))
  · show gm_G _ 229 _ _ _ _
    replace H := H'
    clear H'
    refine g_iadd rfl rfl (pc' := 230) ?_
    refine g_call rfl (y := 233) (n := 3) (pc' := 233) (fun _ => rfl) (by cases r3 <;> rfl) rfl ⟨(Nat.le_of_ble_eq_true rfl), (Nat.le_of_ble_eq_true rfl), (Nat.le_of_ble_eq_true rfl)⟩ rfl (gm_G.mono H (pL_elim (fun v10 h9 H' => ?_) (fun e20 h21 H => ?_)))
    · show gm_G _ 233 _ _ _ _
      replace H := H'
      clear H'
      refine g_lstore rfl rfl rfl (pc' := 235) ?_
      refine g_aload (r := some _) rfl rfl rfl (pc' := 236) ?_
      obtain ⟨ht11, H⟩ := H
      refine g_getRv rfl rfl rfl rfl ht11 (pc' := 239) rfl (fun r12 hr12 => ?_)
      replace H := H r12 hr12
      refine g_aload (r := _) rfl rfl rfl (pc' := 241) ?_
      refine g_lload rfl rfl rfl (pc' := 243) ?_
      obtain ⟨a13, rfl, H⟩ := H
      obtain ⟨ht14, H⟩ := H
      refine g_call rfl (y := 310) (n := 3) (pc' := 246) (g_vt ht14 rfl rfl) (by cases r_5 <;> rfl) rfl ⟨(Nat.le_of_ble_eq_true rfl), (Nat.le_of_ble_eq_true rfl), (Nat.le_of_ble_eq_true rfl)⟩ rfl (gm_G.mono H (pR_elim (fun r16 h15 H' => ?_) (fun e18 h19 H => ?_)))
      · show gm_G _ 246 _ _ _ _
        replace H := H'
        clear H'
        refine g_ifnonnull rfl (pc' := 249) (pt := 253) rfl rfl ⟨fun a17 hc => ?_, fun hc => ?_⟩
        · replace H := H.1 a17 hc
          subst hc
          refine g_iconst rfl rfl rfl (pc' := 254) ?_
          exact g_weak (show gm_Lle [some _, none, none, some _, some _, some _, some _, some _] _ from ⟨rfl, ⟨rfl, ⟨rfl, ⟨rfl, ⟨rfl, ⟨rfl, trivial⟩⟩⟩⟩⟩⟩) H
        · replace H := H.2 hc
          subst hc
          refine g_iconst rfl rfl rfl (pc' := 250) ?_
          refine g_goto rfl (pc' := 254) rfl ?_
          exact g_weak (show gm_Lle [some _, none, none, some _, some _, some _, some _, some _] _ from ⟨rfl, ⟨rfl, ⟨rfl, ⟨rfl, ⟨rfl, ⟨rfl, trivial⟩⟩⟩⟩⟩⟩) H
      · exact ⟨H.1, g_weak (show gm_Lle [some _, none, none, some _] _ from ⟨rfl, ⟨rfl, trivial⟩⟩) H.2⟩
    · exact ⟨H.1, g_weak (show gm_Lle [some _, none, none, some _] _ from ⟨rfl, ⟨rfl, trivial⟩⟩) H.2⟩
  · exact ⟨H.1, g_weak (show gm_Lle [some _, none, none, some _] _ from ⟨rfl, ⟨rfl, trivial⟩⟩) H.2⟩
set_option maxRecDepth 20000 in
theorem w_588_254 {a0 : Nat} {r_3 : Option Nat} {r_4 : Option Nat} {r_5 : Option Nat} {x6 : Int32} {j7 : Int64} {y0 : Int32} {h : hh_T} {Q : Option Value ⊕ Nat → hh_T → Prop} (H : gm_G 431 0 [some (.int y0), some (.int (Int32.ofInt (-4)))] [] h (pV (fun h1 => gm_sub (hh_tg h1 a0) 0 = true ∧ (∀ r3, r3 = hh_r h1 a0 33 → (∃ a4, r3 = some a4 ∧ (gm_sub (hh_tg h1 a4) 22 = true ∧ ((¬ (hh_i h1 a4 3) < (Int32.ofNat 12) → (gm_G 588 276 [some (.ref a0), none, none, some (va_rf r_3), some (va_rf r_4), some (va_rf r_5), some (.int x6), some (.long j7)] [.int (Int32.ofNat 0)] h1 Q)) ∧ ((hh_i h1 a4 3) < (Int32.ofNat 12) → (gm_G 588 276 [some (.ref a0), none, none, some (va_rf r_3), some (va_rf r_4), some (va_rf r_5), some (.int x6), some (.long j7)] [.int (Int32.ofNat 1)] h1 Q))))))) (fun e6 h7 => hh_tg h7 e6 = 21 ∧ gm_G 588 372 [some (.ref a0), none, none, some (va_rf r_3)] [.ref e6] h7 Q))) : gm_G 588 254 [some (.ref a0), none, none, some (va_rf r_3), some (va_rf r_4), some (va_rf r_5), some (.int x6), some (.long j7)] [.int y0] h Q := by
  refine g_iconst rfl rfl rfl (pc' := 256) ?_
  refine g_call rfl (y := 431) (n := 2) (pc' := 259) (fun _ => rfl) rfl rfl ⟨(Nat.le_of_ble_eq_true rfl), (Nat.le_of_ble_eq_true rfl), (Nat.le_of_ble_eq_true rfl)⟩ rfl (gm_G.mono H (pV_elim (fun h1 H' => ?_) (fun e6 h7 H => ?_)))
  · show gm_G _ 259 _ _ _ _
    replace H := H'
    clear H'
    refine g_aload (r := some _) rfl rfl rfl (pc' := 260) ?_
    obtain ⟨ht2, H⟩ := H
    refine g_getRv rfl rfl rfl rfl ht2 (pc' := 263) rfl (fun r3 hr3 => ?_)
    replace H := H r3 hr3
    obtain ⟨a4, rfl, H⟩ := H
    obtain ⟨ht5, H⟩ := H
    refine g_getI rfl rfl rfl rfl ht5 (pc' := 266) rfl ?_
    refine g_iconst rfl rfl rfl (pc' := 268) ?_
    refine g_ic_ge rfl (pc' := 271) (pt := 275) rfl rfl ⟨fun hc => ?_, fun hc => ?_⟩
    · replace H := H.1 hc
      refine g_iconst rfl rfl rfl (pc' := 276) ?_
      exact g_weak (show gm_Lle [some _, none, none, some _, some _, some _, some _, some _] _ from ⟨rfl, ⟨rfl, ⟨rfl, ⟨rfl, ⟨rfl, ⟨rfl, trivial⟩⟩⟩⟩⟩⟩) H
    · replace H := H.2 hc
      refine g_iconst rfl rfl rfl (pc' := 272) ?_
      refine g_goto rfl (pc' := 276) rfl ?_
      exact g_weak (show gm_Lle [some _, none, none, some _, some _, some _, some _, some _] _ from ⟨rfl, ⟨rfl, ⟨rfl, ⟨rfl, ⟨rfl, ⟨rfl, trivial⟩⟩⟩⟩⟩⟩) H
  · exact ⟨H.1, g_weak (show gm_Lle [some _, none, none, some _] _ from ⟨rfl, ⟨rfl, trivial⟩⟩) H.2⟩
set_option maxRecDepth 20000 in
theorem w_588_276 {a0 : Nat} {r_3 : Option Nat} {r_4 : Option Nat} {r_5 : Option Nat} {x6 : Int32} {j7 : Int64} {y0 : Int32} {h : hh_T} {Q : Option Value ⊕ Nat → hh_T → Prop} (H : gm_G 431 0 [some (.int y0), some (.int (Int32.ofInt (-3)))] [] h (pV (fun h1 => (x6 = Int32.ofNat 0 → (hh_tg h1 a0 = 1 ∧ (gm_G 220 0 [some (.ref a0)] [] h1 (pR (fun r4 h3 => gm_G 588 312 [some (.ref a0), none, none, none, some (va_rf r_4), some (va_rf r_5), none, some (.long j7)] [va_rf r4] h3 Q) (fun e5 h6 => hh_tg h6 e5 = 21 ∧ gm_G 588 372 [some (.ref a0), none, none, some (va_rf r_3)] [.ref e5] h6 Q))))) ∧ (¬ x6 = Int32.ofNat 0 → (gm_sub (hh_tg h1 a0) 0 = true ∧ (∀ r8, r8 = hh_r h1 a0 33 → (∃ a9, r_5 = some a9 ∧ (hh_tg h1 a9 = 24 ∧ (gm_G 184 0 [some (.ref a9)] [] h1 (pI (fun v12 h11 => ∃ a13, r8 = some a13 ∧ (hh_tg h11 a13 = 23 ∧ (gm_G 179 0 [some (.ref a13), some (.int v12)] [] h11 (pR (fun r16 h15 => ∃ a17, r16 = some a17 ∧ (gm_sub (hh_tg h15 a17) 29 = true ∧ (∀ r19, r19 = hh_r h15 a17 5 → (hh_tg h15 a0 = 1 ∧ (gm_G 337 0 [some (.ref a0), some (va_rf r19)] [] h15 (pR (fun r22 h21 => gm_G 588 312 [some (.ref a0), none, none, none, some (va_rf r_4), some (.ref a9), none, some (.long j7)] [va_rf r22] h21 Q) (fun e23 h24 => hh_tg h24 e23 = 21 ∧ gm_G 588 372 [some (.ref a0), none, none, some (va_rf r_3)] [.ref e23] h24 Q))))))) (fun e25 h26 => hh_tg h26 e25 = 21 ∧ gm_G 588 372 [some (.ref a0), none, none, some (va_rf r_3)] [.ref e25] h26 Q))))) (fun e27 h28 => hh_tg h28 e27 = 21 ∧ gm_G 588 372 [some (.ref a0), none, none, some (va_rf r_3)] [.ref e27] h28 Q))))))))) (fun e29 h30 => hh_tg h30 e29 = 21 ∧ gm_G 588 372 [some (.ref a0), none, none, some (va_rf r_3)] [.ref e29] h30 Q))) : gm_G 588 276 [some (.ref a0), none, none, some (va_rf r_3), some (va_rf r_4), some (va_rf r_5), some (.int x6), some (.long j7)] [.int y0] h Q := by
  refine g_iconst rfl rfl rfl (pc' := 278) ?_
  refine g_call rfl (y := 431) (n := 2) (pc' := 281) (fun _ => rfl) rfl rfl ⟨(Nat.le_of_ble_eq_true rfl), (Nat.le_of_ble_eq_true rfl), (Nat.le_of_ble_eq_true rfl)⟩ rfl (gm_G.mono H (pV_elim (fun h1 H' => ?_) (fun e29 h30 H => ?_)))
  · show gm_G _ 281 _ _ _ _
    replace H := H'
    clear H'
    refine g_iload rfl rfl rfl (pc' := 283) ?_
    refine g_if_eq rfl (pc' := 286) (pt := 308) rfl rfl ⟨fun hc => ?_, fun hc => ?_⟩
    · replace H := H.1 hc
      refine g_aload (r := some _) rfl rfl rfl (pc' := 309) ?_
      obtain ⟨ht2, H⟩ := H
      refine g_call rfl (y := 220) (n := 1) (pc' := 312) (g_vt ht2 rfl rfl) rfl rfl ⟨(Nat.le_of_ble_eq_true rfl), (Nat.le_of_ble_eq_true rfl), (Nat.le_of_ble_eq_true rfl)⟩ rfl (gm_G.mono H (pR_elim (fun r4 h3 H' => ?_) (fun e5 h6 H => ?_)))
      · show gm_G _ 312 _ _ _ _
        replace H := H'
        clear H'
        exact g_weak (show gm_Lle [some _, none, none, none, some _, some _, none, some _] _ from ⟨rfl, ⟨rfl, ⟨rfl, ⟨rfl, trivial⟩⟩⟩⟩) H
      · exact ⟨H.1, g_weak (show gm_Lle [some _, none, none, some _] _ from ⟨rfl, ⟨rfl, trivial⟩⟩) H.2⟩
    · replace H := H.2 hc
      refine g_aload (r := some _) rfl rfl rfl (pc' := 287) ?_
      refine g_aload (r := some _) rfl rfl rfl (pc' := 288) ?_
      obtain ⟨ht7, H⟩ := H
      refine g_getRv rfl rfl rfl rfl ht7 (pc' := 291) rfl (fun r8 hr8 => ?_)
      replace H := H r8 hr8
      refine g_aload (r := _) rfl rfl rfl (pc' := 293) ?_
      obtain ⟨a9, rfl, H⟩ := H
      obtain ⟨ht10, H⟩ := H
      refine g_call rfl (y := 184) (n := 1) (pc' := 296) (g_vt ht10 rfl rfl) rfl rfl ⟨(Nat.le_of_ble_eq_true rfl), (Nat.le_of_ble_eq_true rfl), (Nat.le_of_ble_eq_true rfl)⟩ rfl (gm_G.mono H (pI_elim (fun v12 h11 H' => ?_) (fun e27 h28 H => ?_)))
      · show gm_G _ 296 _ _ _ _
        replace H := H'
        clear H'
        obtain ⟨a13, rfl, H⟩ := H
        obtain ⟨ht14, H⟩ := H
        refine g_call rfl (y := 179) (n := 2) (pc' := 299) (g_vt ht14 rfl rfl) rfl rfl ⟨(Nat.le_of_ble_eq_true rfl), (Nat.le_of_ble_eq_true rfl), (Nat.le_of_ble_eq_true rfl)⟩ rfl (gm_G.mono H (pR_elim (fun r16 h15 H' => ?_) (fun e25 h26 H => ?_)))
        · show gm_G _ 299 _ _ _ _
          replace H := H'
          clear H'
          obtain ⟨a17, rfl, H⟩ := H
          obtain ⟨ht18, H⟩ := H
          refine g_getRv rfl rfl rfl rfl ht18 (pc' := 302) rfl (fun r19 hr19 => ?_)
          replace H := H r19 hr19
          obtain ⟨ht20, H⟩ := H
          refine g_call rfl (y := 337) (n := 2) (pc' := 305) (g_vt ht20 rfl rfl) (by cases r19 <;> rfl) rfl ⟨(Nat.le_of_ble_eq_true rfl), (Nat.le_of_ble_eq_true rfl), (Nat.le_of_ble_eq_true rfl)⟩ rfl (gm_G.mono H (pR_elim (fun r22 h21 H' => ?_) (fun e23 h24 H => ?_)))
          · show gm_G _ 305 _ _ _ _
            replace H := H'
            clear H'
            refine g_goto rfl (pc' := 312) rfl ?_
            exact g_weak (show gm_Lle [some _, none, none, none, some _, some _, none, some _] _ from ⟨rfl, ⟨rfl, ⟨rfl, ⟨rfl, trivial⟩⟩⟩⟩) H
          · exact ⟨H.1, g_weak (show gm_Lle [some _, none, none, some _] _ from ⟨rfl, ⟨rfl, trivial⟩⟩) H.2⟩
        · exact ⟨H.1, g_weak (show gm_Lle [some _, none, none, some _] _ from ⟨rfl, ⟨rfl, trivial⟩⟩) H.2⟩
      · exact ⟨H.1, g_weak (show gm_Lle [some _, none, none, some _] _ from ⟨rfl, ⟨rfl, trivial⟩⟩) H.2⟩
  · exact ⟨H.1, g_weak (show gm_Lle [some _, none, none, some _] _ from ⟨rfl, ⟨rfl, trivial⟩⟩) H.2⟩
set_option maxRecDepth 20000 in
theorem w_588_312 {a0 : Nat} {r_4 : Option Nat} {r_5 : Option Nat} {j7 : Int64} {q0 : Option Nat} {h : hh_T} {Q : Option Value ⊕ Nat → hh_T → Prop} (H : hh_tg h a0 = 1 ∧ (gm_G 2 0 [some (.ref a0)] [] h (pV (fun h2 => ∀ a3 h4, a3 = hh_sz h2 → h4 = hh_al h2 33 0 3 → (gm_G 204 0 [some (.ref a3), some (.ref a0), some (va_rf r_4)] [] h4 (pV (fun h5 => hh_tg h5 a3 = 33 ∧ (gm_G 572 0 [some (.ref a3), some (va_rf q0), some (va_rf r_5)] [] h5 (pV (fun h7 => hh_tg h7 a0 = 1 ∧ (gm_G 574 0 [some (.ref a0)] [] h7 (pV (fun h9 => gm_G 588 337 [some (.ref a0), none, none, some (va_rf q0), some (va_rf r_4), some (va_rf r_5), none, some (.long j7)] [] h9 Q) (fun e10 h11 => hh_tg h11 e10 = 21 ∧ gm_G 588 372 [some (.ref a0), none, none, some (va_rf q0)] [.ref e10] h11 Q)))) (fun e12 h13 => hh_tg h13 e12 = 21 ∧ gm_G 588 372 [some (.ref a0), none, none, some (va_rf q0)] [.ref e12] h13 Q)))) (fun e14 h15 => hh_tg h15 e14 = 21 ∧ gm_G 588 372 [some (.ref a0), none, none, some (va_rf q0)] [.ref e14] h15 Q)))) (fun e16 h17 => hh_tg h17 e16 = 21 ∧ gm_G 588 372 [some (.ref a0), none, none, some (va_rf q0)] [.ref e16] h17 Q)))) : gm_G 588 312 [some (.ref a0), none, none, none, some (va_rf r_4), some (va_rf r_5), none, some (.long j7)] [va_rf q0] h Q := by
  refine g_astore (r := _) rfl rfl rfl (pc' := 313) ?_
  refine g_aload (r := some _) rfl rfl rfl (pc' := 314) ?_
  obtain ⟨ht1, H⟩ := H
  refine g_call rfl (y := 2) (n := 1) (pc' := 317) (g_vt ht1 rfl rfl) rfl rfl ⟨(Nat.le_of_ble_eq_true rfl), (Nat.le_of_ble_eq_true rfl), (Nat.le_of_ble_eq_true rfl)⟩ rfl (gm_G.mono H (pV_elim (fun h2 H' => ?_) (fun e16 h17 H => ?_)))
  · show gm_G _ 317 _ _ _ _
    replace H := H'
    clear H'
    refine g_new rfl (t := 33) (s := 3) rfl rfl (pc' := 320) rfl ?_
    replace H := H _ _ rfl rfl
    refine g_dup_a (r := some _) rfl rfl (pc' := 321) ?_
    refine g_aload (r := some _) rfl rfl rfl (pc' := 322) ?_
    refine g_aload (r := _) rfl rfl rfl (pc' := 324) ?_
    refine g_call rfl (y := 204) (n := 3) (pc' := 327) (fun _ => rfl) (by cases r_4 <;> rfl) rfl ⟨(Nat.le_of_ble_eq_true rfl), (Nat.le_of_ble_eq_true rfl), (Nat.le_of_ble_eq_true rfl)⟩ rfl (gm_G.mono H (pV_elim (fun h5 H' => ?_) (fun e14 h15 H => ?_)))
    · show gm_G _ 327 _ _ _ _
      replace H := H'
      clear H'
      refine g_aload (r := _) rfl rfl rfl (pc' := 328) ?_
      refine g_aload (r := _) rfl rfl rfl (pc' := 330) ?_
      obtain ⟨ht6, H⟩ := H
      refine g_call rfl (y := 572) (n := 3) (pc' := 333) (g_vt ht6 rfl rfl) (by cases q0 <;> cases r_5 <;> rfl) rfl ⟨(Nat.le_of_ble_eq_true rfl), (Nat.le_of_ble_eq_true rfl), (Nat.le_of_ble_eq_true rfl)⟩ rfl (gm_G.mono H (pV_elim (fun h7 H' => ?_) (fun e12 h13 H => ?_)))
      · show gm_G _ 333 _ _ _ _
        replace H := H'
        clear H'
        refine g_aload (r := some _) rfl rfl rfl (pc' := 334) ?_
        obtain ⟨ht8, H⟩ := H
        refine g_call rfl (y := 574) (n := 1) (pc' := 337) (g_vt ht8 rfl rfl) rfl rfl ⟨(Nat.le_of_ble_eq_true rfl), (Nat.le_of_ble_eq_true rfl), (Nat.le_of_ble_eq_true rfl)⟩ rfl (gm_G.mono H (pV_elim (fun h9 H' => ?_) (fun e10 h11 H => ?_)))
        · show gm_G _ 337 _ _ _ _
          replace H := H'
          clear H'
          exact g_weak (show gm_Lle [some _, none, none, some _, some _, some _, none, some _] _ from ⟨rfl, ⟨rfl, ⟨rfl, ⟨rfl, ⟨rfl, trivial⟩⟩⟩⟩⟩) H
        · exact ⟨H.1, g_weak (show gm_Lle [some _, none, none, some _] _ from ⟨rfl, ⟨rfl, trivial⟩⟩) H.2⟩
      · exact ⟨H.1, g_weak (show gm_Lle [some _, none, none, some _] _ from ⟨rfl, ⟨rfl, trivial⟩⟩) H.2⟩
    · exact ⟨H.1, g_weak (show gm_Lle [some _, none, none, some _] _ from ⟨rfl, ⟨rfl, trivial⟩⟩) H.2⟩
  · exact ⟨H.1, g_weak (show gm_Lle [some _, none, none, some _] _ from ⟨rfl, ⟨rfl, trivial⟩⟩) H.2⟩
set_option maxRecDepth 20000 in
theorem w_588_337 {a0 : Nat} {r_3 : Option Nat} {r_4 : Option Nat} {r_5 : Option Nat} {j7 : Int64} {h : hh_T} {Q : Option Value ⊕ Nat → hh_T → Prop} (H : hh_tg h a0 = 1 ∧ (gm_G 449 0 [some (.ref a0), some (va_rf r_5), some (va_rf r_3)] [] h (pV (fun h2 => ∃ a3, r_4 = some a3 ∧ (gm_sub (hh_tg h2 a3) 16 = true ∧ (∀ r5, r5 = hh_r h2 a3 0 → (gm_G 341 0 [some (va_rf r5), some (.int (Int32.ofNat 8))] [] h2 (pI (fun v7 h6 => hh_tg h6 a0 = 1 ∧ (gm_G 334 0 [some (.ref a0), some (va_rf r_5), some (.long j7), none, some (.int v7)] [] h6 (pR (fun r10 h9 => ∃ a11, r10 = some a11 ∧ (gm_sub (hh_tg h9 a11) 29 = true ∧ (hh_tg h9 a0 = 1 ∧ (gm_G 565 0 [some (.ref a0), some (.int (hh_i h9 a11 0))] [] h9 (pI (fun v15 h14 => Q (.inl (some (.int v15))) h14) (fun e16 h17 => hh_tg h17 e16 = 21 ∧ gm_G 588 372 [some (.ref a0), none, none, some (va_rf none)] [.ref e16] h17 Q)))))) (fun e18 h19 => hh_tg h19 e18 = 21 ∧ gm_G 588 372 [some (.ref a0), none, none, some (va_rf none)] [.ref e18] h19 Q)))) (fun e20 h21 => hh_tg h21 e20 = 21 ∧ gm_G 588 372 [some (.ref a0), none, none, some (va_rf none)] [.ref e20] h21 Q)))))) (fun e22 h23 => hh_tg h23 e22 = 21 ∧ gm_G 588 372 [some (.ref a0), none, none, some (va_rf r_3)] [.ref e22] h23 Q)))) : gm_G 588 337 [some (.ref a0), none, none, some (va_rf r_3), some (va_rf r_4), some (va_rf r_5), none, some (.long j7)] [] h Q := by
  refine g_aload (r := some _) rfl rfl rfl (pc' := 338) ?_
  refine g_aload (r := _) rfl rfl rfl (pc' := 340) ?_
  refine g_aload (r := _) rfl rfl rfl (pc' := 341) ?_
  obtain ⟨ht1, H⟩ := H
  refine g_call rfl (y := 449) (n := 3) (pc' := 344) (g_vt ht1 rfl rfl) (by cases r_3 <;> cases r_5 <;> rfl) rfl ⟨(Nat.le_of_ble_eq_true rfl), (Nat.le_of_ble_eq_true rfl), (Nat.le_of_ble_eq_true rfl)⟩ rfl (gm_G.mono H (pV_elim (fun h2 H' => ?_) (fun e22 h23 H => ?_)))
  · show gm_G _ 344 _ _ _ _
    replace H := H'
    clear H'
    refine g_null rfl rfl (pc' := 345) ?_
    refine g_astore (r := _) rfl rfl rfl (pc' := 346) ?_
    refine g_aload (r := some _) rfl rfl rfl (pc' := 347) ?_
    refine g_aload (r := some _) rfl rfl rfl (pc' := 348) ?_
    refine g_aload (r := _) rfl rfl rfl (pc' := 350) ?_
    refine g_lload rfl rfl rfl (pc' := 352) ?_
    refine g_aload (r := _) rfl rfl rfl (pc' := 354) ?_
    obtain ⟨a3, rfl, H⟩ := H
    obtain ⟨ht4, H⟩ := H
    refine g_getRv rfl rfl rfl rfl ht4 (pc' := 357) rfl (fun r5 hr5 => ?_)
    replace H := H r5 hr5
    refine g_iconst rfl rfl rfl (pc' := 359) ?_
    refine g_call rfl (y := 341) (n := 2) (pc' := 362) (fun _ => rfl) (by cases r5 <;> rfl) rfl ⟨(Nat.le_of_ble_eq_true rfl), (Nat.le_of_ble_eq_true rfl), (Nat.le_of_ble_eq_true rfl)⟩ rfl (gm_G.mono H (pI_elim (fun v7 h6 H' => ?_) (fun e20 h21 H => ?_)))
    · show gm_G _ 362 _ _ _ _
      replace H := H'
      clear H'
      obtain ⟨ht8, H⟩ := H
      refine g_call rfl (y := 334) (n := 4) (pc' := 365) (g_vt ht8 rfl rfl) (by cases r_5 <;> rfl) rfl ⟨(Nat.le_of_ble_eq_true rfl), (Nat.le_of_ble_eq_true rfl), (Nat.le_of_ble_eq_true rfl)⟩ rfl (gm_G.mono H (pR_elim (fun r10 h9 H' => ?_) (fun e18 h19 H => ?_)))
      · show gm_G _ 365 _ _ _ _
        replace H := H'
        clear H'
        obtain ⟨a11, rfl, H⟩ := H
        obtain ⟨ht12, H⟩ := H
        refine g_getI rfl rfl rfl rfl ht12 (pc' := 368) rfl ?_
        obtain ⟨ht13, H⟩ := H
        refine g_call rfl (y := 565) (n := 2) (pc' := 371) (g_vt ht13 rfl rfl) rfl rfl ⟨(Nat.le_of_ble_eq_true rfl), (Nat.le_of_ble_eq_true rfl), (Nat.le_of_ble_eq_true rfl)⟩ rfl (gm_G.mono H (pI_elim (fun v15 h14 H' => ?_) (fun e16 h17 H => ?_)))
        · show gm_G _ 371 _ _ _ _
          replace H := H'
          clear H'
          exact g_ireturn rfl (Or.inl rfl) H
        · exact ⟨H.1, g_weak (show gm_Lle [some _, none, none, some _] _ from ⟨rfl, ⟨rfl, trivial⟩⟩) H.2⟩
      · exact ⟨H.1, g_weak (show gm_Lle [some _, none, none, some _] _ from ⟨rfl, ⟨rfl, trivial⟩⟩) H.2⟩
    · exact ⟨H.1, g_weak (show gm_Lle [some _, none, none, some _] _ from ⟨rfl, ⟨rfl, trivial⟩⟩) H.2⟩
  · exact ⟨H.1, g_weak (show gm_Lle [some _, none, none, some _] _ from ⟨rfl, ⟨rfl, trivial⟩⟩) H.2⟩
set_option maxRecDepth 20000 in
theorem w_588_372 {a0 : Nat} {r_3 : Option Nat} {ex : Nat} {h : hh_T} {Q : Option Value ⊕ Nat → hh_T → Prop} (H : (r_3 = none → (gm_G 588 387 [some (.ref a0), none, none, none, some (.ref ex)] [] h Q)) ∧ (∀ a1, r_3 = some a1 → (hh_tg h a0 = 1 ∧ (gm_G 432 0 [some (.ref a0), some (.ref a1)] [] h (pV (fun h3 => hh_tg h3 a0 = 1 ∧ (gm_G 414 0 [some (.ref a0)] [] h3 (pV (fun h5 => gm_G 588 387 [some (.ref a0), none, none, none, some (.ref ex)] [] h5 Q) (fun e6 h7 => hh_tg h7 e6 = 21 ∧ Q (.inr e6) h7)))) (fun e8 h9 => hh_tg h9 e8 = 21 ∧ Q (.inr e8) h9)))))) : gm_G 588 372 [some (.ref a0), none, none, some (va_rf r_3)] [.ref ex] h Q := by
  refine g_astore (r := some _) rfl gm_sto_rf3 rfl (pc' := 374) ?_
  refine g_aload (r := _) rfl rfl rfl (pc' := 375) ?_
  refine g_ifnull rfl (pc' := 378) (pt := 387) rfl rfl ⟨fun hc => ?_, fun a1 hc => ?_⟩
  · replace H := H.1 hc
    subst hc
    exact g_weak (show gm_Lle [some _, none, none, none, some _] _ from ⟨rfl, ⟨rfl, trivial⟩⟩) H
  · replace H := H.2 a1 hc
    subst hc
    refine g_aload (r := some _) rfl rfl rfl (pc' := 379) ?_
    refine g_aload (r := some _) rfl rfl rfl (pc' := 380) ?_
    obtain ⟨ht2, H⟩ := H
    refine g_call rfl (y := 432) (n := 2) (pc' := 383) (g_vt ht2 rfl rfl) rfl rfl ⟨(Nat.le_of_ble_eq_true rfl), (Nat.le_of_ble_eq_true rfl), (Nat.le_of_ble_eq_true rfl)⟩ rfl (gm_G.mono H (pV_elim (fun h3 H' => ?_) (fun e8 h9 H => ?_)))
    · show gm_G _ 383 _ _ _ _
      replace H := H'
      clear H'
      refine g_aload (r := some _) rfl rfl rfl (pc' := 384) ?_
      obtain ⟨ht4, H⟩ := H
      refine g_call rfl (y := 414) (n := 1) (pc' := 387) (g_vt ht4 rfl rfl) rfl rfl ⟨(Nat.le_of_ble_eq_true rfl), (Nat.le_of_ble_eq_true rfl), (Nat.le_of_ble_eq_true rfl)⟩ rfl (gm_G.mono H (pV_elim (fun h5 H' => ?_) (fun e6 h7 H => ?_)))
      · show gm_G _ 387 _ _ _ _
        replace H := H'
        clear H'
        exact g_weak (show gm_Lle [some _, none, none, none, some _] _ from ⟨rfl, ⟨rfl, trivial⟩⟩) H
      · exact H
    · exact H
set_option maxRecDepth 20000 in
theorem w_588_387 {a0 : Nat} {r_4 : Option Nat} {h : hh_T} {Q : Option Value ⊕ Nat → hh_T → Prop} (H : hh_tg h a0 = 1 ∧ (gm_G 1 0 [some (.ref a0), some (va_rf r_4)] [] h (pI (fun v3 h2 => Q (.inl (some (.int v3))) h2) (fun e4 h5 => hh_tg h5 e4 = 21 ∧ Q (.inr e4) h5)))) : gm_G 588 387 [some (.ref a0), none, none, none, some (va_rf r_4)] [] h Q := by
  refine g_aload (r := some _) rfl rfl rfl (pc' := 388) ?_
  refine g_aload (r := _) rfl rfl rfl (pc' := 390) ?_
  obtain ⟨ht1, H⟩ := H
  refine g_call rfl (y := 1) (n := 2) (pc' := 393) (g_vt ht1 rfl rfl) (by cases r_4 <;> rfl) rfl ⟨(Nat.le_of_ble_eq_true rfl), (Nat.le_of_ble_eq_true rfl), (Nat.le_of_ble_eq_true rfl)⟩ rfl (gm_G.mono H (pI_elim (fun v3 h2 H' => ?_) (fun e4 h5 H => ?_)))
  · show gm_G _ 393 _ _ _ _
    replace H := H'
    clear H'
    exact g_ireturn rfl (Or.inl rfl) H
  · exact H
set_option maxRecDepth 20000 in
theorem w_589_0 {a0 : Nat} {x1 : Int32} {h : hh_T} {Q : Option Value ⊕ Nat → hh_T → Prop} (H : hh_tg h a0 = 1 ∧ (gm_G 456 0 [some (.ref a0)] [] h (pV (fun h2 => hh_tg h2 a0 = 1 ∧ (gm_G 453 0 [some (.ref a0), some (.int x1)] [] h2 (pR (fun r5 h4 => hh_tg h4 a0 = 1 ∧ (gm_G 580 0 [some (.ref a0), some (va_rf r5)] [] h4 (pI (fun v8 h7 => hh_tg h7 a0 = 1 ∧ (gm_G 4 0 [some (.ref a0), some (.int v8)] [] h7 (pI (fun v11 h10 => Q (.inl (some (.int v11))) h10) (fun e12 h13 => hh_tg h13 e12 = 21 ∧ gm_G 589 18 [some (.ref a0)] [.ref e12] h13 Q)))) (fun e14 h15 => hh_tg h15 e14 = 21 ∧ gm_G 589 18 [some (.ref a0)] [.ref e14] h15 Q)))) (fun e16 h17 => hh_tg h17 e16 = 21 ∧ gm_G 589 18 [some (.ref a0)] [.ref e16] h17 Q)))) (fun e18 h19 => hh_tg h19 e18 = 21 ∧ gm_G 589 18 [some (.ref a0)] [.ref e18] h19 Q)))) : gm_G 589 0 [some (.ref a0), some (.int x1)] [] h Q := by
  refine g_aload (r := some _) rfl rfl rfl (pc' := 1) ?_
  obtain ⟨ht1, H⟩ := H
  refine g_call rfl (y := 456) (n := 1) (pc' := 4) (g_vt ht1 rfl rfl) rfl rfl ⟨(Nat.le_of_ble_eq_true rfl), (Nat.le_of_ble_eq_true rfl), (Nat.le_of_ble_eq_true rfl)⟩ rfl (gm_G.mono H (pV_elim (fun h2 H' => ?_) (fun e18 h19 H => ?_)))
  · show gm_G _ 4 _ _ _ _
    replace H := H'
    clear H'
    refine g_aload (r := some _) rfl rfl rfl (pc' := 5) ?_
    refine g_aload (r := some _) rfl rfl rfl (pc' := 6) ?_
    refine g_aload (r := some _) rfl rfl rfl (pc' := 7) ?_
    refine g_iload rfl rfl rfl (pc' := 8) ?_
    obtain ⟨ht3, H⟩ := H
    refine g_call rfl (y := 453) (n := 2) (pc' := 11) (g_vt ht3 rfl rfl) rfl rfl ⟨(Nat.le_of_ble_eq_true rfl), (Nat.le_of_ble_eq_true rfl), (Nat.le_of_ble_eq_true rfl)⟩ rfl (gm_G.mono H (pR_elim (fun r5 h4 H' => ?_) (fun e16 h17 H => ?_)))
    · show gm_G _ 11 _ _ _ _
      replace H := H'
      clear H'
      obtain ⟨ht6, H⟩ := H
      refine g_call rfl (y := 580) (n := 2) (pc' := 14) (g_vt ht6 rfl rfl) (by cases r5 <;> rfl) rfl ⟨(Nat.le_of_ble_eq_true rfl), (Nat.le_of_ble_eq_true rfl), (Nat.le_of_ble_eq_true rfl)⟩ rfl (gm_G.mono H (pI_elim (fun v8 h7 H' => ?_) (fun e14 h15 H => ?_)))
      · show gm_G _ 14 _ _ _ _
        replace H := H'
        clear H'
        obtain ⟨ht9, H⟩ := H
        refine g_call rfl (y := 4) (n := 2) (pc' := 17) (g_vt ht9 rfl rfl) rfl rfl ⟨(Nat.le_of_ble_eq_true rfl), (Nat.le_of_ble_eq_true rfl), (Nat.le_of_ble_eq_true rfl)⟩ rfl (gm_G.mono H (pI_elim (fun v11 h10 H' => ?_) (fun e12 h13 H => ?_)))
        · show gm_G _ 17 _ _ _ _
          replace H := H'
          clear H'
          exact g_ireturn rfl (Or.inl rfl) H
        · exact ⟨H.1, g_weak (show gm_Lle [some _] _ from ⟨rfl, trivial⟩) H.2⟩
      · exact ⟨H.1, g_weak (show gm_Lle [some _] _ from ⟨rfl, trivial⟩) H.2⟩
    · exact ⟨H.1, g_weak (show gm_Lle [some _] _ from ⟨rfl, trivial⟩) H.2⟩
  · exact ⟨H.1, g_weak (show gm_Lle [some _] _ from ⟨rfl, trivial⟩) H.2⟩
set_option maxRecDepth 20000 in
theorem w_589_18 {a0 : Nat} {ex : Nat} {h : hh_T} {Q : Option Value ⊕ Nat → hh_T → Prop} (H : hh_tg h a0 = 1 ∧ (gm_G 1 0 [some (.ref a0), some (.ref ex)] [] h (pI (fun v3 h2 => Q (.inl (some (.int v3))) h2) (fun e4 h5 => hh_tg h5 e4 = 21 ∧ Q (.inr e4) h5)))) : gm_G 589 18 [some (.ref a0)] [.ref ex] h Q := by
  refine g_astore (r := some _) rfl rfl rfl (pc' := 19) ?_
  refine g_aload (r := some _) rfl rfl rfl (pc' := 20) ?_
  refine g_aload (r := some _) rfl rfl rfl (pc' := 21) ?_
  obtain ⟨ht1, H⟩ := H
  refine g_call rfl (y := 1) (n := 2) (pc' := 24) (g_vt ht1 rfl rfl) rfl rfl ⟨(Nat.le_of_ble_eq_true rfl), (Nat.le_of_ble_eq_true rfl), (Nat.le_of_ble_eq_true rfl)⟩ rfl (gm_G.mono H (pI_elim (fun v3 h2 H' => ?_) (fun e4 h5 H => ?_)))
  · show gm_G _ 24 _ _ _ _
    replace H := H'
    clear H'
    exact g_ireturn rfl (Or.inl rfl) H
  · exact H
set_option maxRecDepth 20000 in
theorem w_590_0 {a0 : Nat} {r_1 : Option Nat} {h : hh_T} {Q : Option Value ⊕ Nat → hh_T → Prop} (H : gm_sub (hh_tg h a0) 17 = true ∧ (∀ r2, r2 = hh_r h a0 6 → (∃ a3, r2 = some a3 ∧ (gm_sub (hh_tg h a3) 12 = true ∧ ((¬ (hh_i h a3 1) = (Int32.ofNat 6) → (gm_G 590 18 [some (.ref a0), some (va_rf r_1)] [.int (Int32.ofNat 0), .ref a0] h Q)) ∧ ((hh_i h a3 1) = (Int32.ofNat 6) → (gm_G 590 18 [some (.ref a0), some (va_rf r_1)] [.int (Int32.ofNat 1), .ref a0] h Q))))))) : gm_G 590 0 [some (.ref a0), some (va_rf r_1)] [] h Q := by
  refine g_aload (r := some _) rfl rfl rfl (pc' := 1) ?_
  refine g_aload (r := some _) rfl rfl rfl (pc' := 2) ?_
  obtain ⟨ht1, H⟩ := H
  refine g_getRv rfl rfl rfl rfl ht1 (pc' := 5) rfl (fun r2 hr2 => ?_)
  replace H := H r2 hr2
  obtain ⟨a3, rfl, H⟩ := H
  obtain ⟨ht4, H⟩ := H
  refine g_getI rfl rfl rfl rfl ht4 (pc' := 8) rfl ?_
  refine g_iconst rfl rfl rfl (pc' := 10) ?_
  refine g_ic_ne rfl (pc' := 13) (pt := 17) rfl rfl ⟨fun hc => ?_, fun hc => ?_⟩
  · replace H := H.1 hc
    refine g_iconst rfl rfl rfl (pc' := 18) ?_
    exact g_weak (show gm_Lle [some _, some _] _ from ⟨rfl, ⟨rfl, trivial⟩⟩) H
  · replace H := H.2 hc
    refine g_iconst rfl rfl rfl (pc' := 14) ?_
    refine g_goto rfl (pc' := 18) rfl ?_
    exact g_weak (show gm_Lle [some _, some _] _ from ⟨rfl, ⟨rfl, trivial⟩⟩) H
set_option maxRecDepth 20000 in
theorem w_590_18 {a0 : Nat} {r_1 : Option Nat} {y0 : Int32} {q1 : Option Nat} {h : hh_T} {Q : Option Value ⊕ Nat → hh_T → Prop} (H : ∃ a1, q1 = some a1 ∧ (hh_tg h a1 = 18 ∧ (gm_G 461 0 [some (.ref a1), some (.int y0)] [] h (pR (fun r4 h3 => gm_sub (hh_tg h3 a0) 17 = true ∧ ((¬ ((hh_i h3 a0 9) - (hh_i h3 a0 9) / (Int32.ofNat 2) * (Int32.ofNat 2)) = Int32.ofNat 0 → (gm_G 590 55 [some (.ref a0), some (va_rf r_1)] [] h3 Q)) ∧ (((hh_i h3 a0 9) - (hh_i h3 a0 9) / (Int32.ofNat 2) * (Int32.ofNat 2)) = Int32.ofNat 0 → (∀ r6, r6 = hh_r h3 a0 11 → (∀ r7, r7 = hh_r h3 a0 11 → (∃ a8, r7 = some a8 ∧ (gm_sub (hh_tg h3 a8) 0 = true ∧ (∀ r10, r10 = hh_r h3 a8 33 → (∃ a11, r10 = some a11 ∧ (hh_tg h3 a11 = 23 ∧ (gm_G 178 0 [some (.ref a11), some (.int ((hh_i h3 a0 9) / (Int32.ofNat 2)))] [] h3 (pR (fun r14 h13 => ∃ a15, r6 = some a15 ∧ (hh_tg h13 a15 = 1 ∧ (gm_G 580 0 [some (.ref a15), some (va_rf r14)] [] h13 (pI (fun v18 h17 => gm_G 590 55 [some (.ref a0), some (va_rf r_1)] [] h17 Q) (fun e19 h20 => hh_tg h20 e19 = 21 ∧ Q (.inr e19) h20))))) (fun e21 h22 => hh_tg h22 e21 = 21 ∧ Q (.inr e21) h22))))))))))))) (fun e23 h24 => hh_tg h24 e23 = 21 ∧ Q (.inr e23) h24))))) : gm_G 590 18 [some (.ref a0), some (va_rf r_1)] [.int y0, va_rf q1] h Q := by
  obtain ⟨a1, rfl, H⟩ := H
  obtain ⟨ht2, H⟩ := H
  refine g_call rfl (y := 461) (n := 2) (pc' := 21) (g_vt ht2 rfl rfl) rfl rfl ⟨(Nat.le_of_ble_eq_true rfl), (Nat.le_of_ble_eq_true rfl), (Nat.le_of_ble_eq_true rfl)⟩ rfl (gm_G.mono H (pR_elim (fun r4 h3 H' => ?_) (fun e23 h24 H => ?_)))
  · show gm_G _ 21 _ _ _ _
    replace H := H'
    clear H'
    refine g_pop_a (r := _) rfl rfl (pc' := 22) ?_
    refine g_aload (r := some _) rfl rfl rfl (pc' := 23) ?_
    obtain ⟨ht5, H⟩ := H
    refine g_getI rfl rfl rfl rfl ht5 (pc' := 26) rfl ?_
    refine g_iconst rfl rfl rfl (pc' := 27) ?_
    refine g_irem rfl (by decide) (pc' := 28) rfl ?_
    refine g_if_ne rfl (pc' := 31) (pt := 55) rfl rfl ⟨fun hc => ?_, fun hc => ?_⟩
    · replace H := H.1 hc
      exact g_weak (show gm_Lle [some _, some _] _ from ⟨rfl, ⟨rfl, trivial⟩⟩) H
    · replace H := H.2 hc
      refine g_aload (r := some _) rfl rfl rfl (pc' := 32) ?_
      refine g_getRv rfl rfl rfl rfl ht5 (pc' := 35) rfl (fun r6 hr6 => ?_)
      replace H := H r6 hr6
      refine g_aload (r := some _) rfl rfl rfl (pc' := 36) ?_
      refine g_getRv rfl rfl rfl rfl ht5 (pc' := 39) rfl (fun r7 hr7 => ?_)
      replace H := H r7 hr7
      obtain ⟨a8, rfl, H⟩ := H
      obtain ⟨ht9, H⟩ := H
      refine g_getRv rfl rfl rfl rfl ht9 (pc' := 42) rfl (fun r10 hr10 => ?_)
      replace H := H r10 hr10
      refine g_aload (r := some _) rfl rfl rfl (pc' := 43) ?_
      refine g_getI rfl rfl rfl rfl ht5 (pc' := 46) rfl ?_
      refine g_iconst rfl rfl rfl (pc' := 47) ?_
      refine g_idiv rfl (by decide) (pc' := 48) rfl ?_
      obtain ⟨a11, rfl, H⟩ := H
      obtain ⟨ht12, H⟩ := H
      refine g_call rfl (y := 178) (n := 2) (pc' := 51) (g_vt ht12 rfl rfl) rfl rfl ⟨(Nat.le_of_ble_eq_true rfl), (Nat.le_of_ble_eq_true rfl), (Nat.le_of_ble_eq_true rfl)⟩ rfl (gm_G.mono H (pR_elim (fun r14 h13 H' => ?_) (fun e21 h22 H => ?_)))
      · show gm_G _ 51 _ _ _ _
        replace H := H'
        clear H'
        obtain ⟨a15, rfl, H⟩ := H
        obtain ⟨ht16, H⟩ := H
        refine g_call rfl (y := 580) (n := 2) (pc' := 54) (g_vt ht16 rfl rfl) (by cases r14 <;> rfl) rfl ⟨(Nat.le_of_ble_eq_true rfl), (Nat.le_of_ble_eq_true rfl), (Nat.le_of_ble_eq_true rfl)⟩ rfl (gm_G.mono H (pI_elim (fun v18 h17 H' => ?_) (fun e19 h20 H => ?_)))
        · show gm_G _ 54 _ _ _ _
          replace H := H'
          clear H'
          refine g_pop_i rfl rfl (pc' := 55) ?_
          exact g_weak (show gm_Lle [some _, some _] _ from ⟨rfl, ⟨rfl, trivial⟩⟩) H
        · exact H
      · exact H
  · exact H
set_option maxRecDepth 20000 in
theorem w_590_55 {a0 : Nat} {r_1 : Option Nat} {h : hh_T} {Q : Option Value ⊕ Nat → hh_T → Prop} (H : gm_sub (hh_tg h a0) 17 = true ∧ (∀ r2, r2 = hh_r h a0 11 → (∃ a3, r2 = some a3 ∧ (gm_sub (hh_tg h a3) 0 = true ∧ (∃ a5, r_1 = some a5 ∧ (hh_tg h a5 = 13 ∧ (gm_G 507 0 [some (.ref a5), some (.int (hh_i h a3 36))] [] h (pV (fun h7 => Q (.inl none) h7) (fun e8 h9 => hh_tg h9 e8 = 21 ∧ Q (.inr e8) h9))))))))) : gm_G 590 55 [some (.ref a0), some (va_rf r_1)] [] h Q := by
  refine g_aload (r := _) rfl rfl rfl (pc' := 56) ?_
  refine g_aload (r := some _) rfl rfl rfl (pc' := 57) ?_
  obtain ⟨ht1, H⟩ := H
  refine g_getRv rfl rfl rfl rfl ht1 (pc' := 60) rfl (fun r2 hr2 => ?_)
  replace H := H r2 hr2
  obtain ⟨a3, rfl, H⟩ := H
  obtain ⟨ht4, H⟩ := H
  refine g_getI rfl rfl rfl rfl ht4 (pc' := 63) rfl ?_
  obtain ⟨a5, rfl, H⟩ := H
  obtain ⟨ht6, H⟩ := H
  refine g_call rfl (y := 507) (n := 2) (pc' := 66) (g_vt ht6 rfl rfl) rfl rfl ⟨(Nat.le_of_ble_eq_true rfl), (Nat.le_of_ble_eq_true rfl), (Nat.le_of_ble_eq_true rfl)⟩ rfl (gm_G.mono H (pV_elim (fun h7 H' => ?_) (fun e8 h9 H => ?_)))
  · show gm_G _ 66 _ _ _ _
    replace H := H'
    clear H'
    exact g_return rfl H
  · exact H
set_option maxRecDepth 20000 in
theorem w_591_0 {a0 : Nat} {r_1 : Option Nat} {x2 : Int32} {x3 : Int32} {h : hh_T} {Q : Option Value ⊕ Nat → hh_T → Prop} (H : ∃ a1, r_1 = some a1 ∧ (gm_sub (hh_tg h a1) 23 = true ∧ (∀ r3, r3 = hh_r h a1 9 → (∃ a4, r3 = some a4 ∧ (gm_sub (hh_tg h a4) 24 = true ∧ (∀ r6, r6 = hh_r h a4 2 → (gm_sub (hh_tg h a0) 40 = true ∧ (∃ a8, r6 = some a8 ∧ ((hh_tg h a8 = 104 ∨ 200 ≤ hh_tg h a8) ∧ (∃ n9, gm_ix (hh_i h a0 3) n9 (hh_ln h a8) ∧ (∀ r11, r11 = hh_r h a8 n9 → ((∀ b, r11 = some b → gm_sub (hh_tg h b) 26 = true) ∧ ((x3 = Int32.ofNat 0 → (gm_G 591 106 [some (.ref a0), some (.ref a1), some (.int x2)] [] h Q)) ∧ (¬ x3 = Int32.ofNat 0 → (gm_G 591 27 [some (.ref a0), some (.ref a1), some (.int x2), none, some (va_rf r11), some (.int (Int32.ofNat 0)), some (.int (Int32.ofNat 0))] [] h Q))))))))))))))) : gm_G 591 0 [some (.ref a0), some (va_rf r_1), some (.int x2), some (.int x3)] [] h Q := by
  refine g_aload (r := _) rfl rfl rfl (pc' := 1) ?_
  obtain ⟨a1, rfl, H⟩ := H
  obtain ⟨ht2, H⟩ := H
  refine g_getRv rfl rfl rfl rfl ht2 (pc' := 4) rfl (fun r3 hr3 => ?_)
  replace H := H r3 hr3
  obtain ⟨a4, rfl, H⟩ := H
  obtain ⟨ht5, H⟩ := H
  refine g_getRv rfl rfl rfl rfl ht5 (pc' := 7) rfl (fun r6 hr6 => ?_)
  replace H := H r6 hr6
  refine g_aload (r := some _) rfl rfl rfl (pc' := 8) ?_
  obtain ⟨ht7, H⟩ := H
  refine g_getI rfl rfl rfl rfl ht7 (pc' := 11) rfl ?_
  obtain ⟨a8, rfl, H⟩ := H
  obtain ⟨ht10, H⟩ := H
  obtain ⟨n9, hn9, H⟩ := H
  refine g_aaloadv rfl ht10 hn9 (pc' := 12) rfl (fun r11 hr11 => ?_)
  replace H := H r11 hr11
  obtain ⟨Hc, H⟩ := H
  refine g_cast rfl Hc (pc' := 15) rfl ?_
  refine g_astore (r := _) rfl rfl rfl (pc' := 17) ?_
  refine g_iload rfl rfl rfl (pc' := 18) ?_
  refine g_if_eq rfl (pc' := 21) (pt := 106) rfl rfl ⟨fun hc => ?_, fun hc => ?_⟩
  · replace H := H.1 hc
    exact g_weak (show gm_Lle [some _, some _, some _] _ from ⟨rfl, ⟨rfl, ⟨rfl, trivial⟩⟩⟩) H
  · replace H := H.2 hc
    refine g_iconst rfl rfl rfl (pc' := 22) ?_
    refine g_istore rfl gm_sto_rf4 rfl (pc' := 24) ?_
    refine g_iconst rfl rfl rfl (pc' := 25) ?_
    refine g_istore rfl rfl rfl (pc' := 27) ?_
    exact g_weak (show gm_Lle [some _, some _, some _, none, some _, some _, some _] _ from ⟨rfl, ⟨rfl, ⟨rfl, ⟨rfl, ⟨rfl, ⟨rfl, trivial⟩⟩⟩⟩⟩⟩) H
set_option maxRecDepth 20000 in
theorem w_591_27 {a0 : Nat} {r_1 : Option Nat} {x2 : Int32} {r_4 : Option Nat} {x5 : Int32} {x6 : Int32} {h : hh_T} {Q : Option Value ⊕ Nat → hh_T → Prop} (H : (¬ x6 < (Int32.ofNat 8) → (gm_sub (hh_tg h a0) 40 = true ∧ (∀ r2, r2 = hh_r h a0 4 → (∃ a3, r_4 = some a3 ∧ (gm_sub (hh_tg h a3) 25 = true ∧ (∃ a5, r2 = some a5 ∧ (hh_tg h a5 = 1 ∧ (gm_G 446 0 [some (.ref a5), some (va_rf r_1), some (.int (hh_i h a3 3)), some (.int x5)] [] h (pV (fun h7 => gm_G 591 106 [some (.ref a0), some (va_rf r_1), some (.int x2)] [] h7 Q) (fun e8 h9 => hh_tg h9 e8 = 21 ∧ Q (.inr e8) h9)))))))))) ∧ (x6 < (Int32.ofNat 8) → (gm_sub (hh_tg h a0) 40 = true ∧ (∀ r11, r11 = hh_r h a0 4 → (∃ a12, r11 = some a12 ∧ (gm_sub (hh_tg h a12) 0 = true ∧ (∀ r14, r14 = hh_r h a12 48 → (∃ a15, r14 = some a15 ∧ ((hh_tg h a15 = 101 ∨ hh_tg h a15 = 102) ∧ (∃ n16, gm_ix x6 n16 (hh_ln h a15) ∧ (((hh_i h a15 n16) = Int32.ofNat 0 → (gm_G 591 85 [some (.ref a0), some (va_rf r_1), some (.int x2), none, some (va_rf r_4), some (.int x5), some (.int x6)] [] h Q)) ∧ (¬ (hh_i h a15 n16) = Int32.ofNat 0 → (∀ r18, r18 = hh_r h a0 4 → (∀ r19, r19 = hh_r h a0 4 → (∃ a20, r19 = some a20 ∧ (gm_sub (hh_tg h a20) 0 = true ∧ (∀ r22, r22 = hh_r h a20 47 → (∃ a23, r22 = some a23 ∧ ((hh_tg h a23 = 104 ∨ 200 ≤ hh_tg h a23) ∧ (∃ n24, gm_ix x6 n24 (hh_ln h a23) ∧ (∀ r26, r26 = hh_r h a23 n24 → (∃ a27, r18 = some a27 ∧ (hh_tg h a27 = 1 ∧ (gm_G 239 0 [some (.ref a27), some (va_rf r26)] [] h (pI (fun v30 h29 => gm_sub (hh_tg h29 a0) 40 = true ∧ (∀ r32, r32 = hh_r h29 a0 4 → (∃ a33, r_4 = some a33 ∧ (gm_sub (hh_tg h29 a33) 26 = true ∧ (∀ r35, r35 = hh_r h29 a33 12 → (∃ a36, r35 = some a36 ∧ ((hh_tg h29 a36 = 104 ∨ 200 ≤ hh_tg h29 a36) ∧ (∃ n37, gm_ix x6 n37 (hh_ln h29 a36) ∧ (∀ r39, r39 = hh_r h29 a36 n37 → (∃ a40, r32 = some a40 ∧ (hh_tg h29 a40 = 1 ∧ (gm_G 239 0 [some (.ref a40), some (va_rf r39)] [] h29 (pI (fun v43 h42 => gm_G 591 85 [some (.ref a0), some (va_rf r_1), some (.int x2), none, some (.ref a33), some (.int (x5 + (v30 - v43))), some (.int x6)] [] h42 Q) (fun e44 h45 => hh_tg h45 e44 = 21 ∧ Q (.inr e44) h45)))))))))))))) (fun e46 h47 => hh_tg h47 e46 = 21 ∧ Q (.inr e46) h47)))))))))))))))))))))))))) : gm_G 591 27 [some (.ref a0), some (va_rf r_1), some (.int x2), none, some (va_rf r_4), some (.int x5), some (.int x6)] [] h Q := by
  refine g_iload rfl rfl rfl (pc' := 29) ?_
  refine g_iconst rfl rfl rfl (pc' := 31) ?_
  refine g_ic_ge rfl (pc' := 34) (pt := 91) rfl rfl ⟨fun hc => ?_, fun hc => ?_⟩
  · replace H := H.1 hc
    refine g_aload (r := some _) rfl rfl rfl (pc' := 92) ?_
    obtain ⟨ht1, H⟩ := H
    refine g_getRv rfl rfl rfl rfl ht1 (pc' := 95) rfl (fun r2 hr2 => ?_)
    replace H := H r2 hr2
    refine g_aload (r := _) rfl rfl rfl (pc' := 96) ?_
    refine g_aload (r := _) rfl rfl rfl (pc' := 98) ?_
    obtain ⟨a3, rfl, H⟩ := H
    obtain ⟨ht4, H⟩ := H
    refine g_getI rfl rfl rfl rfl ht4 (pc' := 101) rfl ?_
    refine g_iload rfl rfl rfl (pc' := 103) ?_
    obtain ⟨a5, rfl, H⟩ := H
    obtain ⟨ht6, H⟩ := H
    refine g_call rfl (y := 446) (n := 4) (pc' := 106) (g_vt ht6 rfl rfl) (by cases r_1 <;> rfl) rfl ⟨(Nat.le_of_ble_eq_true rfl), (Nat.le_of_ble_eq_true rfl), (Nat.le_of_ble_eq_true rfl)⟩ rfl (gm_G.mono H (pV_elim (fun h7 H' => ?_) (fun e8 h9 H => ?_)))
    · show gm_G _ 106 _ _ _ _
      replace H := H'
      clear H'
      exact g_weak (show gm_Lle [some _, some _, some _] _ from ⟨rfl, ⟨rfl, ⟨rfl, trivial⟩⟩⟩) H
    · exact H
  · replace H := H.2 hc
    refine g_aload (r := some _) rfl rfl rfl (pc' := 35) ?_
    obtain ⟨ht10, H⟩ := H
    refine g_getRv rfl rfl rfl rfl ht10 (pc' := 38) rfl (fun r11 hr11 => ?_)
    replace H := H r11 hr11
    obtain ⟨a12, rfl, H⟩ := H
    obtain ⟨ht13, H⟩ := H
    refine g_getRv rfl rfl rfl rfl ht13 (pc' := 41) rfl (fun r14 hr14 => ?_)
    replace H := H r14 hr14
    refine g_iload rfl rfl rfl (pc' := 43) ?_
    obtain ⟨a15, rfl, H⟩ := H
    obtain ⟨ht17, H⟩ := H
    obtain ⟨n16, hn16, H⟩ := H
    refine g_baload rfl ht17 hn16 (pc' := 44) rfl ?_
    refine g_if_eq rfl (pc' := 47) (pt := 85) rfl rfl ⟨fun hc => ?_, fun hc => ?_⟩
    · replace H := H.1 hc
      exact g_weak (show gm_Lle [some _, some _, some _, none, some _, some _, some _] _ from ⟨rfl, ⟨rfl, ⟨rfl, ⟨rfl, ⟨rfl, ⟨rfl, trivial⟩⟩⟩⟩⟩⟩) H
    · replace H := H.2 hc
      refine g_iload rfl rfl rfl (pc' := 49) ?_
      refine g_aload (r := some _) rfl rfl rfl (pc' := 50) ?_
      refine g_getRv rfl rfl rfl rfl ht10 (pc' := 53) rfl (fun r18 hr18 => ?_)
      replace H := H r18 hr18
      refine g_aload (r := some _) rfl rfl rfl (pc' := 54) ?_
      refine g_getRv rfl rfl rfl rfl ht10 (pc' := 57) rfl (fun r19 hr19 => ?_)
      replace H := H r19 hr19
      obtain ⟨a20, rfl, H⟩ := H
      obtain ⟨ht21, H⟩ := H
      refine g_getRv rfl rfl rfl rfl ht21 (pc' := 60) rfl (fun r22 hr22 => ?_)
      replace H := H r22 hr22
      refine g_iload rfl rfl rfl (pc' := 62) ?_
      obtain ⟨a23, rfl, H⟩ := H
      obtain ⟨ht25, H⟩ := H
      obtain ⟨n24, hn24, H⟩ := H
      refine g_aaloadv rfl ht25 hn24 (pc' := 63) rfl (fun r26 hr26 => ?_)
      replace H := H r26 hr26
      obtain ⟨a27, rfl, H⟩ := H
      obtain ⟨ht28, H⟩ := H
      refine g_call rfl (y := 239) (n := 2) (pc' := 66) (g_vt ht28 rfl rfl) (by cases r26 <;> rfl) rfl ⟨(Nat.le_of_ble_eq_true rfl), (Nat.le_of_ble_eq_true rfl), (Nat.le_of_ble_eq_true rfl)⟩ rfl (gm_G.mono H (pI_elim (fun v30 h29 H' => ?_) (fun e46 h47 H => ?_)))
      · show gm_G _ 66 _ _ _ _
        replace H := H'
        clear H'
        refine g_aload (r := some _) rfl rfl rfl (pc' := 67) ?_
        obtain ⟨ht31, H⟩ := H
        refine g_getRv rfl rfl rfl rfl ht31 (pc' := 70) rfl (fun r32 hr32 => ?_)
        replace H := H r32 hr32
        refine g_aload (r := _) rfl rfl rfl (pc' := 72) ?_
        obtain ⟨a33, rfl, H⟩ := H
        obtain ⟨ht34, H⟩ := H
        refine g_getRv rfl rfl rfl rfl ht34 (pc' := 75) rfl (fun r35 hr35 => ?_)
        replace H := H r35 hr35
        refine g_iload rfl rfl rfl (pc' := 77) ?_
        obtain ⟨a36, rfl, H⟩ := H
        obtain ⟨ht38, H⟩ := H
        obtain ⟨n37, hn37, H⟩ := H
        refine g_aaloadv rfl ht38 hn37 (pc' := 78) rfl (fun r39 hr39 => ?_)
        replace H := H r39 hr39
        obtain ⟨a40, rfl, H⟩ := H
        obtain ⟨ht41, H⟩ := H
        refine g_call rfl (y := 239) (n := 2) (pc' := 81) (g_vt ht41 rfl rfl) (by cases r39 <;> rfl) rfl ⟨(Nat.le_of_ble_eq_true rfl), (Nat.le_of_ble_eq_true rfl), (Nat.le_of_ble_eq_true rfl)⟩ rfl (gm_G.mono H (pI_elim (fun v43 h42 H' => ?_) (fun e44 h45 H => ?_)))
        · show gm_G _ 81 _ _ _ _
          replace H := H'
          clear H'
          refine g_isub rfl rfl (pc' := 82) ?_
          refine g_iadd rfl rfl (pc' := 83) ?_
          refine g_istore rfl rfl rfl (pc' := 85) ?_
          exact g_weak (show gm_Lle [some _, some _, some _, none, some _, some _, some _] _ from ⟨rfl, ⟨rfl, ⟨rfl, ⟨rfl, ⟨rfl, ⟨rfl, trivial⟩⟩⟩⟩⟩⟩) H
        · exact H
      · exact H
set_option maxRecDepth 20000 in
theorem w_591_85 {a0 : Nat} {r_1 : Option Nat} {x2 : Int32} {r_4 : Option Nat} {x5 : Int32} {x6 : Int32} {h : hh_T} {Q : Option Value ⊕ Nat → hh_T → Prop} (H : gm_G 591 27 [some (.ref a0), some (va_rf r_1), some (.int x2), none, some (va_rf r_4), some (.int x5), some (.int (x6 + (Int32.ofNat 1)))] [] h Q) : gm_G 591 85 [some (.ref a0), some (va_rf r_1), some (.int x2), none, some (va_rf r_4), some (.int x5), some (.int x6)] [] h Q := by
  refine g_iinc (c := (Int32.ofNat 1)) rfl rfl rfl rfl rfl (pc' := 88) ?_
  refine g_goto rfl (pc' := 27) rfl ?_
  exact g_weak (show gm_Lle [some _, some _, some _, none, some _, some _, some _] _ from ⟨rfl, ⟨rfl, ⟨rfl, ⟨rfl, ⟨rfl, ⟨rfl, trivial⟩⟩⟩⟩⟩⟩) H
set_option maxRecDepth 20000 in
theorem w_591_106 {a0 : Nat} {r_1 : Option Nat} {x2 : Int32} {h : hh_T} {Q : Option Value ⊕ Nat → hh_T → Prop} (H : gm_sub (hh_tg h a0) 40 = true ∧ (∀ r2, r2 = hh_r h a0 4 → (∃ a3, r2 = some a3 ∧ (hh_tg h a3 = 1 ∧ (gm_G 574 0 [some (.ref a3)] [] h (pV (fun h5 => gm_sub (hh_tg h5 a0) 40 = true ∧ (∀ r7, r7 = hh_r h5 a0 4 → (∀ r8, r8 = hh_r h5 a0 4 → (∃ a9, r8 = some a9 ∧ (hh_tg h5 a9 = 1 ∧ (gm_G 396 0 [some (.ref a9), some (va_rf r_1)] [] h5 (pR (fun r12 h11 => gm_sub (hh_tg h11 a0) 40 = true ∧ (∃ a14, r7 = some a14 ∧ (hh_tg h11 a14 = 1 ∧ (gm_G 395 0 [some (.ref a14), some (va_rf r12), some (.int (hh_i h11 a0 3))] [] h11 (pR (fun r17 h16 => (∀ b, r17 = some b → gm_sub (hh_tg h16 b) 26 = true) ∧ (gm_G 591 140 [some (.ref a0), none, some (.int x2), none, some (va_rf r17), some (.int (Int32.ofNat 0))] [] h16 Q)) (fun e18 h19 => hh_tg h19 e18 = 21 ∧ Q (.inr e18) h19)))))) (fun e20 h21 => hh_tg h21 e20 = 21 ∧ Q (.inr e20) h21)))))))) (fun e22 h23 => hh_tg h23 e22 = 21 ∧ Q (.inr e22) h23))))))) : gm_G 591 106 [some (.ref a0), some (va_rf r_1), some (.int x2)] [] h Q := by
  refine g_aload (r := some _) rfl rfl rfl (pc' := 107) ?_
  obtain ⟨ht1, H⟩ := H
  refine g_getRv rfl rfl rfl rfl ht1 (pc' := 110) rfl (fun r2 hr2 => ?_)
  replace H := H r2 hr2
  obtain ⟨a3, rfl, H⟩ := H
  obtain ⟨ht4, H⟩ := H
  refine g_call rfl (y := 574) (n := 1) (pc' := 113) (g_vt ht4 rfl rfl) rfl rfl ⟨(Nat.le_of_ble_eq_true rfl), (Nat.le_of_ble_eq_true rfl), (Nat.le_of_ble_eq_true rfl)⟩ rfl (gm_G.mono H (pV_elim (fun h5 H' => ?_) (fun e22 h23 H => ?_)))
  · show gm_G _ 113 _ _ _ _
    replace H := H'
    clear H'
    refine g_aload (r := some _) rfl rfl rfl (pc' := 114) ?_
    obtain ⟨ht6, H⟩ := H
    refine g_getRv rfl rfl rfl rfl ht6 (pc' := 117) rfl (fun r7 hr7 => ?_)
    replace H := H r7 hr7
    refine g_aload (r := some _) rfl rfl rfl (pc' := 118) ?_
    refine g_getRv rfl rfl rfl rfl ht6 (pc' := 121) rfl (fun r8 hr8 => ?_)
    replace H := H r8 hr8
    refine g_aload (r := _) rfl rfl rfl (pc' := 122) ?_
    obtain ⟨a9, rfl, H⟩ := H
    obtain ⟨ht10, H⟩ := H
    refine g_call rfl (y := 396) (n := 2) (pc' := 125) (g_vt ht10 rfl rfl) (by cases r_1 <;> rfl) rfl ⟨(Nat.le_of_ble_eq_true rfl), (Nat.le_of_ble_eq_true rfl), (Nat.le_of_ble_eq_true rfl)⟩ rfl (gm_G.mono H (pR_elim (fun r12 h11 H' => ?_) (fun e20 h21 H => ?_)))
    · show gm_G _ 125 _ _ _ _
      replace H := H'
      clear H'
      refine g_aload (r := some _) rfl rfl rfl (pc' := 126) ?_
      obtain ⟨ht13, H⟩ := H
      refine g_getI rfl rfl rfl rfl ht13 (pc' := 129) rfl ?_
      obtain ⟨a14, rfl, H⟩ := H
      obtain ⟨ht15, H⟩ := H
      refine g_call rfl (y := 395) (n := 3) (pc' := 132) (g_vt ht15 rfl rfl) (by cases r12 <;> rfl) rfl ⟨(Nat.le_of_ble_eq_true rfl), (Nat.le_of_ble_eq_true rfl), (Nat.le_of_ble_eq_true rfl)⟩ rfl (gm_G.mono H (pR_elim (fun r17 h16 H' => ?_) (fun e18 h19 H => ?_)))
      · show gm_G _ 132 _ _ _ _
        replace H := H'
        clear H'
        obtain ⟨Hc, H⟩ := H
        refine g_cast rfl Hc (pc' := 135) rfl ?_
        refine g_astore (r := _) rfl rfl rfl (pc' := 137) ?_
        refine g_iconst rfl rfl rfl (pc' := 138) ?_
        refine g_istore rfl gm_sto_rf4 rfl (pc' := 140) ?_
        exact g_weak (show gm_Lle [some _, none, some _, none, some _, some _] _ from ⟨rfl, ⟨rfl, ⟨rfl, ⟨rfl, trivial⟩⟩⟩⟩) H
      · exact H
    · exact H
  · exact H
set_option maxRecDepth 20000 in
theorem w_591_140 {a0 : Nat} {x2 : Int32} {r_4 : Option Nat} {x5 : Int32} {h : hh_T} {Q : Option Value ⊕ Nat → hh_T → Prop} (H : (¬ x5 < (Int32.ofNat 8) → (∃ a1, r_4 = some a1 ∧ (gm_sub (hh_tg h a1) 25 = true ∧ (∀ h3, h3 = hh_wi h a1 6 x2 → ((hh_tg h3 a0 = 42 ∧ (gm_G 206 0 [some (.ref a0), some (.ref a1)] [] h3 (pV (fun h4 => Q (.inl none) h4) (fun e5 h6 => hh_tg h6 e5 = 21 ∧ Q (.inr e5) h6)))) ∨ (hh_tg h3 a0 = 45 ∧ (gm_G 206 0 [some (.ref a0), some (.ref a1)] [] h3 (pV (fun h7 => Q (.inl none) h7) (fun e8 h9 => hh_tg h9 e8 = 21 ∧ Q (.inr e8) h9)))) ∨ (hh_tg h3 a0 = 46 ∧ (gm_G 206 0 [some (.ref a0), some (.ref a1)] [] h3 (pV (fun h10 => Q (.inl none) h10) (fun e11 h12 => hh_tg h12 e11 = 21 ∧ Q (.inr e11) h12)))) ∨ (hh_tg h3 a0 = 47 ∧ (gm_G 206 0 [some (.ref a0), some (.ref a1)] [] h3 (pV (fun h13 => Q (.inl none) h13) (fun e14 h15 => hh_tg h15 e14 = 21 ∧ Q (.inr e14) h15))))))))) ∧ (x5 < (Int32.ofNat 8) → (gm_sub (hh_tg h a0) 40 = true ∧ (∀ r17, r17 = hh_r h a0 4 → (∃ a18, r17 = some a18 ∧ (gm_sub (hh_tg h a18) 0 = true ∧ (∀ r20, r20 = hh_r h a18 48 → (∃ a21, r20 = some a21 ∧ ((hh_tg h a21 = 101 ∨ hh_tg h a21 = 102) ∧ (∃ n22, gm_ix x5 n22 (hh_ln h a21) ∧ ((¬ (hh_i h a21 n22) = Int32.ofNat 0 → (∃ a24, r_4 = some a24 ∧ (gm_sub (hh_tg h a24) 26 = true ∧ (∀ r26, r26 = hh_r h a24 12 → (∃ a27, r26 = some a27 ∧ ((hh_tg h a27 = 104 ∨ 200 ≤ hh_tg h a27) ∧ (∃ n28, gm_ix x5 n28 (hh_ln h a27) ∧ (∀ r30, r30 = hh_r h a27 n28 → (∀ r31, r31 = hh_r h a24 12 → (∀ r32, r32 = hh_r h a0 4 → (∃ a33, r32 = some a33 ∧ (gm_sub (hh_tg h a33) 0 = true ∧ (∀ r35, r35 = hh_r h a33 47 → (∃ a36, r35 = some a36 ∧ ((hh_tg h a36 = 104 ∨ 200 ≤ hh_tg h a36) ∧ (∃ n37, gm_ix x5 n37 (hh_ln h a36) ∧ (∀ r39, r39 = hh_r h a36 n37 → (∃ a40, r31 = some a40 ∧ (200 ≤ hh_tg h a40 ∧ (∀ b, r39 = some b → gm_as (hh_tg h a40) (hh_tg h b) = true) ∧ (∃ n41, gm_ix x5 n41 (hh_ln h a40) ∧ (∀ h42, h42 = hh_wr h a40 n41 r39 → (∀ r43, r43 = hh_r h42 a0 4 → (∃ a44, r43 = some a44 ∧ (hh_tg h42 a44 = 1 ∧ (gm_G 397 0 [some (.ref a44), some (va_rf r30)] [] h42 (pV (fun h46 => gm_G 591 200 [some (.ref a0), none, some (.int x2), none, some (.ref a24), some (.int x5)] [] h46 Q) (fun e47 h48 => hh_tg h48 e47 = 21 ∧ Q (.inr e47) h48))))))))))))))))))))))))))) ∧ ((hh_i h a21 n22) = Int32.ofNat 0 → (gm_G 591 200 [some (.ref a0), none, some (.int x2), none, some (va_rf r_4), some (.int x5)] [] h Q))))))))))))) : gm_G 591 140 [some (.ref a0), none, some (.int x2), none, some (va_rf r_4), some (.int x5)] [] h Q := by
  refine g_iload rfl rfl rfl (pc' := 142) ?_
  refine g_iconst rfl rfl rfl (pc' := 144) ?_
  refine g_ic_ge rfl (pc' := 147) (pt := 206) rfl rfl ⟨fun hc => ?_, fun hc => ?_⟩
  · replace H := H.1 hc
    refine g_aload (r := _) rfl rfl rfl (pc' := 208) ?_
    refine g_iload rfl rfl rfl (pc' := 209) ?_
    obtain ⟨a1, rfl, H⟩ := H
    obtain ⟨ht2, H⟩ := H
    refine g_putI rfl rfl rfl rfl ht2  (pc' := 212) rfl ?_
    replace H := H _ rfl
    refine g_aload (r := some _) rfl rfl rfl (pc' := 213) ?_
    refine g_aload (r := some _) rfl rfl rfl (pc' := 215) ?_
    rcases H with ⟨ht, H⟩ | ⟨ht, H⟩ | ⟨ht, H⟩ | ⟨ht, H⟩
    · refine g_call rfl (y := 206) (n := 2) (pc' := 218) (g_vt ht rfl rfl) rfl rfl ⟨(Nat.le_of_ble_eq_true rfl), (Nat.le_of_ble_eq_true rfl), (Nat.le_of_ble_eq_true rfl)⟩ rfl (gm_G.mono H (pV_elim (fun h4 H' => ?_) (fun e5 h6 H => ?_)))
      · show gm_G _ 218 _ _ _ _
        replace H := H'
        clear H'
        exact g_return rfl H
      · exact H
    · refine g_call rfl (y := 206) (n := 2) (pc' := 218) (g_vt ht rfl rfl) rfl rfl ⟨(Nat.le_of_ble_eq_true rfl), (Nat.le_of_ble_eq_true rfl), (Nat.le_of_ble_eq_true rfl)⟩ rfl (gm_G.mono H (pV_elim (fun h7 H' => ?_) (fun e8 h9 H => ?_)))
      · show gm_G _ 218 _ _ _ _
        replace H := H'
        clear H'
        exact g_return rfl H
      · exact H
    · refine g_call rfl (y := 206) (n := 2) (pc' := 218) (g_vt ht rfl rfl) rfl rfl ⟨(Nat.le_of_ble_eq_true rfl), (Nat.le_of_ble_eq_true rfl), (Nat.le_of_ble_eq_true rfl)⟩ rfl (gm_G.mono H (pV_elim (fun h10 H' => ?_) (fun e11 h12 H => ?_)))
      · show gm_G _ 218 _ _ _ _
        replace H := H'
        clear H'
        exact g_return rfl H
      · exact H
    · refine g_call rfl (y := 206) (n := 2) (pc' := 218) (g_vt ht rfl rfl) rfl rfl ⟨(Nat.le_of_ble_eq_true rfl), (Nat.le_of_ble_eq_true rfl), (Nat.le_of_ble_eq_true rfl)⟩ rfl (gm_G.mono H (pV_elim (fun h13 H' => ?_) (fun e14 h15 H => ?_)))
      · show gm_G _ 218 _ _ _ _
        replace H := H'
        clear H'
        exact g_return rfl H
      · exact H
  · replace H := H.2 hc
    refine g_aload (r := some _) rfl rfl rfl (pc' := 148) ?_
    obtain ⟨ht16, H⟩ := H
    refine g_getRv rfl rfl rfl rfl ht16 (pc' := 151) rfl (fun r17 hr17 => ?_)
    replace H := H r17 hr17
    obtain ⟨a18, rfl, H⟩ := H
    obtain ⟨ht19, H⟩ := H
    refine g_getRv rfl rfl rfl rfl ht19 (pc' := 154) rfl (fun r20 hr20 => ?_)
    replace H := H r20 hr20
    refine g_iload rfl rfl rfl (pc' := 156) ?_
    obtain ⟨a21, rfl, H⟩ := H
    obtain ⟨ht23, H⟩ := H
    obtain ⟨n22, hn22, H⟩ := H
    refine g_baload rfl ht23 hn22 (pc' := 157) rfl ?_
    refine g_if_ne rfl (pc' := 160) (pt := 163) rfl rfl ⟨fun hc => ?_, fun hc => ?_⟩
    · replace H := H.1 hc
      refine g_aload (r := _) rfl rfl rfl (pc' := 165) ?_
      obtain ⟨a24, rfl, H⟩ := H
      obtain ⟨ht25, H⟩ := H
      refine g_getRv rfl rfl rfl rfl ht25 (pc' := 168) rfl (fun r26 hr26 => ?_)
      replace H := H r26 hr26
      refine g_iload rfl rfl rfl (pc' := 170) ?_
      obtain ⟨a27, rfl, H⟩ := H
      obtain ⟨ht29, H⟩ := H
      obtain ⟨n28, hn28, H⟩ := H
      refine g_aaloadv rfl ht29 hn28 (pc' := 171) rfl (fun r30 hr30 => ?_)
      replace H := H r30 hr30
      refine g_astore (r := _) rfl rfl rfl (pc' := 173) ?_
      refine g_aload (r := some _) rfl rfl rfl (pc' := 175) ?_
      refine g_getRv rfl rfl rfl rfl ht25 (pc' := 178) rfl (fun r31 hr31 => ?_)
      replace H := H r31 hr31
      refine g_iload rfl rfl rfl (pc' := 180) ?_
      refine g_aload (r := some _) rfl rfl rfl (pc' := 181) ?_
      refine g_getRv rfl rfl rfl rfl ht16 (pc' := 184) rfl (fun r32 hr32 => ?_)
      replace H := H r32 hr32
      obtain ⟨a33, rfl, H⟩ := H
      obtain ⟨ht34, H⟩ := H
      refine g_getRv rfl rfl rfl rfl ht34 (pc' := 187) rfl (fun r35 hr35 => ?_)
      replace H := H r35 hr35
      refine g_iload rfl rfl rfl (pc' := 189) ?_
      obtain ⟨a36, rfl, H⟩ := H
      obtain ⟨ht38, H⟩ := H
      obtain ⟨n37, hn37, H⟩ := H
      refine g_aaloadv rfl ht38 hn37 (pc' := 190) rfl (fun r39 hr39 => ?_)
      replace H := H r39 hr39
      obtain ⟨a40, rfl, H⟩ := H
      obtain ⟨Ha, Hb, H⟩ := H
      obtain ⟨n41, hn41, H⟩ := H
      refine g_aastore (r := _) rfl Ha Hb hn41 (pc' := 191) rfl ?_
      replace H := H _ rfl
      refine g_aload (r := some _) rfl rfl rfl (pc' := 192) ?_
      refine g_getRv rfl rfl rfl rfl ht16 (pc' := 195) rfl (fun r43 hr43 => ?_)
      replace H := H r43 hr43
      refine g_aload (r := _) rfl rfl rfl (pc' := 197) ?_
      obtain ⟨a44, rfl, H⟩ := H
      obtain ⟨ht45, H⟩ := H
      refine g_call rfl (y := 397) (n := 2) (pc' := 200) (g_vt ht45 rfl rfl) (by cases r30 <;> rfl) rfl ⟨(Nat.le_of_ble_eq_true rfl), (Nat.le_of_ble_eq_true rfl), (Nat.le_of_ble_eq_true rfl)⟩ rfl (gm_G.mono H (pV_elim (fun h46 H' => ?_) (fun e47 h48 H => ?_)))
      · show gm_G _ 200 _ _ _ _
        replace H := H'
        clear H'
        exact g_weak (show gm_Lle [some _, none, some _, none, some _, some _] _ from ⟨rfl, ⟨rfl, ⟨rfl, ⟨rfl, trivial⟩⟩⟩⟩) H
      · exact H
    · replace H := H.2 hc
      refine g_goto rfl (pc' := 200) rfl ?_
      exact g_weak (show gm_Lle [some _, none, some _, none, some _, some _] _ from ⟨rfl, ⟨rfl, ⟨rfl, ⟨rfl, trivial⟩⟩⟩⟩) H
set_option maxRecDepth 20000 in
theorem w_591_200 {a0 : Nat} {x2 : Int32} {r_4 : Option Nat} {x5 : Int32} {h : hh_T} {Q : Option Value ⊕ Nat → hh_T → Prop} (H : gm_G 591 140 [some (.ref a0), none, some (.int x2), none, some (va_rf r_4), some (.int (x5 + (Int32.ofNat 1)))] [] h Q) : gm_G 591 200 [some (.ref a0), none, some (.int x2), none, some (va_rf r_4), some (.int x5)] [] h Q := by
  refine g_iinc (c := (Int32.ofNat 1)) rfl rfl rfl gm_sto_rf4 rfl (pc' := 203) ?_
  refine g_goto rfl (pc' := 140) rfl ?_
  exact g_weak (show gm_Lle [some _, none, some _, none, some _, some _] _ from ⟨rfl, ⟨rfl, ⟨rfl, ⟨rfl, trivial⟩⟩⟩⟩) H
set_option maxRecDepth 20000 in
theorem w_592_0 {a0 : Nat} {r_1 : Option Nat} {r_2 : Option Nat} {x3 : Int32} {h : hh_T} {Q : Option Value ⊕ Nat → hh_T → Prop} (H : (∀ a1, r_1 = some a1 → (gm_sub (hh_tg h a0) 0 = true ∧ (∀ r3, r3 = hh_r h a0 18 → (∃ a4, r3 = some a4 ∧ (hh_tg h a4 = 12 ∧ (gm_G 60 0 [some (.ref a4), some (.ref a1)] [] h (pI (fun v7 h6 => (v7 = Int32.ofNat 0 → (hh_tg h6 a0 = 1 ∧ (gm_G 587 0 [some (.ref a0), some (.ref a1), some (.int (Int32.ofNat 0))] [] h6 (pI (fun v10 h9 => gm_sub (hh_tg h9 a0) 0 = true ∧ (∀ r12, r12 = hh_r h9 a0 18 → (∃ a13, r12 = some a13 ∧ (gm_sub (hh_tg h9 a13) 11 = true ∧ (∀ h15, h15 = hh_wi h9 a13 7 ((hh_i h9 a13 7) + (Int32.ofNat 1)) → (gm_G 592 71 [some (.ref a0), some (.ref a1), some (va_rf r_2), some (.int x3), some (.int v10)] [] h15 Q)))))) (fun e16 h17 => hh_tg h17 e16 = 21 ∧ Q (.inr e16) h17))))) ∧ (¬ v7 = Int32.ofNat 0 → (gm_sub (hh_tg h6 a0) 0 = true ∧ (∀ r19, r19 = hh_r h6 a0 18 → (∃ a20, r19 = some a20 ∧ (hh_tg h6 a20 = 12 ∧ (gm_G 359 0 [some (.ref a20), some (.ref a1), some (va_rf r_2), some (.int x3)] [] h6 (pV (fun h22 => Q (.inl none) h22) (fun e23 h24 => hh_tg h24 e23 = 21 ∧ Q (.inr e23) h24))))))))) (fun e25 h26 => hh_tg h26 e25 = 21 ∧ Q (.inr e25) h26)))))))) ∧ (r_1 = none → (gm_G 592 7 [none, none, some (va_rf r_2), some (.int x3), some (.int (Int32.ofNat 0))] [] h Q))) : gm_G 592 0 [some (.ref a0), some (va_rf r_1), some (va_rf r_2), some (.int x3)] [] h Q := by
  refine g_aload (r := _) rfl rfl rfl (pc' := 1) ?_
  refine g_ifnonnull rfl (pc' := 4) (pt := 28) rfl rfl ⟨fun a1 hc => ?_, fun hc => ?_⟩
  · replace H := H.1 a1 hc
    subst hc
    refine g_aload (r := some _) rfl rfl rfl (pc' := 29) ?_
    obtain ⟨ht2, H⟩ := H
    refine g_getRv rfl rfl rfl rfl ht2 (pc' := 32) rfl (fun r3 hr3 => ?_)
    replace H := H r3 hr3
    refine g_aload (r := some _) rfl rfl rfl (pc' := 33) ?_
    obtain ⟨a4, rfl, H⟩ := H
    obtain ⟨ht5, H⟩ := H
    refine g_call rfl (y := 60) (n := 2) (pc' := 36) (g_vt ht5 rfl rfl) rfl rfl ⟨(Nat.le_of_ble_eq_true rfl), (Nat.le_of_ble_eq_true rfl), (Nat.le_of_ble_eq_true rfl)⟩ rfl (gm_G.mono H (pI_elim (fun v7 h6 H' => ?_) (fun e25 h26 H => ?_)))
    · show gm_G _ 36 _ _ _ _
      replace H := H'
      clear H'
      refine g_if_eq rfl (pc' := 39) (pt := 50) rfl rfl ⟨fun hc => ?_, fun hc => ?_⟩
      · replace H := H.1 hc
        refine g_aload (r := some _) rfl rfl rfl (pc' := 51) ?_
        refine g_aload (r := some _) rfl rfl rfl (pc' := 52) ?_
        refine g_iconst rfl rfl rfl (pc' := 53) ?_
        obtain ⟨ht8, H⟩ := H
        refine g_call rfl (y := 587) (n := 3) (pc' := 56) (g_vt ht8 rfl rfl) rfl rfl ⟨(Nat.le_of_ble_eq_true rfl), (Nat.le_of_ble_eq_true rfl), (Nat.le_of_ble_eq_true rfl)⟩ rfl (gm_G.mono H (pI_elim (fun v10 h9 H' => ?_) (fun e16 h17 H => ?_)))
        · show gm_G _ 56 _ _ _ _
          replace H := H'
          clear H'
          refine g_istore rfl rfl rfl (pc' := 58) ?_
          refine g_aload (r := some _) rfl rfl rfl (pc' := 59) ?_
          obtain ⟨ht11, H⟩ := H
          refine g_getRv rfl rfl rfl rfl ht11 (pc' := 62) rfl (fun r12 hr12 => ?_)
          replace H := H r12 hr12
          refine g_dup_a (r := _) rfl rfl (pc' := 63) ?_
          obtain ⟨a13, rfl, H⟩ := H
          obtain ⟨ht14, H⟩ := H
          refine g_getI rfl rfl rfl rfl ht14 (pc' := 66) rfl ?_
          refine g_iconst rfl rfl rfl (pc' := 67) ?_
          refine g_iadd rfl rfl (pc' := 68) ?_
          refine g_putI rfl rfl rfl rfl ht14  (pc' := 71) rfl ?_
          replace H := H _ rfl
          exact g_weak (show gm_Lle [some _, some _, some _, some _, some _] _ from ⟨rfl, ⟨rfl, ⟨rfl, ⟨rfl, ⟨rfl, trivial⟩⟩⟩⟩⟩) H
        · exact H
      · replace H := H.2 hc
        refine g_aload (r := some _) rfl rfl rfl (pc' := 40) ?_
        obtain ⟨ht18, H⟩ := H
        refine g_getRv rfl rfl rfl rfl ht18 (pc' := 43) rfl (fun r19 hr19 => ?_)
        replace H := H r19 hr19
        refine g_aload (r := some _) rfl rfl rfl (pc' := 44) ?_
        refine g_aload (r := _) rfl rfl rfl (pc' := 45) ?_
        refine g_iload rfl rfl rfl (pc' := 46) ?_
        obtain ⟨a20, rfl, H⟩ := H
        obtain ⟨ht21, H⟩ := H
        refine g_call rfl (y := 359) (n := 4) (pc' := 49) (g_vt ht21 rfl rfl) (by cases r_2 <;> rfl) rfl ⟨(Nat.le_of_ble_eq_true rfl), (Nat.le_of_ble_eq_true rfl), (Nat.le_of_ble_eq_true rfl)⟩ rfl (gm_G.mono H (pV_elim (fun h22 H' => ?_) (fun e23 h24 H => ?_)))
        · show gm_G _ 49 _ _ _ _
          replace H := H'
          clear H'
          exact g_return rfl H
        · exact H
    · exact H
  · replace H := H.2 hc
    subst hc
    refine g_iconst rfl rfl rfl (pc' := 5) ?_
    refine g_istore rfl rfl rfl (pc' := 7) ?_
    exact g_weak (show gm_Lle [none, none, some _, some _, some _] _ from ⟨rfl, ⟨rfl, ⟨rfl, trivial⟩⟩⟩) H
set_option maxRecDepth 20000 in
theorem w_592_7 {a0 : Nat} {r_2 : Option Nat} {x3 : Int32} {x4 : Int32} {h : hh_T} {Q : Option Value ⊕ Nat → hh_T → Prop} (H : (¬ x4 < (Int32.ofNat 32) → (Q (.inl none) h)) ∧ (x4 < (Int32.ofNat 32) → (∃ a1, r_2 = some a1 ∧ (hh_tg h a1 = 101 ∧ (∃ n2, gm_ix (x3 + x4) n2 (hh_ln h a1) ∧ (∀ h3, h3 = hh_wi h a1 n2 ((Int32.ofNat 0).toInt8.toInt32) → (gm_G 592 7 [none, none, some (.ref a1), some (.int x3), some (.int (x4 + (Int32.ofNat 1)))] [] h3 Q))))))) : gm_G 592 7 [none, none, some (va_rf r_2), some (.int x3), some (.int x4)] [] h Q := by
  refine g_iload rfl rfl rfl (pc' := 9) ?_
  refine g_iconst rfl rfl rfl (pc' := 11) ?_
  refine g_ic_ge rfl (pc' := 14) (pt := 27) rfl rfl ⟨fun hc => ?_, fun hc => ?_⟩
  · replace H := H.1 hc
    exact g_return rfl H
  · replace H := H.2 hc
    refine g_aload (r := _) rfl rfl rfl (pc' := 15) ?_
    refine g_iload rfl rfl rfl (pc' := 16) ?_
    refine g_iload rfl rfl rfl (pc' := 18) ?_
    refine g_iadd rfl rfl (pc' := 19) ?_
    refine g_iconst rfl rfl rfl (pc' := 20) ?_
    obtain ⟨a1, rfl, H⟩ := H
    obtain ⟨ht4, H⟩ := H
    obtain ⟨n2, hn2, H⟩ := H
    refine g_bastore rfl ht4 hn2  (pc' := 21) rfl ?_
    replace H := H _ rfl
    refine g_iinc (c := (Int32.ofNat 1)) rfl rfl rfl rfl rfl (pc' := 24) ?_
    refine g_goto rfl (pc' := 7) rfl ?_
    exact g_weak (show gm_Lle [none, none, some _, some _, some _] _ from ⟨rfl, ⟨rfl, ⟨rfl, trivial⟩⟩⟩) H
set_option maxRecDepth 20000 in
theorem w_592_71 {a0 : Nat} {r_1 : Option Nat} {r_2 : Option Nat} {x3 : Int32} {x4 : Int32} {h : hh_T} {Q : Option Value ⊕ Nat → hh_T → Prop} (H : gm_G 431 0 [some (.int x4), some (.int (Int32.ofInt (-8)))] [] h (pV (fun h1 => gm_sub (hh_tg h1 a0) 0 = true ∧ (∀ r3, r3 = hh_r h1 a0 18 → (∀ r4, r4 = hh_r h1 a0 20 → (∃ a5, r3 = some a5 ∧ (hh_tg h1 a5 = 12 ∧ (gm_G 399 0 [some (.ref a5), some (va_rf r_1), some (va_rf r4)] [] h1 (pV (fun h7 => gm_G 592 93 [some (.ref a0), none, some (va_rf r_2), some (.int x3), none, some (.int (Int32.ofNat 0))] [] h7 Q) (fun e8 h9 => hh_tg h9 e8 = 21 ∧ Q (.inr e8) h9)))))))) (fun e10 h11 => hh_tg h11 e10 = 21 ∧ Q (.inr e10) h11))) : gm_G 592 71 [some (.ref a0), some (va_rf r_1), some (va_rf r_2), some (.int x3), some (.int x4)] [] h Q := by
  refine g_iload rfl rfl rfl (pc' := 73) ?_
  refine g_iconst rfl rfl rfl (pc' := 75) ?_
  refine g_call rfl (y := 431) (n := 2) (pc' := 78) (fun _ => rfl) rfl rfl ⟨(Nat.le_of_ble_eq_true rfl), (Nat.le_of_ble_eq_true rfl), (Nat.le_of_ble_eq_true rfl)⟩ rfl (gm_G.mono H (pV_elim (fun h1 H' => ?_) (fun e10 h11 H => ?_)))
  · show gm_G _ 78 _ _ _ _
    replace H := H'
    clear H'
    refine g_aload (r := some _) rfl rfl rfl (pc' := 79) ?_
    obtain ⟨ht2, H⟩ := H
    refine g_getRv rfl rfl rfl rfl ht2 (pc' := 82) rfl (fun r3 hr3 => ?_)
    replace H := H r3 hr3
    refine g_aload (r := _) rfl rfl rfl (pc' := 83) ?_
    refine g_aload (r := some _) rfl rfl rfl (pc' := 84) ?_
    refine g_getRv rfl rfl rfl rfl ht2 (pc' := 87) rfl (fun r4 hr4 => ?_)
    replace H := H r4 hr4
    obtain ⟨a5, rfl, H⟩ := H
    obtain ⟨ht6, H⟩ := H
    refine g_call rfl (y := 399) (n := 3) (pc' := 90) (g_vt ht6 rfl rfl) (by cases r4 <;> cases r_1 <;> rfl) rfl ⟨(Nat.le_of_ble_eq_true rfl), (Nat.le_of_ble_eq_true rfl), (Nat.le_of_ble_eq_true rfl)⟩ rfl (gm_G.mono H (pV_elim (fun h7 H' => ?_) (fun e8 h9 H => ?_)))
    · show gm_G _ 90 _ _ _ _
      replace H := H'
      clear H'
      refine g_iconst rfl rfl rfl (pc' := 91) ?_
      refine g_istore rfl rfl rfl (pc' := 93) ?_
      exact g_weak (show gm_Lle [some _, none, some _, some _, none, some _] _ from ⟨rfl, ⟨rfl, ⟨rfl, ⟨rfl, trivial⟩⟩⟩⟩) H
    · exact H
  · exact H
set_option maxRecDepth 20000 in
theorem w_592_93 {a0 : Nat} {r_2 : Option Nat} {x3 : Int32} {x5 : Int32} {h : hh_T} {Q : Option Value ⊕ Nat → hh_T → Prop} (H : (¬ x5 < (Int32.ofNat 32) → (Q (.inl none) h)) ∧ (x5 < (Int32.ofNat 32) → (gm_sub (hh_tg h a0) 0 = true ∧ (∀ r2, r2 = hh_r h a0 20 → (∃ a3, r2 = some a3 ∧ ((hh_tg h a3 = 101 ∨ hh_tg h a3 = 102) ∧ (∃ n4, gm_ix x5 n4 (hh_ln h a3) ∧ (∃ a6, r_2 = some a6 ∧ (hh_tg h a6 = 101 ∧ (∃ n7, gm_ix (x3 + x5) n7 (hh_ln h a6) ∧ (∀ h8, h8 = hh_wi h a6 n7 ((hh_i h a3 n4).toInt8.toInt32) → (gm_G 592 93 [some (.ref a0), none, some (.ref a6), some (.int x3), none, some (.int (x5 + (Int32.ofNat 1)))] [] h8 Q)))))))))))) : gm_G 592 93 [some (.ref a0), none, some (va_rf r_2), some (.int x3), none, some (.int x5)] [] h Q := by
  refine g_iload rfl rfl rfl (pc' := 95) ?_
  refine g_iconst rfl rfl rfl (pc' := 97) ?_
  refine g_ic_ge rfl (pc' := 100) (pt := 119) rfl rfl ⟨fun hc => ?_, fun hc => ?_⟩
  · replace H := H.1 hc
    exact g_return rfl H
  · replace H := H.2 hc
    refine g_aload (r := _) rfl rfl rfl (pc' := 101) ?_
    refine g_iload rfl rfl rfl (pc' := 102) ?_
    refine g_iload rfl rfl rfl (pc' := 104) ?_
    refine g_iadd rfl rfl (pc' := 105) ?_
    refine g_aload (r := some _) rfl rfl rfl (pc' := 106) ?_
    obtain ⟨ht1, H⟩ := H
    refine g_getRv rfl rfl rfl rfl ht1 (pc' := 109) rfl (fun r2 hr2 => ?_)
    replace H := H r2 hr2
    refine g_iload rfl rfl rfl (pc' := 111) ?_
    obtain ⟨a3, rfl, H⟩ := H
    obtain ⟨ht5, H⟩ := H
    obtain ⟨n4, hn4, H⟩ := H
    refine g_baload rfl ht5 hn4 (pc' := 112) rfl ?_
    obtain ⟨a6, rfl, H⟩ := H
    obtain ⟨ht9, H⟩ := H
    obtain ⟨n7, hn7, H⟩ := H
    refine g_bastore rfl ht9 hn7  (pc' := 113) rfl ?_
    replace H := H _ rfl
    refine g_iinc (c := (Int32.ofNat 1)) rfl rfl rfl rfl rfl (pc' := 116) ?_
    refine g_goto rfl (pc' := 93) rfl ?_
    exact g_weak (show gm_Lle [some _, none, some _, some _, none, some _] _ from ⟨rfl, ⟨rfl, ⟨rfl, ⟨rfl, trivial⟩⟩⟩⟩) H
set_option maxRecDepth 20000 in
theorem w_593_0 {a0 : Nat} {x1 : Int32} {h : hh_T} {Q : Option Value ⊕ Nat → hh_T → Prop} (H : hh_tg h a0 = 1 ∧ (gm_G 456 0 [some (.ref a0)] [] h (pV (fun h2 => gm_G 5 0 [some (.int x1), some (.int (Int32.ofNat 1)), some (.int (Int32.ofNat 1000))] [] h2 (pI (fun v4 h3 => gm_G 452 0 [some (.int v4)] [] h3 (pV (fun h5 => gm_sub (hh_tg h5 a0) 0 = true ∧ (gm_G 593 28 [some (.ref a0), some (.int x1), some (.int (Int32.ofNat 0)), some (.int (hh_i h5 a0 61)), some (.int (hh_i h5 a0 62))] [] h5 Q)) (fun e7 h8 => hh_tg h8 e7 = 21 ∧ gm_G 593 138 [some (.ref a0)] [.ref e7] h8 Q))) (fun e9 h10 => hh_tg h10 e9 = 21 ∧ gm_G 593 138 [some (.ref a0)] [.ref e9] h10 Q))) (fun e11 h12 => hh_tg h12 e11 = 21 ∧ gm_G 593 138 [some (.ref a0)] [.ref e11] h12 Q)))) : gm_G 593 0 [some (.ref a0), some (.int x1)] [] h Q := by
  refine g_aload (r := some _) rfl rfl rfl (pc' := 1) ?_
  obtain ⟨ht1, H⟩ := H
  refine g_call rfl (y := 456) (n := 1) (pc' := 4) (g_vt ht1 rfl rfl) rfl rfl ⟨(Nat.le_of_ble_eq_true rfl), (Nat.le_of_ble_eq_true rfl), (Nat.le_of_ble_eq_true rfl)⟩ rfl (gm_G.mono H (pV_elim (fun h2 H' => ?_) (fun e11 h12 H => ?_)))
  · show gm_G _ 4 _ _ _ _
    replace H := H'
    clear H'
    refine g_iload rfl rfl rfl (pc' := 5) ?_
    refine g_iconst rfl rfl rfl (pc' := 6) ?_
    refine g_iconst rfl rfl rfl (pc' := 9) ?_
    refine g_call rfl (y := 5) (n := 3) (pc' := 12) (fun _ => rfl) rfl rfl ⟨(Nat.le_of_ble_eq_true rfl), (Nat.le_of_ble_eq_true rfl), (Nat.le_of_ble_eq_true rfl)⟩ rfl (gm_G.mono H (pI_elim (fun v4 h3 H' => ?_) (fun e9 h10 H => ?_)))
    · show gm_G _ 12 _ _ _ _
      replace H := H'
      clear H'
      refine g_call rfl (y := 452) (n := 1) (pc' := 15) (fun _ => rfl) rfl rfl ⟨(Nat.le_of_ble_eq_true rfl), (Nat.le_of_ble_eq_true rfl), (Nat.le_of_ble_eq_true rfl)⟩ rfl (gm_G.mono H (pV_elim (fun h5 H' => ?_) (fun e7 h8 H => ?_)))
      · show gm_G _ 15 _ _ _ _
        replace H := H'
        clear H'
        refine g_iconst rfl rfl rfl (pc' := 16) ?_
        refine g_istore rfl rfl rfl (pc' := 17) ?_
        refine g_aload (r := some _) rfl rfl rfl (pc' := 18) ?_
        obtain ⟨ht6, H⟩ := H
        refine g_getI rfl rfl rfl rfl ht6 (pc' := 21) rfl ?_
        refine g_istore rfl rfl rfl (pc' := 22) ?_
        refine g_aload (r := some _) rfl rfl rfl (pc' := 23) ?_
        refine g_getI rfl rfl rfl rfl ht6 (pc' := 26) rfl ?_
        refine g_istore rfl rfl rfl (pc' := 28) ?_
        exact g_weak (show gm_Lle [some _, some _, some _, some _, some _] _ from ⟨rfl, ⟨rfl, ⟨rfl, ⟨rfl, ⟨rfl, trivial⟩⟩⟩⟩⟩) H
      · exact ⟨H.1, g_weak (show gm_Lle [some _] _ from ⟨rfl, trivial⟩) H.2⟩
    · exact ⟨H.1, g_weak (show gm_Lle [some _] _ from ⟨rfl, trivial⟩) H.2⟩
  · exact ⟨H.1, g_weak (show gm_Lle [some _] _ from ⟨rfl, trivial⟩) H.2⟩
set_option maxRecDepth 20000 in
theorem w_593_28 {a0 : Nat} {x1 : Int32} {x2 : Int32} {x3 : Int32} {x4 : Int32} {h : hh_T} {Q : Option Value ⊕ Nat → hh_T → Prop} (H : gm_sub (hh_tg h a0) 0 = true ∧ ((¬ x3 < (hh_i h a0 8) → (gm_G 593 103 [some (.ref a0), some (.int x1), some (.int x2), some (.int x3), some (.int x4)] [] h Q)) ∧ (x3 < (hh_i h a0 8) → ((¬ x2 < x1 → (gm_G 593 103 [some (.ref a0), some (.int x1), some (.int x2), some (.int x3), some (.int x4)] [] h Q)) ∧ (x2 < x1 → (∀ r2, r2 = hh_r h a0 7 → (∃ a3, r2 = some a3 ∧ ((hh_tg h a3 = 104 ∨ 200 ≤ hh_tg h a3) ∧ (∃ n4, gm_ix x3 n4 (hh_ln h a3) ∧ (∀ r6, r6 = hh_r h a3 n4 → (∃ a7, r6 = some a7 ∧ (gm_sub (hh_tg h a7) 3 = true ∧ ((¬ x4 = (hh_i h a7 4) → (∀ r9, r9 = hh_r h a7 6 → (∃ a10, r9 = some a10 ∧ ((hh_tg h a10 = 104 ∨ 200 ≤ hh_tg h a10) ∧ (∃ n11, gm_ix x4 n11 (hh_ln h a10) ∧ (∀ r13, r13 = hh_r h a10 n11 → ((∀ a14, r13 = some a14 → (hh_tg h a0 = 1 ∧ (gm_G 587 0 [some (.ref a0), some (.ref a14), some (.int (Int32.ofNat 1))] [] h (pI (fun v17 h16 => gm_G 593 28 [some (.ref a0), some (.int x1), some (.int (x2 + (Int32.ofNat 1))), some (.int x3), some (.int (x4 + (Int32.ofNat 1)))] [] h16 Q) (fun e18 h19 => hh_tg h19 e18 = 21 ∧ gm_G 593 138 [some (.ref a0)] [.ref e18] h19 Q))))) ∧ (r13 = none → (gm_G 593 28 [some (.ref a0), some (.int x1), some (.int x2), some (.int x3), some (.int (x4 + (Int32.ofNat 1)))] [] h Q))))))))) ∧ (x4 = (hh_i h a7 4) → (gm_G 593 28 [some (.ref a0), some (.int x1), some (.int x2), some (.int (x3 + (Int32.ofNat 1))), some (.int (Int32.ofNat 0))] [] h Q))))))))))))))) : gm_G 593 28 [some (.ref a0), some (.int x1), some (.int x2), some (.int x3), some (.int x4)] [] h Q := by
  refine g_iload rfl rfl rfl (pc' := 29) ?_
  refine g_aload (r := some _) rfl rfl rfl (pc' := 30) ?_
  obtain ⟨ht1, H⟩ := H
  refine g_getI rfl rfl rfl rfl ht1 (pc' := 33) rfl ?_
  refine g_ic_ge rfl (pc' := 36) (pt := 103) rfl rfl ⟨fun hc => ?_, fun hc => ?_⟩
  · replace H := H.1 hc
    exact g_weak (show gm_Lle [some _, some _, some _, some _, some _] _ from ⟨rfl, ⟨rfl, ⟨rfl, ⟨rfl, ⟨rfl, trivial⟩⟩⟩⟩⟩) H
  · replace H := H.2 hc
    refine g_iload rfl rfl rfl (pc' := 37) ?_
    refine g_iload rfl rfl rfl (pc' := 38) ?_
    refine g_ic_ge rfl (pc' := 41) (pt := 103) rfl rfl ⟨fun hc => ?_, fun hc => ?_⟩
    · replace H := H.1 hc
      exact g_weak (show gm_Lle [some _, some _, some _, some _, some _] _ from ⟨rfl, ⟨rfl, ⟨rfl, ⟨rfl, ⟨rfl, trivial⟩⟩⟩⟩⟩) H
    · replace H := H.2 hc
      refine g_aload (r := some _) rfl rfl rfl (pc' := 42) ?_
      refine g_getRv rfl rfl rfl rfl ht1 (pc' := 45) rfl (fun r2 hr2 => ?_)
      replace H := H r2 hr2
      refine g_iload rfl rfl rfl (pc' := 46) ?_
      obtain ⟨a3, rfl, H⟩ := H
      obtain ⟨ht5, H⟩ := H
      obtain ⟨n4, hn4, H⟩ := H
      refine g_aaloadv rfl ht5 hn4 (pc' := 47) rfl (fun r6 hr6 => ?_)
      replace H := H r6 hr6
      refine g_astore (r := _) rfl rfl rfl (pc' := 49) ?_
      refine g_iload rfl rfl rfl (pc' := 51) ?_
      refine g_aload (r := _) rfl rfl rfl (pc' := 53) ?_
      obtain ⟨a7, rfl, H⟩ := H
      obtain ⟨ht8, H⟩ := H
      refine g_getI rfl rfl rfl rfl ht8 (pc' := 56) rfl ?_
      refine g_ic_ne rfl (pc' := 59) (pt := 68) rfl rfl ⟨fun hc => ?_, fun hc => ?_⟩
      · replace H := H.1 hc
        refine g_aload (r := some _) rfl rfl rfl (pc' := 70) ?_
        refine g_getRv rfl rfl rfl rfl ht8 (pc' := 73) rfl (fun r9 hr9 => ?_)
        replace H := H r9 hr9
        refine g_iload rfl rfl rfl (pc' := 75) ?_
        obtain ⟨a10, rfl, H⟩ := H
        obtain ⟨ht12, H⟩ := H
        obtain ⟨n11, hn11, H⟩ := H
        refine g_aaloadv rfl ht12 hn11 (pc' := 76) rfl (fun r13 hr13 => ?_)
        replace H := H r13 hr13
        refine g_astore (r := _) rfl rfl rfl (pc' := 78) ?_
        refine g_iinc (c := (Int32.ofNat 1)) rfl rfl rfl rfl rfl (pc' := 81) ?_
        refine g_aload (r := _) rfl rfl rfl (pc' := 83) ?_
        refine g_ifnonnull rfl (pc' := 86) (pt := 89) rfl rfl ⟨fun a14 hc => ?_, fun hc => ?_⟩
        · replace H := H.1 a14 hc
          subst hc
          refine g_aload (r := some _) rfl rfl rfl (pc' := 90) ?_
          refine g_aload (r := some _) rfl rfl rfl (pc' := 92) ?_
          refine g_iconst rfl rfl rfl (pc' := 93) ?_
          obtain ⟨ht15, H⟩ := H
          refine g_call rfl (y := 587) (n := 3) (pc' := 96) (g_vt ht15 rfl rfl) rfl rfl ⟨(Nat.le_of_ble_eq_true rfl), (Nat.le_of_ble_eq_true rfl), (Nat.le_of_ble_eq_true rfl)⟩ rfl (gm_G.mono H (pI_elim (fun v17 h16 H' => ?_) (fun e18 h19 H => ?_)))
          · show gm_G _ 96 _ _ _ _
            replace H := H'
            clear H'
            refine g_pop_i rfl rfl (pc' := 97) ?_
            refine g_iinc (c := (Int32.ofNat 1)) rfl rfl rfl rfl rfl (pc' := 100) ?_
            refine g_goto rfl (pc' := 28) rfl ?_
            exact g_weak (show gm_Lle [some _, some _, some _, some _, some _] _ from ⟨rfl, ⟨rfl, ⟨rfl, ⟨rfl, ⟨rfl, trivial⟩⟩⟩⟩⟩) H
          · exact ⟨H.1, g_weak (show gm_Lle [some _] _ from ⟨rfl, trivial⟩) H.2⟩
        · replace H := H.2 hc
          subst hc
          refine g_goto rfl (pc' := 28) rfl ?_
          exact g_weak (show gm_Lle [some _, some _, some _, some _, some _] _ from ⟨rfl, ⟨rfl, ⟨rfl, ⟨rfl, ⟨rfl, trivial⟩⟩⟩⟩⟩) H
      · replace H := H.2 hc
        refine g_iinc (c := (Int32.ofNat 1)) rfl rfl rfl rfl rfl (pc' := 62) ?_
        refine g_iconst rfl rfl rfl (pc' := 63) ?_
        refine g_istore rfl rfl rfl (pc' := 65) ?_
        refine g_goto rfl (pc' := 28) rfl ?_
        exact g_weak (show gm_Lle [some _, some _, some _, some _, some _] _ from ⟨rfl, ⟨rfl, ⟨rfl, ⟨rfl, ⟨rfl, trivial⟩⟩⟩⟩⟩) H
set_option maxRecDepth 20000 in
theorem w_593_103 {a0 : Nat} {x1 : Int32} {x2 : Int32} {x3 : Int32} {x4 : Int32} {h : hh_T} {Q : Option Value ⊕ Nat → hh_T → Prop} (H : (¬ x2 < x1 → (gm_G 593 114 [some (.ref a0), some (.int x1), some (.int x2), none, some (.int x4)] [.int x3, .ref a0] h Q)) ∧ (x2 < x1 → (gm_G 593 114 [some (.ref a0), some (.int x1), some (.int x2), none, some (.int x4)] [.int (Int32.ofNat 0), .ref a0] h Q))) : gm_G 593 103 [some (.ref a0), some (.int x1), some (.int x2), some (.int x3), some (.int x4)] [] h Q := by
  refine g_aload (r := some _) rfl rfl rfl (pc' := 104) ?_
  refine g_iload rfl rfl rfl (pc' := 105) ?_
  refine g_iload rfl rfl rfl (pc' := 106) ?_
  refine g_ic_ge rfl (pc' := 109) (pt := 113) rfl rfl ⟨fun hc => ?_, fun hc => ?_⟩
  · replace H := H.1 hc
    refine g_iload rfl rfl rfl (pc' := 114) ?_
    exact g_weak (show gm_Lle [some _, some _, some _, none, some _] _ from ⟨rfl, ⟨rfl, ⟨rfl, ⟨rfl, trivial⟩⟩⟩⟩) H
  · replace H := H.2 hc
    refine g_iconst rfl rfl rfl (pc' := 110) ?_
    refine g_goto rfl (pc' := 114) rfl ?_
    exact g_weak (show gm_Lle [some _, some _, some _, none, some _] _ from ⟨rfl, ⟨rfl, ⟨rfl, ⟨rfl, trivial⟩⟩⟩⟩) H
set_option maxRecDepth 20000 in
theorem w_593_114 {a0 : Nat} {x1 : Int32} {x2 : Int32} {x4 : Int32} {y0 : Int32} {q1 : Option Nat} {h : hh_T} {Q : Option Value ⊕ Nat → hh_T → Prop} (H : ∃ a1, q1 = some a1 ∧ (gm_sub (hh_tg h a1) 0 = true ∧ (∀ h3, h3 = hh_wi h a1 61 y0 → ((¬ x2 < x1 → (gm_G 593 129 [some (.ref a0), none, some (.int x2)] [.int x4, .ref a0] h3 Q)) ∧ (x2 < x1 → (gm_G 593 129 [some (.ref a0), none, some (.int x2)] [.int (Int32.ofNat 0), .ref a0] h3 Q)))))) : gm_G 593 114 [some (.ref a0), some (.int x1), some (.int x2), none, some (.int x4)] [.int y0, va_rf q1] h Q := by
  obtain ⟨a1, rfl, H⟩ := H
  obtain ⟨ht2, H⟩ := H
  refine g_putI rfl rfl rfl rfl ht2  (pc' := 117) rfl ?_
  replace H := H _ rfl
  refine g_aload (r := some _) rfl rfl rfl (pc' := 118) ?_
  refine g_iload rfl rfl rfl (pc' := 119) ?_
  refine g_iload rfl rfl rfl (pc' := 120) ?_
  refine g_ic_ge rfl (pc' := 123) (pt := 127) rfl rfl ⟨fun hc => ?_, fun hc => ?_⟩
  · replace H := H.1 hc
    refine g_iload rfl rfl rfl (pc' := 129) ?_
    exact g_weak (show gm_Lle [some _, none, some _] _ from ⟨rfl, ⟨rfl, trivial⟩⟩) H
  · replace H := H.2 hc
    refine g_iconst rfl rfl rfl (pc' := 124) ?_
    refine g_goto rfl (pc' := 129) rfl ?_
    exact g_weak (show gm_Lle [some _, none, some _] _ from ⟨rfl, ⟨rfl, trivial⟩⟩) H
set_option maxRecDepth 20000 in
theorem w_593_129 {a0 : Nat} {x2 : Int32} {y0 : Int32} {q1 : Option Nat} {h : hh_T} {Q : Option Value ⊕ Nat → hh_T → Prop} (H : ∃ a1, q1 = some a1 ∧ (gm_sub (hh_tg h a1) 0 = true ∧ (∀ h3, h3 = hh_wi h a1 62 y0 → (hh_tg h3 a0 = 1 ∧ (gm_G 4 0 [some (.ref a0), some (.int x2)] [] h3 (pI (fun v6 h5 => Q (.inl (some (.int v6))) h5) (fun e7 h8 => hh_tg h8 e7 = 21 ∧ gm_G 593 138 [some (.ref a0)] [.ref e7] h8 Q))))))) : gm_G 593 129 [some (.ref a0), none, some (.int x2)] [.int y0, va_rf q1] h Q := by
  obtain ⟨a1, rfl, H⟩ := H
  obtain ⟨ht2, H⟩ := H
  refine g_putI rfl rfl rfl rfl ht2  (pc' := 132) rfl ?_
  replace H := H _ rfl
  refine g_aload (r := some _) rfl rfl rfl (pc' := 133) ?_
  refine g_iload rfl rfl rfl (pc' := 134) ?_
  obtain ⟨ht4, H⟩ := H
  refine g_call rfl (y := 4) (n := 2) (pc' := 137) (g_vt ht4 rfl rfl) rfl rfl ⟨(Nat.le_of_ble_eq_true rfl), (Nat.le_of_ble_eq_true rfl), (Nat.le_of_ble_eq_true rfl)⟩ rfl (gm_G.mono H (pI_elim (fun v6 h5 H' => ?_) (fun e7 h8 H => ?_)))
  · show gm_G _ 137 _ _ _ _
    replace H := H'
    clear H'
    exact g_ireturn rfl (Or.inl rfl) H
  · exact ⟨H.1, g_weak (show gm_Lle [some _] _ from ⟨rfl, trivial⟩) H.2⟩
set_option maxRecDepth 20000 in
theorem w_593_138 {a0 : Nat} {ex : Nat} {h : hh_T} {Q : Option Value ⊕ Nat → hh_T → Prop} (H : hh_tg h a0 = 1 ∧ (gm_G 1 0 [some (.ref a0), some (.ref ex)] [] h (pI (fun v3 h2 => Q (.inl (some (.int v3))) h2) (fun e4 h5 => hh_tg h5 e4 = 21 ∧ Q (.inr e4) h5)))) : gm_G 593 138 [some (.ref a0)] [.ref ex] h Q := by
  refine g_astore (r := some _) rfl rfl rfl (pc' := 139) ?_
  refine g_aload (r := some _) rfl rfl rfl (pc' := 140) ?_
  refine g_aload (r := some _) rfl rfl rfl (pc' := 141) ?_
  obtain ⟨ht1, H⟩ := H
  refine g_call rfl (y := 1) (n := 2) (pc' := 144) (g_vt ht1 rfl rfl) rfl rfl ⟨(Nat.le_of_ble_eq_true rfl), (Nat.le_of_ble_eq_true rfl), (Nat.le_of_ble_eq_true rfl)⟩ rfl (gm_G.mono H (pI_elim (fun v3 h2 H' => ?_) (fun e4 h5 H => ?_)))
  · show gm_G _ 144 _ _ _ _
    replace H := H'
    clear H'
    exact g_ireturn rfl (Or.inl rfl) H
  · exact H
set_option maxRecDepth 20000 in
theorem w_594_0 {a0 : Nat} {r_1 : Option Nat} {x2 : Int32} {h : hh_T} {Q : Option Value ⊕ Nat → hh_T → Prop} (H : ∃ a1, r_1 = some a1 ∧ (gm_sub (hh_tg h a1) 23 = true ∧ (∀ r3, r3 = hh_r h a1 9 → (∃ a4, r3 = some a4 ∧ (gm_sub (hh_tg h a4) 24 = true ∧ (∀ r6, r6 = hh_r h a4 2 → (gm_sub (hh_tg h a0) 46 = true ∧ (∃ a8, r6 = some a8 ∧ ((hh_tg h a8 = 104 ∨ 200 ≤ hh_tg h a8) ∧ (∃ n9, gm_ix (hh_i h a0 5) n9 (hh_ln h a8) ∧ (∀ r11, r11 = hh_r h a8 n9 → ((∀ b, r11 = some b → gm_sub (hh_tg h b) 26 = true) ∧ (hh_tg h a0 = 47 ∧ (gm_G 207 0 [some (.ref a0), some (.ref a1)] [] h (pR (fun r14 h13 => gm_sub (hh_tg h13 a0) 46 = true ∧ (gm_G 16 0 [some (va_rf r11), some (va_rf r14), some (.int (hh_i h13 a0 6)), some (.int (hh_i h13 a0 7)), some (.int (hh_i h13 a0 8))] [] h13 (pI (fun v17 h16 => gm_G 431 0 [some (.int v17), some (.int (Int32.ofInt (-1)))] [] h16 (pV (fun h18 => gm_G 594 48 [some (.ref a0), some (.ref a1), some (.int x2), some (va_rf r11), some (va_rf r14), some (.int (Int32.ofNat 0))] [] h18 Q) (fun e19 h20 => hh_tg h20 e19 = 21 ∧ Q (.inr e19) h20))) (fun e21 h22 => hh_tg h22 e21 = 21 ∧ Q (.inr e21) h22)))) (fun e23 h24 => hh_tg h24 e23 = 21 ∧ Q (.inr e23) h24)))))))))))))))) : gm_G 594 0 [some (.ref a0), some (va_rf r_1), some (.int x2)] [] h Q := by
  refine g_aload (r := _) rfl rfl rfl (pc' := 1) ?_
  obtain ⟨a1, rfl, H⟩ := H
  obtain ⟨ht2, H⟩ := H
  refine g_getRv rfl rfl rfl rfl ht2 (pc' := 4) rfl (fun r3 hr3 => ?_)
  replace H := H r3 hr3
  obtain ⟨a4, rfl, H⟩ := H
  obtain ⟨ht5, H⟩ := H
  refine g_getRv rfl rfl rfl rfl ht5 (pc' := 7) rfl (fun r6 hr6 => ?_)
  replace H := H r6 hr6
  refine g_aload (r := some _) rfl rfl rfl (pc' := 8) ?_
  obtain ⟨ht7, H⟩ := H
  refine g_getI rfl rfl rfl rfl ht7 (pc' := 11) rfl ?_
  obtain ⟨a8, rfl, H⟩ := H
  obtain ⟨ht10, H⟩ := H
  obtain ⟨n9, hn9, H⟩ := H
  refine g_aaloadv rfl ht10 hn9 (pc' := 12) rfl (fun r11 hr11 => ?_)
  replace H := H r11 hr11
  obtain ⟨Hc, H⟩ := H
  refine g_cast rfl Hc (pc' := 15) rfl ?_
  refine g_astore (r := _) rfl rfl rfl (pc' := 16) ?_
  refine g_aload (r := some _) rfl rfl rfl (pc' := 17) ?_
  refine g_aload (r := some _) rfl rfl rfl (pc' := 18) ?_
  obtain ⟨ht12, H⟩ := H
  refine g_call rfl (y := 207) (n := 2) (pc' := 21) (g_vt ht12 rfl rfl) rfl rfl ⟨(Nat.le_of_ble_eq_true rfl), (Nat.le_of_ble_eq_true rfl), (Nat.le_of_ble_eq_true rfl)⟩ rfl (gm_G.mono H (pR_elim (fun r14 h13 H' => ?_) (fun e23 h24 H => ?_)))
  · show gm_G _ 21 _ _ _ _
    replace H := H'
    clear H'
    refine g_astore (r := _) rfl gm_sto_rf3 rfl (pc' := 23) ?_
    refine g_aload (r := _) rfl rfl rfl (pc' := 24) ?_
    refine g_aload (r := _) rfl rfl rfl (pc' := 26) ?_
    refine g_aload (r := some _) rfl rfl rfl (pc' := 27) ?_
    obtain ⟨ht15, H⟩ := H
    refine g_getI rfl rfl rfl rfl ht15 (pc' := 30) rfl ?_
    refine g_aload (r := some _) rfl rfl rfl (pc' := 31) ?_
    refine g_getI rfl rfl rfl rfl ht15 (pc' := 34) rfl ?_
    refine g_aload (r := some _) rfl rfl rfl (pc' := 35) ?_
    refine g_getI rfl rfl rfl rfl ht15 (pc' := 38) rfl ?_
    refine g_call rfl (y := 16) (n := 5) (pc' := 41) (fun _ => rfl) (by cases r11 <;> cases r14 <;> rfl) rfl ⟨(Nat.le_of_ble_eq_true rfl), (Nat.le_of_ble_eq_true rfl), (Nat.le_of_ble_eq_true rfl)⟩ rfl (gm_G.mono H (pI_elim (fun v17 h16 H' => ?_) (fun e21 h22 H => ?_)))
    · show gm_G _ 41 _ _ _ _
      replace H := H'
      clear H'
      refine g_iconst rfl rfl rfl (pc' := 42) ?_
      refine g_call rfl (y := 431) (n := 2) (pc' := 45) (fun _ => rfl) rfl rfl ⟨(Nat.le_of_ble_eq_true rfl), (Nat.le_of_ble_eq_true rfl), (Nat.le_of_ble_eq_true rfl)⟩ rfl (gm_G.mono H (pV_elim (fun h18 H' => ?_) (fun e19 h20 H => ?_)))
      · show gm_G _ 45 _ _ _ _
        replace H := H'
        clear H'
        refine g_iconst rfl rfl rfl (pc' := 46) ?_
        refine g_istore rfl gm_sto_rf4 rfl (pc' := 48) ?_
        exact g_weak (show gm_Lle [some _, some _, some _, some _, some _, some _] _ from ⟨rfl, ⟨rfl, ⟨rfl, ⟨rfl, ⟨rfl, ⟨rfl, trivial⟩⟩⟩⟩⟩⟩) H
      · exact H
    · exact H
  · exact H
set_option maxRecDepth 20000 in
theorem w_594_48 {a0 : Nat} {r_1 : Option Nat} {x2 : Int32} {r_3 : Option Nat} {r_4 : Option Nat} {x5 : Int32} {h : hh_T} {Q : Option Value ⊕ Nat → hh_T → Prop} (H : gm_sub (hh_tg h a0) 46 = true ∧ ((¬ x5 < (hh_i h a0 8) → (∃ a2, r_3 = some a2 ∧ (gm_sub (hh_tg h a2) 25 = true ∧ ((¬ ((hh_i h a2 6) - ((Int32.ofNat 32) * (hh_i h a0 6))) < ((Int32.ofNat 32) * (hh_i h a0 8)) → (gm_G 594 201 [some (.ref a0), some (va_rf r_1), some (.int x2), none, some (va_rf r_4)] [.int ((Int32.ofNat 32) * (hh_i h a0 8)), .int ((Int32.ofNat 32) * (hh_i h a0 7))] h Q)) ∧ (((hh_i h a2 6) - ((Int32.ofNat 32) * (hh_i h a0 6))) < ((Int32.ofNat 32) * (hh_i h a0 8)) → (gm_G 594 201 [some (.ref a0), some (va_rf r_1), some (.int x2), none, some (va_rf r_4)] [.int ((hh_i h a2 6) - ((Int32.ofNat 32) * (hh_i h a0 6))), .int ((Int32.ofNat 32) * (hh_i h a0 7))] h Q)))))) ∧ (x5 < (hh_i h a0 8) → (∃ a4, r_3 = some a4 ∧ (gm_sub (hh_tg h a4) 26 = true ∧ (∀ r6, r6 = hh_r h a4 12 → (∃ a7, r6 = some a7 ∧ ((hh_tg h a7 = 104 ∨ 200 ≤ hh_tg h a7) ∧ (∃ n8, gm_ix ((hh_i h a0 6) + x5) n8 (hh_ln h a7) ∧ (∀ r10, r10 = hh_r h a7 n8 → ((r10 = none → (gm_G 594 87 [some (.ref a0), some (va_rf r_1), some (.int x2), some (.ref a4), some (va_rf r_4), some (.int x5), some (va_rf none)] [] h Q)) ∧ (∀ a11, r10 = some a11 → (gm_sub (hh_tg h a11) 31 = true ∧ (∀ h13, h13 = hh_wi h a11 6 ((hh_i h a11 6) + (Int32.ofNat 1)) → (gm_G 594 87 [some (.ref a0), some (va_rf r_1), some (.int x2), some (.ref a4), some (va_rf r_4), some (.int x5), some (.ref a11)] [] h13 Q))))))))))))))) : gm_G 594 48 [some (.ref a0), some (va_rf r_1), some (.int x2), some (va_rf r_3), some (va_rf r_4), some (.int x5)] [] h Q := by
  refine g_iload rfl rfl rfl (pc' := 50) ?_
  refine g_aload (r := some _) rfl rfl rfl (pc' := 51) ?_
  obtain ⟨ht1, H⟩ := H
  refine g_getI rfl rfl rfl rfl ht1 (pc' := 54) rfl ?_
  refine g_ic_ge rfl (pc' := 57) (pt := 156) rfl rfl ⟨fun hc => ?_, fun hc => ?_⟩
  · replace H := H.1 hc
    refine g_aload (r := _) rfl rfl rfl (pc' := 157) ?_
    obtain ⟨a2, rfl, H⟩ := H
    obtain ⟨ht3, H⟩ := H
    refine g_getI rfl rfl rfl rfl ht3 (pc' := 160) rfl ?_
    refine g_iconst rfl rfl rfl (pc' := 162) ?_
    refine g_aload (r := some _) rfl rfl rfl (pc' := 163) ?_
    refine g_getI rfl rfl rfl rfl ht1 (pc' := 166) rfl ?_
    refine g_imul rfl rfl (pc' := 167) ?_
    refine g_isub rfl rfl (pc' := 168) ?_
    refine g_istore rfl gm_sto_rf4 rfl (pc' := 170) ?_
    refine g_iconst rfl rfl rfl (pc' := 172) ?_
    refine g_aload (r := some _) rfl rfl rfl (pc' := 173) ?_
    refine g_getI rfl rfl rfl rfl ht1 (pc' := 176) rfl ?_
    refine g_imul rfl rfl (pc' := 177) ?_
    refine g_iload rfl rfl rfl (pc' := 179) ?_
    refine g_iconst rfl rfl rfl (pc' := 181) ?_
    refine g_aload (r := some _) rfl rfl rfl (pc' := 182) ?_
    refine g_getI rfl rfl rfl rfl ht1 (pc' := 185) rfl ?_
    refine g_imul rfl rfl (pc' := 186) ?_
    refine g_ic_ge rfl (pc' := 189) (pt := 194) rfl rfl ⟨fun hc => ?_, fun hc => ?_⟩
    · replace H := H.1 hc
      refine g_iconst rfl rfl rfl (pc' := 196) ?_
      refine g_aload (r := some _) rfl rfl rfl (pc' := 197) ?_
      refine g_getI rfl rfl rfl rfl ht1 (pc' := 200) rfl ?_
      refine g_imul rfl rfl (pc' := 201) ?_
      exact g_weak (show gm_Lle [some _, some _, some _, none, some _] _ from ⟨rfl, ⟨rfl, ⟨rfl, ⟨rfl, trivial⟩⟩⟩⟩) H
    · replace H := H.2 hc
      refine g_iload rfl rfl rfl (pc' := 191) ?_
      refine g_goto rfl (pc' := 201) rfl ?_
      exact g_weak (show gm_Lle [some _, some _, some _, none, some _] _ from ⟨rfl, ⟨rfl, ⟨rfl, ⟨rfl, trivial⟩⟩⟩⟩) H
  · replace H := H.2 hc
    refine g_aload (r := _) rfl rfl rfl (pc' := 58) ?_
    obtain ⟨a4, rfl, H⟩ := H
    obtain ⟨ht5, H⟩ := H
    refine g_getRv rfl rfl rfl rfl ht5 (pc' := 61) rfl (fun r6 hr6 => ?_)
    replace H := H r6 hr6
    refine g_aload (r := some _) rfl rfl rfl (pc' := 62) ?_
    refine g_getI rfl rfl rfl rfl ht1 (pc' := 65) rfl ?_
    refine g_iload rfl rfl rfl (pc' := 67) ?_
    refine g_iadd rfl rfl (pc' := 68) ?_
    obtain ⟨a7, rfl, H⟩ := H
    obtain ⟨ht9, H⟩ := H
    obtain ⟨n8, hn8, H⟩ := H
    refine g_aaloadv rfl ht9 hn8 (pc' := 69) rfl (fun r10 hr10 => ?_)
    replace H := H r10 hr10
    refine g_astore (r := _) rfl rfl rfl (pc' := 71) ?_
    refine g_aload (r := _) rfl rfl rfl (pc' := 73) ?_
    refine g_ifnull rfl (pc' := 76) (pt := 87) rfl rfl ⟨fun hc => ?_, fun a11 hc => ?_⟩
    · replace H := H.1 hc
      subst hc
      exact g_weak (show gm_Lle [some _, some _, some _, some _, some _, some _, some _] _ from ⟨rfl, ⟨rfl, ⟨rfl, ⟨rfl, ⟨rfl, ⟨rfl, ⟨rfl, trivial⟩⟩⟩⟩⟩⟩⟩) H
    · replace H := H.2 a11 hc
      subst hc
      refine g_aload (r := some _) rfl rfl rfl (pc' := 78) ?_
      refine g_dup_a (r := some _) rfl rfl (pc' := 79) ?_
      obtain ⟨ht12, H⟩ := H
      refine g_getI rfl rfl rfl rfl ht12 (pc' := 82) rfl ?_
      refine g_iconst rfl rfl rfl (pc' := 83) ?_
      refine g_iadd rfl rfl (pc' := 84) ?_
      refine g_putI rfl rfl rfl rfl ht12  (pc' := 87) rfl ?_
      replace H := H _ rfl
      exact g_weak (show gm_Lle [some _, some _, some _, some _, some _, some _, some _] _ from ⟨rfl, ⟨rfl, ⟨rfl, ⟨rfl, ⟨rfl, ⟨rfl, ⟨rfl, trivial⟩⟩⟩⟩⟩⟩⟩) H
set_option maxRecDepth 20000 in
theorem w_594_87 {a0 : Nat} {r_1 : Option Nat} {x2 : Int32} {r_3 : Option Nat} {r_4 : Option Nat} {x5 : Int32} {r_6 : Option Nat} {h : hh_T} {Q : Option Value ⊕ Nat → hh_T → Prop} (H : gm_sub (hh_tg h a0) 46 = true ∧ (∀ r2, r2 = hh_r h a0 9 → (∃ a3, r2 = some a3 ∧ (gm_sub (hh_tg h a3) 0 = true ∧ (∀ r5, r5 = hh_r h a3 27 → (∀ r6, r6 = hh_r h a0 9 → (∃ a7, r6 = some a7 ∧ (gm_sub (hh_tg h a7) 0 = true ∧ (∃ a9, r5 = some a9 ∧ (200 ≤ hh_tg h a9 ∧ (∀ b, r_6 = some b → gm_as (hh_tg h a9) (hh_tg h b) = true) ∧ (∃ n10, gm_ix (hh_i h a7 28) n10 (hh_ln h a9) ∧ (∀ h11, h11 = hh_wr h a9 n10 r_6 → (∀ r12, r12 = hh_r h11 a0 9 → (∃ a13, r12 = some a13 ∧ (gm_sub (hh_tg h11 a13) 0 = true ∧ (∀ h15, h15 = hh_wi h11 a13 28 ((hh_i h11 a13 28) + (Int32.ofNat 1)) → (∀ r16, r16 = hh_r h15 a0 9 → (∃ a17, r16 = some a17 ∧ (gm_sub (hh_tg h15 a17) 0 = true ∧ (∀ r19, r19 = hh_r h15 a17 47 → (∃ a20, r19 = some a20 ∧ (200 ≤ hh_tg h15 a20 ∧ (∀ b, r_6 = some b → gm_as (hh_tg h15 a20) (hh_tg h15 b) = true) ∧ (∃ n21, gm_ix ((hh_i h15 a0 7) + x5) n21 (hh_ln h15 a20) ∧ (∀ h22, h22 = hh_wr h15 a20 n21 r_6 → (∀ r23, r23 = hh_r h22 a0 9 → (∃ a24, r23 = some a24 ∧ (gm_sub (hh_tg h22 a24) 0 = true ∧ (∀ r26, r26 = hh_r h22 a24 48 → (∃ a27, r26 = some a27 ∧ (hh_tg h22 a27 = 102 ∧ (∃ n28, gm_ix ((hh_i h22 a0 7) + x5) n28 (hh_ln h22 a27) ∧ (∀ h29, h29 = hh_wi h22 a27 n28 (Int32.ofNat 1) → (gm_G 594 48 [some (.ref a0), some (va_rf r_1), some (.int x2), some (va_rf r_3), some (va_rf r_4), some (.int (x5 + (Int32.ofNat 1)))] [] h29 Q))))))))))))))))))))))))))))))))) : gm_G 594 87 [some (.ref a0), some (va_rf r_1), some (.int x2), some (va_rf r_3), some (va_rf r_4), some (.int x5), some (va_rf r_6)] [] h Q := by
  refine g_aload (r := some _) rfl rfl rfl (pc' := 88) ?_
  obtain ⟨ht1, H⟩ := H
  refine g_getRv rfl rfl rfl rfl ht1 (pc' := 91) rfl (fun r2 hr2 => ?_)
  replace H := H r2 hr2
  obtain ⟨a3, rfl, H⟩ := H
  obtain ⟨ht4, H⟩ := H
  refine g_getRv rfl rfl rfl rfl ht4 (pc' := 94) rfl (fun r5 hr5 => ?_)
  replace H := H r5 hr5
  refine g_aload (r := some _) rfl rfl rfl (pc' := 95) ?_
  refine g_getRv rfl rfl rfl rfl ht1 (pc' := 98) rfl (fun r6 hr6 => ?_)
  replace H := H r6 hr6
  obtain ⟨a7, rfl, H⟩ := H
  obtain ⟨ht8, H⟩ := H
  refine g_getI rfl rfl rfl rfl ht8 (pc' := 101) rfl ?_
  refine g_aload (r := _) rfl rfl rfl (pc' := 103) ?_
  obtain ⟨a9, rfl, H⟩ := H
  obtain ⟨Ha, Hb, H⟩ := H
  obtain ⟨n10, hn10, H⟩ := H
  refine g_aastore (r := _) rfl Ha Hb hn10 (pc' := 104) rfl ?_
  replace H := H _ rfl
  refine g_aload (r := some _) rfl rfl rfl (pc' := 105) ?_
  refine g_getRv rfl rfl rfl rfl ht1 (pc' := 108) rfl (fun r12 hr12 => ?_)
  replace H := H r12 hr12
  refine g_dup_a (r := _) rfl rfl (pc' := 109) ?_
  obtain ⟨a13, rfl, H⟩ := H
  obtain ⟨ht14, H⟩ := H
  refine g_getI rfl rfl rfl rfl ht14 (pc' := 112) rfl ?_
  refine g_iconst rfl rfl rfl (pc' := 113) ?_
  refine g_iadd rfl rfl (pc' := 114) ?_
  refine g_putI rfl rfl rfl rfl ht14  (pc' := 117) rfl ?_
  replace H := H _ rfl
  refine g_aload (r := some _) rfl rfl rfl (pc' := 118) ?_
  refine g_getRv rfl rfl rfl rfl ht1 (pc' := 121) rfl (fun r16 hr16 => ?_)
  replace H := H r16 hr16
  obtain ⟨a17, rfl, H⟩ := H
  obtain ⟨ht18, H⟩ := H
  refine g_getRv rfl rfl rfl rfl ht18 (pc' := 124) rfl (fun r19 hr19 => ?_)
  replace H := H r19 hr19
  refine g_aload (r := some _) rfl rfl rfl (pc' := 125) ?_
  refine g_getI rfl rfl rfl rfl ht1 (pc' := 128) rfl ?_
  refine g_iload rfl rfl rfl (pc' := 130) ?_
  refine g_iadd rfl rfl (pc' := 131) ?_
  refine g_aload (r := _) rfl rfl rfl (pc' := 133) ?_
  obtain ⟨a20, rfl, H⟩ := H
  obtain ⟨Ha, Hb, H⟩ := H
  obtain ⟨n21, hn21, H⟩ := H
  refine g_aastore (r := _) rfl Ha Hb hn21 (pc' := 134) rfl ?_
  replace H := H _ rfl
  refine g_aload (r := some _) rfl rfl rfl (pc' := 135) ?_
  refine g_getRv rfl rfl rfl rfl ht1 (pc' := 138) rfl (fun r23 hr23 => ?_)
  replace H := H r23 hr23
  obtain ⟨a24, rfl, H⟩ := H
  obtain ⟨ht25, H⟩ := H
  refine g_getRv rfl rfl rfl rfl ht25 (pc' := 141) rfl (fun r26 hr26 => ?_)
  replace H := H r26 hr26
  refine g_aload (r := some _) rfl rfl rfl (pc' := 142) ?_
  refine g_getI rfl rfl rfl rfl ht1 (pc' := 145) rfl ?_
  refine g_iload rfl rfl rfl (pc' := 147) ?_
  refine g_iadd rfl rfl (pc' := 148) ?_
  refine g_iconst rfl rfl rfl (pc' := 149) ?_
  obtain ⟨a27, rfl, H⟩ := H
  obtain ⟨ht30, H⟩ := H
  obtain ⟨n28, hn28, H⟩ := H
  refine g_zastore rfl ht30 hn28 (by decide) (pc' := 150) rfl ?_
  replace H := H _ rfl
  refine g_iinc (c := (Int32.ofNat 1)) rfl rfl rfl gm_sto_rf4 rfl (pc' := 153) ?_
  refine g_goto rfl (pc' := 48) rfl ?_
  exact g_weak (show gm_Lle [some _, some _, some _, some _, some _, some _] _ from ⟨rfl, ⟨rfl, ⟨rfl, ⟨rfl, ⟨rfl, ⟨rfl, trivial⟩⟩⟩⟩⟩⟩) H
set_option maxRecDepth 20000 in
theorem w_594_201 {a0 : Nat} {r_1 : Option Nat} {x2 : Int32} {r_4 : Option Nat} {y0 : Int32} {y1 : Int32} {h : hh_T} {Q : Option Value ⊕ Nat → hh_T → Prop} (H : ∃ a1, r_4 = some a1 ∧ (gm_sub (hh_tg h a1) 25 = true ∧ ((¬ (y1 + y0) < (hh_i h a1 6) → (gm_G 594 226 [none, none, some (.int x2)] [.int (y1 + y0), va_rf r_1, .ref a0] h Q)) ∧ ((y1 + y0) < (hh_i h a1 6) → (gm_G 594 226 [none, none, some (.int x2)] [.int (hh_i h a1 6), va_rf r_1, .ref a0] h Q))))) : gm_G 594 201 [some (.ref a0), some (va_rf r_1), some (.int x2), none, some (va_rf r_4)] [.int y0, .int y1] h Q := by
  refine g_iadd rfl rfl (pc' := 202) ?_
  refine g_istore rfl rfl rfl (pc' := 204) ?_
  refine g_aload (r := some _) rfl rfl rfl (pc' := 205) ?_
  refine g_aload (r := _) rfl rfl rfl (pc' := 206) ?_
  refine g_aload (r := _) rfl rfl rfl (pc' := 208) ?_
  obtain ⟨a1, rfl, H⟩ := H
  obtain ⟨ht2, H⟩ := H
  refine g_getI rfl rfl rfl rfl ht2 (pc' := 211) rfl ?_
  refine g_iload rfl rfl rfl (pc' := 213) ?_
  refine g_ic_le rfl (pc' := 216) (pt := 224) rfl rfl ⟨fun hc => ?_, fun hc => ?_⟩
  · replace H := H.1 hc
    refine g_iload rfl rfl rfl (pc' := 226) ?_
    exact g_weak (show gm_Lle [none, none, some _] _ from ⟨rfl, trivial⟩) H
  · replace H := H.2 hc
    refine g_aload (r := some _) rfl rfl rfl (pc' := 218) ?_
    refine g_getI rfl rfl rfl rfl ht2 (pc' := 221) rfl ?_
    refine g_goto rfl (pc' := 226) rfl ?_
    exact g_weak (show gm_Lle [none, none, some _] _ from ⟨rfl, trivial⟩) H
set_option maxRecDepth 20000 in
theorem w_594_226 {a0 : Nat} {x2 : Int32} {y0 : Int32} {q1 : Option Nat} {q2 : Option Nat} {h : hh_T} {Q : Option Value ⊕ Nat → hh_T → Prop} (H : ∃ a1, q2 = some a1 ∧ (hh_tg h a1 = 47 ∧ (gm_G 591 0 [some (.ref a1), some (va_rf q1), some (.int y0), some (.int x2)] [] h (pV (fun h3 => Q (.inl none) h3) (fun e4 h5 => hh_tg h5 e4 = 21 ∧ Q (.inr e4) h5))))) : gm_G 594 226 [none, none, some (.int x2)] [.int y0, va_rf q1, va_rf q2] h Q := by
  refine g_iload rfl rfl rfl (pc' := 227) ?_
  obtain ⟨a1, rfl, H⟩ := H
  obtain ⟨ht2, H⟩ := H
  refine g_call rfl (y := 591) (n := 4) (pc' := 230) (g_vt ht2 rfl rfl) (by cases q1 <;> rfl) rfl ⟨(Nat.le_of_ble_eq_true rfl), (Nat.le_of_ble_eq_true rfl), (Nat.le_of_ble_eq_true rfl)⟩ rfl (gm_G.mono H (pV_elim (fun h3 H' => ?_) (fun e4 h5 H => ?_)))
  · show gm_G _ 230 _ _ _ _
    replace H := H'
    clear H'
    exact g_return rfl H
  · exact H
set_option maxRecDepth 20000 in
theorem w_595_0 {a0 : Nat} {r_1 : Option Nat} {x2 : Int32} {x3 : Int32} {h : hh_T} {Q : Option Value ⊕ Nat → hh_T → Prop} (H : gm_G 595 6 [some (.ref a0), some (va_rf r_1), none, some (.int x3), some (.int (x2 / (Int32.ofNat 32)))] [] h Q) : gm_G 595 0 [some (.ref a0), some (va_rf r_1), some (.int x2), some (.int x3)] [] h Q := by
  refine g_iload rfl rfl rfl (pc' := 1) ?_
  refine g_iconst rfl rfl rfl (pc' := 3) ?_
  refine g_idiv rfl (by decide) (pc' := 4) rfl ?_
  refine g_istore rfl rfl rfl (pc' := 6) ?_
  exact g_weak (show gm_Lle [some _, some _, none, some _, some _] _ from ⟨rfl, ⟨rfl, ⟨rfl, ⟨rfl, trivial⟩⟩⟩⟩) H
set_option maxRecDepth 20000 in
theorem w_595_6 {a0 : Nat} {r_1 : Option Nat} {x3 : Int32} {x4 : Int32} {h : hh_T} {Q : Option Value ⊕ Nat → hh_T → Prop} (H : (¬ ((Int32.ofNat 32) * x4) < x3 → (Q (.inl none) h)) ∧ (((Int32.ofNat 32) * x4) < x3 → (∃ a1, r_1 = some a1 ∧ (gm_sub (hh_tg h a1) 26 = true ∧ (∀ r3, r3 = hh_r h a1 12 → (∃ a4, r3 = some a4 ∧ ((hh_tg h a4 = 104 ∨ 200 ≤ hh_tg h a4) ∧ (∃ n5, gm_ix x4 n5 (hh_ln h a4) ∧ (∀ r7, r7 = hh_r h a4 n5 → (gm_sub (hh_tg h a0) 0 = true ∧ (∀ r9, r9 = hh_r h a0 46 → (hh_tg h a0 = 1 ∧ (gm_G 592 0 [some (.ref a0), some (va_rf r7), some (va_rf r9), some (.int ((Int32.ofNat 32) * x4))] [] h (pV (fun h11 => gm_G 595 6 [some (.ref a0), some (.ref a1), none, some (.int x3), some (.int (x4 + (Int32.ofNat 1)))] [] h11 Q) (fun e12 h13 => hh_tg h13 e12 = 21 ∧ Q (.inr e12) h13))))))))))))))) : gm_G 595 6 [some (.ref a0), some (va_rf r_1), none, some (.int x3), some (.int x4)] [] h Q := by
  refine g_iconst rfl rfl rfl (pc' := 8) ?_
  refine g_iload rfl rfl rfl (pc' := 10) ?_
  refine g_imul rfl rfl (pc' := 11) ?_
  refine g_iload rfl rfl rfl (pc' := 12) ?_
  refine g_ic_ge rfl (pc' := 15) (pt := 41) rfl rfl ⟨fun hc => ?_, fun hc => ?_⟩
  · replace H := H.1 hc
    exact g_return rfl H
  · replace H := H.2 hc
    refine g_aload (r := some _) rfl rfl rfl (pc' := 16) ?_
    refine g_aload (r := _) rfl rfl rfl (pc' := 17) ?_
    obtain ⟨a1, rfl, H⟩ := H
    obtain ⟨ht2, H⟩ := H
    refine g_getRv rfl rfl rfl rfl ht2 (pc' := 20) rfl (fun r3 hr3 => ?_)
    replace H := H r3 hr3
    refine g_iload rfl rfl rfl (pc' := 22) ?_
    obtain ⟨a4, rfl, H⟩ := H
    obtain ⟨ht6, H⟩ := H
    obtain ⟨n5, hn5, H⟩ := H
    refine g_aaloadv rfl ht6 hn5 (pc' := 23) rfl (fun r7 hr7 => ?_)
    replace H := H r7 hr7
    refine g_aload (r := some _) rfl rfl rfl (pc' := 24) ?_
    obtain ⟨ht8, H⟩ := H
    refine g_getRv rfl rfl rfl rfl ht8 (pc' := 27) rfl (fun r9 hr9 => ?_)
    replace H := H r9 hr9
    refine g_iconst rfl rfl rfl (pc' := 29) ?_
    refine g_iload rfl rfl rfl (pc' := 31) ?_
    refine g_imul rfl rfl (pc' := 32) ?_
    obtain ⟨ht10, H⟩ := H
    refine g_call rfl (y := 592) (n := 4) (pc' := 35) (g_vt ht10 rfl rfl) (by cases r7 <;> cases r9 <;> rfl) rfl ⟨(Nat.le_of_ble_eq_true rfl), (Nat.le_of_ble_eq_true rfl), (Nat.le_of_ble_eq_true rfl)⟩ rfl (gm_G.mono H (pV_elim (fun h11 H' => ?_) (fun e12 h13 H => ?_)))
    · show gm_G _ 35 _ _ _ _
      replace H := H'
      clear H'
      refine g_iinc (c := (Int32.ofNat 1)) rfl rfl rfl rfl rfl (pc' := 38) ?_
      refine g_goto rfl (pc' := 6) rfl ?_
      exact g_weak (show gm_Lle [some _, some _, none, some _, some _] _ from ⟨rfl, ⟨rfl, ⟨rfl, ⟨rfl, trivial⟩⟩⟩⟩) H
    · exact H
set_option maxRecDepth 20000 in
theorem w_596_0 {a0 : Nat} {r_1 : Option Nat} {r_2 : Option Nat} {x3 : Int32} {x4 : Int32} {h : hh_T} {Q : Option Value ⊕ Nat → hh_T → Prop} (H : gm_sub (hh_tg h a0) 0 = true ∧ (∀ r2, r2 = hh_r h a0 54 → (∃ a3, r2 = some a3 ∧ (gm_sub (hh_tg h a3) 12 = true ∧ (∀ h5, h5 = hh_wi h a3 1 (Int32.ofNat 0) → (∀ r6, r6 = hh_r h5 a0 54 → (∃ a7, r6 = some a7 ∧ (hh_tg h5 a7 = 13 ∧ (gm_G 459 0 [some (.ref a7), some (.int (Int32.ofNat 83))] [] h5 (pV (fun h9 => gm_sub (hh_tg h9 a0) 0 = true ∧ (∀ r11, r11 = hh_r h9 a0 54 → (∃ a12, r11 = some a12 ∧ (hh_tg h9 a12 = 13 ∧ (gm_G 459 0 [some (.ref a12), some (.int (Int32.ofNat 84))] [] h9 (pV (fun h14 => gm_sub (hh_tg h14 a0) 0 = true ∧ (∀ r16, r16 = hh_r h14 a0 54 → (∃ a17, r16 = some a17 ∧ (hh_tg h14 a17 = 13 ∧ (gm_G 459 0 [some (.ref a17), some (.int x3)] [] h14 (pV (fun h19 => gm_sub (hh_tg h19 a0) 0 = true ∧ (∀ r21, r21 = hh_r h19 a0 54 → ((∀ a22, r_2 = some a22 → (gm_G 596 47 [some (.ref a0), some (va_rf r_1), some (.ref a22), none, some (.int x4)] [.int (Int32.ofNat 1), va_rf r21] h19 Q)) ∧ (r_2 = none → (gm_G 596 47 [some (.ref a0), some (va_rf r_1), some (va_rf none), none, some (.int x4)] [.int (Int32.ofNat 0), va_rf r21] h19 Q))))) (fun e23 h24 => hh_tg h24 e23 = 21 ∧ Q (.inr e23) h24))))))) (fun e25 h26 => hh_tg h26 e25 = 21 ∧ Q (.inr e25) h26))))))) (fun e27 h28 => hh_tg h28 e27 = 21 ∧ Q (.inr e27) h28))))))))))) : gm_G 596 0 [some (.ref a0), some (va_rf r_1), some (va_rf r_2), some (.int x3), some (.int x4)] [] h Q := by
  refine g_aload (r := some _) rfl rfl rfl (pc' := 1) ?_
  obtain ⟨ht1, H⟩ := H
  refine g_getRv rfl rfl rfl rfl ht1 (pc' := 4) rfl (fun r2 hr2 => ?_)
  replace H := H r2 hr2
  refine g_iconst rfl rfl rfl (pc' := 5) ?_
  obtain ⟨a3, rfl, H⟩ := H
  obtain ⟨ht4, H⟩ := H
  refine g_putI rfl rfl rfl rfl ht4  (pc' := 8) rfl ?_
  replace H := H _ rfl
  refine g_aload (r := some _) rfl rfl rfl (pc' := 9) ?_
  refine g_getRv rfl rfl rfl rfl ht1 (pc' := 12) rfl (fun r6 hr6 => ?_)
  replace H := H r6 hr6
  refine g_iconst rfl rfl rfl (pc' := 14) ?_
  obtain ⟨a7, rfl, H⟩ := H
  obtain ⟨ht8, H⟩ := H
  refine g_call rfl (y := 459) (n := 2) (pc' := 17) (g_vt ht8 rfl rfl) rfl rfl ⟨(Nat.le_of_ble_eq_true rfl), (Nat.le_of_ble_eq_true rfl), (Nat.le_of_ble_eq_true rfl)⟩ rfl (gm_G.mono H (pV_elim (fun h9 H' => ?_) (fun e27 h28 H => ?_)))
  · show gm_G _ 17 _ _ _ _
    replace H := H'
    clear H'
    refine g_aload (r := some _) rfl rfl rfl (pc' := 18) ?_
    obtain ⟨ht10, H⟩ := H
    refine g_getRv rfl rfl rfl rfl ht10 (pc' := 21) rfl (fun r11 hr11 => ?_)
    replace H := H r11 hr11
    refine g_iconst rfl rfl rfl (pc' := 23) ?_
    obtain ⟨a12, rfl, H⟩ := H
    obtain ⟨ht13, H⟩ := H
    refine g_call rfl (y := 459) (n := 2) (pc' := 26) (g_vt ht13 rfl rfl) rfl rfl ⟨(Nat.le_of_ble_eq_true rfl), (Nat.le_of_ble_eq_true rfl), (Nat.le_of_ble_eq_true rfl)⟩ rfl (gm_G.mono H (pV_elim (fun h14 H' => ?_) (fun e25 h26 H => ?_)))
    · show gm_G _ 26 _ _ _ _
      replace H := H'
      clear H'
      refine g_aload (r := some _) rfl rfl rfl (pc' := 27) ?_
      obtain ⟨ht15, H⟩ := H
      refine g_getRv rfl rfl rfl rfl ht15 (pc' := 30) rfl (fun r16 hr16 => ?_)
      replace H := H r16 hr16
      refine g_iload rfl rfl rfl (pc' := 31) ?_
      obtain ⟨a17, rfl, H⟩ := H
      obtain ⟨ht18, H⟩ := H
      refine g_call rfl (y := 459) (n := 2) (pc' := 34) (g_vt ht18 rfl rfl) rfl rfl ⟨(Nat.le_of_ble_eq_true rfl), (Nat.le_of_ble_eq_true rfl), (Nat.le_of_ble_eq_true rfl)⟩ rfl (gm_G.mono H (pV_elim (fun h19 H' => ?_) (fun e23 h24 H => ?_)))
      · show gm_G _ 34 _ _ _ _
        replace H := H'
        clear H'
        refine g_aload (r := some _) rfl rfl rfl (pc' := 35) ?_
        obtain ⟨ht20, H⟩ := H
        refine g_getRv rfl rfl rfl rfl ht20 (pc' := 38) rfl (fun r21 hr21 => ?_)
        replace H := H r21 hr21
        refine g_aload (r := _) rfl rfl rfl (pc' := 39) ?_
        refine g_ifnonnull rfl (pc' := 42) (pt := 46) rfl rfl ⟨fun a22 hc => ?_, fun hc => ?_⟩
        · replace H := H.1 a22 hc
          subst hc
          refine g_iconst rfl rfl rfl (pc' := 47) ?_
          exact g_weak (show gm_Lle [some _, some _, some _, none, some _] _ from ⟨rfl, ⟨rfl, ⟨rfl, ⟨rfl, trivial⟩⟩⟩⟩) H
        · replace H := H.2 hc
          subst hc
          refine g_iconst rfl rfl rfl (pc' := 43) ?_
          refine g_goto rfl (pc' := 47) rfl ?_
          exact g_weak (show gm_Lle [some _, some _, some _, none, some _] _ from ⟨rfl, ⟨rfl, ⟨rfl, ⟨rfl, trivial⟩⟩⟩⟩) H
      · exact H
    · exact H
  · exact H
set_option maxRecDepth 20000 in
theorem w_596_47 {a0 : Nat} {r_1 : Option Nat} {r_2 : Option Nat} {x4 : Int32} {y0 : Int32} {q1 : Option Nat} {h : hh_T} {Q : Option Value ⊕ Nat → hh_T → Prop} (H : ∃ a1, q1 = some a1 ∧ (hh_tg h a1 = 13 ∧ (gm_G 459 0 [some (.ref a1), some (.int y0)] [] h (pV (fun h3 => gm_sub (hh_tg h3 a0) 0 = true ∧ (∀ r5, r5 = hh_r h3 a0 54 → ((∀ a6, r_2 = some a6 → (gm_sub (hh_tg h3 a6) 29 = true ∧ (gm_G 596 66 [some (.ref a0), some (va_rf r_1), some (.ref a6), none, some (.int x4)] [.int (hh_i h3 a6 3), va_rf r5] h3 Q))) ∧ (r_2 = none → (gm_G 596 66 [some (.ref a0), some (va_rf r_1), some (va_rf none), none, some (.int x4)] [.int (Int32.ofNat 0), va_rf r5] h3 Q))))) (fun e8 h9 => hh_tg h9 e8 = 21 ∧ Q (.inr e8) h9))))) : gm_G 596 47 [some (.ref a0), some (va_rf r_1), some (va_rf r_2), none, some (.int x4)] [.int y0, va_rf q1] h Q := by
  obtain ⟨a1, rfl, H⟩ := H
  obtain ⟨ht2, H⟩ := H
  refine g_call rfl (y := 459) (n := 2) (pc' := 50) (g_vt ht2 rfl rfl) rfl rfl ⟨(Nat.le_of_ble_eq_true rfl), (Nat.le_of_ble_eq_true rfl), (Nat.le_of_ble_eq_true rfl)⟩ rfl (gm_G.mono H (pV_elim (fun h3 H' => ?_) (fun e8 h9 H => ?_)))
  · show gm_G _ 50 _ _ _ _
    replace H := H'
    clear H'
    refine g_aload (r := some _) rfl rfl rfl (pc' := 51) ?_
    obtain ⟨ht4, H⟩ := H
    refine g_getRv rfl rfl rfl rfl ht4 (pc' := 54) rfl (fun r5 hr5 => ?_)
    replace H := H r5 hr5
    refine g_aload (r := _) rfl rfl rfl (pc' := 55) ?_
    refine g_ifnonnull rfl (pc' := 58) (pt := 62) rfl rfl ⟨fun a6 hc => ?_, fun hc => ?_⟩
    · replace H := H.1 a6 hc
      subst hc
      refine g_aload (r := some _) rfl rfl rfl (pc' := 63) ?_
      obtain ⟨ht7, H⟩ := H
      refine g_getI rfl rfl rfl rfl ht7 (pc' := 66) rfl ?_
      exact g_weak (show gm_Lle [some _, some _, some _, none, some _] _ from ⟨rfl, ⟨rfl, ⟨rfl, ⟨rfl, trivial⟩⟩⟩⟩) H
    · replace H := H.2 hc
      subst hc
      refine g_iconst rfl rfl rfl (pc' := 59) ?_
      refine g_goto rfl (pc' := 66) rfl ?_
      exact g_weak (show gm_Lle [some _, some _, some _, none, some _] _ from ⟨rfl, ⟨rfl, ⟨rfl, ⟨rfl, trivial⟩⟩⟩⟩) H
  · exact H
set_option maxRecDepth 20000 in
theorem w_596_66 {a0 : Nat} {r_1 : Option Nat} {r_2 : Option Nat} {x4 : Int32} {y0 : Int32} {q1 : Option Nat} {h : hh_T} {Q : Option Value ⊕ Nat → hh_T → Prop} (H : ∃ a1, q1 = some a1 ∧ (hh_tg h a1 = 13 ∧ (gm_G 535 0 [some (.ref a1), some (.int y0)] [] h (pV (fun h3 => gm_sub (hh_tg h3 a0) 0 = true ∧ (∀ r5, r5 = hh_r h3 a0 54 → (∃ a6, r_1 = some a6 ∧ (gm_sub (hh_tg h3 a6) 29 = true ∧ (∃ a8, r5 = some a8 ∧ (hh_tg h3 a8 = 13 ∧ (gm_G 535 0 [some (.ref a8), some (.int (hh_i h3 a6 3))] [] h3 (pV (fun h10 => gm_sub (hh_tg h10 a0) 0 = true ∧ (∀ r12, r12 = hh_r h10 a0 54 → (gm_sub (hh_tg h10 a6) 29 = true ∧ (gm_G 14 0 [some (.long (hh_j h10 a6 4)), none] [] h10 (pI (fun v15 h14 => ∃ a16, r12 = some a16 ∧ (hh_tg h14 a16 = 13 ∧ (gm_G 459 0 [some (.ref a16), some (.int v15)] [] h14 (pV (fun h18 => gm_sub (hh_tg h18 a0) 0 = true ∧ (∀ r20, r20 = hh_r h18 a0 54 → (gm_sub (hh_tg h18 a6) 29 = true ∧ (∃ a22, r20 = some a22 ∧ (hh_tg h18 a22 = 13 ∧ (gm_G 506 0 [some (.ref a22), some (.long (hh_j h18 a6 4)), none] [] h18 (pV (fun h24 => gm_G 596 105 [some (.ref a0), some (.ref a6), some (va_rf r_2), none, some (.int x4)] [] h24 Q) (fun e25 h26 => hh_tg h26 e25 = 21 ∧ Q (.inr e25) h26)))))))) (fun e27 h28 => hh_tg h28 e27 = 21 ∧ Q (.inr e27) h28))))) (fun e29 h30 => hh_tg h30 e29 = 21 ∧ Q (.inr e29) h30)))))) (fun e31 h32 => hh_tg h32 e31 = 21 ∧ Q (.inr e31) h32))))))))) (fun e33 h34 => hh_tg h34 e33 = 21 ∧ Q (.inr e33) h34))))) : gm_G 596 66 [some (.ref a0), some (va_rf r_1), some (va_rf r_2), none, some (.int x4)] [.int y0, va_rf q1] h Q := by
  obtain ⟨a1, rfl, H⟩ := H
  obtain ⟨ht2, H⟩ := H
  refine g_call rfl (y := 535) (n := 2) (pc' := 69) (g_vt ht2 rfl rfl) rfl rfl ⟨(Nat.le_of_ble_eq_true rfl), (Nat.le_of_ble_eq_true rfl), (Nat.le_of_ble_eq_true rfl)⟩ rfl (gm_G.mono H (pV_elim (fun h3 H' => ?_) (fun e33 h34 H => ?_)))
  · show gm_G _ 69 _ _ _ _
    replace H := H'
    clear H'
    refine g_aload (r := some _) rfl rfl rfl (pc' := 70) ?_
    obtain ⟨ht4, H⟩ := H
    refine g_getRv rfl rfl rfl rfl ht4 (pc' := 73) rfl (fun r5 hr5 => ?_)
    replace H := H r5 hr5
    refine g_aload (r := _) rfl rfl rfl (pc' := 74) ?_
    obtain ⟨a6, rfl, H⟩ := H
    obtain ⟨ht7, H⟩ := H
    refine g_getI rfl rfl rfl rfl ht7 (pc' := 77) rfl ?_
    obtain ⟨a8, rfl, H⟩ := H
    obtain ⟨ht9, H⟩ := H
    refine g_call rfl (y := 535) (n := 2) (pc' := 80) (g_vt ht9 rfl rfl) rfl rfl ⟨(Nat.le_of_ble_eq_true rfl), (Nat.le_of_ble_eq_true rfl), (Nat.le_of_ble_eq_true rfl)⟩ rfl (gm_G.mono H (pV_elim (fun h10 H' => ?_) (fun e31 h32 H => ?_)))
    · show gm_G _ 80 _ _ _ _
      replace H := H'
      clear H'
      refine g_aload (r := some _) rfl rfl rfl (pc' := 81) ?_
      obtain ⟨ht11, H⟩ := H
      refine g_getRv rfl rfl rfl rfl ht11 (pc' := 84) rfl (fun r12 hr12 => ?_)
      replace H := H r12 hr12
      refine g_aload (r := some _) rfl rfl rfl (pc' := 85) ?_
      obtain ⟨ht13, H⟩ := H
      refine g_getJ rfl rfl rfl rfl ht13 (pc' := 88) rfl ?_
      refine g_call rfl (y := 14) (n := 1) (pc' := 91) (fun _ => rfl) rfl rfl ⟨(Nat.le_of_ble_eq_true rfl), (Nat.le_of_ble_eq_true rfl), (Nat.le_of_ble_eq_true rfl)⟩ rfl (gm_G.mono H (pI_elim (fun v15 h14 H' => ?_) (fun e29 h30 H => ?_)))
      · show gm_G _ 91 _ _ _ _
        replace H := H'
        clear H'
        obtain ⟨a16, rfl, H⟩ := H
        obtain ⟨ht17, H⟩ := H
        refine g_call rfl (y := 459) (n := 2) (pc' := 94) (g_vt ht17 rfl rfl) rfl rfl ⟨(Nat.le_of_ble_eq_true rfl), (Nat.le_of_ble_eq_true rfl), (Nat.le_of_ble_eq_true rfl)⟩ rfl (gm_G.mono H (pV_elim (fun h18 H' => ?_) (fun e27 h28 H => ?_)))
        · show gm_G _ 94 _ _ _ _
          replace H := H'
          clear H'
          refine g_aload (r := some _) rfl rfl rfl (pc' := 95) ?_
          obtain ⟨ht19, H⟩ := H
          refine g_getRv rfl rfl rfl rfl ht19 (pc' := 98) rfl (fun r20 hr20 => ?_)
          replace H := H r20 hr20
          refine g_aload (r := some _) rfl rfl rfl (pc' := 99) ?_
          obtain ⟨ht21, H⟩ := H
          refine g_getJ rfl rfl rfl rfl ht21 (pc' := 102) rfl ?_
          obtain ⟨a22, rfl, H⟩ := H
          obtain ⟨ht23, H⟩ := H
          refine g_call rfl (y := 506) (n := 2) (pc' := 105) (g_vt ht23 rfl rfl) rfl rfl ⟨(Nat.le_of_ble_eq_true rfl), (Nat.le_of_ble_eq_true rfl), (Nat.le_of_ble_eq_true rfl)⟩ rfl (gm_G.mono H (pV_elim (fun h24 H' => ?_) (fun e25 h26 H => ?_)))
          · show gm_G _ 105 _ _ _ _
            replace H := H'
            clear H'
            exact g_weak (show gm_Lle [some _, some _, some _, none, some _] _ from ⟨rfl, ⟨rfl, ⟨rfl, ⟨rfl, trivial⟩⟩⟩⟩) H
          · exact H
        · exact H
      · exact H
    · exact H
  · exact H
set_option maxRecDepth 20000 in
theorem w_596_105 {a0 : Nat} {r_1 : Option Nat} {r_2 : Option Nat} {x4 : Int32} {h : hh_T} {Q : Option Value ⊕ Nat → hh_T → Prop} (H : gm_G 596 108 [some (.ref a0), some (va_rf r_1), some (va_rf r_2), none, some (.int x4), some (.int (Int32.ofNat 0))] [] h Q) : gm_G 596 105 [some (.ref a0), some (va_rf r_1), some (va_rf r_2), none, some (.int x4)] [] h Q := by
  refine g_iconst rfl rfl rfl (pc' := 106) ?_
  refine g_istore rfl rfl rfl (pc' := 108) ?_
  exact g_weak (show gm_Lle [some _, some _, some _, none, some _, some _] _ from ⟨rfl, ⟨rfl, ⟨rfl, ⟨rfl, ⟨rfl, trivial⟩⟩⟩⟩⟩) H
set_option maxRecDepth 20000 in
theorem w_596_108 {a0 : Nat} {r_1 : Option Nat} {r_2 : Option Nat} {x4 : Int32} {x5 : Int32} {h : hh_T} {Q : Option Value ⊕ Nat → hh_T → Prop} (H : (¬ x5 < (Int32.ofNat 16) → (gm_sub (hh_tg h a0) 0 = true ∧ (∀ r2, r2 = hh_r h a0 54 → (∃ a3, r2 = some a3 ∧ (hh_tg h a3 = 13 ∧ (gm_G 459 0 [some (.ref a3), some (.int (Int32.ofNat 9))] [] h (pV (fun h5 => gm_sub (hh_tg h5 a0) 0 = true ∧ (∀ r7, r7 = hh_r h5 a0 54 → (∃ a8, r_1 = some a8 ∧ (gm_sub (hh_tg h5 a8) 29 = true ∧ (∀ r10, r10 = hh_r h5 a8 5 → (∃ a11, r10 = some a11 ∧ (gm_sub (hh_tg h5 a11) 24 = true ∧ (∃ a13, r7 = some a13 ∧ (hh_tg h5 a13 = 13 ∧ (gm_G 535 0 [some (.ref a13), some (.int (hh_i h5 a11 1))] [] h5 (pV (fun h15 => gm_sub (hh_tg h15 a0) 0 = true ∧ (∀ r17, r17 = hh_r h15 a0 54 → (∃ a18, r17 = some a18 ∧ (gm_sub (hh_tg h15 a18) 12 = true ∧ (∀ r20, r20 = hh_r h15 a18 0 → (∀ r21, r21 = hh_r h15 a0 54 → (∃ a22, r21 = some a22 ∧ (gm_sub (hh_tg h15 a22) 12 = true ∧ (gm_G 242 0 [some (va_rf r20), some (.int (hh_i h15 a22 1))] [] h15 (pL (fun v25 h24 => gm_sub (hh_tg h24 a0) 0 = true ∧ (∀ r27, r27 = hh_r h24 a0 54 → (∃ a28, r27 = some a28 ∧ (hh_tg h24 a28 = 13 ∧ (gm_G 535 0 [some (.ref a28), some (.int ((v25 >>> ((Int32.ofNat 32).toInt64 &&& 63)).toInt32))] [] h24 (pV (fun h30 => gm_sub (hh_tg h30 a0) 0 = true ∧ (∀ r32, r32 = hh_r h30 a0 54 → (∃ a33, r32 = some a33 ∧ (hh_tg h30 a33 = 13 ∧ (gm_G 535 0 [some (.ref a33), some (.int (v25.toInt32))] [] h30 (pV (fun h35 => gm_G 596 461 [] [] h35 Q) (fun e36 h37 => hh_tg h37 e36 = 21 ∧ Q (.inr e36) h37))))))) (fun e38 h39 => hh_tg h39 e38 = 21 ∧ Q (.inr e38) h39))))))) (fun e40 h41 => hh_tg h41 e40 = 21 ∧ Q (.inr e40) h41))))))))))) (fun e42 h43 => hh_tg h43 e42 = 21 ∧ Q (.inr e42) h43)))))))))))) (fun e44 h45 => hh_tg h45 e44 = 21 ∧ Q (.inr e44) h45)))))))) ∧ (x5 < (Int32.ofNat 16) → (∃ a46, r_1 = some a46 ∧ (gm_sub (hh_tg h a46) 29 = true ∧ (∀ r48, r48 = hh_r h a46 5 → (∃ a49, r48 = some a49 ∧ (gm_sub (hh_tg h a49) 24 = true ∧ (∀ r51, r51 = hh_r h a49 2 → (∃ a52, r51 = some a52 ∧ ((hh_tg h a52 = 104 ∨ 200 ≤ hh_tg h a52) ∧ (∃ n53, gm_ix x5 n53 (hh_ln h a52) ∧ (∀ r55, r55 = hh_r h a52 n53 → ((∀ a56, r_2 = some a56 → (gm_sub (hh_tg h a56) 29 = true ∧ (∀ r58, r58 = hh_r h a56 5 → (∃ a59, r58 = some a59 ∧ (gm_sub (hh_tg h a59) 24 = true ∧ (∀ r61, r61 = hh_r h a59 2 → (∃ a62, r61 = some a62 ∧ ((hh_tg h a62 = 104 ∨ 200 ≤ hh_tg h a62) ∧ (∃ n63, gm_ix x5 n63 (hh_ln h a62) ∧ (∀ r65, r65 = hh_r h a62 n63 → (gm_G 596 145 [some (.ref a0), some (.ref a46), some (.ref a56), none, some (.int x4), some (.int x5), some (va_rf r55)] [va_rf r65] h Q))))))))))) ∧ (r_2 = none → (gm_G 596 145 [some (.ref a0), some (.ref a46), some (va_rf none), none, some (.int x4), some (.int x5), some (va_rf r55)] [va_rf none] h Q))))))))))))))) : gm_G 596 108 [some (.ref a0), some (va_rf r_1), some (va_rf r_2), none, some (.int x4), some (.int x5)] [] h Q := by
  refine g_iload rfl rfl rfl (pc' := 110) ?_
  refine g_iconst rfl rfl rfl (pc' := 112) ?_
  refine g_ic_ge rfl (pc' := 115) (pt := 396) rfl rfl ⟨fun hc => ?_, fun hc => ?_⟩
  · replace H := H.1 hc
    refine g_aload (r := some _) rfl rfl rfl (pc' := 397) ?_
    obtain ⟨ht1, H⟩ := H
    refine g_getRv rfl rfl rfl rfl ht1 (pc' := 400) rfl (fun r2 hr2 => ?_)
    replace H := H r2 hr2
    refine g_iconst rfl rfl rfl (pc' := 402) ?_
    obtain ⟨a3, rfl, H⟩ := H
    obtain ⟨ht4, H⟩ := H
    refine g_call rfl (y := 459) (n := 2) (pc' := 405) (g_vt ht4 rfl rfl) rfl rfl ⟨(Nat.le_of_ble_eq_true rfl), (Nat.le_of_ble_eq_true rfl), (Nat.le_of_ble_eq_true rfl)⟩ rfl (gm_G.mono H (pV_elim (fun h5 H' => ?_) (fun e44 h45 H => ?_)))
    · show gm_G _ 405 _ _ _ _
      replace H := H'
      clear H'
      refine g_aload (r := some _) rfl rfl rfl (pc' := 406) ?_
      obtain ⟨ht6, H⟩ := H
      refine g_getRv rfl rfl rfl rfl ht6 (pc' := 409) rfl (fun r7 hr7 => ?_)
      replace H := H r7 hr7
      refine g_aload (r := _) rfl rfl rfl (pc' := 410) ?_
      obtain ⟨a8, rfl, H⟩ := H
      obtain ⟨ht9, H⟩ := H
      refine g_getRv rfl rfl rfl rfl ht9 (pc' := 413) rfl (fun r10 hr10 => ?_)
      replace H := H r10 hr10
      obtain ⟨a11, rfl, H⟩ := H
      obtain ⟨ht12, H⟩ := H
      refine g_getI rfl rfl rfl rfl ht12 (pc' := 416) rfl ?_
      obtain ⟨a13, rfl, H⟩ := H
      obtain ⟨ht14, H⟩ := H
      refine g_call rfl (y := 535) (n := 2) (pc' := 419) (g_vt ht14 rfl rfl) rfl rfl ⟨(Nat.le_of_ble_eq_true rfl), (Nat.le_of_ble_eq_true rfl), (Nat.le_of_ble_eq_true rfl)⟩ rfl (gm_G.mono H (pV_elim (fun h15 H' => ?_) (fun e42 h43 H => ?_)))
      · show gm_G _ 419 _ _ _ _
        replace H := H'
        clear H'
        refine g_aload (r := some _) rfl rfl rfl (pc' := 420) ?_
        obtain ⟨ht16, H⟩ := H
        refine g_getRv rfl rfl rfl rfl ht16 (pc' := 423) rfl (fun r17 hr17 => ?_)
        replace H := H r17 hr17
        obtain ⟨a18, rfl, H⟩ := H
        obtain ⟨ht19, H⟩ := H
        refine g_getRv rfl rfl rfl rfl ht19 (pc' := 426) rfl (fun r20 hr20 => ?_)
        replace H := H r20 hr20
        refine g_aload (r := some _) rfl rfl rfl (pc' := 427) ?_
        refine g_getRv rfl rfl rfl rfl ht16 (pc' := 430) rfl (fun r21 hr21 => ?_)
        replace H := H r21 hr21
        obtain ⟨a22, rfl, H⟩ := H
        obtain ⟨ht23, H⟩ := H
        refine g_getI rfl rfl rfl rfl ht23 (pc' := 433) rfl ?_
        refine g_call rfl (y := 242) (n := 2) (pc' := 436) (fun _ => rfl) (by cases r20 <;> rfl) rfl ⟨(Nat.le_of_ble_eq_true rfl), (Nat.le_of_ble_eq_true rfl), (Nat.le_of_ble_eq_true rfl)⟩ rfl (gm_G.mono H (pL_elim (fun v25 h24 H' => ?_) (fun e40 h41 H => ?_)))
        · show gm_G _ 436 _ _ _ _
          replace H := H'
          clear H'
          refine g_lstore rfl rfl rfl (pc' := 438) ?_
          refine g_aload (r := some _) rfl rfl rfl (pc' := 439) ?_
          obtain ⟨ht26, H⟩ := H
          refine g_getRv rfl rfl rfl rfl ht26 (pc' := 442) rfl (fun r27 hr27 => ?_)
          replace H := H r27 hr27
          refine g_lload rfl rfl rfl (pc' := 444) ?_
          refine g_iconst rfl rfl rfl (pc' := 446) ?_
          refine g_lshr rfl rfl (pc' := 447) ?_
          refine g_l2i rfl rfl (pc' := 448) ?_
          obtain ⟨a28, rfl, H⟩ := H
          obtain ⟨ht29, H⟩ := H
          refine g_call rfl (y := 535) (n := 2) (pc' := 451) (g_vt ht29 rfl rfl) rfl rfl ⟨(Nat.le_of_ble_eq_true rfl), (Nat.le_of_ble_eq_true rfl), (Nat.le_of_ble_eq_true rfl)⟩ rfl (gm_G.mono H (pV_elim (fun h30 H' => ?_) (fun e38 h39 H => ?_)))
          · show gm_G _ 451 _ _ _ _
            replace H := H'
            clear H'
            refine g_aload (r := some _) rfl rfl rfl (pc' := 452) ?_
            obtain ⟨ht31, H⟩ := H
            refine g_getRv rfl rfl rfl rfl ht31 (pc' := 455) rfl (fun r32 hr32 => ?_)
            replace H := H r32 hr32
            refine g_lload rfl rfl rfl (pc' := 457) ?_
            refine g_l2i rfl rfl (pc' := 458) ?_
            obtain ⟨a33, rfl, H⟩ := H
            obtain ⟨ht34, H⟩ := H
            refine g_call rfl (y := 535) (n := 2) (pc' := 461) (g_vt ht34 rfl rfl) rfl rfl ⟨(Nat.le_of_ble_eq_true rfl), (Nat.le_of_ble_eq_true rfl), (Nat.le_of_ble_eq_true rfl)⟩ rfl (gm_G.mono H (pV_elim (fun h35 H' => ?_) (fun e36 h37 H => ?_)))
            · show gm_G _ 461 _ _ _ _
              replace H := H'
              clear H'
              exact g_weak (show gm_Lle [] _ from trivial) H
            · exact H
          · exact H
        · exact H
      · exact H
    · exact H
  · replace H := H.2 hc
    refine g_aload (r := _) rfl rfl rfl (pc' := 116) ?_
    obtain ⟨a46, rfl, H⟩ := H
    obtain ⟨ht47, H⟩ := H
    refine g_getRv rfl rfl rfl rfl ht47 (pc' := 119) rfl (fun r48 hr48 => ?_)
    replace H := H r48 hr48
    obtain ⟨a49, rfl, H⟩ := H
    obtain ⟨ht50, H⟩ := H
    refine g_getRv rfl rfl rfl rfl ht50 (pc' := 122) rfl (fun r51 hr51 => ?_)
    replace H := H r51 hr51
    refine g_iload rfl rfl rfl (pc' := 124) ?_
    obtain ⟨a52, rfl, H⟩ := H
    obtain ⟨ht54, H⟩ := H
    obtain ⟨n53, hn53, H⟩ := H
    refine g_aaloadv rfl ht54 hn53 (pc' := 125) rfl (fun r55 hr55 => ?_)
    replace H := H r55 hr55
    refine g_astore (r := _) rfl rfl rfl (pc' := 127) ?_
    refine g_aload (r := _) rfl rfl rfl (pc' := 128) ?_
    refine g_ifnonnull rfl (pc' := 131) (pt := 135) rfl rfl ⟨fun a56 hc => ?_, fun hc => ?_⟩
    · replace H := H.1 a56 hc
      subst hc
      refine g_aload (r := some _) rfl rfl rfl (pc' := 136) ?_
      obtain ⟨ht57, H⟩ := H
      refine g_getRv rfl rfl rfl rfl ht57 (pc' := 139) rfl (fun r58 hr58 => ?_)
      replace H := H r58 hr58
      obtain ⟨a59, rfl, H⟩ := H
      obtain ⟨ht60, H⟩ := H
      refine g_getRv rfl rfl rfl rfl ht60 (pc' := 142) rfl (fun r61 hr61 => ?_)
      replace H := H r61 hr61
      refine g_iload rfl rfl rfl (pc' := 144) ?_
      obtain ⟨a62, rfl, H⟩ := H
      obtain ⟨ht64, H⟩ := H
      obtain ⟨n63, hn63, H⟩ := H
      refine g_aaloadv rfl ht64 hn63 (pc' := 145) rfl (fun r65 hr65 => ?_)
      replace H := H r65 hr65
      exact g_weak (show gm_Lle [some _, some _, some _, none, some _, some _, some _] _ from ⟨rfl, ⟨rfl, ⟨rfl, ⟨rfl, ⟨rfl, ⟨rfl, trivial⟩⟩⟩⟩⟩⟩) H
    · replace H := H.2 hc
      subst hc
      refine g_null rfl rfl (pc' := 132) ?_
      refine g_goto rfl (pc' := 145) rfl ?_
      exact g_weak (show gm_Lle [some _, some _, some _, none, some _, some _, some _] _ from ⟨rfl, ⟨rfl, ⟨rfl, ⟨rfl, ⟨rfl, ⟨rfl, trivial⟩⟩⟩⟩⟩⟩) H
