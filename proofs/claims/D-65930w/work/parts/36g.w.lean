/-! STAGE 2, 7: the component, label by label (printed) -/
set_option maxRecDepth 20000 in
theorem w_497_0 {a0 : Nat} {x1 : Int32} {x2 : Int32} {h : hh_T} {Q : Option Value ⊕ Nat → hh_T → Prop} (H : hh_tg h a0 = 1 ∧ (gm_G 456 0 [some (.ref a0)] [] h (pV (fun h2 => hh_tg h2 a0 = 1 ∧ (gm_G 228 0 [some (.ref a0), some (.int x1)] [] h2 (pI (fun v5 h4 => (v5 = Int32.ofNat 0 → (gm_G 497 24 [some (.ref a0), some (.int x1), some (.int x2)] [] h4 Q)) ∧ (¬ v5 = Int32.ofNat 0 → (hh_tg h4 a0 = 1 ∧ (gm_G 228 0 [some (.ref a0), some (.int x2)] [] h4 (pI (fun v8 h7 => (v8 = Int32.ofNat 0 → (gm_G 497 24 [some (.ref a0), some (.int x1), some (.int x2)] [] h7 Q)) ∧ (¬ v8 = Int32.ofNat 0 → (gm_G 497 25 [some (.ref a0), some (.int x1), some (.int x2)] [.int (Int32.ofNat 1)] h7 Q))) (fun e9 h10 => hh_tg h10 e9 = 21 ∧ gm_G 497 130 [some (.ref a0)] [.ref e9] h10 Q)))))) (fun e11 h12 => hh_tg h12 e11 = 21 ∧ gm_G 497 130 [some (.ref a0)] [.ref e11] h12 Q)))) (fun e13 h14 => hh_tg h14 e13 = 21 ∧ gm_G 497 130 [some (.ref a0)] [.ref e13] h14 Q)))) : gm_G 497 0 [some (.ref a0), some (.int x1), some (.int x2)] [] h Q := by
  refine g_aload (r := some _) rfl rfl rfl (pc' := 1) ?_
  obtain ⟨ht1, H⟩ := H
  refine g_call rfl (y := 456) (n := 1) (pc' := 4) (g_vt ht1 rfl rfl) rfl rfl ⟨(Nat.le_of_ble_eq_true rfl), (Nat.le_of_ble_eq_true rfl), (Nat.le_of_ble_eq_true rfl)⟩ rfl (gm_G.mono H (pV_elim (fun h2 H' => ?_) (fun e13 h14 H => ?_)))
  · show gm_G _ 4 _ _ _ _
    replace H := H'
    clear H'
    refine g_aload (r := some _) rfl rfl rfl (pc' := 5) ?_
    refine g_iload rfl rfl rfl (pc' := 6) ?_
    obtain ⟨ht3, H⟩ := H
    refine g_call rfl (y := 228) (n := 2) (pc' := 9) (g_vt ht3 rfl rfl) rfl rfl ⟨(Nat.le_of_ble_eq_true rfl), (Nat.le_of_ble_eq_true rfl), (Nat.le_of_ble_eq_true rfl)⟩ rfl (gm_G.mono H (pI_elim (fun v5 h4 H' => ?_) (fun e11 h12 H => ?_)))
    · show gm_G _ 9 _ _ _ _
      replace H := H'
      clear H'
      refine g_if_eq rfl (pc' := 12) (pt := 24) rfl rfl ⟨fun hc => ?_, fun hc => ?_⟩
      · replace H := H.1 hc
        exact g_weak (show gm_Lle [some _, some _, some _] _ from ⟨rfl, ⟨rfl, ⟨rfl, trivial⟩⟩⟩) H
      · replace H := H.2 hc
        refine g_aload (r := some _) rfl rfl rfl (pc' := 13) ?_
        refine g_iload rfl rfl rfl (pc' := 14) ?_
        obtain ⟨ht6, H⟩ := H
        refine g_call rfl (y := 228) (n := 2) (pc' := 17) (g_vt ht6 rfl rfl) rfl rfl ⟨(Nat.le_of_ble_eq_true rfl), (Nat.le_of_ble_eq_true rfl), (Nat.le_of_ble_eq_true rfl)⟩ rfl (gm_G.mono H (pI_elim (fun v8 h7 H' => ?_) (fun e9 h10 H => ?_)))
        · show gm_G _ 17 _ _ _ _
          replace H := H'
          clear H'
          refine g_if_eq rfl (pc' := 20) (pt := 24) rfl rfl ⟨fun hc => ?_, fun hc => ?_⟩
          · replace H := H.1 hc
            exact g_weak (show gm_Lle [some _, some _, some _] _ from ⟨rfl, ⟨rfl, ⟨rfl, trivial⟩⟩⟩) H
          · replace H := H.2 hc
            refine g_iconst rfl rfl rfl (pc' := 21) ?_
            refine g_goto rfl (pc' := 25) rfl ?_
            exact g_weak (show gm_Lle [some _, some _, some _] _ from ⟨rfl, ⟨rfl, ⟨rfl, trivial⟩⟩⟩) H
        · exact ⟨H.1, g_weak (show gm_Lle [some _] _ from ⟨rfl, trivial⟩) H.2⟩
    · exact ⟨H.1, g_weak (show gm_Lle [some _] _ from ⟨rfl, trivial⟩) H.2⟩
  · exact ⟨H.1, g_weak (show gm_Lle [some _] _ from ⟨rfl, trivial⟩) H.2⟩
set_option maxRecDepth 20000 in
theorem w_497_24 {a0 : Nat} {x1 : Int32} {x2 : Int32} {h : hh_T} {Q : Option Value ⊕ Nat → hh_T → Prop} (H : gm_G 497 25 [some (.ref a0), some (.int x1), some (.int x2)] [.int (Int32.ofNat 0)] h Q) : gm_G 497 24 [some (.ref a0), some (.int x1), some (.int x2)] [] h Q := by
  refine g_iconst rfl rfl rfl (pc' := 25) ?_
  exact g_weak (show gm_Lle [some _, some _, some _] _ from ⟨rfl, ⟨rfl, ⟨rfl, trivial⟩⟩⟩) H
set_option maxRecDepth 20000 in
theorem w_497_25 {a0 : Nat} {x1 : Int32} {x2 : Int32} {y0 : Int32} {h : hh_T} {Q : Option Value ⊕ Nat → hh_T → Prop} (H : gm_G 452 0 [some (.int y0)] [] h (pV (fun h1 => gm_sub (hh_tg h1 a0) 0 = true ∧ (∀ r3, r3 = hh_r h1 a0 0 → (∃ a4, r3 = some a4 ∧ ((hh_tg h1 a4 = 104 ∨ 200 ≤ hh_tg h1 a4) ∧ (∃ n5, gm_ix x1 n5 (hh_ln h1 a4) ∧ (∀ r7, r7 = hh_r h1 a4 n5 → (∃ a8, r7 = some a8 ∧ (gm_sub (hh_tg h1 a8) 21 = true ∧ (∀ r10, r10 = hh_r h1 a8 5 → ((r10 = none → (gm_G 497 47 [some (.ref a0), some (.int x1), some (.int x2), some (va_rf none)] [.int (Int32.ofNat 0)] h1 Q)) ∧ (∀ a11, r10 = some a11 → (gm_G 497 47 [some (.ref a0), some (.int x1), some (.int x2), some (.ref a11)] [.int (Int32.ofNat 1)] h1 Q)))))))))))) (fun e12 h13 => hh_tg h13 e12 = 21 ∧ gm_G 497 130 [some (.ref a0)] [.ref e12] h13 Q))) : gm_G 497 25 [some (.ref a0), some (.int x1), some (.int x2)] [.int y0] h Q := by
  refine g_call rfl (y := 452) (n := 1) (pc' := 28) (fun _ => rfl) rfl rfl ⟨(Nat.le_of_ble_eq_true rfl), (Nat.le_of_ble_eq_true rfl), (Nat.le_of_ble_eq_true rfl)⟩ rfl (gm_G.mono H (pV_elim (fun h1 H' => ?_) (fun e12 h13 H => ?_)))
  · show gm_G _ 28 _ _ _ _
    replace H := H'
    clear H'
    refine g_aload (r := some _) rfl rfl rfl (pc' := 29) ?_
    obtain ⟨ht2, H⟩ := H
    refine g_getRv rfl rfl rfl rfl ht2 (pc' := 32) rfl (fun r3 hr3 => ?_)
    replace H := H r3 hr3
    refine g_iload rfl rfl rfl (pc' := 33) ?_
    obtain ⟨a4, rfl, H⟩ := H
    obtain ⟨ht6, H⟩ := H
    obtain ⟨n5, hn5, H⟩ := H
    refine g_aaloadv rfl ht6 hn5 (pc' := 34) rfl (fun r7 hr7 => ?_)
    replace H := H r7 hr7
    obtain ⟨a8, rfl, H⟩ := H
    obtain ⟨ht9, H⟩ := H
    refine g_getRv rfl rfl rfl rfl ht9 (pc' := 37) rfl (fun r10 hr10 => ?_)
    replace H := H r10 hr10
    refine g_astore (r := _) rfl rfl rfl (pc' := 38) ?_
    refine g_aload (r := _) rfl rfl rfl (pc' := 39) ?_
    refine g_ifnull rfl (pc' := 42) (pt := 46) rfl rfl ⟨fun hc => ?_, fun a11 hc => ?_⟩
    · replace H := H.1 hc
      subst hc
      refine g_iconst rfl rfl rfl (pc' := 47) ?_
      exact g_weak (show gm_Lle [some _, some _, some _, some _] _ from ⟨rfl, ⟨rfl, ⟨rfl, ⟨rfl, trivial⟩⟩⟩⟩) H
    · replace H := H.2 a11 hc
      subst hc
      refine g_iconst rfl rfl rfl (pc' := 43) ?_
      refine g_goto rfl (pc' := 47) rfl ?_
      exact g_weak (show gm_Lle [some _, some _, some _, some _] _ from ⟨rfl, ⟨rfl, ⟨rfl, ⟨rfl, trivial⟩⟩⟩⟩) H
  · exact ⟨H.1, g_weak (show gm_Lle [some _] _ from ⟨rfl, trivial⟩) H.2⟩
set_option maxRecDepth 20000 in
theorem w_497_47 {a0 : Nat} {x1 : Int32} {x2 : Int32} {r_3 : Option Nat} {y0 : Int32} {h : hh_T} {Q : Option Value ⊕ Nat → hh_T → Prop} (H : gm_G 431 0 [some (.int y0), some (.int (Int32.ofInt (-10)))] [] h (pV (fun h1 => gm_sub (hh_tg h1 a0) 0 = true ∧ (∀ r3, r3 = hh_r h1 a0 0 → (∃ a4, r3 = some a4 ∧ ((hh_tg h1 a4 = 104 ∨ 200 ≤ hh_tg h1 a4) ∧ (∃ n5, gm_ix x2 n5 (hh_ln h1 a4) ∧ (∀ r7, r7 = hh_r h1 a4 n5 → (gm_G 11 0 [some (va_rf r7), some (va_rf r_3)] [] h1 (pI (fun v9 h8 => gm_G 431 0 [some (.int v9), some (.int (Int32.ofInt (-5)))] [] h8 (pV (fun h10 => ∃ a11, r_3 = some a11 ∧ (gm_sub (hh_tg h10 a11) 3 = true ∧ (∀ r13, r13 = hh_r h10 a11 1 → (gm_sub (hh_tg h10 a0) 0 = true ∧ (∀ r15, r15 = hh_r h10 a0 0 → (∃ a16, r15 = some a16 ∧ ((hh_tg h10 a16 = 104 ∨ 200 ≤ hh_tg h10 a16) ∧ (∃ n17, gm_ix x1 n17 (hh_ln h10 a16) ∧ (∀ r19, r19 = hh_r h10 a16 n17 → ((hh_tg h10 a11 = 5 ∧ (gm_G 30 0 [some (.ref a11), some (va_rf r19)] [] h10 (pI (fun v21 h20 => gm_sub (hh_tg h20 a0) 0 = true ∧ (∀ r23, r23 = hh_r h20 a0 0 → (∃ a24, r23 = some a24 ∧ ((hh_tg h20 a24 = 104 ∨ 200 ≤ hh_tg h20 a24) ∧ (∃ n25, gm_ix x2 n25 (hh_ln h20 a24) ∧ (∀ r27, r27 = hh_r h20 a24 n25 → (∃ a28, r13 = some a28 ∧ (200 ≤ hh_tg h20 a28 ∧ (∀ b, r27 = some b → gm_as (hh_tg h20 a28) (hh_tg h20 b) = true) ∧ (∃ n29, gm_ix v21 n29 (hh_ln h20 a28) ∧ (∀ h30, h30 = hh_wr h20 a28 n29 r27 → (gm_G 497 88 [some (.ref a0), some (.int x1), some (.int x2), some (.ref a11)] [] h30 Q))))))))))) (fun e31 h32 => hh_tg h32 e31 = 21 ∧ gm_G 497 130 [some (.ref a0)] [.ref e31] h32 Q)))) ∨ (hh_tg h10 a11 = 7 ∧ (gm_G 30 0 [some (.ref a11), some (va_rf r19)] [] h10 (pI (fun v34 h33 => gm_sub (hh_tg h33 a0) 0 = true ∧ (∀ r36, r36 = hh_r h33 a0 0 → (∃ a37, r36 = some a37 ∧ ((hh_tg h33 a37 = 104 ∨ 200 ≤ hh_tg h33 a37) ∧ (∃ n38, gm_ix x2 n38 (hh_ln h33 a37) ∧ (∀ r40, r40 = hh_r h33 a37 n38 → (∃ a41, r13 = some a41 ∧ (200 ≤ hh_tg h33 a41 ∧ (∀ b, r40 = some b → gm_as (hh_tg h33 a41) (hh_tg h33 b) = true) ∧ (∃ n42, gm_ix v34 n42 (hh_ln h33 a41) ∧ (∀ h43, h43 = hh_wr h33 a41 n42 r40 → (gm_G 497 88 [some (.ref a0), some (.int x1), some (.int x2), some (.ref a11)] [] h43 Q))))))))))) (fun e44 h45 => hh_tg h45 e44 = 21 ∧ gm_G 497 130 [some (.ref a0)] [.ref e44] h45 Q)))))))))))))) (fun e46 h47 => hh_tg h47 e46 = 21 ∧ gm_G 497 130 [some (.ref a0)] [.ref e46] h47 Q))) (fun e48 h49 => hh_tg h49 e48 = 21 ∧ gm_G 497 130 [some (.ref a0)] [.ref e48] h49 Q))))))))) (fun e50 h51 => hh_tg h51 e50 = 21 ∧ gm_G 497 130 [some (.ref a0)] [.ref e50] h51 Q))) : gm_G 497 47 [some (.ref a0), some (.int x1), some (.int x2), some (va_rf r_3)] [.int y0] h Q := by
  refine g_iconst rfl rfl rfl (pc' := 49) ?_
  refine g_call rfl (y := 431) (n := 2) (pc' := 52) (fun _ => rfl) rfl rfl ⟨(Nat.le_of_ble_eq_true rfl), (Nat.le_of_ble_eq_true rfl), (Nat.le_of_ble_eq_true rfl)⟩ rfl (gm_G.mono H (pV_elim (fun h1 H' => ?_) (fun e50 h51 H => ?_)))
  · show gm_G _ 52 _ _ _ _
    replace H := H'
    clear H'
    refine g_aload (r := some _) rfl rfl rfl (pc' := 53) ?_
    obtain ⟨ht2, H⟩ := H
    refine g_getRv rfl rfl rfl rfl ht2 (pc' := 56) rfl (fun r3 hr3 => ?_)
    replace H := H r3 hr3
    refine g_iload rfl rfl rfl (pc' := 57) ?_
    obtain ⟨a4, rfl, H⟩ := H
    obtain ⟨ht6, H⟩ := H
    obtain ⟨n5, hn5, H⟩ := H
    refine g_aaloadv rfl ht6 hn5 (pc' := 58) rfl (fun r7 hr7 => ?_)
    replace H := H r7 hr7
    refine g_aload (r := _) rfl rfl rfl (pc' := 59) ?_
    refine g_call rfl (y := 11) (n := 2) (pc' := 62) (fun _ => rfl) (by cases r7 <;> cases r_3 <;> rfl) rfl ⟨(Nat.le_of_ble_eq_true rfl), (Nat.le_of_ble_eq_true rfl), (Nat.le_of_ble_eq_true rfl)⟩ rfl (gm_G.mono H (pI_elim (fun v9 h8 H' => ?_) (fun e48 h49 H => ?_)))
    · show gm_G _ 62 _ _ _ _
      replace H := H'
      clear H'
      refine g_iconst rfl rfl rfl (pc' := 64) ?_
      refine g_call rfl (y := 431) (n := 2) (pc' := 67) (fun _ => rfl) rfl rfl ⟨(Nat.le_of_ble_eq_true rfl), (Nat.le_of_ble_eq_true rfl), (Nat.le_of_ble_eq_true rfl)⟩ rfl (gm_G.mono H (pV_elim (fun h10 H' => ?_) (fun e46 h47 H => ?_)))
      · show gm_G _ 67 _ _ _ _
        replace H := H'
        clear H'
        refine g_aload (r := _) rfl rfl rfl (pc' := 68) ?_
        obtain ⟨a11, rfl, H⟩ := H
        obtain ⟨ht12, H⟩ := H
        refine g_getRv rfl rfl rfl rfl ht12 (pc' := 71) rfl (fun r13 hr13 => ?_)
        replace H := H r13 hr13
        refine g_aload (r := some _) rfl rfl rfl (pc' := 72) ?_
        refine g_aload (r := some _) rfl rfl rfl (pc' := 73) ?_
        obtain ⟨ht14, H⟩ := H
        refine g_getRv rfl rfl rfl rfl ht14 (pc' := 76) rfl (fun r15 hr15 => ?_)
        replace H := H r15 hr15
        refine g_iload rfl rfl rfl (pc' := 77) ?_
        obtain ⟨a16, rfl, H⟩ := H
        obtain ⟨ht18, H⟩ := H
        obtain ⟨n17, hn17, H⟩ := H
        refine g_aaloadv rfl ht18 hn17 (pc' := 78) rfl (fun r19 hr19 => ?_)
        replace H := H r19 hr19
        rcases H with ⟨ht, H⟩ | ⟨ht, H⟩
        · refine g_call rfl (y := 30) (n := 2) (pc' := 81) (g_vt ht rfl rfl) (by cases r19 <;> rfl) rfl ⟨(Nat.le_of_ble_eq_true rfl), (Nat.le_of_ble_eq_true rfl), (Nat.le_of_ble_eq_true rfl)⟩ rfl (gm_G.mono H (pI_elim (fun v21 h20 H' => ?_) (fun e31 h32 H => ?_)))
          · show gm_G _ 81 _ _ _ _
            replace H := H'
            clear H'
            refine g_aload (r := some _) rfl rfl rfl (pc' := 82) ?_
            obtain ⟨ht22, H⟩ := H
            refine g_getRv rfl rfl rfl rfl ht22 (pc' := 85) rfl (fun r23 hr23 => ?_)
            replace H := H r23 hr23
            refine g_iload rfl rfl rfl (pc' := 86) ?_
            obtain ⟨a24, rfl, H⟩ := H
            obtain ⟨ht26, H⟩ := H
            obtain ⟨n25, hn25, H⟩ := H
            refine g_aaloadv rfl ht26 hn25 (pc' := 87) rfl (fun r27 hr27 => ?_)
            replace H := H r27 hr27
            obtain ⟨a28, rfl, H⟩ := H
            obtain ⟨Ha, Hb, H⟩ := H
            obtain ⟨n29, hn29, H⟩ := H
            refine g_aastore (r := _) rfl Ha Hb hn29 (pc' := 88) rfl ?_
            replace H := H _ rfl
            exact g_weak (show gm_Lle [some _, some _, some _, some _] _ from ⟨rfl, ⟨rfl, ⟨rfl, ⟨rfl, trivial⟩⟩⟩⟩) H
          · exact ⟨H.1, g_weak (show gm_Lle [some _] _ from ⟨rfl, trivial⟩) H.2⟩
        · refine g_call rfl (y := 30) (n := 2) (pc' := 81) (g_vt ht rfl rfl) (by cases r19 <;> rfl) rfl ⟨(Nat.le_of_ble_eq_true rfl), (Nat.le_of_ble_eq_true rfl), (Nat.le_of_ble_eq_true rfl)⟩ rfl (gm_G.mono H (pI_elim (fun v34 h33 H' => ?_) (fun e44 h45 H => ?_)))
          · show gm_G _ 81 _ _ _ _
            replace H := H'
            clear H'
            refine g_aload (r := some _) rfl rfl rfl (pc' := 82) ?_
            obtain ⟨ht35, H⟩ := H
            refine g_getRv rfl rfl rfl rfl ht35 (pc' := 85) rfl (fun r36 hr36 => ?_)
            replace H := H r36 hr36
            refine g_iload rfl rfl rfl (pc' := 86) ?_
            obtain ⟨a37, rfl, H⟩ := H
            obtain ⟨ht39, H⟩ := H
            obtain ⟨n38, hn38, H⟩ := H
            refine g_aaloadv rfl ht39 hn38 (pc' := 87) rfl (fun r40 hr40 => ?_)
            replace H := H r40 hr40
            obtain ⟨a41, rfl, H⟩ := H
            obtain ⟨Ha, Hb, H⟩ := H
            obtain ⟨n42, hn42, H⟩ := H
            refine g_aastore (r := _) rfl Ha Hb hn42 (pc' := 88) rfl ?_
            replace H := H _ rfl
            exact g_weak (show gm_Lle [some _, some _, some _, some _] _ from ⟨rfl, ⟨rfl, ⟨rfl, ⟨rfl, trivial⟩⟩⟩⟩) H
          · exact ⟨H.1, g_weak (show gm_Lle [some _] _ from ⟨rfl, trivial⟩) H.2⟩
      · exact ⟨H.1, g_weak (show gm_Lle [some _] _ from ⟨rfl, trivial⟩) H.2⟩
    · exact ⟨H.1, g_weak (show gm_Lle [some _] _ from ⟨rfl, trivial⟩) H.2⟩
  · exact ⟨H.1, g_weak (show gm_Lle [some _] _ from ⟨rfl, trivial⟩) H.2⟩
set_option maxRecDepth 20000 in
theorem w_497_88 {a0 : Nat} {x1 : Int32} {x2 : Int32} {r_3 : Option Nat} {h : hh_T} {Q : Option Value ⊕ Nat → hh_T → Prop} (H : gm_sub (hh_tg h a0) 0 = true ∧ (∀ r2, r2 = hh_r h a0 0 → (∃ a3, r2 = some a3 ∧ ((hh_tg h a3 = 104 ∨ 200 ≤ hh_tg h a3) ∧ (∃ n4, gm_ix x1 n4 (hh_ln h a3) ∧ (∀ r6, r6 = hh_r h a3 n4 → (∃ a7, r6 = some a7 ∧ (gm_sub (hh_tg h a7) 21 = true ∧ (∀ h9, h9 = hh_wr h a7 5 none → (∀ r10, r10 = hh_r h9 a0 0 → (∃ a11, r10 = some a11 ∧ ((hh_tg h9 a11 = 104 ∨ 200 ≤ hh_tg h9 a11) ∧ (∃ n12, gm_ix x2 n12 (hh_ln h9 a11) ∧ (∀ r14, r14 = hh_r h9 a11 n12 → (∃ a15, r14 = some a15 ∧ (gm_sub (hh_tg h9 a15) 21 = true ∧ (∀ h17, h17 = hh_wr h9 a15 5 r_3 → (∀ r18, r18 = hh_r h17 a0 0 → (∃ a19, r18 = some a19 ∧ ((hh_tg h17 a19 = 104 ∨ 200 ≤ hh_tg h17 a19) ∧ (∃ n20, gm_ix x2 n20 (hh_ln h17 a19) ∧ (∀ r22, r22 = hh_r h17 a19 n20 → (∃ a23, r_3 = some a23 ∧ (gm_sub (hh_tg h17 a23) 3 = true ∧ (gm_G 15 0 [some (va_rf r22), some (.int (hh_i h17 a23 3))] [] h17 (pV (fun h25 => gm_sub (hh_tg h25 a23) 3 = true ∧ (hh_tg h25 a0 = 1 ∧ (gm_G 4 0 [some (.ref a0), some (.int (hh_i h25 a23 0))] [] h25 (pI (fun v29 h28 => Q (.inl (some (.int v29))) h28) (fun e30 h31 => hh_tg h31 e30 = 21 ∧ gm_G 497 130 [some (.ref a0)] [.ref e30] h31 Q))))) (fun e32 h33 => hh_tg h33 e32 = 21 ∧ gm_G 497 130 [some (.ref a0)] [.ref e32] h33 Q))))))))))))))))))))))))))) : gm_G 497 88 [some (.ref a0), some (.int x1), some (.int x2), some (va_rf r_3)] [] h Q := by
  refine g_aload (r := some _) rfl rfl rfl (pc' := 89) ?_
  obtain ⟨ht1, H⟩ := H
  refine g_getRv rfl rfl rfl rfl ht1 (pc' := 92) rfl (fun r2 hr2 => ?_)
  replace H := H r2 hr2
  refine g_iload rfl rfl rfl (pc' := 93) ?_
  obtain ⟨a3, rfl, H⟩ := H
  obtain ⟨ht5, H⟩ := H
  obtain ⟨n4, hn4, H⟩ := H
  refine g_aaloadv rfl ht5 hn4 (pc' := 94) rfl (fun r6 hr6 => ?_)
  replace H := H r6 hr6
  refine g_null rfl rfl (pc' := 95) ?_
  obtain ⟨a7, rfl, H⟩ := H
  obtain ⟨ht8, H⟩ := H
  refine g_putR rfl rfl rfl rfl ht8  (pc' := 98) rfl ?_
  replace H := H _ rfl
  refine g_aload (r := some _) rfl rfl rfl (pc' := 99) ?_
  refine g_getRv rfl rfl rfl rfl ht1 (pc' := 102) rfl (fun r10 hr10 => ?_)
  replace H := H r10 hr10
  refine g_iload rfl rfl rfl (pc' := 103) ?_
  obtain ⟨a11, rfl, H⟩ := H
  obtain ⟨ht13, H⟩ := H
  obtain ⟨n12, hn12, H⟩ := H
  refine g_aaloadv rfl ht13 hn12 (pc' := 104) rfl (fun r14 hr14 => ?_)
  replace H := H r14 hr14
  refine g_aload (r := _) rfl rfl rfl (pc' := 105) ?_
  obtain ⟨a15, rfl, H⟩ := H
  obtain ⟨ht16, H⟩ := H
  refine g_putR rfl rfl rfl rfl ht16  (pc' := 108) rfl ?_
  replace H := H _ rfl
  refine g_aload (r := some _) rfl rfl rfl (pc' := 109) ?_
  refine g_getRv rfl rfl rfl rfl ht1 (pc' := 112) rfl (fun r18 hr18 => ?_)
  replace H := H r18 hr18
  refine g_iload rfl rfl rfl (pc' := 113) ?_
  obtain ⟨a19, rfl, H⟩ := H
  obtain ⟨ht21, H⟩ := H
  obtain ⟨n20, hn20, H⟩ := H
  refine g_aaloadv rfl ht21 hn20 (pc' := 114) rfl (fun r22 hr22 => ?_)
  replace H := H r22 hr22
  refine g_aload (r := _) rfl rfl rfl (pc' := 115) ?_
  obtain ⟨a23, rfl, H⟩ := H
  obtain ⟨ht24, H⟩ := H
  refine g_getI rfl rfl rfl rfl ht24 (pc' := 118) rfl ?_
  refine g_call rfl (y := 15) (n := 2) (pc' := 121) (fun _ => rfl) (by cases r22 <;> rfl) rfl ⟨(Nat.le_of_ble_eq_true rfl), (Nat.le_of_ble_eq_true rfl), (Nat.le_of_ble_eq_true rfl)⟩ rfl (gm_G.mono H (pV_elim (fun h25 H' => ?_) (fun e32 h33 H => ?_)))
  · show gm_G _ 121 _ _ _ _
    replace H := H'
    clear H'
    refine g_aload (r := some _) rfl rfl rfl (pc' := 122) ?_
    refine g_aload (r := some _) rfl rfl rfl (pc' := 123) ?_
    obtain ⟨ht26, H⟩ := H
    refine g_getI rfl rfl rfl rfl ht26 (pc' := 126) rfl ?_
    obtain ⟨ht27, H⟩ := H
    refine g_call rfl (y := 4) (n := 2) (pc' := 129) (g_vt ht27 rfl rfl) rfl rfl ⟨(Nat.le_of_ble_eq_true rfl), (Nat.le_of_ble_eq_true rfl), (Nat.le_of_ble_eq_true rfl)⟩ rfl (gm_G.mono H (pI_elim (fun v29 h28 H' => ?_) (fun e30 h31 H => ?_)))
    · show gm_G _ 129 _ _ _ _
      replace H := H'
      clear H'
      exact g_ireturn rfl (Or.inl rfl) H
    · exact ⟨H.1, g_weak (show gm_Lle [some _] _ from ⟨rfl, trivial⟩) H.2⟩
  · exact ⟨H.1, g_weak (show gm_Lle [some _] _ from ⟨rfl, trivial⟩) H.2⟩
set_option maxRecDepth 20000 in
theorem w_497_130 {a0 : Nat} {ex : Nat} {h : hh_T} {Q : Option Value ⊕ Nat → hh_T → Prop} (H : hh_tg h a0 = 1 ∧ (gm_G 1 0 [some (.ref a0), some (.ref ex)] [] h (pI (fun v3 h2 => Q (.inl (some (.int v3))) h2) (fun e4 h5 => hh_tg h5 e4 = 21 ∧ Q (.inr e4) h5)))) : gm_G 497 130 [some (.ref a0)] [.ref ex] h Q := by
  refine g_astore (r := some _) rfl rfl rfl (pc' := 131) ?_
  refine g_aload (r := some _) rfl rfl rfl (pc' := 132) ?_
  refine g_aload (r := some _) rfl rfl rfl (pc' := 133) ?_
  obtain ⟨ht1, H⟩ := H
  refine g_call rfl (y := 1) (n := 2) (pc' := 136) (g_vt ht1 rfl rfl) rfl rfl ⟨(Nat.le_of_ble_eq_true rfl), (Nat.le_of_ble_eq_true rfl), (Nat.le_of_ble_eq_true rfl)⟩ rfl (gm_G.mono H (pI_elim (fun v3 h2 H' => ?_) (fun e4 h5 H => ?_)))
  · show gm_G _ 136 _ _ _ _
    replace H := H'
    clear H'
    exact g_ireturn rfl (Or.inl rfl) H
  · exact H
set_option maxRecDepth 20000 in
theorem w_498_0 {a0 : Nat}  {h : hh_T} {Q : Option Value ⊕ Nat → hh_T → Prop} (H : gm_sub (hh_tg h a0) 0 = true ∧ (∀ r2, r2 = hh_r h a0 58 → (∀ r3, r3 = hh_r h a0 58 → (∃ a4, r3 = some a4 ∧ (gm_sub (hh_tg h a4) 12 = true ∧ (gm_G 233 0 [some (va_rf r2), some (.int (Int32.ofNat 0)), some (.int (hh_i h a4 1))] [] h (pL (fun v7 h6 => ((lg_cmp v7 (Int64.ofNat 0)) = Int32.ofNat 0 → (gm_G 498 27 [none, some (.long v7)] [.int (Int32.ofNat 0)] h6 Q)) ∧ (¬ (lg_cmp v7 (Int64.ofNat 0)) = Int32.ofNat 0 → (gm_G 498 27 [none, some (.long v7)] [.int (Int32.ofNat 1)] h6 Q))) (fun e8 h9 => hh_tg h9 e8 = 21 ∧ Q (.inr e8) h9)))))))) : gm_G 498 0 [some (.ref a0)] [] h Q := by
  refine g_aload (r := some _) rfl rfl rfl (pc' := 1) ?_
  obtain ⟨ht1, H⟩ := H
  refine g_getRv rfl rfl rfl rfl ht1 (pc' := 4) rfl (fun r2 hr2 => ?_)
  replace H := H r2 hr2
  refine g_iconst rfl rfl rfl (pc' := 5) ?_
  refine g_aload (r := some _) rfl rfl rfl (pc' := 6) ?_
  refine g_getRv rfl rfl rfl rfl ht1 (pc' := 9) rfl (fun r3 hr3 => ?_)
  replace H := H r3 hr3
  obtain ⟨a4, rfl, H⟩ := H
  obtain ⟨ht5, H⟩ := H
  refine g_getI rfl rfl rfl rfl ht5 (pc' := 12) rfl ?_
  refine g_call rfl (y := 233) (n := 3) (pc' := 15) (fun _ => rfl) (by cases r2 <;> rfl) rfl ⟨(Nat.le_of_ble_eq_true rfl), (Nat.le_of_ble_eq_true rfl), (Nat.le_of_ble_eq_true rfl)⟩ rfl (gm_G.mono H (pL_elim (fun v7 h6 H' => ?_) (fun e8 h9 H => ?_)))
  · show gm_G _ 15 _ _ _ _
    replace H := H'
    clear H'
    refine g_lstore rfl rfl rfl (pc' := 16) ?_
    refine g_lload rfl rfl rfl (pc' := 17) ?_
    refine g_lconst rfl rfl rfl (pc' := 18) ?_
    refine g_lcmp rfl rfl (pc' := 19) ?_
    refine g_if_eq rfl (pc' := 22) (pt := 26) rfl rfl ⟨fun hc => ?_, fun hc => ?_⟩
    · replace H := H.1 hc
      refine g_iconst rfl rfl rfl (pc' := 27) ?_
      exact g_weak (show gm_Lle [none, some _] _ from ⟨rfl, trivial⟩) H
    · replace H := H.2 hc
      refine g_iconst rfl rfl rfl (pc' := 23) ?_
      refine g_goto rfl (pc' := 27) rfl ?_
      exact g_weak (show gm_Lle [none, some _] _ from ⟨rfl, trivial⟩) H
  · exact H
set_option maxRecDepth 20000 in
theorem w_498_27 {a0 : Nat} {j1 : Int64} {y0 : Int32} {h : hh_T} {Q : Option Value ⊕ Nat → hh_T → Prop} (H : gm_G 457 0 [some (.int y0)] [] h (pV (fun h1 => Q (.inl (some (.long j1))) h1) (fun e2 h3 => hh_tg h3 e2 = 21 ∧ Q (.inr e2) h3))) : gm_G 498 27 [none, some (.long j1)] [.int y0] h Q := by
  refine g_call rfl (y := 457) (n := 1) (pc' := 30) (fun _ => rfl) rfl rfl ⟨(Nat.le_of_ble_eq_true rfl), (Nat.le_of_ble_eq_true rfl), (Nat.le_of_ble_eq_true rfl)⟩ rfl (gm_G.mono H (pV_elim (fun h1 H' => ?_) (fun e2 h3 H => ?_)))
  · show gm_G _ 30 _ _ _ _
    replace H := H'
    clear H'
    refine g_lload rfl rfl rfl (pc' := 31) ?_
    exact g_lreturn rfl H
  · exact H
set_option maxRecDepth 20000 in
theorem w_499_0 {a0 : Nat} {x1 : Int32} {h : hh_T} {Q : Option Value ⊕ Nat → hh_T → Prop} (H : gm_G 5 0 [some (.int x1), some (.int (Int32.ofNat 0)), some (.int (Int32.ofNat 3))] [] h (pI (fun v2 h1 => gm_G 452 0 [some (.int v2)] [] h1 (pV (fun h3 => gm_sub (hh_tg h3 a0) 0 = true ∧ (∀ r5, r5 = hh_r h3 a0 52 → (∃ a6, r5 = some a6 ∧ (gm_sub (hh_tg h3 a6) 15 = true ∧ (∀ r8, r8 = hh_r h3 a6 0 → (∃ a9, r8 = some a9 ∧ ((hh_tg h3 a9 = 104 ∨ 200 ≤ hh_tg h3 a9) ∧ (∃ n10, gm_ix x1 n10 (hh_ln h3 a9) ∧ (∀ r12, r12 = hh_r h3 a9 n10 → ((r12 = none → (gm_G 499 26 [some (.ref a0), some (.int x1)] [.int (Int32.ofNat 0)] h3 Q)) ∧ (∀ a13, r12 = some a13 → (gm_G 499 26 [some (.ref a0), some (.int x1)] [.int (Int32.ofNat 1)] h3 Q)))))))))))) (fun e14 h15 => hh_tg h15 e14 = 21 ∧ Q (.inr e14) h15))) (fun e16 h17 => hh_tg h17 e16 = 21 ∧ Q (.inr e16) h17))) : gm_G 499 0 [some (.ref a0), some (.int x1)] [] h Q := by
  refine g_iload rfl rfl rfl (pc' := 1) ?_
  refine g_iconst rfl rfl rfl (pc' := 2) ?_
  refine g_iconst rfl rfl rfl (pc' := 3) ?_
  refine g_call rfl (y := 5) (n := 3) (pc' := 6) (fun _ => rfl) rfl rfl ⟨(Nat.le_of_ble_eq_true rfl), (Nat.le_of_ble_eq_true rfl), (Nat.le_of_ble_eq_true rfl)⟩ rfl (gm_G.mono H (pI_elim (fun v2 h1 H' => ?_) (fun e16 h17 H => ?_)))
  · show gm_G _ 6 _ _ _ _
    replace H := H'
    clear H'
    refine g_call rfl (y := 452) (n := 1) (pc' := 9) (fun _ => rfl) rfl rfl ⟨(Nat.le_of_ble_eq_true rfl), (Nat.le_of_ble_eq_true rfl), (Nat.le_of_ble_eq_true rfl)⟩ rfl (gm_G.mono H (pV_elim (fun h3 H' => ?_) (fun e14 h15 H => ?_)))
    · show gm_G _ 9 _ _ _ _
      replace H := H'
      clear H'
      refine g_aload (r := some _) rfl rfl rfl (pc' := 10) ?_
      obtain ⟨ht4, H⟩ := H
      refine g_getRv rfl rfl rfl rfl ht4 (pc' := 13) rfl (fun r5 hr5 => ?_)
      replace H := H r5 hr5
      obtain ⟨a6, rfl, H⟩ := H
      obtain ⟨ht7, H⟩ := H
      refine g_getRv rfl rfl rfl rfl ht7 (pc' := 16) rfl (fun r8 hr8 => ?_)
      replace H := H r8 hr8
      refine g_iload rfl rfl rfl (pc' := 17) ?_
      obtain ⟨a9, rfl, H⟩ := H
      obtain ⟨ht11, H⟩ := H
      obtain ⟨n10, hn10, H⟩ := H
      refine g_aaloadv rfl ht11 hn10 (pc' := 18) rfl (fun r12 hr12 => ?_)
      replace H := H r12 hr12
      refine g_ifnull rfl (pc' := 21) (pt := 25) rfl rfl ⟨fun hc => ?_, fun a13 hc => ?_⟩
      · replace H := H.1 hc
        subst hc
        refine g_iconst rfl rfl rfl (pc' := 26) ?_
        exact g_weak (show gm_Lle [some _, some _] _ from ⟨rfl, ⟨rfl, trivial⟩⟩) H
      · replace H := H.2 a13 hc
        subst hc
        refine g_iconst rfl rfl rfl (pc' := 22) ?_
        refine g_goto rfl (pc' := 26) rfl ?_
        exact g_weak (show gm_Lle [some _, some _] _ from ⟨rfl, ⟨rfl, trivial⟩⟩) H
    · exact H
  · exact H
set_option maxRecDepth 20000 in
theorem w_499_26 {a0 : Nat} {x1 : Int32} {y0 : Int32} {h : hh_T} {Q : Option Value ⊕ Nat → hh_T → Prop} (H : gm_G 431 0 [some (.int y0), some (.int (Int32.ofInt (-2)))] [] h (pV (fun h1 => gm_sub (hh_tg h1 a0) 0 = true ∧ (∀ r3, r3 = hh_r h1 a0 52 → (∃ a4, r3 = some a4 ∧ (gm_sub (hh_tg h1 a4) 15 = true ∧ (∀ r6, r6 = hh_r h1 a4 0 → (∃ a7, r6 = some a7 ∧ ((hh_tg h1 a7 = 104 ∨ 200 ≤ hh_tg h1 a7) ∧ (∃ n8, gm_ix x1 n8 (hh_ln h1 a7) ∧ (∀ r10, r10 = hh_r h1 a7 n8 → (Q (.inl (some (va_rf r10))) h1)))))))))) (fun e11 h12 => hh_tg h12 e11 = 21 ∧ Q (.inr e11) h12))) : gm_G 499 26 [some (.ref a0), some (.int x1)] [.int y0] h Q := by
  refine g_iconst rfl rfl rfl (pc' := 28) ?_
  refine g_call rfl (y := 431) (n := 2) (pc' := 31) (fun _ => rfl) rfl rfl ⟨(Nat.le_of_ble_eq_true rfl), (Nat.le_of_ble_eq_true rfl), (Nat.le_of_ble_eq_true rfl)⟩ rfl (gm_G.mono H (pV_elim (fun h1 H' => ?_) (fun e11 h12 H => ?_)))
  · show gm_G _ 31 _ _ _ _
    replace H := H'
    clear H'
    refine g_aload (r := some _) rfl rfl rfl (pc' := 32) ?_
    obtain ⟨ht2, H⟩ := H
    refine g_getRv rfl rfl rfl rfl ht2 (pc' := 35) rfl (fun r3 hr3 => ?_)
    replace H := H r3 hr3
    obtain ⟨a4, rfl, H⟩ := H
    obtain ⟨ht5, H⟩ := H
    refine g_getRv rfl rfl rfl rfl ht5 (pc' := 38) rfl (fun r6 hr6 => ?_)
    replace H := H r6 hr6
    refine g_iload rfl rfl rfl (pc' := 39) ?_
    obtain ⟨a7, rfl, H⟩ := H
    obtain ⟨ht9, H⟩ := H
    obtain ⟨n8, hn8, H⟩ := H
    refine g_aaloadv rfl ht9 hn8 (pc' := 40) rfl (fun r10 hr10 => ?_)
    replace H := H r10 hr10
    exact g_areturn (r := _) rfl H
  · exact H
set_option maxRecDepth 20000 in
theorem w_500_0 {a0 : Nat} {r_1 : Option Nat} {x2 : Int32} {h : hh_T} {Q : Option Value ⊕ Nat → hh_T → Prop} (H : gm_sub (hh_tg h a0) 0 = true ∧ (∀ r2, r2 = hh_r h a0 45 → (∃ a3, r2 = some a3 ∧ (gm_sub (hh_tg h a3) 12 = true ∧ (∀ h5, h5 = hh_wi h a3 1 (Int32.ofNat 0) → (gm_G 500 10 [some (.ref a0), some (va_rf r_1), none, some (.int x2)] [] h5 Q)))))) : gm_G 500 0 [some (.ref a0), some (va_rf r_1), some (.int x2)] [] h Q := by
  refine g_aload (r := some _) rfl rfl rfl (pc' := 1) ?_
  obtain ⟨ht1, H⟩ := H
  refine g_getRv rfl rfl rfl rfl ht1 (pc' := 4) rfl (fun r2 hr2 => ?_)
  replace H := H r2 hr2
  refine g_iconst rfl rfl rfl (pc' := 5) ?_
  obtain ⟨a3, rfl, H⟩ := H
  obtain ⟨ht4, H⟩ := H
  refine g_putI rfl rfl rfl rfl ht4  (pc' := 8) rfl ?_
  replace H := H _ rfl
  refine g_iload rfl rfl rfl (pc' := 9) ?_
  refine g_istore rfl rfl rfl (pc' := 10) ?_
  exact g_weak (show gm_Lle [some _, some _, none, some _] _ from ⟨rfl, ⟨rfl, ⟨rfl, trivial⟩⟩⟩) H
set_option maxRecDepth 20000 in
theorem w_500_10 {a0 : Nat} {r_1 : Option Nat} {x3 : Int32} {h : hh_T} {Q : Option Value ⊕ Nat → hh_T → Prop} (H : gm_sub (hh_tg h a0) 0 = true ∧ (∀ r2, r2 = hh_r h a0 44 → (∃ a3, r2 = some a3 ∧ (gm_sub (hh_tg h a3) 12 = true ∧ ((¬ x3 < (hh_i h a3 1) → (∀ r5, r5 = hh_r h a0 44 → (∃ a6, r5 = some a6 ∧ (gm_sub (hh_tg h a6) 12 = true ∧ (∀ h8, h8 = hh_wi h a6 1 (Int32.ofNat 0) → (gm_G 500 53 [some (.ref a0), some (va_rf r_1), none, some (.int (Int32.ofNat 0))] [] h8 Q)))))) ∧ (x3 < (hh_i h a3 1) → (∀ r9, r9 = hh_r h a0 45 → (∀ r10, r10 = hh_r h a0 44 → (∃ a11, r10 = some a11 ∧ (gm_sub (hh_tg h a11) 12 = true ∧ (∀ r13, r13 = hh_r h a11 0 → (∃ a14, r13 = some a14 ∧ ((hh_tg h a14 = 101 ∨ hh_tg h a14 = 102) ∧ (∃ n15, gm_ix x3 n15 (hh_ln h a14) ∧ (∃ a17, r9 = some a17 ∧ (hh_tg h a17 = 13 ∧ (gm_G 459 0 [some (.ref a17), some (.int (hh_i h a14 n15))] [] h (pV (fun h19 => gm_G 500 10 [some (.ref a0), some (va_rf r_1), none, some (.int (x3 + (Int32.ofNat 1)))] [] h19 Q) (fun e20 h21 => hh_tg h21 e20 = 21 ∧ Q (.inr e20) h21))))))))))))))))))) : gm_G 500 10 [some (.ref a0), some (va_rf r_1), none, some (.int x3)] [] h Q := by
  refine g_iload rfl rfl rfl (pc' := 11) ?_
  refine g_aload (r := some _) rfl rfl rfl (pc' := 12) ?_
  obtain ⟨ht1, H⟩ := H
  refine g_getRv rfl rfl rfl rfl ht1 (pc' := 15) rfl (fun r2 hr2 => ?_)
  replace H := H r2 hr2
  obtain ⟨a3, rfl, H⟩ := H
  obtain ⟨ht4, H⟩ := H
  refine g_getI rfl rfl rfl rfl ht4 (pc' := 18) rfl ?_
  refine g_ic_ge rfl (pc' := 21) (pt := 43) rfl rfl ⟨fun hc => ?_, fun hc => ?_⟩
  · replace H := H.1 hc
    refine g_aload (r := some _) rfl rfl rfl (pc' := 44) ?_
    refine g_getRv rfl rfl rfl rfl ht1 (pc' := 47) rfl (fun r5 hr5 => ?_)
    replace H := H r5 hr5
    refine g_iconst rfl rfl rfl (pc' := 48) ?_
    obtain ⟨a6, rfl, H⟩ := H
    obtain ⟨ht7, H⟩ := H
    refine g_putI rfl rfl rfl rfl ht7  (pc' := 51) rfl ?_
    replace H := H _ rfl
    refine g_iconst rfl rfl rfl (pc' := 52) ?_
    refine g_istore rfl rfl rfl (pc' := 53) ?_
    exact g_weak (show gm_Lle [some _, some _, none, some _] _ from ⟨rfl, ⟨rfl, ⟨rfl, trivial⟩⟩⟩) H
  · replace H := H.2 hc
    refine g_aload (r := some _) rfl rfl rfl (pc' := 22) ?_
    refine g_getRv rfl rfl rfl rfl ht1 (pc' := 25) rfl (fun r9 hr9 => ?_)
    replace H := H r9 hr9
    refine g_aload (r := some _) rfl rfl rfl (pc' := 26) ?_
    refine g_getRv rfl rfl rfl rfl ht1 (pc' := 29) rfl (fun r10 hr10 => ?_)
    replace H := H r10 hr10
    obtain ⟨a11, rfl, H⟩ := H
    obtain ⟨ht12, H⟩ := H
    refine g_getRv rfl rfl rfl rfl ht12 (pc' := 32) rfl (fun r13 hr13 => ?_)
    replace H := H r13 hr13
    refine g_iload rfl rfl rfl (pc' := 33) ?_
    obtain ⟨a14, rfl, H⟩ := H
    obtain ⟨ht16, H⟩ := H
    obtain ⟨n15, hn15, H⟩ := H
    refine g_baload rfl ht16 hn15 (pc' := 34) rfl ?_
    obtain ⟨a17, rfl, H⟩ := H
    obtain ⟨ht18, H⟩ := H
    refine g_call rfl (y := 459) (n := 2) (pc' := 37) (g_vt ht18 rfl rfl) rfl rfl ⟨(Nat.le_of_ble_eq_true rfl), (Nat.le_of_ble_eq_true rfl), (Nat.le_of_ble_eq_true rfl)⟩ rfl (gm_G.mono H (pV_elim (fun h19 H' => ?_) (fun e20 h21 H => ?_)))
    · show gm_G _ 37 _ _ _ _
      replace H := H'
      clear H'
      refine g_iinc (c := (Int32.ofNat 1)) rfl rfl rfl rfl rfl (pc' := 40) ?_
      refine g_goto rfl (pc' := 10) rfl ?_
      exact g_weak (show gm_Lle [some _, some _, none, some _] _ from ⟨rfl, ⟨rfl, ⟨rfl, trivial⟩⟩⟩) H
    · exact H
set_option maxRecDepth 20000 in
theorem w_500_53 {a0 : Nat} {r_1 : Option Nat} {x3 : Int32} {h : hh_T} {Q : Option Value ⊕ Nat → hh_T → Prop} (H : ∃ a1, r_1 = some a1 ∧ (gm_sub (hh_tg h a1) 25 = true ∧ ((¬ x3 < (hh_i h a1 6) → ((¬ (hh_i h a1 6) = Int32.ofNat 0 → (gm_G 500 92 [some (.ref a0)] [.int (Int32.ofNat 0)] h Q)) ∧ ((hh_i h a1 6) = Int32.ofNat 0 → (gm_G 500 92 [some (.ref a0)] [.int (Int32.ofNat 1)] h Q)))) ∧ (x3 < (hh_i h a1 6) → (gm_sub (hh_tg h a0) 0 = true ∧ (∀ r4, r4 = hh_r h a0 44 → (gm_sub (hh_tg h a1) 28 = true ∧ (∀ r6, r6 = hh_r h a1 12 → (∃ a7, r6 = some a7 ∧ ((hh_tg h a7 = 101 ∨ hh_tg h a7 = 102) ∧ (∃ n8, gm_ix x3 n8 (hh_ln h a7) ∧ (∃ a10, r4 = some a10 ∧ (hh_tg h a10 = 13 ∧ (gm_G 459 0 [some (.ref a10), some (.int (hh_i h a7 n8))] [] h (pV (fun h12 => gm_G 500 53 [some (.ref a0), some (.ref a1), none, some (.int (x3 + (Int32.ofNat 1)))] [] h12 Q) (fun e13 h14 => hh_tg h14 e13 = 21 ∧ Q (.inr e13) h14)))))))))))))))) : gm_G 500 53 [some (.ref a0), some (va_rf r_1), none, some (.int x3)] [] h Q := by
  refine g_iload rfl rfl rfl (pc' := 54) ?_
  refine g_aload (r := _) rfl rfl rfl (pc' := 55) ?_
  obtain ⟨a1, rfl, H⟩ := H
  obtain ⟨ht2, H⟩ := H
  refine g_getI rfl rfl rfl rfl ht2 (pc' := 58) rfl ?_
  refine g_ic_ge rfl (pc' := 61) (pt := 80) rfl rfl ⟨fun hc => ?_, fun hc => ?_⟩
  · replace H := H.1 hc
    refine g_aload (r := some _) rfl rfl rfl (pc' := 81) ?_
    refine g_getI rfl rfl rfl rfl ht2 (pc' := 84) rfl ?_
    refine g_if_ne rfl (pc' := 87) (pt := 91) rfl rfl ⟨fun hc => ?_, fun hc => ?_⟩
    · replace H := H.1 hc
      refine g_iconst rfl rfl rfl (pc' := 92) ?_
      exact g_weak (show gm_Lle [some _] _ from ⟨rfl, trivial⟩) H
    · replace H := H.2 hc
      refine g_iconst rfl rfl rfl (pc' := 88) ?_
      refine g_goto rfl (pc' := 92) rfl ?_
      exact g_weak (show gm_Lle [some _] _ from ⟨rfl, trivial⟩) H
  · replace H := H.2 hc
    refine g_aload (r := some _) rfl rfl rfl (pc' := 62) ?_
    obtain ⟨ht3, H⟩ := H
    refine g_getRv rfl rfl rfl rfl ht3 (pc' := 65) rfl (fun r4 hr4 => ?_)
    replace H := H r4 hr4
    refine g_aload (r := some _) rfl rfl rfl (pc' := 66) ?_
    obtain ⟨ht5, H⟩ := H
    refine g_getRv rfl rfl rfl rfl ht5 (pc' := 69) rfl (fun r6 hr6 => ?_)
    replace H := H r6 hr6
    refine g_iload rfl rfl rfl (pc' := 70) ?_
    obtain ⟨a7, rfl, H⟩ := H
    obtain ⟨ht9, H⟩ := H
    obtain ⟨n8, hn8, H⟩ := H
    refine g_baload rfl ht9 hn8 (pc' := 71) rfl ?_
    obtain ⟨a10, rfl, H⟩ := H
    obtain ⟨ht11, H⟩ := H
    refine g_call rfl (y := 459) (n := 2) (pc' := 74) (g_vt ht11 rfl rfl) rfl rfl ⟨(Nat.le_of_ble_eq_true rfl), (Nat.le_of_ble_eq_true rfl), (Nat.le_of_ble_eq_true rfl)⟩ rfl (gm_G.mono H (pV_elim (fun h12 H' => ?_) (fun e13 h14 H => ?_)))
    · show gm_G _ 74 _ _ _ _
      replace H := H'
      clear H'
      refine g_iinc (c := (Int32.ofNat 1)) rfl rfl rfl rfl rfl (pc' := 77) ?_
      refine g_goto rfl (pc' := 53) rfl ?_
      exact g_weak (show gm_Lle [some _, some _, none, some _] _ from ⟨rfl, ⟨rfl, ⟨rfl, trivial⟩⟩⟩) H
    · exact H
set_option maxRecDepth 20000 in
theorem w_500_92 {a0 : Nat} {y0 : Int32} {h : hh_T} {Q : Option Value ⊕ Nat → hh_T → Prop} (H : gm_G 500 93 [some (.ref a0), none, none, some (.int y0)] [] h Q) : gm_G 500 92 [some (.ref a0)] [.int y0] h Q := by
  refine g_istore rfl rfl rfl (pc' := 93) ?_
  exact g_weak (show gm_Lle [some _, none, none, some _] _ from ⟨rfl, ⟨rfl, trivial⟩⟩) H
set_option maxRecDepth 20000 in
theorem w_500_93 {a0 : Nat} {x3 : Int32} {h : hh_T} {Q : Option Value ⊕ Nat → hh_T → Prop} (H : gm_sub (hh_tg h a0) 0 = true ∧ (∀ r2, r2 = hh_r h a0 45 → (∃ a3, r2 = some a3 ∧ (gm_sub (hh_tg h a3) 12 = true ∧ ((¬ x3 < (hh_i h a3 1) → (Q (.inl none) h)) ∧ (x3 < (hh_i h a3 1) → (∀ r5, r5 = hh_r h a0 44 → (∀ r6, r6 = hh_r h a0 45 → (∃ a7, r6 = some a7 ∧ (gm_sub (hh_tg h a7) 12 = true ∧ (∀ r9, r9 = hh_r h a7 0 → (∃ a10, r9 = some a10 ∧ ((hh_tg h a10 = 101 ∨ hh_tg h a10 = 102) ∧ (∃ n11, gm_ix x3 n11 (hh_ln h a10) ∧ (∃ a13, r5 = some a13 ∧ (hh_tg h a13 = 13 ∧ (gm_G 459 0 [some (.ref a13), some (.int (hh_i h a10 n11))] [] h (pV (fun h15 => gm_G 500 93 [some (.ref a0), none, none, some (.int (x3 + (Int32.ofNat 1)))] [] h15 Q) (fun e16 h17 => hh_tg h17 e16 = 21 ∧ Q (.inr e16) h17))))))))))))))))))) : gm_G 500 93 [some (.ref a0), none, none, some (.int x3)] [] h Q := by
  refine g_iload rfl rfl rfl (pc' := 94) ?_
  refine g_aload (r := some _) rfl rfl rfl (pc' := 95) ?_
  obtain ⟨ht1, H⟩ := H
  refine g_getRv rfl rfl rfl rfl ht1 (pc' := 98) rfl (fun r2 hr2 => ?_)
  replace H := H r2 hr2
  obtain ⟨a3, rfl, H⟩ := H
  obtain ⟨ht4, H⟩ := H
  refine g_getI rfl rfl rfl rfl ht4 (pc' := 101) rfl ?_
  refine g_ic_ge rfl (pc' := 104) (pt := 126) rfl rfl ⟨fun hc => ?_, fun hc => ?_⟩
  · replace H := H.1 hc
    exact g_return rfl H
  · replace H := H.2 hc
    refine g_aload (r := some _) rfl rfl rfl (pc' := 105) ?_
    refine g_getRv rfl rfl rfl rfl ht1 (pc' := 108) rfl (fun r5 hr5 => ?_)
    replace H := H r5 hr5
    refine g_aload (r := some _) rfl rfl rfl (pc' := 109) ?_
    refine g_getRv rfl rfl rfl rfl ht1 (pc' := 112) rfl (fun r6 hr6 => ?_)
    replace H := H r6 hr6
    obtain ⟨a7, rfl, H⟩ := H
    obtain ⟨ht8, H⟩ := H
    refine g_getRv rfl rfl rfl rfl ht8 (pc' := 115) rfl (fun r9 hr9 => ?_)
    replace H := H r9 hr9
    refine g_iload rfl rfl rfl (pc' := 116) ?_
    obtain ⟨a10, rfl, H⟩ := H
    obtain ⟨ht12, H⟩ := H
    obtain ⟨n11, hn11, H⟩ := H
    refine g_baload rfl ht12 hn11 (pc' := 117) rfl ?_
    obtain ⟨a13, rfl, H⟩ := H
    obtain ⟨ht14, H⟩ := H
    refine g_call rfl (y := 459) (n := 2) (pc' := 120) (g_vt ht14 rfl rfl) rfl rfl ⟨(Nat.le_of_ble_eq_true rfl), (Nat.le_of_ble_eq_true rfl), (Nat.le_of_ble_eq_true rfl)⟩ rfl (gm_G.mono H (pV_elim (fun h15 H' => ?_) (fun e16 h17 H => ?_)))
    · show gm_G _ 120 _ _ _ _
      replace H := H'
      clear H'
      refine g_iinc (c := (Int32.ofNat 1)) rfl rfl rfl rfl rfl (pc' := 123) ?_
      refine g_goto rfl (pc' := 93) rfl ?_
      exact g_weak (show gm_Lle [some _, none, none, some _] _ from ⟨rfl, ⟨rfl, trivial⟩⟩) H
    · exact H
set_option maxRecDepth 20000 in
theorem w_501_0 {a0 : Nat} {x1 : Int32} {h : hh_T} {Q : Option Value ⊕ Nat → hh_T → Prop} (H : hh_tg h a0 = 1 ∧ (gm_G 456 0 [some (.ref a0)] [] h (pV (fun h2 => hh_tg h2 a0 = 1 ∧ (gm_G 455 0 [some (.ref a0), some (.int x1)] [] h2 (pR (fun r5 h4 => gm_sub (hh_tg h4 a0) 0 = true ∧ (∀ r7, r7 = hh_r h4 a0 64 → (gm_G 501 21 [some (.ref a0), some (.int x1), some (va_rf r5), some (va_rf r7), some (.int (Int32.ofNat 0)), some (.int (Int32.ofNat 0))] [] h4 Q))) (fun e8 h9 => hh_tg h9 e8 = 21 ∧ gm_G 501 172 [some (.ref a0)] [.ref e8] h9 Q)))) (fun e10 h11 => hh_tg h11 e10 = 21 ∧ gm_G 501 172 [some (.ref a0)] [.ref e10] h11 Q)))) : gm_G 501 0 [some (.ref a0), some (.int x1)] [] h Q := by
  refine g_aload (r := some _) rfl rfl rfl (pc' := 1) ?_
  obtain ⟨ht1, H⟩ := H
  refine g_call rfl (y := 456) (n := 1) (pc' := 4) (g_vt ht1 rfl rfl) rfl rfl ⟨(Nat.le_of_ble_eq_true rfl), (Nat.le_of_ble_eq_true rfl), (Nat.le_of_ble_eq_true rfl)⟩ rfl (gm_G.mono H (pV_elim (fun h2 H' => ?_) (fun e10 h11 H => ?_)))
  · show gm_G _ 4 _ _ _ _
    replace H := H'
    clear H'
    refine g_aload (r := some _) rfl rfl rfl (pc' := 5) ?_
    refine g_iload rfl rfl rfl (pc' := 6) ?_
    obtain ⟨ht3, H⟩ := H
    refine g_call rfl (y := 455) (n := 2) (pc' := 9) (g_vt ht3 rfl rfl) rfl rfl ⟨(Nat.le_of_ble_eq_true rfl), (Nat.le_of_ble_eq_true rfl), (Nat.le_of_ble_eq_true rfl)⟩ rfl (gm_G.mono H (pR_elim (fun r5 h4 H' => ?_) (fun e8 h9 H => ?_)))
    · show gm_G _ 9 _ _ _ _
      replace H := H'
      clear H'
      refine g_astore (r := _) rfl rfl rfl (pc' := 10) ?_
      refine g_aload (r := some _) rfl rfl rfl (pc' := 11) ?_
      obtain ⟨ht6, H⟩ := H
      refine g_getRv rfl rfl rfl rfl ht6 (pc' := 14) rfl (fun r7 hr7 => ?_)
      replace H := H r7 hr7
      refine g_astore (r := _) rfl gm_sto_rf2 rfl (pc' := 15) ?_
      refine g_iconst rfl rfl rfl (pc' := 16) ?_
      refine g_istore rfl gm_sto_rf3 rfl (pc' := 18) ?_
      refine g_iconst rfl rfl rfl (pc' := 19) ?_
      refine g_istore rfl rfl rfl (pc' := 21) ?_
      exact g_weak (show gm_Lle [some _, some _, some _, some _, some _, some _] _ from ⟨rfl, ⟨rfl, ⟨rfl, ⟨rfl, ⟨rfl, ⟨rfl, trivial⟩⟩⟩⟩⟩⟩) H
    · exact ⟨H.1, g_weak (show gm_Lle [some _] _ from ⟨rfl, trivial⟩) H.2⟩
  · exact ⟨H.1, g_weak (show gm_Lle [some _] _ from ⟨rfl, trivial⟩) H.2⟩
set_option maxRecDepth 20000 in
theorem w_501_21 {a0 : Nat} {x1 : Int32} {r_2 : Option Nat} {r_3 : Option Nat} {x4 : Int32} {x5 : Int32} {h : hh_T} {Q : Option Value ⊕ Nat → hh_T → Prop} (H : (¬ x5 < (Int32.ofNat 16) → (gm_G 501 127 [some (.ref a0), some (.int x1), none, some (va_rf r_3), some (.int x4), some (.int (Int32.ofNat 0)), some (.int (Int32.ofNat 0))] [] h Q)) ∧ (x5 < (Int32.ofNat 16) → (∃ a1, r_2 = some a1 ∧ (gm_sub (hh_tg h a1) 24 = true ∧ (∀ r3, r3 = hh_r h a1 2 → (∃ a4, r3 = some a4 ∧ ((hh_tg h a4 = 104 ∨ 200 ≤ hh_tg h a4) ∧ (∃ n5, gm_ix x5 n5 (hh_ln h a4) ∧ (∀ r7, r7 = hh_r h a4 n5 → ((∀ a8, r7 = some a8 → (∀ r9, r9 = hh_r h a1 2 → (∃ a10, r9 = some a10 ∧ ((hh_tg h a10 = 104 ∨ 200 ≤ hh_tg h a10) ∧ (∃ n11, gm_ix x5 n11 (hh_ln h a10) ∧ (∀ r13, r13 = hh_r h a10 n11 → (∃ a14, r13 = some a14 ∧ ((hh_tg h a14 = 27 ∧ (gm_G 194 0 [some (.ref a14)] [] h (pR (fun r16 h15 => gm_G 501 52 [some (.ref a0), some (.int x1), some (.ref a1), some (va_rf r_3), some (.int x4), some (.int x5)] [va_rf r16] h15 Q) (fun e17 h18 => hh_tg h18 e17 = 21 ∧ gm_G 501 172 [some (.ref a0)] [.ref e17] h18 Q)))) ∨ (hh_tg h a14 = 28 ∧ (gm_G 191 0 [some (.ref a14)] [] h (pR (fun r20 h19 => gm_G 501 52 [some (.ref a0), some (.int x1), some (.ref a1), some (va_rf r_3), some (.int x4), some (.int x5)] [va_rf r20] h19 Q) (fun e21 h22 => hh_tg h22 e21 = 21 ∧ gm_G 501 172 [some (.ref a0)] [.ref e21] h22 Q)))) ∨ (hh_tg h a14 = 29 ∧ (gm_G 191 0 [some (.ref a14)] [] h (pR (fun r24 h23 => gm_G 501 52 [some (.ref a0), some (.int x1), some (.ref a1), some (va_rf r_3), some (.int x4), some (.int x5)] [va_rf r24] h23 Q) (fun e25 h26 => hh_tg h26 e25 = 21 ∧ gm_G 501 172 [some (.ref a0)] [.ref e25] h26 Q)))))))))))) ∧ (r7 = none → (gm_G 501 52 [some (.ref a0), some (.int x1), some (.ref a1), some (va_rf r_3), some (.int x4), some (.int x5)] [va_rf none] h Q)))))))))))) : gm_G 501 21 [some (.ref a0), some (.int x1), some (va_rf r_2), some (va_rf r_3), some (.int x4), some (.int x5)] [] h Q := by
  refine g_iload rfl rfl rfl (pc' := 23) ?_
  refine g_iconst rfl rfl rfl (pc' := 25) ?_
  refine g_ic_ge rfl (pc' := 28) (pt := 121) rfl rfl ⟨fun hc => ?_, fun hc => ?_⟩
  · replace H := H.1 hc
    refine g_iconst rfl rfl rfl (pc' := 122) ?_
    refine g_istore rfl rfl rfl (pc' := 124) ?_
    refine g_iconst rfl rfl rfl (pc' := 125) ?_
    refine g_istore rfl rfl rfl (pc' := 127) ?_
    exact g_weak (show gm_Lle [some _, some _, none, some _, some _, some _, some _] _ from ⟨rfl, ⟨rfl, ⟨rfl, ⟨rfl, ⟨rfl, ⟨rfl, trivial⟩⟩⟩⟩⟩⟩) H
  · replace H := H.2 hc
    refine g_aload (r := _) rfl rfl rfl (pc' := 29) ?_
    obtain ⟨a1, rfl, H⟩ := H
    obtain ⟨ht2, H⟩ := H
    refine g_getRv rfl rfl rfl rfl ht2 (pc' := 32) rfl (fun r3 hr3 => ?_)
    replace H := H r3 hr3
    refine g_iload rfl rfl rfl (pc' := 34) ?_
    obtain ⟨a4, rfl, H⟩ := H
    obtain ⟨ht6, H⟩ := H
    obtain ⟨n5, hn5, H⟩ := H
    refine g_aaloadv rfl ht6 hn5 (pc' := 35) rfl (fun r7 hr7 => ?_)
    replace H := H r7 hr7
    refine g_ifnonnull rfl (pc' := 38) (pt := 42) rfl rfl ⟨fun a8 hc => ?_, fun hc => ?_⟩
    · replace H := H.1 a8 hc
      subst hc
      refine g_aload (r := some _) rfl rfl rfl (pc' := 43) ?_
      refine g_getRv rfl rfl rfl rfl ht2 (pc' := 46) rfl (fun r9 hr9 => ?_)
      replace H := H r9 hr9
      refine g_iload rfl rfl rfl (pc' := 48) ?_
      obtain ⟨a10, rfl, H⟩ := H
      obtain ⟨ht12, H⟩ := H
      obtain ⟨n11, hn11, H⟩ := H
      refine g_aaloadv rfl ht12 hn11 (pc' := 49) rfl (fun r13 hr13 => ?_)
      replace H := H r13 hr13
      obtain ⟨a14, rfl, H⟩ := H
      rcases H with ⟨ht, H⟩ | ⟨ht, H⟩ | ⟨ht, H⟩
      · refine g_call rfl (y := 194) (n := 1) (pc' := 52) (g_vt ht rfl rfl) rfl rfl ⟨(Nat.le_of_ble_eq_true rfl), (Nat.le_of_ble_eq_true rfl), (Nat.le_of_ble_eq_true rfl)⟩ rfl (gm_G.mono H (pR_elim (fun r16 h15 H' => ?_) (fun e17 h18 H => ?_)))
        · show gm_G _ 52 _ _ _ _
          replace H := H'
          clear H'
          exact g_weak (show gm_Lle [some _, some _, some _, some _, some _, some _] _ from ⟨rfl, ⟨rfl, ⟨rfl, ⟨rfl, ⟨rfl, ⟨rfl, trivial⟩⟩⟩⟩⟩⟩) H
        · exact ⟨H.1, g_weak (show gm_Lle [some _] _ from ⟨rfl, trivial⟩) H.2⟩
      · refine g_call rfl (y := 191) (n := 1) (pc' := 52) (g_vt ht rfl rfl) rfl rfl ⟨(Nat.le_of_ble_eq_true rfl), (Nat.le_of_ble_eq_true rfl), (Nat.le_of_ble_eq_true rfl)⟩ rfl (gm_G.mono H (pR_elim (fun r20 h19 H' => ?_) (fun e21 h22 H => ?_)))
        · show gm_G _ 52 _ _ _ _
          replace H := H'
          clear H'
          exact g_weak (show gm_Lle [some _, some _, some _, some _, some _, some _] _ from ⟨rfl, ⟨rfl, ⟨rfl, ⟨rfl, ⟨rfl, ⟨rfl, trivial⟩⟩⟩⟩⟩⟩) H
        · exact ⟨H.1, g_weak (show gm_Lle [some _] _ from ⟨rfl, trivial⟩) H.2⟩
      · refine g_call rfl (y := 191) (n := 1) (pc' := 52) (g_vt ht rfl rfl) rfl rfl ⟨(Nat.le_of_ble_eq_true rfl), (Nat.le_of_ble_eq_true rfl), (Nat.le_of_ble_eq_true rfl)⟩ rfl (gm_G.mono H (pR_elim (fun r24 h23 H' => ?_) (fun e25 h26 H => ?_)))
        · show gm_G _ 52 _ _ _ _
          replace H := H'
          clear H'
          exact g_weak (show gm_Lle [some _, some _, some _, some _, some _, some _] _ from ⟨rfl, ⟨rfl, ⟨rfl, ⟨rfl, ⟨rfl, ⟨rfl, trivial⟩⟩⟩⟩⟩⟩) H
        · exact ⟨H.1, g_weak (show gm_Lle [some _] _ from ⟨rfl, trivial⟩) H.2⟩
    · replace H := H.2 hc
      subst hc
      refine g_null rfl rfl (pc' := 39) ?_
      refine g_goto rfl (pc' := 52) rfl ?_
      exact g_weak (show gm_Lle [some _, some _, some _, some _, some _, some _] _ from ⟨rfl, ⟨rfl, ⟨rfl, ⟨rfl, ⟨rfl, ⟨rfl, trivial⟩⟩⟩⟩⟩⟩) H
set_option maxRecDepth 20000 in
theorem w_501_52 {a0 : Nat} {x1 : Int32} {r_2 : Option Nat} {r_3 : Option Nat} {x4 : Int32} {x5 : Int32} {q0 : Option Nat} {h : hh_T} {Q : Option Value ⊕ Nat → hh_T → Prop} (H : (∀ a1, q0 = some a1 → (gm_G 501 65 [some (.ref a0), some (.int x1), some (va_rf r_2), some (va_rf r_3), some (.int x4), some (.int x5), some (.ref a1), some (.int (Int32.ofNat 0))] [] h Q)) ∧ (q0 = none → (gm_G 501 115 [some (.ref a0), some (.int x1), some (va_rf r_2), some (va_rf r_3), some (.int x4), some (.int x5)] [] h Q))) : gm_G 501 52 [some (.ref a0), some (.int x1), some (va_rf r_2), some (va_rf r_3), some (.int x4), some (.int x5)] [va_rf q0] h Q := by
  refine g_astore (r := _) rfl rfl rfl (pc' := 54) ?_
  refine g_aload (r := _) rfl rfl rfl (pc' := 56) ?_
  refine g_ifnonnull rfl (pc' := 59) (pt := 62) rfl rfl ⟨fun a1 hc => ?_, fun hc => ?_⟩
  · replace H := H.1 a1 hc
    subst hc
    refine g_iconst rfl rfl rfl (pc' := 63) ?_
    refine g_istore rfl rfl rfl (pc' := 65) ?_
    exact g_weak (show gm_Lle [some _, some _, some _, some _, some _, some _, some _, some _] _ from ⟨rfl, ⟨rfl, ⟨rfl, ⟨rfl, ⟨rfl, ⟨rfl, ⟨rfl, ⟨rfl, trivial⟩⟩⟩⟩⟩⟩⟩⟩) H
  · replace H := H.2 hc
    subst hc
    refine g_goto rfl (pc' := 115) rfl ?_
    exact g_weak (show gm_Lle [some _, some _, some _, some _, some _, some _] _ from ⟨rfl, ⟨rfl, ⟨rfl, ⟨rfl, ⟨rfl, ⟨rfl, trivial⟩⟩⟩⟩⟩⟩) H
set_option maxRecDepth 20000 in
theorem w_501_65 {a0 : Nat} {x1 : Int32} {r_2 : Option Nat} {r_3 : Option Nat} {x4 : Int32} {x5 : Int32} {r_6 : Option Nat} {x7 : Int32} {h : hh_T} {Q : Option Value ⊕ Nat → hh_T → Prop} (H : (¬ x7 < (Int32.ofNat 8) → (gm_G 501 115 [some (.ref a0), some (.int x1), some (va_rf r_2), some (va_rf r_3), some (.int x4), some (.int x5)] [] h Q)) ∧ (x7 < (Int32.ofNat 8) → (∃ a1, r_6 = some a1 ∧ ((hh_tg h a1 = 104 ∨ 200 ≤ hh_tg h a1) ∧ (∃ n2, gm_ix x7 n2 (hh_ln h a1) ∧ (∀ r4, r4 = hh_r h a1 n2 → ((r4 = none → (gm_G 501 109 [some (.ref a0), some (.int x1), some (va_rf r_2), some (va_rf r_3), some (.int x4), some (.int x5), some (.ref a1), some (.int x7)] [] h Q)) ∧ (∀ a5, r4 = some a5 → (∃ n6, gm_ix x7 n6 (hh_ln h a1) ∧ (∀ r7, r7 = hh_r h a1 n6 → (gm_G 6 0 [some (va_rf r7), some (va_rf r_3), some (.int x4)] [] h (pI (fun v9 h8 => (v9 = Int32.ofNat 0 → ((hh_tg h8 a1 = 104 ∨ 200 ≤ hh_tg h8 a1) ∧ (∃ n10, gm_ix x7 n10 (hh_ln h8 a1) ∧ (∀ r12, r12 = hh_r h8 a1 n10 → (∃ a13, r_3 = some a13 ∧ (200 ≤ hh_tg h8 a13 ∧ (∀ b, r12 = some b → gm_as (hh_tg h8 a13) (hh_tg h8 b) = true) ∧ (∃ n14, gm_ix x4 n14 (hh_ln h8 a13) ∧ (∀ h15, h15 = hh_wr h8 a13 n14 r12 → (gm_G 501 109 [some (.ref a0), some (.int x1), some (va_rf r_2), some (.ref a13), some (.int (x4 + (Int32.ofNat 1))), some (.int x5), some (.ref a1), some (.int x7)] [] h15 Q))))))))) ∧ (¬ v9 = Int32.ofNat 0 → (gm_G 501 109 [some (.ref a0), some (.int x1), some (va_rf r_2), some (va_rf r_3), some (.int x4), some (.int x5), some (.ref a1), some (.int x7)] [] h8 Q))) (fun e16 h17 => hh_tg h17 e16 = 21 ∧ gm_G 501 172 [some (.ref a0)] [.ref e16] h17 Q))))))))))))) : gm_G 501 65 [some (.ref a0), some (.int x1), some (va_rf r_2), some (va_rf r_3), some (.int x4), some (.int x5), some (va_rf r_6), some (.int x7)] [] h Q := by
  refine g_iload rfl rfl rfl (pc' := 67) ?_
  refine g_iconst rfl rfl rfl (pc' := 69) ?_
  refine g_ic_ge rfl (pc' := 72) (pt := 115) rfl rfl ⟨fun hc => ?_, fun hc => ?_⟩
  · replace H := H.1 hc
    exact g_weak (show gm_Lle [some _, some _, some _, some _, some _, some _] _ from ⟨rfl, ⟨rfl, ⟨rfl, ⟨rfl, ⟨rfl, ⟨rfl, trivial⟩⟩⟩⟩⟩⟩) H
  · replace H := H.2 hc
    refine g_aload (r := _) rfl rfl rfl (pc' := 74) ?_
    refine g_iload rfl rfl rfl (pc' := 76) ?_
    obtain ⟨a1, rfl, H⟩ := H
    obtain ⟨ht3, H⟩ := H
    obtain ⟨n2, hn2, H⟩ := H
    refine g_aaloadv rfl ht3 hn2 (pc' := 77) rfl (fun r4 hr4 => ?_)
    replace H := H r4 hr4
    refine g_ifnull rfl (pc' := 80) (pt := 109) rfl rfl ⟨fun hc => ?_, fun a5 hc => ?_⟩
    · replace H := H.1 hc
      subst hc
      exact g_weak (show gm_Lle [some _, some _, some _, some _, some _, some _, some _, some _] _ from ⟨rfl, ⟨rfl, ⟨rfl, ⟨rfl, ⟨rfl, ⟨rfl, ⟨rfl, ⟨rfl, trivial⟩⟩⟩⟩⟩⟩⟩⟩) H
    · replace H := H.2 a5 hc
      subst hc
      refine g_aload (r := some _) rfl rfl rfl (pc' := 82) ?_
      refine g_iload rfl rfl rfl (pc' := 84) ?_
      obtain ⟨n6, hn6, H⟩ := H
      refine g_aaloadv rfl ht3 hn6 (pc' := 85) rfl (fun r7 hr7 => ?_)
      replace H := H r7 hr7
      refine g_aload (r := _) rfl rfl rfl (pc' := 86) ?_
      refine g_iload rfl rfl rfl (pc' := 88) ?_
      refine g_call rfl (y := 6) (n := 3) (pc' := 91) (fun _ => rfl) (by cases r7 <;> cases r_3 <;> rfl) rfl ⟨(Nat.le_of_ble_eq_true rfl), (Nat.le_of_ble_eq_true rfl), (Nat.le_of_ble_eq_true rfl)⟩ rfl (gm_G.mono H (pI_elim (fun v9 h8 H' => ?_) (fun e16 h17 H => ?_)))
      · show gm_G _ 91 _ _ _ _
        replace H := H'
        clear H'
        refine g_if_eq rfl (pc' := 94) (pt := 97) rfl rfl ⟨fun hc => ?_, fun hc => ?_⟩
        · replace H := H.1 hc
          refine g_aload (r := _) rfl rfl rfl (pc' := 98) ?_
          refine g_iload rfl rfl rfl (pc' := 100) ?_
          refine g_aload (r := some _) rfl rfl rfl (pc' := 102) ?_
          refine g_iload rfl rfl rfl (pc' := 104) ?_
          obtain ⟨ht11, H⟩ := H
          obtain ⟨n10, hn10, H⟩ := H
          refine g_aaloadv rfl ht11 hn10 (pc' := 105) rfl (fun r12 hr12 => ?_)
          replace H := H r12 hr12
          obtain ⟨a13, rfl, H⟩ := H
          obtain ⟨Ha, Hb, H⟩ := H
          obtain ⟨n14, hn14, H⟩ := H
          refine g_aastore (r := _) rfl Ha Hb hn14 (pc' := 106) rfl ?_
          replace H := H _ rfl
          refine g_iinc (c := (Int32.ofNat 1)) rfl rfl rfl rfl rfl (pc' := 109) ?_
          exact g_weak (show gm_Lle [some _, some _, some _, some _, some _, some _, some _, some _] _ from ⟨rfl, ⟨rfl, ⟨rfl, ⟨rfl, ⟨rfl, ⟨rfl, ⟨rfl, ⟨rfl, trivial⟩⟩⟩⟩⟩⟩⟩⟩) H
        · replace H := H.2 hc
          refine g_goto rfl (pc' := 109) rfl ?_
          exact g_weak (show gm_Lle [some _, some _, some _, some _, some _, some _, some _, some _] _ from ⟨rfl, ⟨rfl, ⟨rfl, ⟨rfl, ⟨rfl, ⟨rfl, ⟨rfl, ⟨rfl, trivial⟩⟩⟩⟩⟩⟩⟩⟩) H
      · exact ⟨H.1, g_weak (show gm_Lle [some _] _ from ⟨rfl, trivial⟩) H.2⟩
set_option maxRecDepth 20000 in
theorem w_501_109 {a0 : Nat} {x1 : Int32} {r_2 : Option Nat} {r_3 : Option Nat} {x4 : Int32} {x5 : Int32} {r_6 : Option Nat} {x7 : Int32} {h : hh_T} {Q : Option Value ⊕ Nat → hh_T → Prop} (H : gm_G 501 65 [some (.ref a0), some (.int x1), some (va_rf r_2), some (va_rf r_3), some (.int x4), some (.int x5), some (va_rf r_6), some (.int (x7 + (Int32.ofNat 1)))] [] h Q) : gm_G 501 109 [some (.ref a0), some (.int x1), some (va_rf r_2), some (va_rf r_3), some (.int x4), some (.int x5), some (va_rf r_6), some (.int x7)] [] h Q := by
  refine g_iinc (c := (Int32.ofNat 1)) rfl rfl rfl gm_sto_rf6 rfl (pc' := 112) ?_
  refine g_goto rfl (pc' := 65) rfl ?_
  exact g_weak (show gm_Lle [some _, some _, some _, some _, some _, some _, some _, some _] _ from ⟨rfl, ⟨rfl, ⟨rfl, ⟨rfl, ⟨rfl, ⟨rfl, ⟨rfl, ⟨rfl, trivial⟩⟩⟩⟩⟩⟩⟩⟩) H
set_option maxRecDepth 20000 in
theorem w_501_115 {a0 : Nat} {x1 : Int32} {r_2 : Option Nat} {r_3 : Option Nat} {x4 : Int32} {x5 : Int32} {h : hh_T} {Q : Option Value ⊕ Nat → hh_T → Prop} (H : gm_G 501 21 [some (.ref a0), some (.int x1), some (va_rf r_2), some (va_rf r_3), some (.int x4), some (.int (x5 + (Int32.ofNat 1)))] [] h Q) : gm_G 501 115 [some (.ref a0), some (.int x1), some (va_rf r_2), some (va_rf r_3), some (.int x4), some (.int x5)] [] h Q := by
  refine g_iinc (c := (Int32.ofNat 1)) rfl rfl rfl rfl rfl (pc' := 118) ?_
  refine g_goto rfl (pc' := 21) rfl ?_
  exact g_weak (show gm_Lle [some _, some _, some _, some _, some _, some _] _ from ⟨rfl, ⟨rfl, ⟨rfl, ⟨rfl, ⟨rfl, ⟨rfl, trivial⟩⟩⟩⟩⟩⟩) H
set_option maxRecDepth 20000 in
theorem w_501_127 {a0 : Nat} {x1 : Int32} {r_3 : Option Nat} {x4 : Int32} {x5 : Int32} {x6 : Int32} {h : hh_T} {Q : Option Value ⊕ Nat → hh_T → Prop} (H : (¬ x6 < x4 → (hh_tg h a0 = 1 ∧ (gm_G 4 0 [some (.ref a0), some (.int x5)] [] h (pI (fun v3 h2 => Q (.inl (some (.int v3))) h2) (fun e4 h5 => hh_tg h5 e4 = 21 ∧ gm_G 501 172 [some (.ref a0)] [.ref e4] h5 Q))))) ∧ (x6 < x4 → (∃ a6, r_3 = some a6 ∧ ((hh_tg h a6 = 104 ∨ 200 ≤ hh_tg h a6) ∧ (∃ n7, gm_ix x6 n7 (hh_ln h a6) ∧ (∀ r9, r9 = hh_r h a6 n7 → (hh_tg h a0 = 1 ∧ (gm_G 343 0 [some (.ref a0), some (va_rf r9), some (.int x1)] [] h (pI (fun v12 h11 => (¬ v12 = Int32.ofNat 0 → (gm_G 501 159 [some (.ref a0), some (.int x1), none, some (.ref a6), some (.int x4), some (.int x5), some (.int x6)] [] h11 Q)) ∧ (v12 = Int32.ofNat 0 → ((hh_tg h11 a6 = 104 ∨ 200 ≤ hh_tg h11 a6) ∧ (∃ n13, gm_ix x6 n13 (hh_ln h11 a6) ∧ (∀ r15, r15 = hh_r h11 a6 n13 → (hh_tg h11 a0 = 1 ∧ (gm_G 239 0 [some (.ref a0), some (va_rf r15)] [] h11 (pI (fun v18 h17 => gm_G 501 159 [some (.ref a0), some (.int x1), none, some (.ref a6), some (.int x4), some (.int (x5 + v18)), some (.int x6)] [] h17 Q) (fun e19 h20 => hh_tg h20 e19 = 21 ∧ gm_G 501 172 [some (.ref a0)] [.ref e19] h20 Q))))))))) (fun e21 h22 => hh_tg h22 e21 = 21 ∧ gm_G 501 172 [some (.ref a0)] [.ref e21] h22 Q)))))))))) : gm_G 501 127 [some (.ref a0), some (.int x1), none, some (va_rf r_3), some (.int x4), some (.int x5), some (.int x6)] [] h Q := by
  refine g_iload rfl rfl rfl (pc' := 129) ?_
  refine g_iload rfl rfl rfl (pc' := 131) ?_
  refine g_ic_ge rfl (pc' := 134) (pt := 165) rfl rfl ⟨fun hc => ?_, fun hc => ?_⟩
  · replace H := H.1 hc
    refine g_aload (r := some _) rfl rfl rfl (pc' := 166) ?_
    refine g_iload rfl rfl rfl (pc' := 168) ?_
    obtain ⟨ht1, H⟩ := H
    refine g_call rfl (y := 4) (n := 2) (pc' := 171) (g_vt ht1 rfl rfl) rfl rfl ⟨(Nat.le_of_ble_eq_true rfl), (Nat.le_of_ble_eq_true rfl), (Nat.le_of_ble_eq_true rfl)⟩ rfl (gm_G.mono H (pI_elim (fun v3 h2 H' => ?_) (fun e4 h5 H => ?_)))
    · show gm_G _ 171 _ _ _ _
      replace H := H'
      clear H'
      exact g_ireturn rfl (Or.inl rfl) H
    · exact ⟨H.1, g_weak (show gm_Lle [some _] _ from ⟨rfl, trivial⟩) H.2⟩
  · replace H := H.2 hc
    refine g_aload (r := some _) rfl rfl rfl (pc' := 135) ?_
    refine g_aload (r := _) rfl rfl rfl (pc' := 136) ?_
    refine g_iload rfl rfl rfl (pc' := 138) ?_
    obtain ⟨a6, rfl, H⟩ := H
    obtain ⟨ht8, H⟩ := H
    obtain ⟨n7, hn7, H⟩ := H
    refine g_aaloadv rfl ht8 hn7 (pc' := 139) rfl (fun r9 hr9 => ?_)
    replace H := H r9 hr9
    refine g_iload rfl rfl rfl (pc' := 140) ?_
    obtain ⟨ht10, H⟩ := H
    refine g_call rfl (y := 343) (n := 3) (pc' := 143) (g_vt ht10 rfl rfl) (by cases r9 <;> rfl) rfl ⟨(Nat.le_of_ble_eq_true rfl), (Nat.le_of_ble_eq_true rfl), (Nat.le_of_ble_eq_true rfl)⟩ rfl (gm_G.mono H (pI_elim (fun v12 h11 H' => ?_) (fun e21 h22 H => ?_)))
    · show gm_G _ 143 _ _ _ _
      replace H := H'
      clear H'
      refine g_if_ne rfl (pc' := 146) (pt := 159) rfl rfl ⟨fun hc => ?_, fun hc => ?_⟩
      · replace H := H.1 hc
        exact g_weak (show gm_Lle [some _, some _, none, some _, some _, some _, some _] _ from ⟨rfl, ⟨rfl, ⟨rfl, ⟨rfl, ⟨rfl, ⟨rfl, trivial⟩⟩⟩⟩⟩⟩) H
      · replace H := H.2 hc
        refine g_iload rfl rfl rfl (pc' := 148) ?_
        refine g_aload (r := some _) rfl rfl rfl (pc' := 149) ?_
        refine g_aload (r := some _) rfl rfl rfl (pc' := 150) ?_
        refine g_iload rfl rfl rfl (pc' := 152) ?_
        obtain ⟨ht14, H⟩ := H
        obtain ⟨n13, hn13, H⟩ := H
        refine g_aaloadv rfl ht14 hn13 (pc' := 153) rfl (fun r15 hr15 => ?_)
        replace H := H r15 hr15
        obtain ⟨ht16, H⟩ := H
        refine g_call rfl (y := 239) (n := 2) (pc' := 156) (g_vt ht16 rfl rfl) (by cases r15 <;> rfl) rfl ⟨(Nat.le_of_ble_eq_true rfl), (Nat.le_of_ble_eq_true rfl), (Nat.le_of_ble_eq_true rfl)⟩ rfl (gm_G.mono H (pI_elim (fun v18 h17 H' => ?_) (fun e19 h20 H => ?_)))
        · show gm_G _ 156 _ _ _ _
          replace H := H'
          clear H'
          refine g_iadd rfl rfl (pc' := 157) ?_
          refine g_istore rfl rfl rfl (pc' := 159) ?_
          exact g_weak (show gm_Lle [some _, some _, none, some _, some _, some _, some _] _ from ⟨rfl, ⟨rfl, ⟨rfl, ⟨rfl, ⟨rfl, ⟨rfl, trivial⟩⟩⟩⟩⟩⟩) H
        · exact ⟨H.1, g_weak (show gm_Lle [some _] _ from ⟨rfl, trivial⟩) H.2⟩
    · exact ⟨H.1, g_weak (show gm_Lle [some _] _ from ⟨rfl, trivial⟩) H.2⟩
set_option maxRecDepth 20000 in
theorem w_501_159 {a0 : Nat} {x1 : Int32} {r_3 : Option Nat} {x4 : Int32} {x5 : Int32} {x6 : Int32} {h : hh_T} {Q : Option Value ⊕ Nat → hh_T → Prop} (H : gm_G 501 127 [some (.ref a0), some (.int x1), none, some (va_rf r_3), some (.int x4), some (.int x5), some (.int (x6 + (Int32.ofNat 1)))] [] h Q) : gm_G 501 159 [some (.ref a0), some (.int x1), none, some (va_rf r_3), some (.int x4), some (.int x5), some (.int x6)] [] h Q := by
  refine g_iinc (c := (Int32.ofNat 1)) rfl rfl rfl rfl rfl (pc' := 162) ?_
  refine g_goto rfl (pc' := 127) rfl ?_
  exact g_weak (show gm_Lle [some _, some _, none, some _, some _, some _, some _] _ from ⟨rfl, ⟨rfl, ⟨rfl, ⟨rfl, ⟨rfl, ⟨rfl, trivial⟩⟩⟩⟩⟩⟩) H
set_option maxRecDepth 20000 in
theorem w_501_172 {a0 : Nat} {ex : Nat} {h : hh_T} {Q : Option Value ⊕ Nat → hh_T → Prop} (H : hh_tg h a0 = 1 ∧ (gm_G 1 0 [some (.ref a0), some (.ref ex)] [] h (pI (fun v3 h2 => Q (.inl (some (.int v3))) h2) (fun e4 h5 => hh_tg h5 e4 = 21 ∧ Q (.inr e4) h5)))) : gm_G 501 172 [some (.ref a0)] [.ref ex] h Q := by
  refine g_astore (r := some _) rfl rfl rfl (pc' := 173) ?_
  refine g_aload (r := some _) rfl rfl rfl (pc' := 174) ?_
  refine g_aload (r := some _) rfl rfl rfl (pc' := 175) ?_
  obtain ⟨ht1, H⟩ := H
  refine g_call rfl (y := 1) (n := 2) (pc' := 178) (g_vt ht1 rfl rfl) rfl rfl ⟨(Nat.le_of_ble_eq_true rfl), (Nat.le_of_ble_eq_true rfl), (Nat.le_of_ble_eq_true rfl)⟩ rfl (gm_G.mono H (pI_elim (fun v3 h2 H' => ?_) (fun e4 h5 H => ?_)))
  · show gm_G _ 178 _ _ _ _
    replace H := H'
    clear H'
    exact g_ireturn rfl (Or.inl rfl) H
  · exact H
set_option maxRecDepth 20000 in
theorem w_502_0 {a0 : Nat} {x1 : Int32} {x2 : Int32} {h : hh_T} {Q : Option Value ⊕ Nat → hh_T → Prop} (H : hh_tg h a0 = 1 ∧ (gm_G 456 0 [some (.ref a0)] [] h (pV (fun h2 => gm_G 5 0 [some (.int x2), some (.int (Int32.ofInt (-1))), some (.int (Int32.ofNat 7))] [] h2 (pI (fun v4 h3 => gm_G 452 0 [some (.int v4)] [] h3 (pV (fun h5 => hh_tg h5 a0 = 1 ∧ (gm_G 455 0 [some (.ref a0), some (.int x1)] [] h5 (pR (fun r8 h7 => hh_tg h7 a0 = 1 ∧ (gm_G 353 0 [some (.ref a0), some (va_rf r8), some (.int x2)] [] h7 (pI (fun v11 h10 => hh_tg h10 a0 = 1 ∧ (gm_G 4 0 [some (.ref a0), some (.int v11)] [] h10 (pI (fun v14 h13 => Q (.inl (some (.int v14))) h13) (fun e15 h16 => hh_tg h16 e15 = 21 ∧ gm_G 502 29 [some (.ref a0)] [.ref e15] h16 Q)))) (fun e17 h18 => hh_tg h18 e17 = 21 ∧ gm_G 502 29 [some (.ref a0)] [.ref e17] h18 Q)))) (fun e19 h20 => hh_tg h20 e19 = 21 ∧ gm_G 502 29 [some (.ref a0)] [.ref e19] h20 Q)))) (fun e21 h22 => hh_tg h22 e21 = 21 ∧ gm_G 502 29 [some (.ref a0)] [.ref e21] h22 Q))) (fun e23 h24 => hh_tg h24 e23 = 21 ∧ gm_G 502 29 [some (.ref a0)] [.ref e23] h24 Q))) (fun e25 h26 => hh_tg h26 e25 = 21 ∧ gm_G 502 29 [some (.ref a0)] [.ref e25] h26 Q)))) : gm_G 502 0 [some (.ref a0), some (.int x1), some (.int x2)] [] h Q := by
  refine g_aload (r := some _) rfl rfl rfl (pc' := 1) ?_
  obtain ⟨ht1, H⟩ := H
  refine g_call rfl (y := 456) (n := 1) (pc' := 4) (g_vt ht1 rfl rfl) rfl rfl ⟨(Nat.le_of_ble_eq_true rfl), (Nat.le_of_ble_eq_true rfl), (Nat.le_of_ble_eq_true rfl)⟩ rfl (gm_G.mono H (pV_elim (fun h2 H' => ?_) (fun e25 h26 H => ?_)))
  · show gm_G _ 4 _ _ _ _
    replace H := H'
    clear H'
    refine g_iload rfl rfl rfl (pc' := 5) ?_
    refine g_iconst rfl rfl rfl (pc' := 6) ?_
    refine g_iconst rfl rfl rfl (pc' := 8) ?_
    refine g_call rfl (y := 5) (n := 3) (pc' := 11) (fun _ => rfl) rfl rfl ⟨(Nat.le_of_ble_eq_true rfl), (Nat.le_of_ble_eq_true rfl), (Nat.le_of_ble_eq_true rfl)⟩ rfl (gm_G.mono H (pI_elim (fun v4 h3 H' => ?_) (fun e23 h24 H => ?_)))
    · show gm_G _ 11 _ _ _ _
      replace H := H'
      clear H'
      refine g_call rfl (y := 452) (n := 1) (pc' := 14) (fun _ => rfl) rfl rfl ⟨(Nat.le_of_ble_eq_true rfl), (Nat.le_of_ble_eq_true rfl), (Nat.le_of_ble_eq_true rfl)⟩ rfl (gm_G.mono H (pV_elim (fun h5 H' => ?_) (fun e21 h22 H => ?_)))
      · show gm_G _ 14 _ _ _ _
        replace H := H'
        clear H'
        refine g_aload (r := some _) rfl rfl rfl (pc' := 15) ?_
        refine g_aload (r := some _) rfl rfl rfl (pc' := 16) ?_
        refine g_aload (r := some _) rfl rfl rfl (pc' := 17) ?_
        refine g_iload rfl rfl rfl (pc' := 18) ?_
        obtain ⟨ht6, H⟩ := H
        refine g_call rfl (y := 455) (n := 2) (pc' := 21) (g_vt ht6 rfl rfl) rfl rfl ⟨(Nat.le_of_ble_eq_true rfl), (Nat.le_of_ble_eq_true rfl), (Nat.le_of_ble_eq_true rfl)⟩ rfl (gm_G.mono H (pR_elim (fun r8 h7 H' => ?_) (fun e19 h20 H => ?_)))
        · show gm_G _ 21 _ _ _ _
          replace H := H'
          clear H'
          refine g_iload rfl rfl rfl (pc' := 22) ?_
          obtain ⟨ht9, H⟩ := H
          refine g_call rfl (y := 353) (n := 3) (pc' := 25) (g_vt ht9 rfl rfl) (by cases r8 <;> rfl) rfl ⟨(Nat.le_of_ble_eq_true rfl), (Nat.le_of_ble_eq_true rfl), (Nat.le_of_ble_eq_true rfl)⟩ rfl (gm_G.mono H (pI_elim (fun v11 h10 H' => ?_) (fun e17 h18 H => ?_)))
          · show gm_G _ 25 _ _ _ _
            replace H := H'
            clear H'
            obtain ⟨ht12, H⟩ := H
            refine g_call rfl (y := 4) (n := 2) (pc' := 28) (g_vt ht12 rfl rfl) rfl rfl ⟨(Nat.le_of_ble_eq_true rfl), (Nat.le_of_ble_eq_true rfl), (Nat.le_of_ble_eq_true rfl)⟩ rfl (gm_G.mono H (pI_elim (fun v14 h13 H' => ?_) (fun e15 h16 H => ?_)))
            · show gm_G _ 28 _ _ _ _
              replace H := H'
              clear H'
              exact g_ireturn rfl (Or.inl rfl) H
            · exact ⟨H.1, g_weak (show gm_Lle [some _] _ from ⟨rfl, trivial⟩) H.2⟩
          · exact ⟨H.1, g_weak (show gm_Lle [some _] _ from ⟨rfl, trivial⟩) H.2⟩
        · exact ⟨H.1, g_weak (show gm_Lle [some _] _ from ⟨rfl, trivial⟩) H.2⟩
      · exact ⟨H.1, g_weak (show gm_Lle [some _] _ from ⟨rfl, trivial⟩) H.2⟩
    · exact ⟨H.1, g_weak (show gm_Lle [some _] _ from ⟨rfl, trivial⟩) H.2⟩
  · exact ⟨H.1, g_weak (show gm_Lle [some _] _ from ⟨rfl, trivial⟩) H.2⟩
set_option maxRecDepth 20000 in
theorem w_502_29 {a0 : Nat} {ex : Nat} {h : hh_T} {Q : Option Value ⊕ Nat → hh_T → Prop} (H : hh_tg h a0 = 1 ∧ (gm_G 1 0 [some (.ref a0), some (.ref ex)] [] h (pI (fun v3 h2 => Q (.inl (some (.int v3))) h2) (fun e4 h5 => hh_tg h5 e4 = 21 ∧ Q (.inr e4) h5)))) : gm_G 502 29 [some (.ref a0)] [.ref ex] h Q := by
  refine g_astore (r := some _) rfl rfl rfl (pc' := 30) ?_
  refine g_aload (r := some _) rfl rfl rfl (pc' := 31) ?_
  refine g_aload (r := some _) rfl rfl rfl (pc' := 32) ?_
  obtain ⟨ht1, H⟩ := H
  refine g_call rfl (y := 1) (n := 2) (pc' := 35) (g_vt ht1 rfl rfl) rfl rfl ⟨(Nat.le_of_ble_eq_true rfl), (Nat.le_of_ble_eq_true rfl), (Nat.le_of_ble_eq_true rfl)⟩ rfl (gm_G.mono H (pI_elim (fun v3 h2 H' => ?_) (fun e4 h5 H => ?_)))
  · show gm_G _ 35 _ _ _ _
    replace H := H'
    clear H'
    exact g_ireturn rfl (Or.inl rfl) H
  · exact H
set_option maxRecDepth 20000 in
theorem w_503_0 {a0 : Nat} {r_1 : Option Nat} {r_2 : Option Nat} {h : hh_T} {Q : Option Value ⊕ Nat → hh_T → Prop} (H : gm_G 503 2 [none, some (va_rf r_1), some (va_rf r_2), some (.int (Int32.ofNat 0))] [] h Q) : gm_G 503 0 [some (.ref a0), some (va_rf r_1), some (va_rf r_2)] [] h Q := by
  refine g_iconst rfl rfl rfl (pc' := 1) ?_
  refine g_istore rfl gm_sto_rf2 rfl (pc' := 2) ?_
  exact g_weak (show gm_Lle [none, some _, some _, some _] _ from ⟨rfl, ⟨rfl, ⟨rfl, trivial⟩⟩⟩) H
set_option maxRecDepth 20000 in
theorem w_503_2 {a0 : Nat} {r_1 : Option Nat} {r_2 : Option Nat} {x3 : Int32} {h : hh_T} {Q : Option Value ⊕ Nat → hh_T → Prop} (H : (¬ x3 < (Int32.ofNat 32) → (Q (.inl none) h)) ∧ (x3 < (Int32.ofNat 32) → (∃ a1, r_1 = some a1 ∧ ((hh_tg h a1 = 101 ∨ hh_tg h a1 = 102) ∧ (∃ n2, gm_ix x3 n2 (hh_ln h a1) ∧ (∃ a4, r_2 = some a4 ∧ (hh_tg h a4 = 13 ∧ (gm_G 459 0 [some (.ref a4), some (.int (hh_i h a1 n2))] [] h (pV (fun h6 => gm_G 503 2 [none, some (.ref a1), some (.ref a4), some (.int (x3 + (Int32.ofNat 1)))] [] h6 Q) (fun e7 h8 => hh_tg h8 e7 = 21 ∧ Q (.inr e7) h8)))))))))) : gm_G 503 2 [none, some (va_rf r_1), some (va_rf r_2), some (.int x3)] [] h Q := by
  refine g_iload rfl rfl rfl (pc' := 3) ?_
  refine g_iconst rfl rfl rfl (pc' := 5) ?_
  refine g_ic_ge rfl (pc' := 8) (pt := 21) rfl rfl ⟨fun hc => ?_, fun hc => ?_⟩
  · replace H := H.1 hc
    exact g_return rfl H
  · replace H := H.2 hc
    refine g_aload (r := _) rfl rfl rfl (pc' := 9) ?_
    refine g_aload (r := _) rfl rfl rfl (pc' := 10) ?_
    refine g_iload rfl rfl rfl (pc' := 11) ?_
    obtain ⟨a1, rfl, H⟩ := H
    obtain ⟨ht3, H⟩ := H
    obtain ⟨n2, hn2, H⟩ := H
    refine g_baload rfl ht3 hn2 (pc' := 12) rfl ?_
    obtain ⟨a4, rfl, H⟩ := H
    obtain ⟨ht5, H⟩ := H
    refine g_call rfl (y := 459) (n := 2) (pc' := 15) (g_vt ht5 rfl rfl) rfl rfl ⟨(Nat.le_of_ble_eq_true rfl), (Nat.le_of_ble_eq_true rfl), (Nat.le_of_ble_eq_true rfl)⟩ rfl (gm_G.mono H (pV_elim (fun h6 H' => ?_) (fun e7 h8 H => ?_)))
    · show gm_G _ 15 _ _ _ _
      replace H := H'
      clear H'
      refine g_iinc (c := (Int32.ofNat 1)) rfl rfl rfl rfl rfl (pc' := 18) ?_
      refine g_goto rfl (pc' := 2) rfl ?_
      exact g_weak (show gm_Lle [none, some _, some _, some _] _ from ⟨rfl, ⟨rfl, ⟨rfl, trivial⟩⟩⟩) H
    · exact H
set_option maxRecDepth 20000 in
theorem w_504_0 {a0 : Nat} {r_1 : Option Nat} {r_2 : Option Nat} {h : hh_T} {Q : Option Value ⊕ Nat → hh_T → Prop} (H : gm_G 504 2 [none, some (va_rf r_1), some (va_rf r_2), some (.int (Int32.ofNat 0))] [] h Q) : gm_G 504 0 [some (.ref a0), some (va_rf r_1), some (va_rf r_2)] [] h Q := by
  refine g_iconst rfl rfl rfl (pc' := 1) ?_
  refine g_istore rfl gm_sto_rf2 rfl (pc' := 2) ?_
  exact g_weak (show gm_Lle [none, some _, some _, some _] _ from ⟨rfl, ⟨rfl, ⟨rfl, trivial⟩⟩⟩) H
set_option maxRecDepth 20000 in
theorem w_504_2 {a0 : Nat} {r_1 : Option Nat} {r_2 : Option Nat} {x3 : Int32} {h : hh_T} {Q : Option Value ⊕ Nat → hh_T → Prop} (H : (¬ x3 < (Int32.ofNat 32) → (Q (.inl none) h)) ∧ (x3 < (Int32.ofNat 32) → (∃ a1, r_1 = some a1 ∧ ((hh_tg h a1 = 101 ∨ hh_tg h a1 = 102) ∧ (∃ n2, gm_ix x3 n2 (hh_ln h a1) ∧ (∃ a4, r_2 = some a4 ∧ (hh_tg h a4 = 13 ∧ (gm_G 459 0 [some (.ref a4), some (.int (hh_i h a1 n2))] [] h (pV (fun h6 => (hh_tg h6 a1 = 101 ∨ hh_tg h6 a1 = 102) ∧ (∃ n7, gm_ix x3 n7 (hh_ln h6 a1) ∧ (((hh_i h6 a1 n7) = Int32.ofNat 0 → (gm_G 504 30 [none, some (.ref a1), some (.ref a4), some (.int x3), some (.int x3)] [] h6 Q)) ∧ (¬ (hh_i h6 a1 n7) = Int32.ofNat 0 → (gm_G 504 2 [none, some (.ref a1), some (.ref a4), some (.int (x3 + (Int32.ofNat 1)))] [] h6 Q))))) (fun e9 h10 => hh_tg h10 e9 = 21 ∧ Q (.inr e9) h10)))))))))) : gm_G 504 2 [none, some (va_rf r_1), some (va_rf r_2), some (.int x3)] [] h Q := by
  refine g_iload rfl rfl rfl (pc' := 3) ?_
  refine g_iconst rfl rfl rfl (pc' := 5) ?_
  refine g_ic_ge rfl (pc' := 8) (pt := 59) rfl rfl ⟨fun hc => ?_, fun hc => ?_⟩
  · replace H := H.1 hc
    exact g_return rfl H
  · replace H := H.2 hc
    refine g_aload (r := _) rfl rfl rfl (pc' := 9) ?_
    refine g_aload (r := _) rfl rfl rfl (pc' := 10) ?_
    refine g_iload rfl rfl rfl (pc' := 11) ?_
    obtain ⟨a1, rfl, H⟩ := H
    obtain ⟨ht3, H⟩ := H
    obtain ⟨n2, hn2, H⟩ := H
    refine g_baload rfl ht3 hn2 (pc' := 12) rfl ?_
    obtain ⟨a4, rfl, H⟩ := H
    obtain ⟨ht5, H⟩ := H
    refine g_call rfl (y := 459) (n := 2) (pc' := 15) (g_vt ht5 rfl rfl) rfl rfl ⟨(Nat.le_of_ble_eq_true rfl), (Nat.le_of_ble_eq_true rfl), (Nat.le_of_ble_eq_true rfl)⟩ rfl (gm_G.mono H (pV_elim (fun h6 H' => ?_) (fun e9 h10 H => ?_)))
    · show gm_G _ 15 _ _ _ _
      replace H := H'
      clear H'
      refine g_aload (r := some _) rfl rfl rfl (pc' := 16) ?_
      refine g_iload rfl rfl rfl (pc' := 17) ?_
      obtain ⟨ht8, H⟩ := H
      obtain ⟨n7, hn7, H⟩ := H
      refine g_baload rfl ht8 hn7 (pc' := 18) rfl ?_
      refine g_if_eq rfl (pc' := 21) (pt := 27) rfl rfl ⟨fun hc => ?_, fun hc => ?_⟩
      · replace H := H.1 hc
        refine g_iload rfl rfl rfl (pc' := 28) ?_
        refine g_istore rfl rfl rfl (pc' := 30) ?_
        exact g_weak (show gm_Lle [none, some _, some _, some _, some _] _ from ⟨rfl, ⟨rfl, ⟨rfl, ⟨rfl, trivial⟩⟩⟩⟩) H
      · replace H := H.2 hc
        refine g_iinc (c := (Int32.ofNat 1)) rfl rfl rfl rfl rfl (pc' := 24) ?_
        refine g_goto rfl (pc' := 2) rfl ?_
        exact g_weak (show gm_Lle [none, some _, some _, some _] _ from ⟨rfl, ⟨rfl, ⟨rfl, trivial⟩⟩⟩) H
    · exact H
set_option maxRecDepth 20000 in
theorem w_504_30 {a0 : Nat} {r_1 : Option Nat} {r_2 : Option Nat} {x3 : Int32} {x4 : Int32} {h : hh_T} {Q : Option Value ⊕ Nat → hh_T → Prop} (H : (¬ x3 < (Int32.ofNat 32) → (gm_G 504 48 [none, some (va_rf r_1), some (va_rf r_2), some (.int x3), some (.int x4)] [] h Q)) ∧ (x3 < (Int32.ofNat 32) → (∃ a1, r_1 = some a1 ∧ ((hh_tg h a1 = 101 ∨ hh_tg h a1 = 102) ∧ (∃ n2, gm_ix x3 n2 (hh_ln h a1) ∧ ((¬ (hh_i h a1 n2) = Int32.ofNat 0 → (gm_G 504 48 [none, some (.ref a1), some (va_rf r_2), some (.int x3), some (.int x4)] [] h Q)) ∧ ((hh_i h a1 n2) = Int32.ofNat 0 → (gm_G 504 30 [none, some (.ref a1), some (va_rf r_2), some (.int (x3 + (Int32.ofNat 1))), some (.int x4)] [] h Q)))))))) : gm_G 504 30 [none, some (va_rf r_1), some (va_rf r_2), some (.int x3), some (.int x4)] [] h Q := by
  refine g_iload rfl rfl rfl (pc' := 31) ?_
  refine g_iconst rfl rfl rfl (pc' := 33) ?_
  refine g_ic_ge rfl (pc' := 36) (pt := 48) rfl rfl ⟨fun hc => ?_, fun hc => ?_⟩
  · replace H := H.1 hc
    exact g_weak (show gm_Lle [none, some _, some _, some _, some _] _ from ⟨rfl, ⟨rfl, ⟨rfl, ⟨rfl, trivial⟩⟩⟩⟩) H
  · replace H := H.2 hc
    refine g_aload (r := _) rfl rfl rfl (pc' := 37) ?_
    refine g_iload rfl rfl rfl (pc' := 38) ?_
    obtain ⟨a1, rfl, H⟩ := H
    obtain ⟨ht3, H⟩ := H
    obtain ⟨n2, hn2, H⟩ := H
    refine g_baload rfl ht3 hn2 (pc' := 39) rfl ?_
    refine g_if_ne rfl (pc' := 42) (pt := 48) rfl rfl ⟨fun hc => ?_, fun hc => ?_⟩
    · replace H := H.1 hc
      exact g_weak (show gm_Lle [none, some _, some _, some _, some _] _ from ⟨rfl, ⟨rfl, ⟨rfl, ⟨rfl, trivial⟩⟩⟩⟩) H
    · replace H := H.2 hc
      refine g_iinc (c := (Int32.ofNat 1)) rfl rfl rfl gm_sto_rf2 rfl (pc' := 45) ?_
      refine g_goto rfl (pc' := 30) rfl ?_
      exact g_weak (show gm_Lle [none, some _, some _, some _, some _] _ from ⟨rfl, ⟨rfl, ⟨rfl, ⟨rfl, trivial⟩⟩⟩⟩) H
set_option maxRecDepth 20000 in
theorem w_504_48 {a0 : Nat} {r_1 : Option Nat} {r_2 : Option Nat} {x3 : Int32} {x4 : Int32} {h : hh_T} {Q : Option Value ⊕ Nat → hh_T → Prop} (H : ∃ a1, r_2 = some a1 ∧ (hh_tg h a1 = 13 ∧ (gm_G 459 0 [some (.ref a1), some (.int (x3 - x4))] [] h (pV (fun h3 => gm_G 504 2 [none, some (va_rf r_1), some (.ref a1), some (.int x3)] [] h3 Q) (fun e4 h5 => hh_tg h5 e4 = 21 ∧ Q (.inr e4) h5))))) : gm_G 504 48 [none, some (va_rf r_1), some (va_rf r_2), some (.int x3), some (.int x4)] [] h Q := by
  refine g_aload (r := _) rfl rfl rfl (pc' := 49) ?_
  refine g_iload rfl rfl rfl (pc' := 50) ?_
  refine g_iload rfl rfl rfl (pc' := 52) ?_
  refine g_isub rfl rfl (pc' := 53) ?_
  obtain ⟨a1, rfl, H⟩ := H
  obtain ⟨ht2, H⟩ := H
  refine g_call rfl (y := 459) (n := 2) (pc' := 56) (g_vt ht2 rfl rfl) rfl rfl ⟨(Nat.le_of_ble_eq_true rfl), (Nat.le_of_ble_eq_true rfl), (Nat.le_of_ble_eq_true rfl)⟩ rfl (gm_G.mono H (pV_elim (fun h3 H' => ?_) (fun e4 h5 H => ?_)))
  · show gm_G _ 56 _ _ _ _
    replace H := H'
    clear H'
    refine g_goto rfl (pc' := 2) rfl ?_
    exact g_weak (show gm_Lle [none, some _, some _, some _] _ from ⟨rfl, ⟨rfl, ⟨rfl, trivial⟩⟩⟩) H
  · exact H
set_option maxRecDepth 20000 in
theorem w_505_0 {a0 : Nat} {r_1 : Option Nat} {x2 : Int32} {x3 : Int32} {r_4 : Option Nat} {h : hh_T} {Q : Option Value ⊕ Nat → hh_T → Prop} (H : (¬ x2 = x3 → (∃ a1, r_4 = some a1 ∧ (hh_tg h a1 = 13 ∧ (gm_G 459 0 [some (.ref a1), some (.int ((x3 - x2) - (Int32.ofNat 1)))] [] h (pV (fun h3 => gm_G 505 19 [none, some (va_rf r_1), none, some (.int x3), some (.ref a1), some (.int x2)] [] h3 Q) (fun e4 h5 => hh_tg h5 e4 = 21 ∧ Q (.inr e4) h5)))))) ∧ (x2 = x3 → (Q (.inl none) h))) : gm_G 505 0 [some (.ref a0), some (va_rf r_1), some (.int x2), some (.int x3), some (va_rf r_4)] [] h Q := by
  refine g_iload rfl rfl rfl (pc' := 1) ?_
  refine g_iload rfl rfl rfl (pc' := 2) ?_
  refine g_ic_ne rfl (pc' := 5) (pt := 6) rfl rfl ⟨fun hc => ?_, fun hc => ?_⟩
  · replace H := H.1 hc
    refine g_aload (r := _) rfl rfl rfl (pc' := 8) ?_
    refine g_iload rfl rfl rfl (pc' := 9) ?_
    refine g_iload rfl rfl rfl (pc' := 10) ?_
    refine g_isub rfl rfl (pc' := 11) ?_
    refine g_iconst rfl rfl rfl (pc' := 12) ?_
    refine g_isub rfl rfl (pc' := 13) ?_
    obtain ⟨a1, rfl, H⟩ := H
    obtain ⟨ht2, H⟩ := H
    refine g_call rfl (y := 459) (n := 2) (pc' := 16) (g_vt ht2 rfl rfl) rfl rfl ⟨(Nat.le_of_ble_eq_true rfl), (Nat.le_of_ble_eq_true rfl), (Nat.le_of_ble_eq_true rfl)⟩ rfl (gm_G.mono H (pV_elim (fun h3 H' => ?_) (fun e4 h5 H => ?_)))
    · show gm_G _ 16 _ _ _ _
      replace H := H'
      clear H'
      refine g_iload rfl rfl rfl (pc' := 17) ?_
      refine g_istore rfl rfl rfl (pc' := 19) ?_
      exact g_weak (show gm_Lle [none, some _, none, some _, some _, some _] _ from ⟨rfl, ⟨rfl, ⟨rfl, ⟨rfl, trivial⟩⟩⟩⟩) H
    · exact H
  · replace H := H.2 hc
    exact g_return rfl H
set_option maxRecDepth 20000 in
theorem w_505_19 {a0 : Nat} {r_1 : Option Nat} {x3 : Int32} {r_4 : Option Nat} {x5 : Int32} {h : hh_T} {Q : Option Value ⊕ Nat → hh_T → Prop} (H : (¬ x5 < x3 → (Q (.inl none) h)) ∧ (x5 < x3 → (∃ a1, r_1 = some a1 ∧ ((hh_tg h a1 = 101 ∨ hh_tg h a1 = 102) ∧ (∃ n2, gm_ix x5 n2 (hh_ln h a1) ∧ (∃ a4, r_4 = some a4 ∧ (hh_tg h a4 = 13 ∧ (gm_G 459 0 [some (.ref a4), some (.int (hh_i h a1 n2))] [] h (pV (fun h6 => gm_G 505 19 [none, some (.ref a1), none, some (.int x3), some (.ref a4), some (.int (x5 + (Int32.ofNat 1)))] [] h6 Q) (fun e7 h8 => hh_tg h8 e7 = 21 ∧ Q (.inr e7) h8)))))))))) : gm_G 505 19 [none, some (va_rf r_1), none, some (.int x3), some (va_rf r_4), some (.int x5)] [] h Q := by
  refine g_iload rfl rfl rfl (pc' := 21) ?_
  refine g_iload rfl rfl rfl (pc' := 22) ?_
  refine g_ic_ge rfl (pc' := 25) (pt := 40) rfl rfl ⟨fun hc => ?_, fun hc => ?_⟩
  · replace H := H.1 hc
    exact g_return rfl H
  · replace H := H.2 hc
    refine g_aload (r := _) rfl rfl rfl (pc' := 27) ?_
    refine g_aload (r := _) rfl rfl rfl (pc' := 28) ?_
    refine g_iload rfl rfl rfl (pc' := 30) ?_
    obtain ⟨a1, rfl, H⟩ := H
    obtain ⟨ht3, H⟩ := H
    obtain ⟨n2, hn2, H⟩ := H
    refine g_baload rfl ht3 hn2 (pc' := 31) rfl ?_
    obtain ⟨a4, rfl, H⟩ := H
    obtain ⟨ht5, H⟩ := H
    refine g_call rfl (y := 459) (n := 2) (pc' := 34) (g_vt ht5 rfl rfl) rfl rfl ⟨(Nat.le_of_ble_eq_true rfl), (Nat.le_of_ble_eq_true rfl), (Nat.le_of_ble_eq_true rfl)⟩ rfl (gm_G.mono H (pV_elim (fun h6 H' => ?_) (fun e7 h8 H => ?_)))
    · show gm_G _ 34 _ _ _ _
      replace H := H'
      clear H'
      refine g_iinc (c := (Int32.ofNat 1)) rfl rfl rfl rfl rfl (pc' := 37) ?_
      refine g_goto rfl (pc' := 19) rfl ?_
      exact g_weak (show gm_Lle [none, some _, none, some _, some _, some _] _ from ⟨rfl, ⟨rfl, ⟨rfl, ⟨rfl, trivial⟩⟩⟩⟩) H
    · exact H
set_option maxRecDepth 20000 in
theorem w_506_0 {a0 : Nat} {j1 : Int64} {h : hh_T} {Q : Option Value ⊕ Nat → hh_T → Prop} (H : gm_G 506 3 [some (.ref a0), some (.long j1), none, some (.int (Int32.ofNat 56))] [] h Q) : gm_G 506 0 [some (.ref a0), some (.long j1), none] [] h Q := by
  refine g_iconst rfl rfl rfl (pc' := 2) ?_
  refine g_istore rfl rfl rfl (pc' := 3) ?_
  exact g_weak (show gm_Lle [some _, some _, none, some _] _ from ⟨rfl, ⟨rfl, ⟨rfl, trivial⟩⟩⟩) H
set_option maxRecDepth 20000 in
theorem w_506_3 {a0 : Nat} {j1 : Int64} {x3 : Int32} {h : hh_T} {Q : Option Value ⊕ Nat → hh_T → Prop} (H : (x3 < Int32.ofNat 0 → (Q (.inl none) h)) ∧ (¬ x3 < Int32.ofNat 0 → (((lg_cmp ((j1 >>> (x3.toInt64 &&& 63)) &&& (Int64.ofNat 255)) (Int64.ofNat 0)) = Int32.ofNat 0 → (gm_G 506 27 [some (.ref a0), some (.long j1), none, some (.int x3)] [] h Q)) ∧ (¬ (lg_cmp ((j1 >>> (x3.toInt64 &&& 63)) &&& (Int64.ofNat 255)) (Int64.ofNat 0)) = Int32.ofNat 0 → (hh_tg h a0 = 13 ∧ (gm_G 459 0 [some (.ref a0), some (.int ((j1 >>> (x3.toInt64 &&& 63)).toInt32))] [] h (pV (fun h2 => gm_G 506 27 [some (.ref a0), some (.long j1), none, some (.int x3)] [] h2 Q) (fun e3 h4 => hh_tg h4 e3 = 21 ∧ Q (.inr e3) h4)))))))) : gm_G 506 3 [some (.ref a0), some (.long j1), none, some (.int x3)] [] h Q := by
  refine g_iload rfl rfl rfl (pc' := 4) ?_
  refine g_if_lt rfl (pc' := 7) (pt := 33) rfl rfl ⟨fun hc => ?_, fun hc => ?_⟩
  · replace H := H.1 hc
    exact g_return rfl H
  · replace H := H.2 hc
    refine g_lload rfl rfl rfl (pc' := 8) ?_
    refine g_iload rfl rfl rfl (pc' := 9) ?_
    refine g_lshr rfl rfl (pc' := 10) ?_
    refine g_lconst rfl rfl rfl (pc' := 13) ?_
    refine g_land rfl rfl (pc' := 14) ?_
    refine g_lconst rfl rfl rfl (pc' := 15) ?_
    refine g_lcmp rfl rfl (pc' := 16) ?_
    refine g_if_eq rfl (pc' := 19) (pt := 27) rfl rfl ⟨fun hc => ?_, fun hc => ?_⟩
    · replace H := H.1 hc
      exact g_weak (show gm_Lle [some _, some _, none, some _] _ from ⟨rfl, ⟨rfl, ⟨rfl, trivial⟩⟩⟩) H
    · replace H := H.2 hc
      refine g_aload (r := some _) rfl rfl rfl (pc' := 20) ?_
      refine g_lload rfl rfl rfl (pc' := 21) ?_
      refine g_iload rfl rfl rfl (pc' := 22) ?_
      refine g_lshr rfl rfl (pc' := 23) ?_
      refine g_l2i rfl rfl (pc' := 24) ?_
      obtain ⟨ht1, H⟩ := H
      refine g_call rfl (y := 459) (n := 2) (pc' := 27) (g_vt ht1 rfl rfl) rfl rfl ⟨(Nat.le_of_ble_eq_true rfl), (Nat.le_of_ble_eq_true rfl), (Nat.le_of_ble_eq_true rfl)⟩ rfl (gm_G.mono H (pV_elim (fun h2 H' => ?_) (fun e3 h4 H => ?_)))
      · show gm_G _ 27 _ _ _ _
        replace H := H'
        clear H'
        exact g_weak (show gm_Lle [some _, some _, none, some _] _ from ⟨rfl, ⟨rfl, ⟨rfl, trivial⟩⟩⟩) H
      · exact H
set_option maxRecDepth 20000 in
theorem w_506_27 {a0 : Nat} {j1 : Int64} {x3 : Int32} {h : hh_T} {Q : Option Value ⊕ Nat → hh_T → Prop} (H : gm_G 506 3 [some (.ref a0), some (.long j1), none, some (.int (x3 + (Int32.ofInt (-8))))] [] h Q) : gm_G 506 27 [some (.ref a0), some (.long j1), none, some (.int x3)] [] h Q := by
  refine g_iinc (c := (Int32.ofInt (-8))) rfl rfl rfl rfl rfl (pc' := 30) ?_
  refine g_goto rfl (pc' := 3) rfl ?_
  exact g_weak (show gm_Lle [some _, some _, none, some _] _ from ⟨rfl, ⟨rfl, ⟨rfl, trivial⟩⟩⟩) H
set_option maxRecDepth 20000 in
theorem w_507_0 {a0 : Nat} {x1 : Int32} {h : hh_T} {Q : Option Value ⊕ Nat → hh_T → Prop} (H : hh_tg h a0 = 13 ∧ (gm_G 459 0 [some (.ref a0), some (.int (x1 >>> ((Int32.ofNat 8) &&& 31)))] [] h (pV (fun h2 => hh_tg h2 a0 = 13 ∧ (gm_G 459 0 [some (.ref a0), some (.int x1)] [] h2 (pV (fun h4 => Q (.inl none) h4) (fun e5 h6 => hh_tg h6 e5 = 21 ∧ Q (.inr e5) h6)))) (fun e7 h8 => hh_tg h8 e7 = 21 ∧ Q (.inr e7) h8)))) : gm_G 507 0 [some (.ref a0), some (.int x1)] [] h Q := by
  refine g_aload (r := some _) rfl rfl rfl (pc' := 1) ?_
  refine g_iload rfl rfl rfl (pc' := 2) ?_
  refine g_iconst rfl rfl rfl (pc' := 4) ?_
  refine g_ishr rfl rfl (pc' := 5) ?_
  obtain ⟨ht1, H⟩ := H
  refine g_call rfl (y := 459) (n := 2) (pc' := 8) (g_vt ht1 rfl rfl) rfl rfl ⟨(Nat.le_of_ble_eq_true rfl), (Nat.le_of_ble_eq_true rfl), (Nat.le_of_ble_eq_true rfl)⟩ rfl (gm_G.mono H (pV_elim (fun h2 H' => ?_) (fun e7 h8 H => ?_)))
  · show gm_G _ 8 _ _ _ _
    replace H := H'
    clear H'
    refine g_aload (r := some _) rfl rfl rfl (pc' := 9) ?_
    refine g_iload rfl rfl rfl (pc' := 10) ?_
    obtain ⟨ht3, H⟩ := H
    refine g_call rfl (y := 459) (n := 2) (pc' := 13) (g_vt ht3 rfl rfl) rfl rfl ⟨(Nat.le_of_ble_eq_true rfl), (Nat.le_of_ble_eq_true rfl), (Nat.le_of_ble_eq_true rfl)⟩ rfl (gm_G.mono H (pV_elim (fun h4 H' => ?_) (fun e5 h6 H => ?_)))
    · show gm_G _ 13 _ _ _ _
      replace H := H'
      clear H'
      exact g_return rfl H
    · exact H
  · exact H
set_option maxRecDepth 20000 in
theorem w_508_0 {a0 : Nat} {x1 : Int32} {x2 : Int32} {x3 : Int32} {r_4 : Option Nat} {h : hh_T} {Q : Option Value ⊕ Nat → hh_T → Prop} (H : ∃ a1, r_4 = some a1 ∧ (hh_tg h a1 = 13 ∧ (gm_G 459 0 [some (.ref a1), some (.int x1)] [] h (pV (fun h3 => hh_tg h3 a1 = 13 ∧ (gm_G 459 0 [some (.ref a1), some (.int x2)] [] h3 (pV (fun h5 => hh_tg h5 a1 = 13 ∧ (gm_G 459 0 [some (.ref a1), some (.int x3)] [] h5 (pV (fun h7 => hh_tg h7 a1 = 13 ∧ (gm_G 459 0 [some (.ref a1), some (.int (((((Int32.ofNat 7) * x1) + ((Int32.ofNat 13) * x2)) + ((Int32.ofNat 29) * x3)) + (Int32.ofNat 5)))] [] h7 (pV (fun h9 => Q (.inl none) h9) (fun e10 h11 => hh_tg h11 e10 = 21 ∧ Q (.inr e10) h11)))) (fun e12 h13 => hh_tg h13 e12 = 21 ∧ Q (.inr e12) h13)))) (fun e14 h15 => hh_tg h15 e14 = 21 ∧ Q (.inr e14) h15)))) (fun e16 h17 => hh_tg h17 e16 = 21 ∧ Q (.inr e16) h17))))) : gm_G 508 0 [some (.ref a0), some (.int x1), some (.int x2), some (.int x3), some (va_rf r_4)] [] h Q := by
  refine g_aload (r := _) rfl rfl rfl (pc' := 2) ?_
  refine g_iload rfl rfl rfl (pc' := 3) ?_
  obtain ⟨a1, rfl, H⟩ := H
  obtain ⟨ht2, H⟩ := H
  refine g_call rfl (y := 459) (n := 2) (pc' := 6) (g_vt ht2 rfl rfl) rfl rfl ⟨(Nat.le_of_ble_eq_true rfl), (Nat.le_of_ble_eq_true rfl), (Nat.le_of_ble_eq_true rfl)⟩ rfl (gm_G.mono H (pV_elim (fun h3 H' => ?_) (fun e16 h17 H => ?_)))
  · show gm_G _ 6 _ _ _ _
    replace H := H'
    clear H'
    refine g_aload (r := some _) rfl rfl rfl (pc' := 8) ?_
    refine g_iload rfl rfl rfl (pc' := 9) ?_
    obtain ⟨ht4, H⟩ := H
    refine g_call rfl (y := 459) (n := 2) (pc' := 12) (g_vt ht4 rfl rfl) rfl rfl ⟨(Nat.le_of_ble_eq_true rfl), (Nat.le_of_ble_eq_true rfl), (Nat.le_of_ble_eq_true rfl)⟩ rfl (gm_G.mono H (pV_elim (fun h5 H' => ?_) (fun e14 h15 H => ?_)))
    · show gm_G _ 12 _ _ _ _
      replace H := H'
      clear H'
      refine g_aload (r := some _) rfl rfl rfl (pc' := 14) ?_
      refine g_iload rfl rfl rfl (pc' := 15) ?_
      obtain ⟨ht6, H⟩ := H
      refine g_call rfl (y := 459) (n := 2) (pc' := 18) (g_vt ht6 rfl rfl) rfl rfl ⟨(Nat.le_of_ble_eq_true rfl), (Nat.le_of_ble_eq_true rfl), (Nat.le_of_ble_eq_true rfl)⟩ rfl (gm_G.mono H (pV_elim (fun h7 H' => ?_) (fun e12 h13 H => ?_)))
      · show gm_G _ 18 _ _ _ _
        replace H := H'
        clear H'
        refine g_aload (r := some _) rfl rfl rfl (pc' := 20) ?_
        refine g_iconst rfl rfl rfl (pc' := 22) ?_
        refine g_iload rfl rfl rfl (pc' := 23) ?_
        refine g_imul rfl rfl (pc' := 24) ?_
        refine g_iconst rfl rfl rfl (pc' := 26) ?_
        refine g_iload rfl rfl rfl (pc' := 27) ?_
        refine g_imul rfl rfl (pc' := 28) ?_
        refine g_iadd rfl rfl (pc' := 29) ?_
        refine g_iconst rfl rfl rfl (pc' := 31) ?_
        refine g_iload rfl rfl rfl (pc' := 32) ?_
        refine g_imul rfl rfl (pc' := 33) ?_
        refine g_iadd rfl rfl (pc' := 34) ?_
        refine g_iconst rfl rfl rfl (pc' := 35) ?_
        refine g_iadd rfl rfl (pc' := 36) ?_
        obtain ⟨ht8, H⟩ := H
        refine g_call rfl (y := 459) (n := 2) (pc' := 39) (g_vt ht8 rfl rfl) rfl rfl ⟨(Nat.le_of_ble_eq_true rfl), (Nat.le_of_ble_eq_true rfl), (Nat.le_of_ble_eq_true rfl)⟩ rfl (gm_G.mono H (pV_elim (fun h9 H' => ?_) (fun e10 h11 H => ?_)))
        · show gm_G _ 39 _ _ _ _
          replace H := H'
          clear H'
          exact g_return rfl H
        · exact H
      · exact H
    · exact H
  · exact H
set_option maxRecDepth 20000 in
theorem w_522_0 {a0 : Nat} {x1 : Int32} {h : hh_T} {Q : Option Value ⊕ Nat → hh_T → Prop} (H : hh_tg h a0 = 1 ∧ (gm_G 456 0 [some (.ref a0)] [] h (pV (fun h2 => gm_G 493 0 [some (.int x1)] [] h2 (pV (fun h3 => hh_tg h3 a0 = 1 ∧ (gm_G 447 0 [some (.ref a0), some (.int x1)] [] h3 (pR (fun r6 h5 => gm_sub (hh_tg h5 a0) 0 = true ∧ (∀ r8, r8 = hh_r h5 a0 51 → (∃ a9, r8 = some a9 ∧ (gm_sub (hh_tg h5 a9) 14 = true ∧ (∀ r11, r11 = hh_r h5 a9 0 → (∃ a12, r11 = some a12 ∧ (200 ≤ hh_tg h5 a12 ∧ (True) ∧ (∃ n13, gm_ix x1 n13 (hh_ln h5 a12) ∧ (∀ h14, h14 = hh_wr h5 a12 n13 none → (hh_tg h14 a0 = 1 ∧ (gm_G 4 0 [some (.ref a0), some (.int (Int32.ofNat 0))] [] h14 (pI (fun v17 h16 => Q (.inl (some (.int v17))) h16) (fun e18 h19 => hh_tg h19 e18 = 21 ∧ gm_G 522 30 [some (.ref a0)] [.ref e18] h19 Q))))))))))))) (fun e20 h21 => hh_tg h21 e20 = 21 ∧ gm_G 522 30 [some (.ref a0)] [.ref e20] h21 Q)))) (fun e22 h23 => hh_tg h23 e22 = 21 ∧ gm_G 522 30 [some (.ref a0)] [.ref e22] h23 Q))) (fun e24 h25 => hh_tg h25 e24 = 21 ∧ gm_G 522 30 [some (.ref a0)] [.ref e24] h25 Q)))) : gm_G 522 0 [some (.ref a0), some (.int x1)] [] h Q := by
  refine g_aload (r := some _) rfl rfl rfl (pc' := 1) ?_
  obtain ⟨ht1, H⟩ := H
  refine g_call rfl (y := 456) (n := 1) (pc' := 4) (g_vt ht1 rfl rfl) rfl rfl ⟨(Nat.le_of_ble_eq_true rfl), (Nat.le_of_ble_eq_true rfl), (Nat.le_of_ble_eq_true rfl)⟩ rfl (gm_G.mono H (pV_elim (fun h2 H' => ?_) (fun e24 h25 H => ?_)))
  · show gm_G _ 4 _ _ _ _
    replace H := H'
    clear H'
    refine g_iload rfl rfl rfl (pc' := 5) ?_
    refine g_call rfl (y := 493) (n := 1) (pc' := 8) (fun _ => rfl) rfl rfl ⟨(Nat.le_of_ble_eq_true rfl), (Nat.le_of_ble_eq_true rfl), (Nat.le_of_ble_eq_true rfl)⟩ rfl (gm_G.mono H (pV_elim (fun h3 H' => ?_) (fun e22 h23 H => ?_)))
    · show gm_G _ 8 _ _ _ _
      replace H := H'
      clear H'
      refine g_aload (r := some _) rfl rfl rfl (pc' := 9) ?_
      refine g_iload rfl rfl rfl (pc' := 10) ?_
      obtain ⟨ht4, H⟩ := H
      refine g_call rfl (y := 447) (n := 2) (pc' := 13) (g_vt ht4 rfl rfl) rfl rfl ⟨(Nat.le_of_ble_eq_true rfl), (Nat.le_of_ble_eq_true rfl), (Nat.le_of_ble_eq_true rfl)⟩ rfl (gm_G.mono H (pR_elim (fun r6 h5 H' => ?_) (fun e20 h21 H => ?_)))
      · show gm_G _ 13 _ _ _ _
        replace H := H'
        clear H'
        refine g_pop_a (r := _) rfl rfl (pc' := 14) ?_
        refine g_aload (r := some _) rfl rfl rfl (pc' := 15) ?_
        obtain ⟨ht7, H⟩ := H
        refine g_getRv rfl rfl rfl rfl ht7 (pc' := 18) rfl (fun r8 hr8 => ?_)
        replace H := H r8 hr8
        obtain ⟨a9, rfl, H⟩ := H
        obtain ⟨ht10, H⟩ := H
        refine g_getRv rfl rfl rfl rfl ht10 (pc' := 21) rfl (fun r11 hr11 => ?_)
        replace H := H r11 hr11
        refine g_iload rfl rfl rfl (pc' := 22) ?_
        refine g_null rfl rfl (pc' := 23) ?_
        obtain ⟨a12, rfl, H⟩ := H
        obtain ⟨Ha, Hb, H⟩ := H
        obtain ⟨n13, hn13, H⟩ := H
        refine g_aastore (r := _) rfl Ha (fun b hb => by cases hb) hn13 (pc' := 24) rfl ?_
        replace H := H _ rfl
        refine g_aload (r := some _) rfl rfl rfl (pc' := 25) ?_
        refine g_iconst rfl rfl rfl (pc' := 26) ?_
        obtain ⟨ht15, H⟩ := H
        refine g_call rfl (y := 4) (n := 2) (pc' := 29) (g_vt ht15 rfl rfl) rfl rfl ⟨(Nat.le_of_ble_eq_true rfl), (Nat.le_of_ble_eq_true rfl), (Nat.le_of_ble_eq_true rfl)⟩ rfl (gm_G.mono H (pI_elim (fun v17 h16 H' => ?_) (fun e18 h19 H => ?_)))
        · show gm_G _ 29 _ _ _ _
          replace H := H'
          clear H'
          exact g_ireturn rfl (Or.inl rfl) H
        · exact ⟨H.1, g_weak (show gm_Lle [some _] _ from ⟨rfl, trivial⟩) H.2⟩
      · exact ⟨H.1, g_weak (show gm_Lle [some _] _ from ⟨rfl, trivial⟩) H.2⟩
    · exact ⟨H.1, g_weak (show gm_Lle [some _] _ from ⟨rfl, trivial⟩) H.2⟩
  · exact ⟨H.1, g_weak (show gm_Lle [some _] _ from ⟨rfl, trivial⟩) H.2⟩
set_option maxRecDepth 20000 in
theorem w_522_30 {a0 : Nat} {ex : Nat} {h : hh_T} {Q : Option Value ⊕ Nat → hh_T → Prop} (H : hh_tg h a0 = 1 ∧ (gm_G 1 0 [some (.ref a0), some (.ref ex)] [] h (pI (fun v3 h2 => Q (.inl (some (.int v3))) h2) (fun e4 h5 => hh_tg h5 e4 = 21 ∧ Q (.inr e4) h5)))) : gm_G 522 30 [some (.ref a0)] [.ref ex] h Q := by
  refine g_astore (r := some _) rfl rfl rfl (pc' := 31) ?_
  refine g_aload (r := some _) rfl rfl rfl (pc' := 32) ?_
  refine g_aload (r := some _) rfl rfl rfl (pc' := 33) ?_
  obtain ⟨ht1, H⟩ := H
  refine g_call rfl (y := 1) (n := 2) (pc' := 36) (g_vt ht1 rfl rfl) rfl rfl ⟨(Nat.le_of_ble_eq_true rfl), (Nat.le_of_ble_eq_true rfl), (Nat.le_of_ble_eq_true rfl)⟩ rfl (gm_G.mono H (pI_elim (fun v3 h2 H' => ?_) (fun e4 h5 H => ?_)))
  · show gm_G _ 36 _ _ _ _
    replace H := H'
    clear H'
    exact g_ireturn rfl (Or.inl rfl) H
  · exact H
set_option maxRecDepth 20000 in
theorem w_523_0 {a0 : Nat}  {h : hh_T} {Q : Option Value ⊕ Nat → hh_T → Prop} (H : gm_G 523 2 [some (.ref a0), some (.int (Int32.ofNat 0))] [] h Q) : gm_G 523 0 [some (.ref a0)] [] h Q := by
  refine g_iconst rfl rfl rfl (pc' := 1) ?_
  refine g_istore rfl rfl rfl (pc' := 2) ?_
  exact g_weak (show gm_Lle [some _, some _] _ from ⟨rfl, ⟨rfl, trivial⟩⟩) H
set_option maxRecDepth 20000 in
theorem w_523_2 {a0 : Nat} {x1 : Int32} {h : hh_T} {Q : Option Value ⊕ Nat → hh_T → Prop} (H : gm_sub (hh_tg h a0) 0 = true ∧ ((¬ x1 < (hh_i h a0 35) → (∀ h2, h2 = hh_wi h a0 35 (Int32.ofNat 0) → (∀ r3, r3 = hh_r h2 a0 49 → (∃ a4, r3 = some a4 ∧ (hh_tg h2 a4 = 14 ∧ (gm_G 68 0 [some (.ref a4)] [] h2 (pV (fun h6 => gm_sub (hh_tg h6 a0) 0 = true ∧ (∀ h8, h8 = hh_wi h6 a0 61 (Int32.ofNat 0) → (∀ h9, h9 = hh_wi h8 a0 62 (Int32.ofNat 0) → (gm_G 523 48 [some (.ref a0)] [] h9 Q)))) (fun e10 h11 => hh_tg h11 e10 = 21 ∧ Q (.inr e10) h11)))))))) ∧ (x1 < (hh_i h a0 35) → (∀ r12, r12 = hh_r h a0 34 → (∃ a13, r12 = some a13 ∧ ((hh_tg h a13 = 104 ∨ 200 ≤ hh_tg h a13) ∧ (∃ n14, gm_ix x1 n14 (hh_ln h a13) ∧ (∀ r16, r16 = hh_r h a13 n14 → (hh_tg h a0 = 1 ∧ (gm_G 496 0 [some (.ref a0), some (va_rf r16)] [] h (pV (fun h18 => gm_G 523 2 [some (.ref a0), some (.int (x1 + (Int32.ofNat 1)))] [] h18 Q) (fun e19 h20 => hh_tg h20 e19 = 21 ∧ Q (.inr e19) h20)))))))))))) : gm_G 523 2 [some (.ref a0), some (.int x1)] [] h Q := by
  refine g_iload rfl rfl rfl (pc' := 3) ?_
  refine g_aload (r := some _) rfl rfl rfl (pc' := 4) ?_
  obtain ⟨ht1, H⟩ := H
  refine g_getI rfl rfl rfl rfl ht1 (pc' := 7) rfl ?_
  refine g_ic_ge rfl (pc' := 10) (pt := 26) rfl rfl ⟨fun hc => ?_, fun hc => ?_⟩
  · replace H := H.1 hc
    refine g_aload (r := some _) rfl rfl rfl (pc' := 27) ?_
    refine g_iconst rfl rfl rfl (pc' := 28) ?_
    refine g_putI rfl rfl rfl rfl ht1  (pc' := 31) rfl ?_
    replace H := H _ rfl
    refine g_aload (r := some _) rfl rfl rfl (pc' := 32) ?_
    refine g_getRv rfl rfl rfl rfl ht1 (pc' := 35) rfl (fun r3 hr3 => ?_)
    replace H := H r3 hr3
    obtain ⟨a4, rfl, H⟩ := H
    obtain ⟨ht5, H⟩ := H
    refine g_call rfl (y := 68) (n := 1) (pc' := 38) (g_vt ht5 rfl rfl) rfl rfl ⟨(Nat.le_of_ble_eq_true rfl), (Nat.le_of_ble_eq_true rfl), (Nat.le_of_ble_eq_true rfl)⟩ rfl (gm_G.mono H (pV_elim (fun h6 H' => ?_) (fun e10 h11 H => ?_)))
    · show gm_G _ 38 _ _ _ _
      replace H := H'
      clear H'
      refine g_aload (r := some _) rfl rfl rfl (pc' := 39) ?_
      refine g_iconst rfl rfl rfl (pc' := 40) ?_
      obtain ⟨ht7, H⟩ := H
      refine g_putI rfl rfl rfl rfl ht7  (pc' := 43) rfl ?_
      replace H := H _ rfl
      refine g_aload (r := some _) rfl rfl rfl (pc' := 44) ?_
      refine g_iconst rfl rfl rfl (pc' := 45) ?_
      refine g_putI rfl rfl rfl rfl ht7  (pc' := 48) rfl ?_
      replace H := H _ rfl
      exact g_weak (show gm_Lle [some _] _ from ⟨rfl, trivial⟩) H
    · exact H
  · replace H := H.2 hc
    refine g_aload (r := some _) rfl rfl rfl (pc' := 11) ?_
    refine g_aload (r := some _) rfl rfl rfl (pc' := 12) ?_
    refine g_getRv rfl rfl rfl rfl ht1 (pc' := 15) rfl (fun r12 hr12 => ?_)
    replace H := H r12 hr12
    refine g_iload rfl rfl rfl (pc' := 16) ?_
    obtain ⟨a13, rfl, H⟩ := H
    obtain ⟨ht15, H⟩ := H
    obtain ⟨n14, hn14, H⟩ := H
    refine g_aaloadv rfl ht15 hn14 (pc' := 17) rfl (fun r16 hr16 => ?_)
    replace H := H r16 hr16
    obtain ⟨ht17, H⟩ := H
    refine g_call rfl (y := 496) (n := 2) (pc' := 20) (g_vt ht17 rfl rfl) (by cases r16 <;> rfl) rfl ⟨(Nat.le_of_ble_eq_true rfl), (Nat.le_of_ble_eq_true rfl), (Nat.le_of_ble_eq_true rfl)⟩ rfl (gm_G.mono H (pV_elim (fun h18 H' => ?_) (fun e19 h20 H => ?_)))
    · show gm_G _ 20 _ _ _ _
      replace H := H'
      clear H'
      refine g_iinc (c := (Int32.ofNat 1)) rfl rfl rfl rfl rfl (pc' := 23) ?_
      refine g_goto rfl (pc' := 2) rfl ?_
      exact g_weak (show gm_Lle [some _, some _] _ from ⟨rfl, ⟨rfl, trivial⟩⟩) H
    · exact H
set_option maxRecDepth 20000 in
theorem w_523_48 {a0 : Nat}  {h : hh_T} {Q : Option Value ⊕ Nat → hh_T → Prop} (H : gm_G 523 50 [some (.ref a0), some (.int (Int32.ofNat 0))] [] h Q) : gm_G 523 48 [some (.ref a0)] [] h Q := by
  refine g_iconst rfl rfl rfl (pc' := 49) ?_
  refine g_istore rfl rfl rfl (pc' := 50) ?_
  exact g_weak (show gm_Lle [some _, some _] _ from ⟨rfl, ⟨rfl, trivial⟩⟩) H
set_option maxRecDepth 20000 in
theorem w_523_50 {a0 : Nat} {x1 : Int32} {h : hh_T} {Q : Option Value ⊕ Nat → hh_T → Prop} (H : gm_sub (hh_tg h a0) 0 = true ∧ ((¬ x1 < (hh_i h a0 1) → (gm_G 523 109 [some (.ref a0), some (.int (Int32.ofNat 0))] [] h Q)) ∧ (x1 < (hh_i h a0 1) → (∀ r2, r2 = hh_r h a0 0 → (∃ a3, r2 = some a3 ∧ ((hh_tg h a3 = 104 ∨ 200 ≤ hh_tg h a3) ∧ (∃ n4, gm_ix x1 n4 (hh_ln h a3) ∧ (∀ r6, r6 = hh_r h a3 n4 → (∃ a7, r6 = some a7 ∧ (gm_sub (hh_tg h a7) 21 = true ∧ (∀ h9, h9 = hh_wr h a7 5 none → (gm_G 523 70 [some (.ref a0), some (.int x1), some (.int (Int32.ofNat 0))] [] h9 Q)))))))))))) : gm_G 523 50 [some (.ref a0), some (.int x1)] [] h Q := by
  refine g_iload rfl rfl rfl (pc' := 51) ?_
  refine g_aload (r := some _) rfl rfl rfl (pc' := 52) ?_
  obtain ⟨ht1, H⟩ := H
  refine g_getI rfl rfl rfl rfl ht1 (pc' := 55) rfl ?_
  refine g_ic_ge rfl (pc' := 58) (pt := 107) rfl rfl ⟨fun hc => ?_, fun hc => ?_⟩
  · replace H := H.1 hc
    refine g_iconst rfl rfl rfl (pc' := 108) ?_
    refine g_istore rfl rfl rfl (pc' := 109) ?_
    exact g_weak (show gm_Lle [some _, some _] _ from ⟨rfl, ⟨rfl, trivial⟩⟩) H
  · replace H := H.2 hc
    refine g_aload (r := some _) rfl rfl rfl (pc' := 59) ?_
    refine g_getRv rfl rfl rfl rfl ht1 (pc' := 62) rfl (fun r2 hr2 => ?_)
    replace H := H r2 hr2
    refine g_iload rfl rfl rfl (pc' := 63) ?_
    obtain ⟨a3, rfl, H⟩ := H
    obtain ⟨ht5, H⟩ := H
    obtain ⟨n4, hn4, H⟩ := H
    refine g_aaloadv rfl ht5 hn4 (pc' := 64) rfl (fun r6 hr6 => ?_)
    replace H := H r6 hr6
    refine g_null rfl rfl (pc' := 65) ?_
    obtain ⟨a7, rfl, H⟩ := H
    obtain ⟨ht8, H⟩ := H
    refine g_putR rfl rfl rfl rfl ht8  (pc' := 68) rfl ?_
    replace H := H _ rfl
    refine g_iconst rfl rfl rfl (pc' := 69) ?_
    refine g_istore rfl rfl rfl (pc' := 70) ?_
    exact g_weak (show gm_Lle [some _, some _, some _] _ from ⟨rfl, ⟨rfl, ⟨rfl, trivial⟩⟩⟩) H
set_option maxRecDepth 20000 in
theorem w_523_70 {a0 : Nat} {x1 : Int32} {x2 : Int32} {h : hh_T} {Q : Option Value ⊕ Nat → hh_T → Prop} (H : gm_sub (hh_tg h a0) 0 = true ∧ (∀ r2, r2 = hh_r h a0 0 → (∃ a3, r2 = some a3 ∧ ((hh_tg h a3 = 104 ∨ 200 ≤ hh_tg h a3) ∧ (∃ n4, gm_ix x1 n4 (hh_ln h a3) ∧ (∀ r6, r6 = hh_r h a3 n4 → (∃ a7, r6 = some a7 ∧ (gm_sub (hh_tg h a7) 21 = true ∧ ((¬ x2 < (hh_i h a7 0) → (gm_G 523 50 [some (.ref a0), some (.int (x1 + (Int32.ofNat 1)))] [] h Q)) ∧ (x2 < (hh_i h a7 0) → (∀ r9, r9 = hh_r h a0 0 → (∃ a10, r9 = some a10 ∧ ((hh_tg h a10 = 104 ∨ 200 ≤ hh_tg h a10) ∧ (∃ n11, gm_ix x1 n11 (hh_ln h a10) ∧ (∀ r13, r13 = hh_r h a10 n11 → (∃ a14, r13 = some a14 ∧ (gm_sub (hh_tg h a14) 21 = true ∧ (∀ r16, r16 = hh_r h a14 3 → (∃ a17, r16 = some a17 ∧ (hh_tg h a17 = 102 ∧ (∃ n18, gm_ix x2 n18 (hh_ln h a17) ∧ (∀ h19, h19 = hh_wi h a17 n18 (Int32.ofNat 0) → (gm_G 523 70 [some (.ref a0), some (.int x1), some (.int (x2 + (Int32.ofNat 1)))] [] h19 Q))))))))))))))))))))))) : gm_G 523 70 [some (.ref a0), some (.int x1), some (.int x2)] [] h Q := by
  refine g_iload rfl rfl rfl (pc' := 71) ?_
  refine g_aload (r := some _) rfl rfl rfl (pc' := 72) ?_
  obtain ⟨ht1, H⟩ := H
  refine g_getRv rfl rfl rfl rfl ht1 (pc' := 75) rfl (fun r2 hr2 => ?_)
  replace H := H r2 hr2
  refine g_iload rfl rfl rfl (pc' := 76) ?_
  obtain ⟨a3, rfl, H⟩ := H
  obtain ⟨ht5, H⟩ := H
  obtain ⟨n4, hn4, H⟩ := H
  refine g_aaloadv rfl ht5 hn4 (pc' := 77) rfl (fun r6 hr6 => ?_)
  replace H := H r6 hr6
  obtain ⟨a7, rfl, H⟩ := H
  obtain ⟨ht8, H⟩ := H
  refine g_getI rfl rfl rfl rfl ht8 (pc' := 80) rfl ?_
  refine g_ic_ge rfl (pc' := 83) (pt := 101) rfl rfl ⟨fun hc => ?_, fun hc => ?_⟩
  · replace H := H.1 hc
    refine g_iinc (c := (Int32.ofNat 1)) rfl rfl rfl rfl rfl (pc' := 104) ?_
    refine g_goto rfl (pc' := 50) rfl ?_
    exact g_weak (show gm_Lle [some _, some _] _ from ⟨rfl, ⟨rfl, trivial⟩⟩) H
  · replace H := H.2 hc
    refine g_aload (r := some _) rfl rfl rfl (pc' := 84) ?_
    refine g_getRv rfl rfl rfl rfl ht1 (pc' := 87) rfl (fun r9 hr9 => ?_)
    replace H := H r9 hr9
    refine g_iload rfl rfl rfl (pc' := 88) ?_
    obtain ⟨a10, rfl, H⟩ := H
    obtain ⟨ht12, H⟩ := H
    obtain ⟨n11, hn11, H⟩ := H
    refine g_aaloadv rfl ht12 hn11 (pc' := 89) rfl (fun r13 hr13 => ?_)
    replace H := H r13 hr13
    obtain ⟨a14, rfl, H⟩ := H
    obtain ⟨ht15, H⟩ := H
    refine g_getRv rfl rfl rfl rfl ht15 (pc' := 92) rfl (fun r16 hr16 => ?_)
    replace H := H r16 hr16
    refine g_iload rfl rfl rfl (pc' := 93) ?_
    refine g_iconst rfl rfl rfl (pc' := 94) ?_
    obtain ⟨a17, rfl, H⟩ := H
    obtain ⟨ht20, H⟩ := H
    obtain ⟨n18, hn18, H⟩ := H
    refine g_zastore rfl ht20 hn18 (by decide) (pc' := 95) rfl ?_
    replace H := H _ rfl
    refine g_iinc (c := (Int32.ofNat 1)) rfl rfl rfl rfl rfl (pc' := 98) ?_
    refine g_goto rfl (pc' := 70) rfl ?_
    exact g_weak (show gm_Lle [some _, some _, some _] _ from ⟨rfl, ⟨rfl, ⟨rfl, trivial⟩⟩⟩) H
set_option maxRecDepth 20000 in
theorem w_523_109 {a0 : Nat} {x1 : Int32} {h : hh_T} {Q : Option Value ⊕ Nat → hh_T → Prop} (H : (¬ x1 < (Int32.ofNat 3) → (gm_sub (hh_tg h a0) 0 = true ∧ (∀ h2, h2 = hh_wi h a0 8 (Int32.ofNat 0) → (Q (.inl none) h2)))) ∧ (x1 < (Int32.ofNat 3) → (gm_sub (hh_tg h a0) 0 = true ∧ (∀ r4, r4 = hh_r h a0 7 → (∃ a5, r4 = some a5 ∧ (200 ≤ hh_tg h a5 ∧ (True) ∧ (∃ n6, gm_ix x1 n6 (hh_ln h a5) ∧ (∀ h7, h7 = hh_wr h a5 n6 none → (gm_G 523 109 [some (.ref a0), some (.int (x1 + (Int32.ofNat 1)))] [] h7 Q))))))))) : gm_G 523 109 [some (.ref a0), some (.int x1)] [] h Q := by
  refine g_iload rfl rfl rfl (pc' := 110) ?_
  refine g_iconst rfl rfl rfl (pc' := 111) ?_
  refine g_ic_ge rfl (pc' := 114) (pt := 127) rfl rfl ⟨fun hc => ?_, fun hc => ?_⟩
  · replace H := H.1 hc
    refine g_aload (r := some _) rfl rfl rfl (pc' := 128) ?_
    refine g_iconst rfl rfl rfl (pc' := 129) ?_
    obtain ⟨ht1, H⟩ := H
    refine g_putI rfl rfl rfl rfl ht1  (pc' := 132) rfl ?_
    replace H := H _ rfl
    exact g_return rfl H
  · replace H := H.2 hc
    refine g_aload (r := some _) rfl rfl rfl (pc' := 115) ?_
    obtain ⟨ht3, H⟩ := H
    refine g_getRv rfl rfl rfl rfl ht3 (pc' := 118) rfl (fun r4 hr4 => ?_)
    replace H := H r4 hr4
    refine g_iload rfl rfl rfl (pc' := 119) ?_
    refine g_null rfl rfl (pc' := 120) ?_
    obtain ⟨a5, rfl, H⟩ := H
    obtain ⟨Ha, Hb, H⟩ := H
    obtain ⟨n6, hn6, H⟩ := H
    refine g_aastore (r := _) rfl Ha (fun b hb => by cases hb) hn6 (pc' := 121) rfl ?_
    replace H := H _ rfl
    refine g_iinc (c := (Int32.ofNat 1)) rfl rfl rfl rfl rfl (pc' := 124) ?_
    refine g_goto rfl (pc' := 109) rfl ?_
    exact g_weak (show gm_Lle [some _, some _] _ from ⟨rfl, ⟨rfl, trivial⟩⟩) H
set_option maxRecDepth 20000 in
theorem w_524_0 {a0 : Nat}  {h : hh_T} {Q : Option Value ⊕ Nat → hh_T → Prop} (H : gm_sub (hh_tg h a0) 0 = true ∧ (∀ h2, h2 = hh_wi h a0 10 (Int32.ofNat 0) → (hh_tg h2 a0 = 1 ∧ (gm_G 414 0 [some (.ref a0)] [] h2 (pV (fun h4 => gm_sub (hh_tg h4 a0) 0 = true ∧ (∀ r6, r6 = hh_r h4 a0 49 → (∃ a7, r6 = some a7 ∧ (hh_tg h4 a7 = 14 ∧ (gm_G 69 0 [some (.ref a7)] [] h4 (pV (fun h9 => gm_sub (hh_tg h9 a0) 0 = true ∧ (∀ r11, r11 = hh_r h9 a0 33 → ((r11 = none → (gm_G 524 31 [some (.ref a0)] [] h9 Q)) ∧ (∀ a12, r11 = some a12 → (∀ r13, r13 = hh_r h9 a0 33 → (hh_tg h9 a0 = 1 ∧ (gm_G 496 0 [some (.ref a0), some (va_rf r13)] [] h9 (pV (fun h15 => gm_G 524 31 [some (.ref a0)] [] h15 Q) (fun e16 h17 => hh_tg h17 e16 = 21 ∧ Q (.inr e16) h17))))))))) (fun e18 h19 => hh_tg h19 e18 = 21 ∧ Q (.inr e18) h19))))))) (fun e20 h21 => hh_tg h21 e20 = 21 ∧ Q (.inr e20) h21)))))) : gm_G 524 0 [some (.ref a0)] [] h Q := by
  refine g_aload (r := some _) rfl rfl rfl (pc' := 1) ?_
  refine g_iconst rfl rfl rfl (pc' := 2) ?_
  obtain ⟨ht1, H⟩ := H
  refine g_putZ rfl rfl rfl rfl ht1 (by decide) (pc' := 5) rfl ?_
  replace H := H _ rfl
  refine g_aload (r := some _) rfl rfl rfl (pc' := 6) ?_
  obtain ⟨ht3, H⟩ := H
  refine g_call rfl (y := 414) (n := 1) (pc' := 9) (g_vt ht3 rfl rfl) rfl rfl ⟨(Nat.le_of_ble_eq_true rfl), (Nat.le_of_ble_eq_true rfl), (Nat.le_of_ble_eq_true rfl)⟩ rfl (gm_G.mono H (pV_elim (fun h4 H' => ?_) (fun e20 h21 H => ?_)))
  · show gm_G _ 9 _ _ _ _
    replace H := H'
    clear H'
    refine g_aload (r := some _) rfl rfl rfl (pc' := 10) ?_
    obtain ⟨ht5, H⟩ := H
    refine g_getRv rfl rfl rfl rfl ht5 (pc' := 13) rfl (fun r6 hr6 => ?_)
    replace H := H r6 hr6
    obtain ⟨a7, rfl, H⟩ := H
    obtain ⟨ht8, H⟩ := H
    refine g_call rfl (y := 69) (n := 1) (pc' := 16) (g_vt ht8 rfl rfl) rfl rfl ⟨(Nat.le_of_ble_eq_true rfl), (Nat.le_of_ble_eq_true rfl), (Nat.le_of_ble_eq_true rfl)⟩ rfl (gm_G.mono H (pV_elim (fun h9 H' => ?_) (fun e18 h19 H => ?_)))
    · show gm_G _ 16 _ _ _ _
      replace H := H'
      clear H'
      refine g_aload (r := some _) rfl rfl rfl (pc' := 17) ?_
      obtain ⟨ht10, H⟩ := H
      refine g_getRv rfl rfl rfl rfl ht10 (pc' := 20) rfl (fun r11 hr11 => ?_)
      replace H := H r11 hr11
      refine g_ifnull rfl (pc' := 23) (pt := 31) rfl rfl ⟨fun hc => ?_, fun a12 hc => ?_⟩
      · replace H := H.1 hc
        subst hc
        exact g_weak (show gm_Lle [some _] _ from ⟨rfl, trivial⟩) H
      · replace H := H.2 a12 hc
        subst hc
        refine g_aload (r := some _) rfl rfl rfl (pc' := 24) ?_
        refine g_aload (r := some _) rfl rfl rfl (pc' := 25) ?_
        refine g_getRv rfl rfl rfl rfl ht10 (pc' := 28) rfl (fun r13 hr13 => ?_)
        replace H := H r13 hr13
        obtain ⟨ht14, H⟩ := H
        refine g_call rfl (y := 496) (n := 2) (pc' := 31) (g_vt ht14 rfl rfl) (by cases r13 <;> rfl) rfl ⟨(Nat.le_of_ble_eq_true rfl), (Nat.le_of_ble_eq_true rfl), (Nat.le_of_ble_eq_true rfl)⟩ rfl (gm_G.mono H (pV_elim (fun h15 H' => ?_) (fun e16 h17 H => ?_)))
        · show gm_G _ 31 _ _ _ _
          replace H := H'
          clear H'
          exact g_weak (show gm_Lle [some _] _ from ⟨rfl, trivial⟩) H
        · exact H
    · exact H
  · exact H
set_option maxRecDepth 20000 in
theorem w_524_31 {a0 : Nat}  {h : hh_T} {Q : Option Value ⊕ Nat → hh_T → Prop} (H : gm_sub (hh_tg h a0) 0 = true ∧ (∀ h2, h2 = hh_wr h a0 33 none → (∀ r3, r3 = hh_r h2 a0 18 → (∃ a4, r3 = some a4 ∧ (hh_tg h2 a4 = 12 ∧ (gm_G 358 0 [some (.ref a4)] [] h2 (pV (fun h6 => gm_sub (hh_tg h6 a0) 0 = true ∧ (∀ r8, r8 = hh_r h6 a0 51 → (∃ a9, r8 = some a9 ∧ (hh_tg h6 a9 = 15 ∧ (gm_G 71 0 [some (.ref a9)] [] h6 (pV (fun h11 => gm_sub (hh_tg h11 a0) 0 = true ∧ (∀ r13, r13 = hh_r h11 a0 52 → (∃ a14, r13 = some a14 ∧ (hh_tg h11 a14 = 16 ∧ (gm_G 81 0 [some (.ref a14)] [] h11 (pV (fun h16 => gm_sub (hh_tg h16 a0) 0 = true ∧ (∀ r18, r18 = hh_r h16 a0 56 → (∃ a19, r18 = some a19 ∧ (hh_tg h16 a19 = 18 ∧ (gm_G 84 0 [some (.ref a19)] [] h16 (pV (fun h21 => gm_G 524 64 [] [] h21 Q) (fun e22 h23 => hh_tg h23 e22 = 21 ∧ Q (.inr e22) h23))))))) (fun e24 h25 => hh_tg h25 e24 = 21 ∧ Q (.inr e24) h25))))))) (fun e26 h27 => hh_tg h27 e26 = 21 ∧ Q (.inr e26) h27))))))) (fun e28 h29 => hh_tg h29 e28 = 21 ∧ Q (.inr e28) h29)))))))) : gm_G 524 31 [some (.ref a0)] [] h Q := by
  refine g_aload (r := some _) rfl rfl rfl (pc' := 32) ?_
  refine g_null rfl rfl (pc' := 33) ?_
  obtain ⟨ht1, H⟩ := H
  refine g_putR rfl rfl rfl rfl ht1  (pc' := 36) rfl ?_
  replace H := H _ rfl
  refine g_aload (r := some _) rfl rfl rfl (pc' := 37) ?_
  refine g_getRv rfl rfl rfl rfl ht1 (pc' := 40) rfl (fun r3 hr3 => ?_)
  replace H := H r3 hr3
  obtain ⟨a4, rfl, H⟩ := H
  obtain ⟨ht5, H⟩ := H
  refine g_call rfl (y := 358) (n := 1) (pc' := 43) (g_vt ht5 rfl rfl) rfl rfl ⟨(Nat.le_of_ble_eq_true rfl), (Nat.le_of_ble_eq_true rfl), (Nat.le_of_ble_eq_true rfl)⟩ rfl (gm_G.mono H (pV_elim (fun h6 H' => ?_) (fun e28 h29 H => ?_)))
  · show gm_G _ 43 _ _ _ _
    replace H := H'
    clear H'
    refine g_aload (r := some _) rfl rfl rfl (pc' := 44) ?_
    obtain ⟨ht7, H⟩ := H
    refine g_getRv rfl rfl rfl rfl ht7 (pc' := 47) rfl (fun r8 hr8 => ?_)
    replace H := H r8 hr8
    obtain ⟨a9, rfl, H⟩ := H
    obtain ⟨ht10, H⟩ := H
    refine g_call rfl (y := 71) (n := 1) (pc' := 50) (g_vt ht10 rfl rfl) rfl rfl ⟨(Nat.le_of_ble_eq_true rfl), (Nat.le_of_ble_eq_true rfl), (Nat.le_of_ble_eq_true rfl)⟩ rfl (gm_G.mono H (pV_elim (fun h11 H' => ?_) (fun e26 h27 H => ?_)))
    · show gm_G _ 50 _ _ _ _
      replace H := H'
      clear H'
      refine g_aload (r := some _) rfl rfl rfl (pc' := 51) ?_
      obtain ⟨ht12, H⟩ := H
      refine g_getRv rfl rfl rfl rfl ht12 (pc' := 54) rfl (fun r13 hr13 => ?_)
      replace H := H r13 hr13
      obtain ⟨a14, rfl, H⟩ := H
      obtain ⟨ht15, H⟩ := H
      refine g_call rfl (y := 81) (n := 1) (pc' := 57) (g_vt ht15 rfl rfl) rfl rfl ⟨(Nat.le_of_ble_eq_true rfl), (Nat.le_of_ble_eq_true rfl), (Nat.le_of_ble_eq_true rfl)⟩ rfl (gm_G.mono H (pV_elim (fun h16 H' => ?_) (fun e24 h25 H => ?_)))
      · show gm_G _ 57 _ _ _ _
        replace H := H'
        clear H'
        refine g_aload (r := some _) rfl rfl rfl (pc' := 58) ?_
        obtain ⟨ht17, H⟩ := H
        refine g_getRv rfl rfl rfl rfl ht17 (pc' := 61) rfl (fun r18 hr18 => ?_)
        replace H := H r18 hr18
        obtain ⟨a19, rfl, H⟩ := H
        obtain ⟨ht20, H⟩ := H
        refine g_call rfl (y := 84) (n := 1) (pc' := 64) (g_vt ht20 rfl rfl) rfl rfl ⟨(Nat.le_of_ble_eq_true rfl), (Nat.le_of_ble_eq_true rfl), (Nat.le_of_ble_eq_true rfl)⟩ rfl (gm_G.mono H (pV_elim (fun h21 H' => ?_) (fun e22 h23 H => ?_)))
        · show gm_G _ 64 _ _ _ _
          replace H := H'
          clear H'
          exact g_weak (show gm_Lle [] _ from trivial) H
        · exact H
      · exact H
    · exact H
  · exact H
set_option maxRecDepth 20000 in
theorem w_524_64 {a0 : Nat}  {h : hh_T} {Q : Option Value ⊕ Nat → hh_T → Prop} (H : Q (.inl none) h) : gm_G 524 64 [] [] h Q := by
  exact g_return rfl H
set_option maxRecDepth 20000 in
theorem w_525_0 {a0 : Nat} {x1 : Int32} {x2 : Int32} {h : hh_T} {Q : Option Value ⊕ Nat → hh_T → Prop} (H : hh_tg h a0 = 1 ∧ (gm_G 456 0 [some (.ref a0)] [] h (pV (fun h2 => gm_G 493 0 [some (.int x1)] [] h2 (pV (fun h3 => gm_G 5 0 [some (.int x2), some (.int (Int32.ofNat 0)), some (.int (Int32.ofNat 2))] [] h3 (pI (fun v5 h4 => gm_G 452 0 [some (.int v5)] [] h4 (pV (fun h6 => hh_tg h6 a0 = 1 ∧ (gm_G 447 0 [some (.ref a0), some (.int x1)] [] h6 (pR (fun r9 h8 => gm_G 525 23 [some (.ref a0), none, some (.int x2), some (va_rf r9)] [] h8 Q) (fun e10 h11 => hh_tg h11 e10 = 21 ∧ gm_G 525 65 [some (.ref a0)] [.ref e10] h11 Q)))) (fun e12 h13 => hh_tg h13 e12 = 21 ∧ gm_G 525 65 [some (.ref a0)] [.ref e12] h13 Q))) (fun e14 h15 => hh_tg h15 e14 = 21 ∧ gm_G 525 65 [some (.ref a0)] [.ref e14] h15 Q))) (fun e16 h17 => hh_tg h17 e16 = 21 ∧ gm_G 525 65 [some (.ref a0)] [.ref e16] h17 Q))) (fun e18 h19 => hh_tg h19 e18 = 21 ∧ gm_G 525 65 [some (.ref a0)] [.ref e18] h19 Q)))) : gm_G 525 0 [some (.ref a0), some (.int x1), some (.int x2)] [] h Q := by
  refine g_aload (r := some _) rfl rfl rfl (pc' := 1) ?_
  obtain ⟨ht1, H⟩ := H
  refine g_call rfl (y := 456) (n := 1) (pc' := 4) (g_vt ht1 rfl rfl) rfl rfl ⟨(Nat.le_of_ble_eq_true rfl), (Nat.le_of_ble_eq_true rfl), (Nat.le_of_ble_eq_true rfl)⟩ rfl (gm_G.mono H (pV_elim (fun h2 H' => ?_) (fun e18 h19 H => ?_)))
  · show gm_G _ 4 _ _ _ _
    replace H := H'
    clear H'
    refine g_iload rfl rfl rfl (pc' := 5) ?_
    refine g_call rfl (y := 493) (n := 1) (pc' := 8) (fun _ => rfl) rfl rfl ⟨(Nat.le_of_ble_eq_true rfl), (Nat.le_of_ble_eq_true rfl), (Nat.le_of_ble_eq_true rfl)⟩ rfl (gm_G.mono H (pV_elim (fun h3 H' => ?_) (fun e16 h17 H => ?_)))
    · show gm_G _ 8 _ _ _ _
      replace H := H'
      clear H'
      refine g_iload rfl rfl rfl (pc' := 9) ?_
      refine g_iconst rfl rfl rfl (pc' := 10) ?_
      refine g_iconst rfl rfl rfl (pc' := 11) ?_
      refine g_call rfl (y := 5) (n := 3) (pc' := 14) (fun _ => rfl) rfl rfl ⟨(Nat.le_of_ble_eq_true rfl), (Nat.le_of_ble_eq_true rfl), (Nat.le_of_ble_eq_true rfl)⟩ rfl (gm_G.mono H (pI_elim (fun v5 h4 H' => ?_) (fun e14 h15 H => ?_)))
      · show gm_G _ 14 _ _ _ _
        replace H := H'
        clear H'
        refine g_call rfl (y := 452) (n := 1) (pc' := 17) (fun _ => rfl) rfl rfl ⟨(Nat.le_of_ble_eq_true rfl), (Nat.le_of_ble_eq_true rfl), (Nat.le_of_ble_eq_true rfl)⟩ rfl (gm_G.mono H (pV_elim (fun h6 H' => ?_) (fun e12 h13 H => ?_)))
        · show gm_G _ 17 _ _ _ _
          replace H := H'
          clear H'
          refine g_aload (r := some _) rfl rfl rfl (pc' := 18) ?_
          refine g_iload rfl rfl rfl (pc' := 19) ?_
          obtain ⟨ht7, H⟩ := H
          refine g_call rfl (y := 447) (n := 2) (pc' := 22) (g_vt ht7 rfl rfl) rfl rfl ⟨(Nat.le_of_ble_eq_true rfl), (Nat.le_of_ble_eq_true rfl), (Nat.le_of_ble_eq_true rfl)⟩ rfl (gm_G.mono H (pR_elim (fun r9 h8 H' => ?_) (fun e10 h11 H => ?_)))
          · show gm_G _ 22 _ _ _ _
            replace H := H'
            clear H'
            refine g_astore (r := _) rfl rfl rfl (pc' := 23) ?_
            exact g_weak (show gm_Lle [some _, none, some _, some _] _ from ⟨rfl, ⟨rfl, ⟨rfl, trivial⟩⟩⟩) H
          · exact ⟨H.1, g_weak (show gm_Lle [some _] _ from ⟨rfl, trivial⟩) H.2⟩
        · exact ⟨H.1, g_weak (show gm_Lle [some _] _ from ⟨rfl, trivial⟩) H.2⟩
      · exact ⟨H.1, g_weak (show gm_Lle [some _] _ from ⟨rfl, trivial⟩) H.2⟩
    · exact ⟨H.1, g_weak (show gm_Lle [some _] _ from ⟨rfl, trivial⟩) H.2⟩
  · exact ⟨H.1, g_weak (show gm_Lle [some _] _ from ⟨rfl, trivial⟩) H.2⟩
set_option maxRecDepth 20000 in
theorem w_525_23 {a0 : Nat} {x2 : Int32} {r_3 : Option Nat} {h : hh_T} {Q : Option Value ⊕ Nat → hh_T → Prop} (H : (x2 = Int32.ofNat 0 → (gm_G 525 39 [some (.ref a0), none, some (.int x2), some (va_rf r_3)] [] h Q)) ∧ (¬ x2 = Int32.ofNat 0 → (gm_sub (hh_tg h a0) 0 = true ∧ (∀ r2, r2 = hh_r h a0 51 → (∃ a3, r2 = some a3 ∧ (hh_tg h a3 = 15 ∧ (gm_G 260 0 [some (.ref a3), some (va_rf r_3), some (.int x2)] [] h (pI (fun v6 h5 => (v6 = Int32.ofNat 0 → (gm_G 525 44 [some (.ref a0), none, some (.int x2), some (va_rf r_3)] [.int (Int32.ofNat 0)] h5 Q)) ∧ (¬ v6 = Int32.ofNat 0 → (gm_G 525 39 [some (.ref a0), none, some (.int x2), some (va_rf r_3)] [] h5 Q))) (fun e7 h8 => hh_tg h8 e7 = 21 ∧ gm_G 525 65 [some (.ref a0)] [.ref e7] h8 Q))))))))) : gm_G 525 23 [some (.ref a0), none, some (.int x2), some (va_rf r_3)] [] h Q := by
  refine g_iload rfl rfl rfl (pc' := 24) ?_
  refine g_if_eq rfl (pc' := 27) (pt := 39) rfl rfl ⟨fun hc => ?_, fun hc => ?_⟩
  · replace H := H.1 hc
    exact g_weak (show gm_Lle [some _, none, some _, some _] _ from ⟨rfl, ⟨rfl, ⟨rfl, trivial⟩⟩⟩) H
  · replace H := H.2 hc
    refine g_aload (r := some _) rfl rfl rfl (pc' := 28) ?_
    obtain ⟨ht1, H⟩ := H
    refine g_getRv rfl rfl rfl rfl ht1 (pc' := 31) rfl (fun r2 hr2 => ?_)
    replace H := H r2 hr2
    refine g_aload (r := _) rfl rfl rfl (pc' := 32) ?_
    refine g_iload rfl rfl rfl (pc' := 33) ?_
    obtain ⟨a3, rfl, H⟩ := H
    obtain ⟨ht4, H⟩ := H
    refine g_call rfl (y := 260) (n := 3) (pc' := 36) (g_vt ht4 rfl rfl) (by cases r_3 <;> rfl) rfl ⟨(Nat.le_of_ble_eq_true rfl), (Nat.le_of_ble_eq_true rfl), (Nat.le_of_ble_eq_true rfl)⟩ rfl (gm_G.mono H (pI_elim (fun v6 h5 H' => ?_) (fun e7 h8 H => ?_)))
    · show gm_G _ 36 _ _ _ _
      replace H := H'
      clear H'
      refine g_if_eq rfl (pc' := 39) (pt := 43) rfl rfl ⟨fun hc => ?_, fun hc => ?_⟩
      · replace H := H.1 hc
        refine g_iconst rfl rfl rfl (pc' := 44) ?_
        exact g_weak (show gm_Lle [some _, none, some _, some _] _ from ⟨rfl, ⟨rfl, ⟨rfl, trivial⟩⟩⟩) H
      · replace H := H.2 hc
        exact g_weak (show gm_Lle [some _, none, some _, some _] _ from ⟨rfl, ⟨rfl, ⟨rfl, trivial⟩⟩⟩) H
    · exact ⟨H.1, g_weak (show gm_Lle [some _] _ from ⟨rfl, trivial⟩) H.2⟩
set_option maxRecDepth 20000 in
theorem w_525_39 {a0 : Nat} {x2 : Int32} {r_3 : Option Nat} {h : hh_T} {Q : Option Value ⊕ Nat → hh_T → Prop} (H : gm_G 525 44 [some (.ref a0), none, some (.int x2), some (va_rf r_3)] [.int (Int32.ofNat 1)] h Q) : gm_G 525 39 [some (.ref a0), none, some (.int x2), some (va_rf r_3)] [] h Q := by
  refine g_iconst rfl rfl rfl (pc' := 40) ?_
  refine g_goto rfl (pc' := 44) rfl ?_
  exact g_weak (show gm_Lle [some _, none, some _, some _] _ from ⟨rfl, ⟨rfl, ⟨rfl, trivial⟩⟩⟩) H
set_option maxRecDepth 20000 in
theorem w_525_44 {a0 : Nat} {x2 : Int32} {r_3 : Option Nat} {y0 : Int32} {h : hh_T} {Q : Option Value ⊕ Nat → hh_T → Prop} (H : gm_G 431 0 [some (.int y0), some (.int (Int32.ofInt (-5)))] [] h (pV (fun h1 => ∃ a2, r_3 = some a2 ∧ (gm_sub (hh_tg h1 a2) 42 = true ∧ (∀ h4, h4 = hh_wi h1 a2 4 x2 → (∀ h5, h5 = hh_wi h4 a2 6 (Int32.ofNat 0) → (hh_tg h5 a0 = 1 ∧ (gm_G 4 0 [some (.ref a0), some (.int (Int32.ofNat 0))] [] h5 (pI (fun v8 h7 => Q (.inl (some (.int v8))) h7) (fun e9 h10 => hh_tg h10 e9 = 21 ∧ gm_G 525 65 [some (.ref a0)] [.ref e9] h10 Q)))))))) (fun e11 h12 => hh_tg h12 e11 = 21 ∧ gm_G 525 65 [some (.ref a0)] [.ref e11] h12 Q))) : gm_G 525 44 [some (.ref a0), none, some (.int x2), some (va_rf r_3)] [.int y0] h Q := by
  refine g_iconst rfl rfl rfl (pc' := 46) ?_
  refine g_call rfl (y := 431) (n := 2) (pc' := 49) (fun _ => rfl) rfl rfl ⟨(Nat.le_of_ble_eq_true rfl), (Nat.le_of_ble_eq_true rfl), (Nat.le_of_ble_eq_true rfl)⟩ rfl (gm_G.mono H (pV_elim (fun h1 H' => ?_) (fun e11 h12 H => ?_)))
  · show gm_G _ 49 _ _ _ _
    replace H := H'
    clear H'
    refine g_aload (r := _) rfl rfl rfl (pc' := 50) ?_
    refine g_iload rfl rfl rfl (pc' := 51) ?_
    obtain ⟨a2, rfl, H⟩ := H
    obtain ⟨ht3, H⟩ := H
    refine g_putI rfl rfl rfl rfl ht3  (pc' := 54) rfl ?_
    replace H := H _ rfl
    refine g_aload (r := some _) rfl rfl rfl (pc' := 55) ?_
    refine g_iconst rfl rfl rfl (pc' := 56) ?_
    refine g_putZ rfl rfl rfl rfl ht3 (by decide) (pc' := 59) rfl ?_
    replace H := H _ rfl
    refine g_aload (r := some _) rfl rfl rfl (pc' := 60) ?_
    refine g_iconst rfl rfl rfl (pc' := 61) ?_
    obtain ⟨ht6, H⟩ := H
    refine g_call rfl (y := 4) (n := 2) (pc' := 64) (g_vt ht6 rfl rfl) rfl rfl ⟨(Nat.le_of_ble_eq_true rfl), (Nat.le_of_ble_eq_true rfl), (Nat.le_of_ble_eq_true rfl)⟩ rfl (gm_G.mono H (pI_elim (fun v8 h7 H' => ?_) (fun e9 h10 H => ?_)))
    · show gm_G _ 64 _ _ _ _
      replace H := H'
      clear H'
      exact g_ireturn rfl (Or.inl rfl) H
    · exact ⟨H.1, g_weak (show gm_Lle [some _] _ from ⟨rfl, trivial⟩) H.2⟩
  · exact ⟨H.1, g_weak (show gm_Lle [some _] _ from ⟨rfl, trivial⟩) H.2⟩
set_option maxRecDepth 20000 in
theorem w_525_65 {a0 : Nat} {ex : Nat} {h : hh_T} {Q : Option Value ⊕ Nat → hh_T → Prop} (H : hh_tg h a0 = 1 ∧ (gm_G 1 0 [some (.ref a0), some (.ref ex)] [] h (pI (fun v3 h2 => Q (.inl (some (.int v3))) h2) (fun e4 h5 => hh_tg h5 e4 = 21 ∧ Q (.inr e4) h5)))) : gm_G 525 65 [some (.ref a0)] [.ref ex] h Q := by
  refine g_astore (r := some _) rfl rfl rfl (pc' := 66) ?_
  refine g_aload (r := some _) rfl rfl rfl (pc' := 67) ?_
  refine g_aload (r := some _) rfl rfl rfl (pc' := 68) ?_
  obtain ⟨ht1, H⟩ := H
  refine g_call rfl (y := 1) (n := 2) (pc' := 71) (g_vt ht1 rfl rfl) rfl rfl ⟨(Nat.le_of_ble_eq_true rfl), (Nat.le_of_ble_eq_true rfl), (Nat.le_of_ble_eq_true rfl)⟩ rfl (gm_G.mono H (pI_elim (fun v3 h2 H' => ?_) (fun e4 h5 H => ?_)))
  · show gm_G _ 71 _ _ _ _
    replace H := H'
    clear H'
    exact g_ireturn rfl (Or.inl rfl) H
  · exact H
set_option maxRecDepth 20000 in
theorem w_526_0 {a0 : Nat} {x1 : Int32} {h : hh_T} {Q : Option Value ⊕ Nat → hh_T → Prop} (H : hh_tg h a0 = 1 ∧ (gm_G 456 0 [some (.ref a0)] [] h (pV (fun h2 => gm_G 493 0 [some (.int x1)] [] h2 (pV (fun h3 => hh_tg h3 a0 = 1 ∧ (gm_G 447 0 [some (.ref a0), some (.int x1)] [] h3 (pR (fun r6 h5 => ∃ a7, r6 = some a7 ∧ (gm_sub (hh_tg h5 a7) 42 = true ∧ (((hh_i h5 a7 6) = Int32.ofNat 0 → (gm_G 526 31 [some (.ref a0)] [.int (Int32.ofNat 0), .int (hh_i h5 a7 4), .ref a0] h5 Q)) ∧ (¬ (hh_i h5 a7 6) = Int32.ofNat 0 → (gm_G 526 31 [some (.ref a0)] [.int (Int32.ofNat 4), .int (hh_i h5 a7 4), .ref a0] h5 Q))))) (fun e9 h10 => hh_tg h10 e9 = 21 ∧ gm_G 526 36 [some (.ref a0)] [.ref e9] h10 Q)))) (fun e11 h12 => hh_tg h12 e11 = 21 ∧ gm_G 526 36 [some (.ref a0)] [.ref e11] h12 Q))) (fun e13 h14 => hh_tg h14 e13 = 21 ∧ gm_G 526 36 [some (.ref a0)] [.ref e13] h14 Q)))) : gm_G 526 0 [some (.ref a0), some (.int x1)] [] h Q := by
  refine g_aload (r := some _) rfl rfl rfl (pc' := 1) ?_
  obtain ⟨ht1, H⟩ := H
  refine g_call rfl (y := 456) (n := 1) (pc' := 4) (g_vt ht1 rfl rfl) rfl rfl ⟨(Nat.le_of_ble_eq_true rfl), (Nat.le_of_ble_eq_true rfl), (Nat.le_of_ble_eq_true rfl)⟩ rfl (gm_G.mono H (pV_elim (fun h2 H' => ?_) (fun e13 h14 H => ?_)))
  · show gm_G _ 4 _ _ _ _
    replace H := H'
    clear H'
    refine g_iload rfl rfl rfl (pc' := 5) ?_
    refine g_call rfl (y := 493) (n := 1) (pc' := 8) (fun _ => rfl) rfl rfl ⟨(Nat.le_of_ble_eq_true rfl), (Nat.le_of_ble_eq_true rfl), (Nat.le_of_ble_eq_true rfl)⟩ rfl (gm_G.mono H (pV_elim (fun h3 H' => ?_) (fun e11 h12 H => ?_)))
    · show gm_G _ 8 _ _ _ _
      replace H := H'
      clear H'
      refine g_aload (r := some _) rfl rfl rfl (pc' := 9) ?_
      refine g_iload rfl rfl rfl (pc' := 10) ?_
      obtain ⟨ht4, H⟩ := H
      refine g_call rfl (y := 447) (n := 2) (pc' := 13) (g_vt ht4 rfl rfl) rfl rfl ⟨(Nat.le_of_ble_eq_true rfl), (Nat.le_of_ble_eq_true rfl), (Nat.le_of_ble_eq_true rfl)⟩ rfl (gm_G.mono H (pR_elim (fun r6 h5 H' => ?_) (fun e9 h10 H => ?_)))
      · show gm_G _ 13 _ _ _ _
        replace H := H'
        clear H'
        refine g_astore (r := _) rfl rfl rfl (pc' := 14) ?_
        refine g_aload (r := some _) rfl rfl rfl (pc' := 15) ?_
        refine g_aload (r := _) rfl rfl rfl (pc' := 16) ?_
        obtain ⟨a7, rfl, H⟩ := H
        obtain ⟨ht8, H⟩ := H
        refine g_getI rfl rfl rfl rfl ht8 (pc' := 19) rfl ?_
        refine g_aload (r := some _) rfl rfl rfl (pc' := 20) ?_
        refine g_getZ rfl rfl rfl rfl ht8 (pc' := 23) rfl ?_
        refine g_if_eq rfl (pc' := 26) (pt := 30) rfl rfl ⟨fun hc => ?_, fun hc => ?_⟩
        · replace H := H.1 hc
          refine g_iconst rfl rfl rfl (pc' := 31) ?_
          exact g_weak (show gm_Lle [some _] _ from ⟨rfl, trivial⟩) H
        · replace H := H.2 hc
          refine g_iconst rfl rfl rfl (pc' := 27) ?_
          refine g_goto rfl (pc' := 31) rfl ?_
          exact g_weak (show gm_Lle [some _] _ from ⟨rfl, trivial⟩) H
      · exact ⟨H.1, g_weak (show gm_Lle [some _] _ from ⟨rfl, trivial⟩) H.2⟩
    · exact ⟨H.1, g_weak (show gm_Lle [some _] _ from ⟨rfl, trivial⟩) H.2⟩
  · exact ⟨H.1, g_weak (show gm_Lle [some _] _ from ⟨rfl, trivial⟩) H.2⟩
set_option maxRecDepth 20000 in
theorem w_526_31 {a0 : Nat} {y0 : Int32} {y1 : Int32} {q2 : Option Nat} {h : hh_T} {Q : Option Value ⊕ Nat → hh_T → Prop} (H : ∃ a1, q2 = some a1 ∧ (hh_tg h a1 = 1 ∧ (gm_G 4 0 [some (.ref a1), some (.int (y1 + y0))] [] h (pI (fun v4 h3 => Q (.inl (some (.int v4))) h3) (fun e5 h6 => hh_tg h6 e5 = 21 ∧ gm_G 526 36 [some (.ref a0)] [.ref e5] h6 Q))))) : gm_G 526 31 [some (.ref a0)] [.int y0, .int y1, va_rf q2] h Q := by
  refine g_iadd rfl rfl (pc' := 32) ?_
  obtain ⟨a1, rfl, H⟩ := H
  obtain ⟨ht2, H⟩ := H
  refine g_call rfl (y := 4) (n := 2) (pc' := 35) (g_vt ht2 rfl rfl) rfl rfl ⟨(Nat.le_of_ble_eq_true rfl), (Nat.le_of_ble_eq_true rfl), (Nat.le_of_ble_eq_true rfl)⟩ rfl (gm_G.mono H (pI_elim (fun v4 h3 H' => ?_) (fun e5 h6 H => ?_)))
  · show gm_G _ 35 _ _ _ _
    replace H := H'
    clear H'
    exact g_ireturn rfl (Or.inl rfl) H
  · exact ⟨H.1, g_weak (show gm_Lle [some _] _ from ⟨rfl, trivial⟩) H.2⟩
set_option maxRecDepth 20000 in
theorem w_526_36 {a0 : Nat} {ex : Nat} {h : hh_T} {Q : Option Value ⊕ Nat → hh_T → Prop} (H : hh_tg h a0 = 1 ∧ (gm_G 1 0 [some (.ref a0), some (.ref ex)] [] h (pI (fun v3 h2 => Q (.inl (some (.int v3))) h2) (fun e4 h5 => hh_tg h5 e4 = 21 ∧ Q (.inr e4) h5)))) : gm_G 526 36 [some (.ref a0)] [.ref ex] h Q := by
  refine g_astore (r := some _) rfl rfl rfl (pc' := 37) ?_
  refine g_aload (r := some _) rfl rfl rfl (pc' := 38) ?_
  refine g_aload (r := some _) rfl rfl rfl (pc' := 39) ?_
  obtain ⟨ht1, H⟩ := H
  refine g_call rfl (y := 1) (n := 2) (pc' := 42) (g_vt ht1 rfl rfl) rfl rfl ⟨(Nat.le_of_ble_eq_true rfl), (Nat.le_of_ble_eq_true rfl), (Nat.le_of_ble_eq_true rfl)⟩ rfl (gm_G.mono H (pI_elim (fun v3 h2 H' => ?_) (fun e4 h5 H => ?_)))
  · show gm_G _ 42 _ _ _ _
    replace H := H'
    clear H'
    exact g_ireturn rfl (Or.inl rfl) H
  · exact H
set_option maxRecDepth 20000 in
theorem w_527_0 {a0 : Nat} {x1 : Int32} {x2 : Int32} {x3 : Int32} {h : hh_T} {Q : Option Value ⊕ Nat → hh_T → Prop} (H : hh_tg h a0 = 1 ∧ (gm_G 456 0 [some (.ref a0)] [] h (pV (fun h2 => hh_tg h2 a0 = 1 ∧ (gm_G 492 0 [some (.ref a0), some (.int x1)] [] h2 (pR (fun r5 h4 => gm_G 448 0 [some (va_rf r5), some (.int x2)] [] h4 (pR (fun r7 h6 => ∃ a8, r7 = some a8 ∧ (gm_sub (hh_tg h6 a8) 25 = true ∧ ((¬ (hh_i h6 a8 1) = (Int32.ofNat 2) → (gm_G 527 29 [some (.ref a0), none, none, some (.int x3), some (.ref a8)] [.int (Int32.ofNat 0)] h6 Q)) ∧ ((hh_i h6 a8 1) = (Int32.ofNat 2) → (gm_G 527 29 [some (.ref a0), none, none, some (.int x3), some (.ref a8)] [.int (Int32.ofNat 1)] h6 Q))))) (fun e10 h11 => hh_tg h11 e10 = 21 ∧ gm_G 527 108 [some (.ref a0)] [.ref e10] h11 Q))) (fun e12 h13 => hh_tg h13 e12 = 21 ∧ gm_G 527 108 [some (.ref a0)] [.ref e12] h13 Q)))) (fun e14 h15 => hh_tg h15 e14 = 21 ∧ gm_G 527 108 [some (.ref a0)] [.ref e14] h15 Q)))) : gm_G 527 0 [some (.ref a0), some (.int x1), some (.int x2), some (.int x3)] [] h Q := by
  refine g_aload (r := some _) rfl rfl rfl (pc' := 1) ?_
  obtain ⟨ht1, H⟩ := H
  refine g_call rfl (y := 456) (n := 1) (pc' := 4) (g_vt ht1 rfl rfl) rfl rfl ⟨(Nat.le_of_ble_eq_true rfl), (Nat.le_of_ble_eq_true rfl), (Nat.le_of_ble_eq_true rfl)⟩ rfl (gm_G.mono H (pV_elim (fun h2 H' => ?_) (fun e14 h15 H => ?_)))
  · show gm_G _ 4 _ _ _ _
    replace H := H'
    clear H'
    refine g_aload (r := some _) rfl rfl rfl (pc' := 5) ?_
    refine g_iload rfl rfl rfl (pc' := 6) ?_
    obtain ⟨ht3, H⟩ := H
    refine g_call rfl (y := 492) (n := 2) (pc' := 9) (g_vt ht3 rfl rfl) rfl rfl ⟨(Nat.le_of_ble_eq_true rfl), (Nat.le_of_ble_eq_true rfl), (Nat.le_of_ble_eq_true rfl)⟩ rfl (gm_G.mono H (pR_elim (fun r5 h4 H' => ?_) (fun e12 h13 H => ?_)))
    · show gm_G _ 9 _ _ _ _
      replace H := H'
      clear H'
      refine g_iload rfl rfl rfl (pc' := 10) ?_
      refine g_call rfl (y := 448) (n := 2) (pc' := 13) (fun _ => rfl) (by cases r5 <;> rfl) rfl ⟨(Nat.le_of_ble_eq_true rfl), (Nat.le_of_ble_eq_true rfl), (Nat.le_of_ble_eq_true rfl)⟩ rfl (gm_G.mono H (pR_elim (fun r7 h6 H' => ?_) (fun e10 h11 H => ?_)))
      · show gm_G _ 13 _ _ _ _
        replace H := H'
        clear H'
        refine g_astore (r := _) rfl rfl rfl (pc' := 15) ?_
        refine g_aload (r := _) rfl rfl rfl (pc' := 17) ?_
        obtain ⟨a8, rfl, H⟩ := H
        obtain ⟨ht9, H⟩ := H
        refine g_getI rfl rfl rfl rfl ht9 (pc' := 20) rfl ?_
        refine g_iconst rfl rfl rfl (pc' := 21) ?_
        refine g_ic_ne rfl (pc' := 24) (pt := 28) rfl rfl ⟨fun hc => ?_, fun hc => ?_⟩
        · replace H := H.1 hc
          refine g_iconst rfl rfl rfl (pc' := 29) ?_
          exact g_weak (show gm_Lle [some _, none, none, some _, some _] _ from ⟨rfl, ⟨rfl, ⟨rfl, trivial⟩⟩⟩) H
        · replace H := H.2 hc
          refine g_iconst rfl rfl rfl (pc' := 25) ?_
          refine g_goto rfl (pc' := 29) rfl ?_
          exact g_weak (show gm_Lle [some _, none, none, some _, some _] _ from ⟨rfl, ⟨rfl, ⟨rfl, trivial⟩⟩⟩) H
      · exact ⟨H.1, g_weak (show gm_Lle [some _] _ from ⟨rfl, trivial⟩) H.2⟩
    · exact ⟨H.1, g_weak (show gm_Lle [some _] _ from ⟨rfl, trivial⟩) H.2⟩
  · exact ⟨H.1, g_weak (show gm_Lle [some _] _ from ⟨rfl, trivial⟩) H.2⟩
set_option maxRecDepth 20000 in
theorem w_527_29 {a0 : Nat} {x3 : Int32} {r_4 : Option Nat} {y0 : Int32} {h : hh_T} {Q : Option Value ⊕ Nat → hh_T → Prop} (H : gm_G 431 0 [some (.int y0), some (.int (Int32.ofInt (-10)))] [] h (pV (fun h1 => gm_sub (hh_tg h1 a0) 0 = true ∧ (hh_tg h1 a0 = 1 ∧ (gm_G 393 0 [some (.ref a0), some (va_rf r_4), some (.int (hh_i h1 a0 41)), some (.int (Int32.ofNat 4))] [] h1 (pI (fun v5 h4 => gm_G 431 0 [some (.int v5), some (.int (Int32.ofInt (-6)))] [] h4 (pV (fun h6 => ∃ a7, r_4 = some a7 ∧ (gm_sub (hh_tg h6 a7) 25 = true ∧ (gm_G 5 0 [some (.int x3), some (.int (Int32.ofNat 0)), some (.int ((hh_i h6 a7 6) - (Int32.ofNat 1)))] [] h6 (pI (fun v10 h9 => gm_G 431 0 [some (.int v10), some (.int (Int32.ofInt (-2)))] [] h9 (pV (fun h11 => gm_G 527 67 [some (.ref a0), none, none, some (.int x3), some (.ref a7)] [] h11 Q) (fun e12 h13 => hh_tg h13 e12 = 21 ∧ gm_G 527 108 [some (.ref a0)] [.ref e12] h13 Q))) (fun e14 h15 => hh_tg h15 e14 = 21 ∧ gm_G 527 108 [some (.ref a0)] [.ref e14] h15 Q))))) (fun e16 h17 => hh_tg h17 e16 = 21 ∧ gm_G 527 108 [some (.ref a0)] [.ref e16] h17 Q))) (fun e18 h19 => hh_tg h19 e18 = 21 ∧ gm_G 527 108 [some (.ref a0)] [.ref e18] h19 Q))))) (fun e20 h21 => hh_tg h21 e20 = 21 ∧ gm_G 527 108 [some (.ref a0)] [.ref e20] h21 Q))) : gm_G 527 29 [some (.ref a0), none, none, some (.int x3), some (va_rf r_4)] [.int y0] h Q := by
  refine g_iconst rfl rfl rfl (pc' := 31) ?_
  refine g_call rfl (y := 431) (n := 2) (pc' := 34) (fun _ => rfl) rfl rfl ⟨(Nat.le_of_ble_eq_true rfl), (Nat.le_of_ble_eq_true rfl), (Nat.le_of_ble_eq_true rfl)⟩ rfl (gm_G.mono H (pV_elim (fun h1 H' => ?_) (fun e20 h21 H => ?_)))
  · show gm_G _ 34 _ _ _ _
    replace H := H'
    clear H'
    refine g_aload (r := some _) rfl rfl rfl (pc' := 35) ?_
    refine g_aload (r := _) rfl rfl rfl (pc' := 37) ?_
    refine g_aload (r := some _) rfl rfl rfl (pc' := 38) ?_
    obtain ⟨ht2, H⟩ := H
    refine g_getI rfl rfl rfl rfl ht2 (pc' := 41) rfl ?_
    refine g_iconst rfl rfl rfl (pc' := 42) ?_
    obtain ⟨ht3, H⟩ := H
    refine g_call rfl (y := 393) (n := 4) (pc' := 45) (g_vt ht3 rfl rfl) (by cases r_4 <;> rfl) rfl ⟨(Nat.le_of_ble_eq_true rfl), (Nat.le_of_ble_eq_true rfl), (Nat.le_of_ble_eq_true rfl)⟩ rfl (gm_G.mono H (pI_elim (fun v5 h4 H' => ?_) (fun e18 h19 H => ?_)))
    · show gm_G _ 45 _ _ _ _
      replace H := H'
      clear H'
      refine g_iconst rfl rfl rfl (pc' := 47) ?_
      refine g_call rfl (y := 431) (n := 2) (pc' := 50) (fun _ => rfl) rfl rfl ⟨(Nat.le_of_ble_eq_true rfl), (Nat.le_of_ble_eq_true rfl), (Nat.le_of_ble_eq_true rfl)⟩ rfl (gm_G.mono H (pV_elim (fun h6 H' => ?_) (fun e16 h17 H => ?_)))
      · show gm_G _ 50 _ _ _ _
        replace H := H'
        clear H'
        refine g_iload rfl rfl rfl (pc' := 51) ?_
        refine g_iconst rfl rfl rfl (pc' := 52) ?_
        refine g_aload (r := _) rfl rfl rfl (pc' := 54) ?_
        obtain ⟨a7, rfl, H⟩ := H
        obtain ⟨ht8, H⟩ := H
        refine g_getI rfl rfl rfl rfl ht8 (pc' := 57) rfl ?_
        refine g_iconst rfl rfl rfl (pc' := 58) ?_
        refine g_isub rfl rfl (pc' := 59) ?_
        refine g_call rfl (y := 5) (n := 3) (pc' := 62) (fun _ => rfl) rfl rfl ⟨(Nat.le_of_ble_eq_true rfl), (Nat.le_of_ble_eq_true rfl), (Nat.le_of_ble_eq_true rfl)⟩ rfl (gm_G.mono H (pI_elim (fun v10 h9 H' => ?_) (fun e14 h15 H => ?_)))
        · show gm_G _ 62 _ _ _ _
          replace H := H'
          clear H'
          refine g_iconst rfl rfl rfl (pc' := 64) ?_
          refine g_call rfl (y := 431) (n := 2) (pc' := 67) (fun _ => rfl) rfl rfl ⟨(Nat.le_of_ble_eq_true rfl), (Nat.le_of_ble_eq_true rfl), (Nat.le_of_ble_eq_true rfl)⟩ rfl (gm_G.mono H (pV_elim (fun h11 H' => ?_) (fun e12 h13 H => ?_)))
          · show gm_G _ 67 _ _ _ _
            replace H := H'
            clear H'
            exact g_weak (show gm_Lle [some _, none, none, some _, some _] _ from ⟨rfl, ⟨rfl, ⟨rfl, trivial⟩⟩⟩) H
          · exact ⟨H.1, g_weak (show gm_Lle [some _] _ from ⟨rfl, trivial⟩) H.2⟩
        · exact ⟨H.1, g_weak (show gm_Lle [some _] _ from ⟨rfl, trivial⟩) H.2⟩
      · exact ⟨H.1, g_weak (show gm_Lle [some _] _ from ⟨rfl, trivial⟩) H.2⟩
    · exact ⟨H.1, g_weak (show gm_Lle [some _] _ from ⟨rfl, trivial⟩) H.2⟩
  · exact ⟨H.1, g_weak (show gm_Lle [some _] _ from ⟨rfl, trivial⟩) H.2⟩
set_option maxRecDepth 20000 in
theorem w_527_67 {a0 : Nat} {x3 : Int32} {r_4 : Option Nat} {h : hh_T} {Q : Option Value ⊕ Nat → hh_T → Prop} (H : (∀ b, r_4 = some b → gm_sub (hh_tg h b) 27 = true) ∧ (gm_sub (hh_tg h a0) 0 = true ∧ (∀ r2, r2 = hh_r h a0 59 → (∃ a3, r2 = some a3 ∧ (gm_sub (hh_tg h a3) 12 = true ∧ (∀ h5, h5 = hh_wi h a3 1 (Int32.ofNat 0) → (∀ r6, r6 = hh_r h5 a0 59 → (∃ a7, r_4 = some a7 ∧ (gm_sub (hh_tg h5 a7) 27 = true ∧ (∀ r9, r9 = hh_r h5 a7 12 → (∃ a10, r9 = some a10 ∧ ((hh_tg h5 a10 = 103) ∧ (∃ n11, gm_ix x3 n11 (hh_ln h5 a10) ∧ (∃ a13, r6 = some a13 ∧ (hh_tg h5 a13 = 13 ∧ (gm_G 506 0 [some (.ref a13), some (.long (hh_j h5 a10 n11)), none] [] h5 (pV (fun h15 => gm_sub (hh_tg h15 a7) 27 = true ∧ (∀ r17, r17 = hh_r h15 a7 13 → (∃ a18, r17 = some a18 ∧ ((hh_tg h15 a18 = 100 ∨ hh_tg h15 a18 = 105) ∧ (∃ n19, gm_ix x3 n19 (hh_ln h15 a18) ∧ (hh_tg h15 a0 = 1 ∧ (gm_G 4 0 [some (.ref a0), some (.int (hh_i h15 a18 n19))] [] h15 (pI (fun v23 h22 => Q (.inl (some (.int v23))) h22) (fun e24 h25 => hh_tg h25 e24 = 21 ∧ gm_G 527 108 [some (.ref a0)] [.ref e24] h25 Q))))))))) (fun e26 h27 => hh_tg h27 e26 = 21 ∧ gm_G 527 108 [some (.ref a0)] [.ref e26] h27 Q)))))))))))))))))) : gm_G 527 67 [some (.ref a0), none, none, some (.int x3), some (va_rf r_4)] [] h Q := by
  refine g_aload (r := _) rfl rfl rfl (pc' := 69) ?_
  obtain ⟨Hc, H⟩ := H
  refine g_cast rfl Hc (pc' := 72) rfl ?_
  refine g_astore (r := _) rfl gm_sto_rf4 rfl (pc' := 74) ?_
  refine g_aload (r := some _) rfl rfl rfl (pc' := 75) ?_
  obtain ⟨ht1, H⟩ := H
  refine g_getRv rfl rfl rfl rfl ht1 (pc' := 78) rfl (fun r2 hr2 => ?_)
  replace H := H r2 hr2
  refine g_iconst rfl rfl rfl (pc' := 79) ?_
  obtain ⟨a3, rfl, H⟩ := H
  obtain ⟨ht4, H⟩ := H
  refine g_putI rfl rfl rfl rfl ht4  (pc' := 82) rfl ?_
  replace H := H _ rfl
  refine g_aload (r := some _) rfl rfl rfl (pc' := 83) ?_
  refine g_getRv rfl rfl rfl rfl ht1 (pc' := 86) rfl (fun r6 hr6 => ?_)
  replace H := H r6 hr6
  refine g_aload (r := _) rfl rfl rfl (pc' := 88) ?_
  obtain ⟨a7, rfl, H⟩ := H
  obtain ⟨ht8, H⟩ := H
  refine g_getRv rfl rfl rfl rfl ht8 (pc' := 91) rfl (fun r9 hr9 => ?_)
  replace H := H r9 hr9
  refine g_iload rfl rfl rfl (pc' := 92) ?_
  obtain ⟨a10, rfl, H⟩ := H
  obtain ⟨ht12, H⟩ := H
  obtain ⟨n11, hn11, H⟩ := H
  refine g_laload rfl ht12 hn11 (pc' := 93) rfl ?_
  obtain ⟨a13, rfl, H⟩ := H
  obtain ⟨ht14, H⟩ := H
  refine g_call rfl (y := 506) (n := 2) (pc' := 96) (g_vt ht14 rfl rfl) rfl rfl ⟨(Nat.le_of_ble_eq_true rfl), (Nat.le_of_ble_eq_true rfl), (Nat.le_of_ble_eq_true rfl)⟩ rfl (gm_G.mono H (pV_elim (fun h15 H' => ?_) (fun e26 h27 H => ?_)))
  · show gm_G _ 96 _ _ _ _
    replace H := H'
    clear H'
    refine g_aload (r := some _) rfl rfl rfl (pc' := 97) ?_
    refine g_aload (r := some _) rfl rfl rfl (pc' := 99) ?_
    obtain ⟨ht16, H⟩ := H
    refine g_getRv rfl rfl rfl rfl ht16 (pc' := 102) rfl (fun r17 hr17 => ?_)
    replace H := H r17 hr17
    refine g_iload rfl rfl rfl (pc' := 103) ?_
    obtain ⟨a18, rfl, H⟩ := H
    obtain ⟨ht20, H⟩ := H
    obtain ⟨n19, hn19, H⟩ := H
    refine g_iaload rfl ht20 hn19 (pc' := 104) rfl ?_
    obtain ⟨ht21, H⟩ := H
    refine g_call rfl (y := 4) (n := 2) (pc' := 107) (g_vt ht21 rfl rfl) rfl rfl ⟨(Nat.le_of_ble_eq_true rfl), (Nat.le_of_ble_eq_true rfl), (Nat.le_of_ble_eq_true rfl)⟩ rfl (gm_G.mono H (pI_elim (fun v23 h22 H' => ?_) (fun e24 h25 H => ?_)))
    · show gm_G _ 107 _ _ _ _
      replace H := H'
      clear H'
      exact g_ireturn rfl (Or.inl rfl) H
    · exact ⟨H.1, g_weak (show gm_Lle [some _] _ from ⟨rfl, trivial⟩) H.2⟩
  · exact ⟨H.1, g_weak (show gm_Lle [some _] _ from ⟨rfl, trivial⟩) H.2⟩
set_option maxRecDepth 20000 in
theorem w_527_108 {a0 : Nat} {ex : Nat} {h : hh_T} {Q : Option Value ⊕ Nat → hh_T → Prop} (H : hh_tg h a0 = 1 ∧ (gm_G 1 0 [some (.ref a0), some (.ref ex)] [] h (pI (fun v3 h2 => Q (.inl (some (.int v3))) h2) (fun e4 h5 => hh_tg h5 e4 = 21 ∧ Q (.inr e4) h5)))) : gm_G 527 108 [some (.ref a0)] [.ref ex] h Q := by
  refine g_astore (r := some _) rfl rfl rfl (pc' := 110) ?_
  refine g_aload (r := some _) rfl rfl rfl (pc' := 111) ?_
  refine g_aload (r := some _) rfl rfl rfl (pc' := 113) ?_
  obtain ⟨ht1, H⟩ := H
  refine g_call rfl (y := 1) (n := 2) (pc' := 116) (g_vt ht1 rfl rfl) rfl rfl ⟨(Nat.le_of_ble_eq_true rfl), (Nat.le_of_ble_eq_true rfl), (Nat.le_of_ble_eq_true rfl)⟩ rfl (gm_G.mono H (pI_elim (fun v3 h2 H' => ?_) (fun e4 h5 H => ?_)))
  · show gm_G _ 116 _ _ _ _
    replace H := H'
    clear H'
    exact g_ireturn rfl (Or.inl rfl) H
  · exact H
set_option maxRecDepth 20000 in
theorem w_528_0 {a0 : Nat} {x1 : Int32} {x2 : Int32} {x3 : Int32} {x4 : Int32} {h : hh_T} {Q : Option Value ⊕ Nat → hh_T → Prop} (H : hh_tg h a0 = 1 ∧ (gm_G 456 0 [some (.ref a0)] [] h (pV (fun h2 => gm_G 493 0 [some (.int x1)] [] h2 (pV (fun h3 => gm_G 5 0 [some (.int x2), some (.int (Int32.ofNat 0)), some (.int (Int32.ofNat 255))] [] h3 (pI (fun v5 h4 => (v5 = Int32.ofNat 0 → (gm_G 528 44 [some (.ref a0), some (.int x1), some (.int x2), some (.int x3), some (.int x4)] [] h4 Q)) ∧ (¬ v5 = Int32.ofNat 0 → (gm_G 5 0 [some (.int x3), some (.int (Int32.ofNat 0)), some (.int (Int32.ofNat 256))] [] h4 (pI (fun v7 h6 => (v7 = Int32.ofNat 0 → (gm_G 528 44 [some (.ref a0), some (.int x1), some (.int x2), some (.int x3), some (.int x4)] [] h6 Q)) ∧ (¬ v7 = Int32.ofNat 0 → (gm_G 5 0 [some (.int x4), some (.int (Int32.ofNat 0)), some (.int (Int32.ofNat 2))] [] h6 (pI (fun v9 h8 => (v9 = Int32.ofNat 0 → (gm_G 528 44 [some (.ref a0), some (.int x1), some (.int x2), some (.int x3), some (.int x4)] [] h8 Q)) ∧ (¬ v9 = Int32.ofNat 0 → (gm_G 528 40 [some (.ref a0), some (.int x1), some (.int x2), some (.int x3), some (.int x4)] [] h8 Q))) (fun e10 h11 => hh_tg h11 e10 = 21 ∧ gm_G 528 130 [some (.ref a0)] [.ref e10] h11 Q))))) (fun e12 h13 => hh_tg h13 e12 = 21 ∧ gm_G 528 130 [some (.ref a0)] [.ref e12] h13 Q))))) (fun e14 h15 => hh_tg h15 e14 = 21 ∧ gm_G 528 130 [some (.ref a0)] [.ref e14] h15 Q))) (fun e16 h17 => hh_tg h17 e16 = 21 ∧ gm_G 528 130 [some (.ref a0)] [.ref e16] h17 Q))) (fun e18 h19 => hh_tg h19 e18 = 21 ∧ gm_G 528 130 [some (.ref a0)] [.ref e18] h19 Q)))) : gm_G 528 0 [some (.ref a0), some (.int x1), some (.int x2), some (.int x3), some (.int x4)] [] h Q := by
  refine g_aload (r := some _) rfl rfl rfl (pc' := 1) ?_
  obtain ⟨ht1, H⟩ := H
  refine g_call rfl (y := 456) (n := 1) (pc' := 4) (g_vt ht1 rfl rfl) rfl rfl ⟨(Nat.le_of_ble_eq_true rfl), (Nat.le_of_ble_eq_true rfl), (Nat.le_of_ble_eq_true rfl)⟩ rfl (gm_G.mono H (pV_elim (fun h2 H' => ?_) (fun e18 h19 H => ?_)))
  · show gm_G _ 4 _ _ _ _
    replace H := H'
    clear H'
    refine g_iload rfl rfl rfl (pc' := 5) ?_
    refine g_call rfl (y := 493) (n := 1) (pc' := 8) (fun _ => rfl) rfl rfl ⟨(Nat.le_of_ble_eq_true rfl), (Nat.le_of_ble_eq_true rfl), (Nat.le_of_ble_eq_true rfl)⟩ rfl (gm_G.mono H (pV_elim (fun h3 H' => ?_) (fun e16 h17 H => ?_)))
    · show gm_G _ 8 _ _ _ _
      replace H := H'
      clear H'
      refine g_iload rfl rfl rfl (pc' := 9) ?_
      refine g_iconst rfl rfl rfl (pc' := 10) ?_
      refine g_iconst rfl rfl rfl (pc' := 13) ?_
      refine g_call rfl (y := 5) (n := 3) (pc' := 16) (fun _ => rfl) rfl rfl ⟨(Nat.le_of_ble_eq_true rfl), (Nat.le_of_ble_eq_true rfl), (Nat.le_of_ble_eq_true rfl)⟩ rfl (gm_G.mono H (pI_elim (fun v5 h4 H' => ?_) (fun e14 h15 H => ?_)))
      · show gm_G _ 16 _ _ _ _
        replace H := H'
        clear H'
        refine g_if_eq rfl (pc' := 19) (pt := 44) rfl rfl ⟨fun hc => ?_, fun hc => ?_⟩
        · replace H := H.1 hc
          exact g_weak (show gm_Lle [some _, some _, some _, some _, some _] _ from ⟨rfl, ⟨rfl, ⟨rfl, ⟨rfl, ⟨rfl, trivial⟩⟩⟩⟩⟩) H
        · replace H := H.2 hc
          refine g_iload rfl rfl rfl (pc' := 20) ?_
          refine g_iconst rfl rfl rfl (pc' := 21) ?_
          refine g_iconst rfl rfl rfl (pc' := 24) ?_
          refine g_call rfl (y := 5) (n := 3) (pc' := 27) (fun _ => rfl) rfl rfl ⟨(Nat.le_of_ble_eq_true rfl), (Nat.le_of_ble_eq_true rfl), (Nat.le_of_ble_eq_true rfl)⟩ rfl (gm_G.mono H (pI_elim (fun v7 h6 H' => ?_) (fun e12 h13 H => ?_)))
          · show gm_G _ 27 _ _ _ _
            replace H := H'
            clear H'
            refine g_if_eq rfl (pc' := 30) (pt := 44) rfl rfl ⟨fun hc => ?_, fun hc => ?_⟩
            · replace H := H.1 hc
              exact g_weak (show gm_Lle [some _, some _, some _, some _, some _] _ from ⟨rfl, ⟨rfl, ⟨rfl, ⟨rfl, ⟨rfl, trivial⟩⟩⟩⟩⟩) H
            · replace H := H.2 hc
              refine g_iload rfl rfl rfl (pc' := 32) ?_
              refine g_iconst rfl rfl rfl (pc' := 33) ?_
              refine g_iconst rfl rfl rfl (pc' := 34) ?_
              refine g_call rfl (y := 5) (n := 3) (pc' := 37) (fun _ => rfl) rfl rfl ⟨(Nat.le_of_ble_eq_true rfl), (Nat.le_of_ble_eq_true rfl), (Nat.le_of_ble_eq_true rfl)⟩ rfl (gm_G.mono H (pI_elim (fun v9 h8 H' => ?_) (fun e10 h11 H => ?_)))
              · show gm_G _ 37 _ _ _ _
                replace H := H'
                clear H'
                refine g_if_eq rfl (pc' := 40) (pt := 44) rfl rfl ⟨fun hc => ?_, fun hc => ?_⟩
                · replace H := H.1 hc
                  exact g_weak (show gm_Lle [some _, some _, some _, some _, some _] _ from ⟨rfl, ⟨rfl, ⟨rfl, ⟨rfl, ⟨rfl, trivial⟩⟩⟩⟩⟩) H
                · replace H := H.2 hc
                  exact g_weak (show gm_Lle [some _, some _, some _, some _, some _] _ from ⟨rfl, ⟨rfl, ⟨rfl, ⟨rfl, ⟨rfl, trivial⟩⟩⟩⟩⟩) H
              · exact ⟨H.1, g_weak (show gm_Lle [some _] _ from ⟨rfl, trivial⟩) H.2⟩
          · exact ⟨H.1, g_weak (show gm_Lle [some _] _ from ⟨rfl, trivial⟩) H.2⟩
      · exact ⟨H.1, g_weak (show gm_Lle [some _] _ from ⟨rfl, trivial⟩) H.2⟩
    · exact ⟨H.1, g_weak (show gm_Lle [some _] _ from ⟨rfl, trivial⟩) H.2⟩
  · exact ⟨H.1, g_weak (show gm_Lle [some _] _ from ⟨rfl, trivial⟩) H.2⟩
set_option maxRecDepth 20000 in
theorem w_528_40 {a0 : Nat} {x1 : Int32} {x2 : Int32} {x3 : Int32} {x4 : Int32} {h : hh_T} {Q : Option Value ⊕ Nat → hh_T → Prop} (H : gm_G 528 45 [some (.ref a0), some (.int x1), some (.int x2), some (.int x3), some (.int x4)] [.int (Int32.ofNat 1)] h Q) : gm_G 528 40 [some (.ref a0), some (.int x1), some (.int x2), some (.int x3), some (.int x4)] [] h Q := by
  refine g_iconst rfl rfl rfl (pc' := 41) ?_
  refine g_goto rfl (pc' := 45) rfl ?_
  exact g_weak (show gm_Lle [some _, some _, some _, some _, some _] _ from ⟨rfl, ⟨rfl, ⟨rfl, ⟨rfl, ⟨rfl, trivial⟩⟩⟩⟩⟩) H
set_option maxRecDepth 20000 in
theorem w_528_44 {a0 : Nat} {x1 : Int32} {x2 : Int32} {x3 : Int32} {x4 : Int32} {h : hh_T} {Q : Option Value ⊕ Nat → hh_T → Prop} (H : gm_G 528 45 [some (.ref a0), some (.int x1), some (.int x2), some (.int x3), some (.int x4)] [.int (Int32.ofNat 0)] h Q) : gm_G 528 44 [some (.ref a0), some (.int x1), some (.int x2), some (.int x3), some (.int x4)] [] h Q := by
  refine g_iconst rfl rfl rfl (pc' := 45) ?_
  exact g_weak (show gm_Lle [some _, some _, some _, some _, some _] _ from ⟨rfl, ⟨rfl, ⟨rfl, ⟨rfl, ⟨rfl, trivial⟩⟩⟩⟩⟩) H
set_option maxRecDepth 20000 in
theorem w_528_45 {a0 : Nat} {x1 : Int32} {x2 : Int32} {x3 : Int32} {x4 : Int32} {y0 : Int32} {h : hh_T} {Q : Option Value ⊕ Nat → hh_T → Prop} (H : gm_G 452 0 [some (.int y0)] [] h (pV (fun h1 => hh_tg h1 a0 = 1 ∧ (gm_G 447 0 [some (.ref a0), some (.int x1)] [] h1 (pR (fun r4 h3 => (¬ x3 = Int32.ofNat 0 → (gm_G 528 68 [some (.ref a0), none, some (.int x2), none, some (.int x4), some (va_rf r4)] [.int (x2 + x3)] h3 Q)) ∧ (x3 = Int32.ofNat 0 → (gm_G 528 68 [some (.ref a0), none, some (.int x2), none, some (.int x4), some (va_rf r4)] [.int (Int32.ofNat 2147483647)] h3 Q))) (fun e5 h6 => hh_tg h6 e5 = 21 ∧ gm_G 528 130 [some (.ref a0)] [.ref e5] h6 Q)))) (fun e7 h8 => hh_tg h8 e7 = 21 ∧ gm_G 528 130 [some (.ref a0)] [.ref e7] h8 Q))) : gm_G 528 45 [some (.ref a0), some (.int x1), some (.int x2), some (.int x3), some (.int x4)] [.int y0] h Q := by
  refine g_call rfl (y := 452) (n := 1) (pc' := 48) (fun _ => rfl) rfl rfl ⟨(Nat.le_of_ble_eq_true rfl), (Nat.le_of_ble_eq_true rfl), (Nat.le_of_ble_eq_true rfl)⟩ rfl (gm_G.mono H (pV_elim (fun h1 H' => ?_) (fun e7 h8 H => ?_)))
  · show gm_G _ 48 _ _ _ _
    replace H := H'
    clear H'
    refine g_aload (r := some _) rfl rfl rfl (pc' := 49) ?_
    refine g_iload rfl rfl rfl (pc' := 50) ?_
    obtain ⟨ht2, H⟩ := H
    refine g_call rfl (y := 447) (n := 2) (pc' := 53) (g_vt ht2 rfl rfl) rfl rfl ⟨(Nat.le_of_ble_eq_true rfl), (Nat.le_of_ble_eq_true rfl), (Nat.le_of_ble_eq_true rfl)⟩ rfl (gm_G.mono H (pR_elim (fun r4 h3 H' => ?_) (fun e5 h6 H => ?_)))
    · show gm_G _ 53 _ _ _ _
      replace H := H'
      clear H'
      refine g_astore (r := _) rfl rfl rfl (pc' := 55) ?_
      refine g_iload rfl rfl rfl (pc' := 56) ?_
      refine g_if_ne rfl (pc' := 59) (pt := 65) rfl rfl ⟨fun hc => ?_, fun hc => ?_⟩
      · replace H := H.1 hc
        refine g_iload rfl rfl rfl (pc' := 66) ?_
        refine g_iload rfl rfl rfl (pc' := 67) ?_
        refine g_iadd rfl rfl (pc' := 68) ?_
        exact g_weak (show gm_Lle [some _, none, some _, none, some _, some _] _ from ⟨rfl, ⟨rfl, ⟨rfl, ⟨rfl, trivial⟩⟩⟩⟩) H
      · replace H := H.2 hc
        refine g_iconst rfl rfl rfl (pc' := 62) ?_
        refine g_goto rfl (pc' := 68) rfl ?_
        exact g_weak (show gm_Lle [some _, none, some _, none, some _, some _] _ from ⟨rfl, ⟨rfl, ⟨rfl, ⟨rfl, trivial⟩⟩⟩⟩) H
    · exact ⟨H.1, g_weak (show gm_Lle [some _] _ from ⟨rfl, trivial⟩) H.2⟩
  · exact ⟨H.1, g_weak (show gm_Lle [some _] _ from ⟨rfl, trivial⟩) H.2⟩
set_option maxRecDepth 20000 in
theorem w_528_68 {a0 : Nat} {x2 : Int32} {x4 : Int32} {r_5 : Option Nat} {y0 : Int32} {h : hh_T} {Q : Option Value ⊕ Nat → hh_T → Prop} (H : (x4 = Int32.ofNat 0 → (gm_G 528 101 [some (.ref a0), none, some (.int x2), none, some (.int x4), some (va_rf r_5), some (.int y0)] [] h Q)) ∧ (¬ x4 = Int32.ofNat 0 → (gm_sub (hh_tg h a0) 0 = true ∧ (∀ r2, r2 = hh_r h a0 51 → ((¬ x4 = (Int32.ofNat 1) → (gm_G 528 95 [some (.ref a0), none, some (.int x2), none, some (.int x4), some (va_rf r_5), some (.int y0)] [.int (Int32.ofNat 1), .int y0, .int x2, va_rf r_5, va_rf r2] h Q)) ∧ (x4 = (Int32.ofNat 1) → (gm_G 528 95 [some (.ref a0), none, some (.int x2), none, some (.int x4), some (va_rf r_5), some (.int y0)] [.int (Int32.ofNat 2), .int y0, .int x2, va_rf r_5, va_rf r2] h Q))))))) : gm_G 528 68 [some (.ref a0), none, some (.int x2), none, some (.int x4), some (va_rf r_5)] [.int y0] h Q := by
  refine g_istore rfl gm_sto_rf5 rfl (pc' := 70) ?_
  refine g_iload rfl rfl rfl (pc' := 72) ?_
  refine g_if_eq rfl (pc' := 75) (pt := 101) rfl rfl ⟨fun hc => ?_, fun hc => ?_⟩
  · replace H := H.1 hc
    exact g_weak (show gm_Lle [some _, none, some _, none, some _, some _, some _] _ from ⟨rfl, ⟨rfl, ⟨rfl, ⟨rfl, ⟨rfl, trivial⟩⟩⟩⟩⟩) H
  · replace H := H.2 hc
    refine g_aload (r := some _) rfl rfl rfl (pc' := 76) ?_
    obtain ⟨ht1, H⟩ := H
    refine g_getRv rfl rfl rfl rfl ht1 (pc' := 79) rfl (fun r2 hr2 => ?_)
    replace H := H r2 hr2
    refine g_aload (r := _) rfl rfl rfl (pc' := 81) ?_
    refine g_iload rfl rfl rfl (pc' := 82) ?_
    refine g_iload rfl rfl rfl (pc' := 84) ?_
    refine g_iload rfl rfl rfl (pc' := 86) ?_
    refine g_iconst rfl rfl rfl (pc' := 87) ?_
    refine g_ic_ne rfl (pc' := 90) (pt := 94) rfl rfl ⟨fun hc => ?_, fun hc => ?_⟩
    · replace H := H.1 hc
      refine g_iconst rfl rfl rfl (pc' := 95) ?_
      exact g_weak (show gm_Lle [some _, none, some _, none, some _, some _, some _] _ from ⟨rfl, ⟨rfl, ⟨rfl, ⟨rfl, ⟨rfl, trivial⟩⟩⟩⟩⟩) H
    · replace H := H.2 hc
      refine g_iconst rfl rfl rfl (pc' := 91) ?_
      refine g_goto rfl (pc' := 95) rfl ?_
      exact g_weak (show gm_Lle [some _, none, some _, none, some _, some _, some _] _ from ⟨rfl, ⟨rfl, ⟨rfl, ⟨rfl, ⟨rfl, trivial⟩⟩⟩⟩⟩) H
set_option maxRecDepth 20000 in
theorem w_528_95 {a0 : Nat} {x2 : Int32} {x4 : Int32} {r_5 : Option Nat} {x6 : Int32} {y0 : Int32} {y1 : Int32} {y2 : Int32} {q3 : Option Nat} {q4 : Option Nat} {h : hh_T} {Q : Option Value ⊕ Nat → hh_T → Prop} (H : ∃ a1, q4 = some a1 ∧ (hh_tg h a1 = 15 ∧ (gm_G 259 0 [some (.ref a1), some (va_rf q3), some (.int y2), some (.int y1), some (.int y0)] [] h (pI (fun v4 h3 => (¬ v4 = Int32.ofNat 0 → (gm_G 528 106 [some (.ref a0), none, some (.int x2), none, some (.int x4), some (va_rf r_5), some (.int x6)] [.int (Int32.ofNat 0)] h3 Q)) ∧ (v4 = Int32.ofNat 0 → (gm_G 528 101 [some (.ref a0), none, some (.int x2), none, some (.int x4), some (va_rf r_5), some (.int x6)] [] h3 Q))) (fun e5 h6 => hh_tg h6 e5 = 21 ∧ gm_G 528 130 [some (.ref a0)] [.ref e5] h6 Q))))) : gm_G 528 95 [some (.ref a0), none, some (.int x2), none, some (.int x4), some (va_rf r_5), some (.int x6)] [.int y0, .int y1, .int y2, va_rf q3, va_rf q4] h Q := by
  obtain ⟨a1, rfl, H⟩ := H
  obtain ⟨ht2, H⟩ := H
  refine g_call rfl (y := 259) (n := 5) (pc' := 98) (g_vt ht2 rfl rfl) (by cases q3 <;> rfl) rfl ⟨(Nat.le_of_ble_eq_true rfl), (Nat.le_of_ble_eq_true rfl), (Nat.le_of_ble_eq_true rfl)⟩ rfl (gm_G.mono H (pI_elim (fun v4 h3 H' => ?_) (fun e5 h6 H => ?_)))
  · show gm_G _ 98 _ _ _ _
    replace H := H'
    clear H'
    refine g_if_ne rfl (pc' := 101) (pt := 105) rfl rfl ⟨fun hc => ?_, fun hc => ?_⟩
    · replace H := H.1 hc
      refine g_iconst rfl rfl rfl (pc' := 106) ?_
      exact g_weak (show gm_Lle [some _, none, some _, none, some _, some _, some _] _ from ⟨rfl, ⟨rfl, ⟨rfl, ⟨rfl, ⟨rfl, trivial⟩⟩⟩⟩⟩) H
    · replace H := H.2 hc
      exact g_weak (show gm_Lle [some _, none, some _, none, some _, some _, some _] _ from ⟨rfl, ⟨rfl, ⟨rfl, ⟨rfl, ⟨rfl, trivial⟩⟩⟩⟩⟩) H
  · exact ⟨H.1, g_weak (show gm_Lle [some _] _ from ⟨rfl, trivial⟩) H.2⟩
set_option maxRecDepth 20000 in
theorem w_528_101 {a0 : Nat} {x2 : Int32} {x4 : Int32} {r_5 : Option Nat} {x6 : Int32} {h : hh_T} {Q : Option Value ⊕ Nat → hh_T → Prop} (H : gm_G 528 106 [some (.ref a0), none, some (.int x2), none, some (.int x4), some (va_rf r_5), some (.int x6)] [.int (Int32.ofNat 1)] h Q) : gm_G 528 101 [some (.ref a0), none, some (.int x2), none, some (.int x4), some (va_rf r_5), some (.int x6)] [] h Q := by
  refine g_iconst rfl rfl rfl (pc' := 102) ?_
  refine g_goto rfl (pc' := 106) rfl ?_
  exact g_weak (show gm_Lle [some _, none, some _, none, some _, some _, some _] _ from ⟨rfl, ⟨rfl, ⟨rfl, ⟨rfl, ⟨rfl, trivial⟩⟩⟩⟩⟩) H
set_option maxRecDepth 20000 in
theorem w_528_106 {a0 : Nat} {x2 : Int32} {x4 : Int32} {r_5 : Option Nat} {x6 : Int32} {y0 : Int32} {h : hh_T} {Q : Option Value ⊕ Nat → hh_T → Prop} (H : gm_G 431 0 [some (.int y0), some (.int (Int32.ofInt (-5)))] [] h (pV (fun h1 => ∃ a2, r_5 = some a2 ∧ (gm_sub (hh_tg h1 a2) 42 = true ∧ (∀ r4, r4 = hh_r h1 a2 7 → (∃ a5, r4 = some a5 ∧ (hh_tg h1 a5 = 44 ∧ (gm_G 213 0 [some (.ref a5), some (.int x2), some (.int x6), some (.int x4)] [] h1 (pV (fun h7 => hh_tg h7 a0 = 1 ∧ (gm_G 4 0 [some (.ref a0), some (.int (Int32.ofNat 0))] [] h7 (pI (fun v10 h9 => Q (.inl (some (.int v10))) h9) (fun e11 h12 => hh_tg h12 e11 = 21 ∧ gm_G 528 130 [some (.ref a0)] [.ref e11] h12 Q)))) (fun e13 h14 => hh_tg h14 e13 = 21 ∧ gm_G 528 130 [some (.ref a0)] [.ref e13] h14 Q)))))))) (fun e15 h16 => hh_tg h16 e15 = 21 ∧ gm_G 528 130 [some (.ref a0)] [.ref e15] h16 Q))) : gm_G 528 106 [some (.ref a0), none, some (.int x2), none, some (.int x4), some (va_rf r_5), some (.int x6)] [.int y0] h Q := by
  refine g_iconst rfl rfl rfl (pc' := 108) ?_
  refine g_call rfl (y := 431) (n := 2) (pc' := 111) (fun _ => rfl) rfl rfl ⟨(Nat.le_of_ble_eq_true rfl), (Nat.le_of_ble_eq_true rfl), (Nat.le_of_ble_eq_true rfl)⟩ rfl (gm_G.mono H (pV_elim (fun h1 H' => ?_) (fun e15 h16 H => ?_)))
  · show gm_G _ 111 _ _ _ _
    replace H := H'
    clear H'
    refine g_aload (r := _) rfl rfl rfl (pc' := 113) ?_
    obtain ⟨a2, rfl, H⟩ := H
    obtain ⟨ht3, H⟩ := H
    refine g_getRv rfl rfl rfl rfl ht3 (pc' := 116) rfl (fun r4 hr4 => ?_)
    replace H := H r4 hr4
    refine g_iload rfl rfl rfl (pc' := 117) ?_
    refine g_iload rfl rfl rfl (pc' := 119) ?_
    refine g_iload rfl rfl rfl (pc' := 121) ?_
    obtain ⟨a5, rfl, H⟩ := H
    obtain ⟨ht6, H⟩ := H
    refine g_call rfl (y := 213) (n := 4) (pc' := 124) (g_vt ht6 rfl rfl) rfl rfl ⟨(Nat.le_of_ble_eq_true rfl), (Nat.le_of_ble_eq_true rfl), (Nat.le_of_ble_eq_true rfl)⟩ rfl (gm_G.mono H (pV_elim (fun h7 H' => ?_) (fun e13 h14 H => ?_)))
    · show gm_G _ 124 _ _ _ _
      replace H := H'
      clear H'
      refine g_aload (r := some _) rfl rfl rfl (pc' := 125) ?_
      refine g_iconst rfl rfl rfl (pc' := 126) ?_
      obtain ⟨ht8, H⟩ := H
      refine g_call rfl (y := 4) (n := 2) (pc' := 129) (g_vt ht8 rfl rfl) rfl rfl ⟨(Nat.le_of_ble_eq_true rfl), (Nat.le_of_ble_eq_true rfl), (Nat.le_of_ble_eq_true rfl)⟩ rfl (gm_G.mono H (pI_elim (fun v10 h9 H' => ?_) (fun e11 h12 H => ?_)))
      · show gm_G _ 129 _ _ _ _
        replace H := H'
        clear H'
        exact g_ireturn rfl (Or.inl rfl) H
      · exact ⟨H.1, g_weak (show gm_Lle [some _] _ from ⟨rfl, trivial⟩) H.2⟩
    · exact ⟨H.1, g_weak (show gm_Lle [some _] _ from ⟨rfl, trivial⟩) H.2⟩
  · exact ⟨H.1, g_weak (show gm_Lle [some _] _ from ⟨rfl, trivial⟩) H.2⟩
set_option maxRecDepth 20000 in
theorem w_528_130 {a0 : Nat} {ex : Nat} {h : hh_T} {Q : Option Value ⊕ Nat → hh_T → Prop} (H : hh_tg h a0 = 1 ∧ (gm_G 1 0 [some (.ref a0), some (.ref ex)] [] h (pI (fun v3 h2 => Q (.inl (some (.int v3))) h2) (fun e4 h5 => hh_tg h5 e4 = 21 ∧ Q (.inr e4) h5)))) : gm_G 528 130 [some (.ref a0)] [.ref ex] h Q := by
  refine g_astore (r := some _) rfl rfl rfl (pc' := 132) ?_
  refine g_aload (r := some _) rfl rfl rfl (pc' := 133) ?_
  refine g_aload (r := some _) rfl rfl rfl (pc' := 135) ?_
  obtain ⟨ht1, H⟩ := H
  refine g_call rfl (y := 1) (n := 2) (pc' := 138) (g_vt ht1 rfl rfl) rfl rfl ⟨(Nat.le_of_ble_eq_true rfl), (Nat.le_of_ble_eq_true rfl), (Nat.le_of_ble_eq_true rfl)⟩ rfl (gm_G.mono H (pI_elim (fun v3 h2 H' => ?_) (fun e4 h5 H => ?_)))
  · show gm_G _ 138 _ _ _ _
    replace H := H'
    clear H'
    exact g_ireturn rfl (Or.inl rfl) H
  · exact H
set_option maxRecDepth 20000 in
theorem w_529_0 {a0 : Nat} {x1 : Int32} {x2 : Int32} {h : hh_T} {Q : Option Value ⊕ Nat → hh_T → Prop} (H : hh_tg h a0 = 1 ∧ (gm_G 456 0 [some (.ref a0)] [] h (pV (fun h2 => gm_G 493 0 [some (.int x1)] [] h2 (pV (fun h3 => gm_G 5 0 [some (.int x2), some (.int (Int32.ofNat 0)), some (.int (Int32.ofNat 1000))] [] h3 (pI (fun v5 h4 => gm_G 452 0 [some (.int v5)] [] h4 (pV (fun h6 => hh_tg h6 a0 = 1 ∧ (gm_G 447 0 [some (.ref a0), some (.int x1)] [] h6 (pR (fun r9 h8 => ∃ a10, r9 = some a10 ∧ (gm_sub (hh_tg h8 a10) 42 = true ∧ (∀ r12, r12 = hh_r h8 a10 7 → (∃ a13, r12 = some a13 ∧ (hh_tg h8 a13 = 44 ∧ (gm_G 211 0 [some (.ref a13), some (.int x2)] [] h8 (pI (fun v16 h15 => hh_tg h15 a0 = 1 ∧ (gm_G 4 0 [some (.ref a0), some (.int v16)] [] h15 (pI (fun v19 h18 => Q (.inl (some (.int v19))) h18) (fun e20 h21 => hh_tg h21 e20 = 21 ∧ gm_G 529 36 [some (.ref a0)] [.ref e20] h21 Q)))) (fun e22 h23 => hh_tg h23 e22 = 21 ∧ gm_G 529 36 [some (.ref a0)] [.ref e22] h23 Q)))))))) (fun e24 h25 => hh_tg h25 e24 = 21 ∧ gm_G 529 36 [some (.ref a0)] [.ref e24] h25 Q)))) (fun e26 h27 => hh_tg h27 e26 = 21 ∧ gm_G 529 36 [some (.ref a0)] [.ref e26] h27 Q))) (fun e28 h29 => hh_tg h29 e28 = 21 ∧ gm_G 529 36 [some (.ref a0)] [.ref e28] h29 Q))) (fun e30 h31 => hh_tg h31 e30 = 21 ∧ gm_G 529 36 [some (.ref a0)] [.ref e30] h31 Q))) (fun e32 h33 => hh_tg h33 e32 = 21 ∧ gm_G 529 36 [some (.ref a0)] [.ref e32] h33 Q)))) : gm_G 529 0 [some (.ref a0), some (.int x1), some (.int x2)] [] h Q := by
  refine g_aload (r := some _) rfl rfl rfl (pc' := 1) ?_
  obtain ⟨ht1, H⟩ := H
  refine g_call rfl (y := 456) (n := 1) (pc' := 4) (g_vt ht1 rfl rfl) rfl rfl ⟨(Nat.le_of_ble_eq_true rfl), (Nat.le_of_ble_eq_true rfl), (Nat.le_of_ble_eq_true rfl)⟩ rfl (gm_G.mono H (pV_elim (fun h2 H' => ?_) (fun e32 h33 H => ?_)))
  · show gm_G _ 4 _ _ _ _
    replace H := H'
    clear H'
    refine g_iload rfl rfl rfl (pc' := 5) ?_
    refine g_call rfl (y := 493) (n := 1) (pc' := 8) (fun _ => rfl) rfl rfl ⟨(Nat.le_of_ble_eq_true rfl), (Nat.le_of_ble_eq_true rfl), (Nat.le_of_ble_eq_true rfl)⟩ rfl (gm_G.mono H (pV_elim (fun h3 H' => ?_) (fun e30 h31 H => ?_)))
    · show gm_G _ 8 _ _ _ _
      replace H := H'
      clear H'
      refine g_iload rfl rfl rfl (pc' := 9) ?_
      refine g_iconst rfl rfl rfl (pc' := 10) ?_
      refine g_iconst rfl rfl rfl (pc' := 13) ?_
      refine g_call rfl (y := 5) (n := 3) (pc' := 16) (fun _ => rfl) rfl rfl ⟨(Nat.le_of_ble_eq_true rfl), (Nat.le_of_ble_eq_true rfl), (Nat.le_of_ble_eq_true rfl)⟩ rfl (gm_G.mono H (pI_elim (fun v5 h4 H' => ?_) (fun e28 h29 H => ?_)))
      · show gm_G _ 16 _ _ _ _
        replace H := H'
        clear H'
        refine g_call rfl (y := 452) (n := 1) (pc' := 19) (fun _ => rfl) rfl rfl ⟨(Nat.le_of_ble_eq_true rfl), (Nat.le_of_ble_eq_true rfl), (Nat.le_of_ble_eq_true rfl)⟩ rfl (gm_G.mono H (pV_elim (fun h6 H' => ?_) (fun e26 h27 H => ?_)))
        · show gm_G _ 19 _ _ _ _
          replace H := H'
          clear H'
          refine g_aload (r := some _) rfl rfl rfl (pc' := 20) ?_
          refine g_aload (r := some _) rfl rfl rfl (pc' := 21) ?_
          refine g_iload rfl rfl rfl (pc' := 22) ?_
          obtain ⟨ht7, H⟩ := H
          refine g_call rfl (y := 447) (n := 2) (pc' := 25) (g_vt ht7 rfl rfl) rfl rfl ⟨(Nat.le_of_ble_eq_true rfl), (Nat.le_of_ble_eq_true rfl), (Nat.le_of_ble_eq_true rfl)⟩ rfl (gm_G.mono H (pR_elim (fun r9 h8 H' => ?_) (fun e24 h25 H => ?_)))
          · show gm_G _ 25 _ _ _ _
            replace H := H'
            clear H'
            obtain ⟨a10, rfl, H⟩ := H
            obtain ⟨ht11, H⟩ := H
            refine g_getRv rfl rfl rfl rfl ht11 (pc' := 28) rfl (fun r12 hr12 => ?_)
            replace H := H r12 hr12
            refine g_iload rfl rfl rfl (pc' := 29) ?_
            obtain ⟨a13, rfl, H⟩ := H
            obtain ⟨ht14, H⟩ := H
            refine g_call rfl (y := 211) (n := 2) (pc' := 32) (g_vt ht14 rfl rfl) rfl rfl ⟨(Nat.le_of_ble_eq_true rfl), (Nat.le_of_ble_eq_true rfl), (Nat.le_of_ble_eq_true rfl)⟩ rfl (gm_G.mono H (pI_elim (fun v16 h15 H' => ?_) (fun e22 h23 H => ?_)))
            · show gm_G _ 32 _ _ _ _
              replace H := H'
              clear H'
              obtain ⟨ht17, H⟩ := H
              refine g_call rfl (y := 4) (n := 2) (pc' := 35) (g_vt ht17 rfl rfl) rfl rfl ⟨(Nat.le_of_ble_eq_true rfl), (Nat.le_of_ble_eq_true rfl), (Nat.le_of_ble_eq_true rfl)⟩ rfl (gm_G.mono H (pI_elim (fun v19 h18 H' => ?_) (fun e20 h21 H => ?_)))
              · show gm_G _ 35 _ _ _ _
                replace H := H'
                clear H'
                exact g_ireturn rfl (Or.inl rfl) H
              · exact ⟨H.1, g_weak (show gm_Lle [some _] _ from ⟨rfl, trivial⟩) H.2⟩
            · exact ⟨H.1, g_weak (show gm_Lle [some _] _ from ⟨rfl, trivial⟩) H.2⟩
          · exact ⟨H.1, g_weak (show gm_Lle [some _] _ from ⟨rfl, trivial⟩) H.2⟩
        · exact ⟨H.1, g_weak (show gm_Lle [some _] _ from ⟨rfl, trivial⟩) H.2⟩
      · exact ⟨H.1, g_weak (show gm_Lle [some _] _ from ⟨rfl, trivial⟩) H.2⟩
    · exact ⟨H.1, g_weak (show gm_Lle [some _] _ from ⟨rfl, trivial⟩) H.2⟩
  · exact ⟨H.1, g_weak (show gm_Lle [some _] _ from ⟨rfl, trivial⟩) H.2⟩
set_option maxRecDepth 20000 in
theorem w_529_36 {a0 : Nat} {ex : Nat} {h : hh_T} {Q : Option Value ⊕ Nat → hh_T → Prop} (H : hh_tg h a0 = 1 ∧ (gm_G 1 0 [some (.ref a0), some (.ref ex)] [] h (pI (fun v3 h2 => Q (.inl (some (.int v3))) h2) (fun e4 h5 => hh_tg h5 e4 = 21 ∧ Q (.inr e4) h5)))) : gm_G 529 36 [some (.ref a0)] [.ref ex] h Q := by
  refine g_astore (r := some _) rfl rfl rfl (pc' := 37) ?_
  refine g_aload (r := some _) rfl rfl rfl (pc' := 38) ?_
  refine g_aload (r := some _) rfl rfl rfl (pc' := 39) ?_
  obtain ⟨ht1, H⟩ := H
  refine g_call rfl (y := 1) (n := 2) (pc' := 42) (g_vt ht1 rfl rfl) rfl rfl ⟨(Nat.le_of_ble_eq_true rfl), (Nat.le_of_ble_eq_true rfl), (Nat.le_of_ble_eq_true rfl)⟩ rfl (gm_G.mono H (pI_elim (fun v3 h2 H' => ?_) (fun e4 h5 H => ?_)))
  · show gm_G _ 42 _ _ _ _
    replace H := H'
    clear H'
    exact g_ireturn rfl (Or.inl rfl) H
  · exact H
set_option maxRecDepth 20000 in
theorem w_530_0 {a0 : Nat} {x1 : Int32} {x2 : Int32} {x3 : Int32} {h : hh_T} {Q : Option Value ⊕ Nat → hh_T → Prop} (H : hh_tg h a0 = 1 ∧ (gm_G 456 0 [some (.ref a0)] [] h (pV (fun h2 => gm_G 493 0 [some (.int x1)] [] h2 (pV (fun h3 => gm_G 5 0 [some (.int x2), some (.int (Int32.ofNat 0)), some (.int (Int32.ofNat 2))] [] h3 (pI (fun v5 h4 => (v5 = Int32.ofNat 0 → (gm_G 530 32 [some (.ref a0), some (.int x1), some (.int x2), some (.int x3)] [] h4 Q)) ∧ (¬ v5 = Int32.ofNat 0 → (gm_G 5 0 [some (.int x3), some (.int (Int32.ofNat 0)), some (.int (Int32.ofNat 256))] [] h4 (pI (fun v7 h6 => (v7 = Int32.ofNat 0 → (gm_G 530 32 [some (.ref a0), some (.int x1), some (.int x2), some (.int x3)] [] h6 Q)) ∧ (¬ v7 = Int32.ofNat 0 → (gm_G 530 33 [some (.ref a0), some (.int x1), some (.int x2), some (.int x3)] [.int (Int32.ofNat 1)] h6 Q))) (fun e8 h9 => hh_tg h9 e8 = 21 ∧ gm_G 530 140 [some (.ref a0)] [.ref e8] h9 Q))))) (fun e10 h11 => hh_tg h11 e10 = 21 ∧ gm_G 530 140 [some (.ref a0)] [.ref e10] h11 Q))) (fun e12 h13 => hh_tg h13 e12 = 21 ∧ gm_G 530 140 [some (.ref a0)] [.ref e12] h13 Q))) (fun e14 h15 => hh_tg h15 e14 = 21 ∧ gm_G 530 140 [some (.ref a0)] [.ref e14] h15 Q)))) : gm_G 530 0 [some (.ref a0), some (.int x1), some (.int x2), some (.int x3)] [] h Q := by
  refine g_aload (r := some _) rfl rfl rfl (pc' := 1) ?_
  obtain ⟨ht1, H⟩ := H
  refine g_call rfl (y := 456) (n := 1) (pc' := 4) (g_vt ht1 rfl rfl) rfl rfl ⟨(Nat.le_of_ble_eq_true rfl), (Nat.le_of_ble_eq_true rfl), (Nat.le_of_ble_eq_true rfl)⟩ rfl (gm_G.mono H (pV_elim (fun h2 H' => ?_) (fun e14 h15 H => ?_)))
  · show gm_G _ 4 _ _ _ _
    replace H := H'
    clear H'
    refine g_iload rfl rfl rfl (pc' := 5) ?_
    refine g_call rfl (y := 493) (n := 1) (pc' := 8) (fun _ => rfl) rfl rfl ⟨(Nat.le_of_ble_eq_true rfl), (Nat.le_of_ble_eq_true rfl), (Nat.le_of_ble_eq_true rfl)⟩ rfl (gm_G.mono H (pV_elim (fun h3 H' => ?_) (fun e12 h13 H => ?_)))
    · show gm_G _ 8 _ _ _ _
      replace H := H'
      clear H'
      refine g_iload rfl rfl rfl (pc' := 9) ?_
      refine g_iconst rfl rfl rfl (pc' := 10) ?_
      refine g_iconst rfl rfl rfl (pc' := 11) ?_
      refine g_call rfl (y := 5) (n := 3) (pc' := 14) (fun _ => rfl) rfl rfl ⟨(Nat.le_of_ble_eq_true rfl), (Nat.le_of_ble_eq_true rfl), (Nat.le_of_ble_eq_true rfl)⟩ rfl (gm_G.mono H (pI_elim (fun v5 h4 H' => ?_) (fun e10 h11 H => ?_)))
      · show gm_G _ 14 _ _ _ _
        replace H := H'
        clear H'
        refine g_if_eq rfl (pc' := 17) (pt := 32) rfl rfl ⟨fun hc => ?_, fun hc => ?_⟩
        · replace H := H.1 hc
          exact g_weak (show gm_Lle [some _, some _, some _, some _] _ from ⟨rfl, ⟨rfl, ⟨rfl, ⟨rfl, trivial⟩⟩⟩⟩) H
        · replace H := H.2 hc
          refine g_iload rfl rfl rfl (pc' := 18) ?_
          refine g_iconst rfl rfl rfl (pc' := 19) ?_
          refine g_iconst rfl rfl rfl (pc' := 22) ?_
          refine g_call rfl (y := 5) (n := 3) (pc' := 25) (fun _ => rfl) rfl rfl ⟨(Nat.le_of_ble_eq_true rfl), (Nat.le_of_ble_eq_true rfl), (Nat.le_of_ble_eq_true rfl)⟩ rfl (gm_G.mono H (pI_elim (fun v7 h6 H' => ?_) (fun e8 h9 H => ?_)))
          · show gm_G _ 25 _ _ _ _
            replace H := H'
            clear H'
            refine g_if_eq rfl (pc' := 28) (pt := 32) rfl rfl ⟨fun hc => ?_, fun hc => ?_⟩
            · replace H := H.1 hc
              exact g_weak (show gm_Lle [some _, some _, some _, some _] _ from ⟨rfl, ⟨rfl, ⟨rfl, ⟨rfl, trivial⟩⟩⟩⟩) H
            · replace H := H.2 hc
              refine g_iconst rfl rfl rfl (pc' := 29) ?_
              refine g_goto rfl (pc' := 33) rfl ?_
              exact g_weak (show gm_Lle [some _, some _, some _, some _] _ from ⟨rfl, ⟨rfl, ⟨rfl, ⟨rfl, trivial⟩⟩⟩⟩) H
          · exact ⟨H.1, g_weak (show gm_Lle [some _] _ from ⟨rfl, trivial⟩) H.2⟩
      · exact ⟨H.1, g_weak (show gm_Lle [some _] _ from ⟨rfl, trivial⟩) H.2⟩
    · exact ⟨H.1, g_weak (show gm_Lle [some _] _ from ⟨rfl, trivial⟩) H.2⟩
  · exact ⟨H.1, g_weak (show gm_Lle [some _] _ from ⟨rfl, trivial⟩) H.2⟩
set_option maxRecDepth 20000 in
theorem w_530_32 {a0 : Nat} {x1 : Int32} {x2 : Int32} {x3 : Int32} {h : hh_T} {Q : Option Value ⊕ Nat → hh_T → Prop} (H : gm_G 530 33 [some (.ref a0), some (.int x1), some (.int x2), some (.int x3)] [.int (Int32.ofNat 0)] h Q) : gm_G 530 32 [some (.ref a0), some (.int x1), some (.int x2), some (.int x3)] [] h Q := by
  refine g_iconst rfl rfl rfl (pc' := 33) ?_
  exact g_weak (show gm_Lle [some _, some _, some _, some _] _ from ⟨rfl, ⟨rfl, ⟨rfl, ⟨rfl, trivial⟩⟩⟩⟩) H
set_option maxRecDepth 20000 in
theorem w_530_33 {a0 : Nat} {x1 : Int32} {x2 : Int32} {x3 : Int32} {y0 : Int32} {h : hh_T} {Q : Option Value ⊕ Nat → hh_T → Prop} (H : gm_G 452 0 [some (.int y0)] [] h (pV (fun h1 => hh_tg h1 a0 = 1 ∧ (gm_G 447 0 [some (.ref a0), some (.int x1)] [] h1 (pR (fun r4 h3 => (¬ Int32.ofNat 0 < x2 → (gm_G 530 126 [some (.ref a0), none, none, none, some (va_rf r4), some (.int x3)] [] h3 Q)) ∧ (Int32.ofNat 0 < x2 → (hh_tg h3 a0 = 1 ∧ (gm_G 346 0 [some (.ref a0), some (va_rf r4)] [] h3 (pR (fun r7 h6 => gm_G 530 58 [some (.ref a0), none, some (.int x2), none, some (va_rf r4), some (.int x3), some (va_rf r7)] [] h6 Q) (fun e8 h9 => hh_tg h9 e8 = 21 ∧ gm_G 530 140 [some (.ref a0)] [.ref e8] h9 Q)))))) (fun e10 h11 => hh_tg h11 e10 = 21 ∧ gm_G 530 140 [some (.ref a0)] [.ref e10] h11 Q)))) (fun e12 h13 => hh_tg h13 e12 = 21 ∧ gm_G 530 140 [some (.ref a0)] [.ref e12] h13 Q))) : gm_G 530 33 [some (.ref a0), some (.int x1), some (.int x2), some (.int x3)] [.int y0] h Q := by
  refine g_call rfl (y := 452) (n := 1) (pc' := 36) (fun _ => rfl) rfl rfl ⟨(Nat.le_of_ble_eq_true rfl), (Nat.le_of_ble_eq_true rfl), (Nat.le_of_ble_eq_true rfl)⟩ rfl (gm_G.mono H (pV_elim (fun h1 H' => ?_) (fun e12 h13 H => ?_)))
  · show gm_G _ 36 _ _ _ _
    replace H := H'
    clear H'
    refine g_aload (r := some _) rfl rfl rfl (pc' := 37) ?_
    refine g_iload rfl rfl rfl (pc' := 38) ?_
    obtain ⟨ht2, H⟩ := H
    refine g_call rfl (y := 447) (n := 2) (pc' := 41) (g_vt ht2 rfl rfl) rfl rfl ⟨(Nat.le_of_ble_eq_true rfl), (Nat.le_of_ble_eq_true rfl), (Nat.le_of_ble_eq_true rfl)⟩ rfl (gm_G.mono H (pR_elim (fun r4 h3 H' => ?_) (fun e10 h11 H => ?_)))
    · show gm_G _ 41 _ _ _ _
      replace H := H'
      clear H'
      refine g_astore (r := _) rfl rfl rfl (pc' := 43) ?_
      refine g_iload rfl rfl rfl (pc' := 44) ?_
      refine g_istore rfl gm_sto_rf4 rfl (pc' := 46) ?_
      refine g_iload rfl rfl rfl (pc' := 47) ?_
      refine g_if_le rfl (pc' := 50) (pt := 126) rfl rfl ⟨fun hc => ?_, fun hc => ?_⟩
      · replace H := H.1 hc
        exact g_weak (show gm_Lle [some _, none, none, none, some _, some _] _ from ⟨rfl, ⟨rfl, ⟨rfl, trivial⟩⟩⟩) H
      · replace H := H.2 hc
        refine g_aload (r := some _) rfl rfl rfl (pc' := 51) ?_
        refine g_aload (r := _) rfl rfl rfl (pc' := 53) ?_
        obtain ⟨ht5, H⟩ := H
        refine g_call rfl (y := 346) (n := 2) (pc' := 56) (g_vt ht5 rfl rfl) (by cases r4 <;> rfl) rfl ⟨(Nat.le_of_ble_eq_true rfl), (Nat.le_of_ble_eq_true rfl), (Nat.le_of_ble_eq_true rfl)⟩ rfl (gm_G.mono H (pR_elim (fun r7 h6 H' => ?_) (fun e8 h9 H => ?_)))
        · show gm_G _ 56 _ _ _ _
          replace H := H'
          clear H'
          refine g_astore (r := _) rfl rfl rfl (pc' := 58) ?_
          exact g_weak (show gm_Lle [some _, none, some _, none, some _, some _, some _] _ from ⟨rfl, ⟨rfl, ⟨rfl, ⟨rfl, ⟨rfl, trivial⟩⟩⟩⟩⟩) H
        · exact ⟨H.1, g_weak (show gm_Lle [some _] _ from ⟨rfl, trivial⟩) H.2⟩
    · exact ⟨H.1, g_weak (show gm_Lle [some _] _ from ⟨rfl, trivial⟩) H.2⟩
  · exact ⟨H.1, g_weak (show gm_Lle [some _] _ from ⟨rfl, trivial⟩) H.2⟩
set_option maxRecDepth 20000 in
theorem w_530_58 {a0 : Nat} {x2 : Int32} {r_4 : Option Nat} {x5 : Int32} {r_6 : Option Nat} {h : hh_T} {Q : Option Value ⊕ Nat → hh_T → Prop} (H : ∃ a1, r_6 = some a1 ∧ (gm_sub (hh_tg h a1) 25 = true ∧ ((¬ x5 < (hh_i h a1 6) → (gm_G 530 106 [some (.ref a0), none, none, none, some (va_rf r_4), some (.int x5), some (.ref a1)] [] h Q)) ∧ (x5 < (hh_i h a1 6) → (gm_sub (hh_tg h a1) 26 = true ∧ (∀ r4, r4 = hh_r h a1 12 → (∃ a5, r4 = some a5 ∧ ((hh_tg h a5 = 104 ∨ 200 ≤ hh_tg h a5) ∧ (∃ n6, gm_ix (x5 / (Int32.ofNat 32)) n6 (hh_ln h a5) ∧ (∀ r8, r8 = hh_r h a5 n6 → ((∀ a9, r8 = some a9 → (gm_G 530 87 [some (.ref a0), none, some (.int x2), none, some (va_rf r_4), some (.int x5), some (.ref a1)] [.int (Int32.ofNat 0)] h Q)) ∧ (r8 = none → (gm_G 530 87 [some (.ref a0), none, some (.int x2), none, some (va_rf r_4), some (.int x5), some (.ref a1)] [.int (Int32.ofNat 1)] h Q))))))))))))) : gm_G 530 58 [some (.ref a0), none, some (.int x2), none, some (va_rf r_4), some (.int x5), some (va_rf r_6)] [] h Q := by
  refine g_iload rfl rfl rfl (pc' := 60) ?_
  refine g_aload (r := _) rfl rfl rfl (pc' := 62) ?_
  obtain ⟨a1, rfl, H⟩ := H
  obtain ⟨ht2, H⟩ := H
  refine g_getI rfl rfl rfl rfl ht2 (pc' := 65) rfl ?_
  refine g_ic_ge rfl (pc' := 68) (pt := 106) rfl rfl ⟨fun hc => ?_, fun hc => ?_⟩
  · replace H := H.1 hc
    exact g_weak (show gm_Lle [some _, none, none, none, some _, some _, some _] _ from ⟨rfl, ⟨rfl, ⟨rfl, ⟨rfl, trivial⟩⟩⟩⟩) H
  · replace H := H.2 hc
    refine g_aload (r := some _) rfl rfl rfl (pc' := 70) ?_
    obtain ⟨ht3, H⟩ := H
    refine g_getRv rfl rfl rfl rfl ht3 (pc' := 73) rfl (fun r4 hr4 => ?_)
    replace H := H r4 hr4
    refine g_iload rfl rfl rfl (pc' := 75) ?_
    refine g_iconst rfl rfl rfl (pc' := 77) ?_
    refine g_idiv rfl (by decide) (pc' := 78) rfl ?_
    obtain ⟨a5, rfl, H⟩ := H
    obtain ⟨ht7, H⟩ := H
    obtain ⟨n6, hn6, H⟩ := H
    refine g_aaloadv rfl ht7 hn6 (pc' := 79) rfl (fun r8 hr8 => ?_)
    replace H := H r8 hr8
    refine g_ifnonnull rfl (pc' := 82) (pt := 86) rfl rfl ⟨fun a9 hc => ?_, fun hc => ?_⟩
    · replace H := H.1 a9 hc
      subst hc
      refine g_iconst rfl rfl rfl (pc' := 87) ?_
      exact g_weak (show gm_Lle [some _, none, some _, none, some _, some _, some _] _ from ⟨rfl, ⟨rfl, ⟨rfl, ⟨rfl, ⟨rfl, trivial⟩⟩⟩⟩⟩) H
    · replace H := H.2 hc
      subst hc
      refine g_iconst rfl rfl rfl (pc' := 83) ?_
      refine g_goto rfl (pc' := 87) rfl ?_
      exact g_weak (show gm_Lle [some _, none, some _, none, some _, some _, some _] _ from ⟨rfl, ⟨rfl, ⟨rfl, ⟨rfl, ⟨rfl, trivial⟩⟩⟩⟩⟩) H
set_option maxRecDepth 20000 in
theorem w_530_87 {a0 : Nat} {x2 : Int32} {r_4 : Option Nat} {x5 : Int32} {r_6 : Option Nat} {y0 : Int32} {h : hh_T} {Q : Option Value ⊕ Nat → hh_T → Prop} (H : (¬ x2 = (Int32.ofNat 1) → (gm_G 530 97 [some (.ref a0), none, some (.int x2), none, some (va_rf r_4), some (.int x5), some (va_rf r_6)] [.int (Int32.ofNat 0), .int y0] h Q)) ∧ (x2 = (Int32.ofNat 1) → (gm_G 530 97 [some (.ref a0), none, some (.int x2), none, some (va_rf r_4), some (.int x5), some (va_rf r_6)] [.int (Int32.ofNat 1), .int y0] h Q))) : gm_G 530 87 [some (.ref a0), none, some (.int x2), none, some (va_rf r_4), some (.int x5), some (va_rf r_6)] [.int y0] h Q := by
  refine g_iload rfl rfl rfl (pc' := 88) ?_
  refine g_iconst rfl rfl rfl (pc' := 89) ?_
  refine g_ic_ne rfl (pc' := 92) (pt := 96) rfl rfl ⟨fun hc => ?_, fun hc => ?_⟩
  · replace H := H.1 hc
    refine g_iconst rfl rfl rfl (pc' := 97) ?_
    exact g_weak (show gm_Lle [some _, none, some _, none, some _, some _, some _] _ from ⟨rfl, ⟨rfl, ⟨rfl, ⟨rfl, ⟨rfl, trivial⟩⟩⟩⟩⟩) H
  · replace H := H.2 hc
    refine g_iconst rfl rfl rfl (pc' := 93) ?_
    refine g_goto rfl (pc' := 97) rfl ?_
    exact g_weak (show gm_Lle [some _, none, some _, none, some _, some _, some _] _ from ⟨rfl, ⟨rfl, ⟨rfl, ⟨rfl, ⟨rfl, trivial⟩⟩⟩⟩⟩) H
set_option maxRecDepth 20000 in
theorem w_530_97 {a0 : Nat} {x2 : Int32} {r_4 : Option Nat} {x5 : Int32} {r_6 : Option Nat} {y0 : Int32} {y1 : Int32} {h : hh_T} {Q : Option Value ⊕ Nat → hh_T → Prop} (H : (¬ y1 = y0 → (gm_G 530 106 [some (.ref a0), none, none, none, some (va_rf r_4), some (.int x5), some (va_rf r_6)] [] h Q)) ∧ (y1 = y0 → (gm_G 530 58 [some (.ref a0), none, some (.int x2), none, some (va_rf r_4), some (.int (x5 + (Int32.ofNat 1))), some (va_rf r_6)] [] h Q))) : gm_G 530 97 [some (.ref a0), none, some (.int x2), none, some (va_rf r_4), some (.int x5), some (va_rf r_6)] [.int y0, .int y1] h Q := by
  refine g_ic_ne rfl (pc' := 100) (pt := 106) rfl rfl ⟨fun hc => ?_, fun hc => ?_⟩
  · replace H := H.1 hc
    exact g_weak (show gm_Lle [some _, none, none, none, some _, some _, some _] _ from ⟨rfl, ⟨rfl, ⟨rfl, ⟨rfl, trivial⟩⟩⟩⟩) H
  · replace H := H.2 hc
    refine g_iinc (c := (Int32.ofNat 1)) rfl rfl rfl gm_sto_rf4 rfl (pc' := 103) ?_
    refine g_goto rfl (pc' := 58) rfl ?_
    exact g_weak (show gm_Lle [some _, none, some _, none, some _, some _, some _] _ from ⟨rfl, ⟨rfl, ⟨rfl, ⟨rfl, ⟨rfl, trivial⟩⟩⟩⟩⟩) H
set_option maxRecDepth 20000 in
theorem w_530_106 {a0 : Nat} {r_4 : Option Nat} {x5 : Int32} {r_6 : Option Nat} {h : hh_T} {Q : Option Value ⊕ Nat → hh_T → Prop} (H : ∃ a1, r_6 = some a1 ∧ (gm_sub (hh_tg h a1) 25 = true ∧ ((¬ x5 < (hh_i h a1 6) → (gm_G 530 121 [some (.ref a0), none, none, none, some (va_rf r_4), some (.int x5)] [.int (Int32.ofNat 0)] h Q)) ∧ (x5 < (hh_i h a1 6) → (gm_G 530 121 [some (.ref a0), none, none, none, some (va_rf r_4), some (.int x5)] [.int (Int32.ofNat 1)] h Q))))) : gm_G 530 106 [some (.ref a0), none, none, none, some (va_rf r_4), some (.int x5), some (va_rf r_6)] [] h Q := by
  refine g_iload rfl rfl rfl (pc' := 108) ?_
  refine g_aload (r := _) rfl rfl rfl (pc' := 110) ?_
  obtain ⟨a1, rfl, H⟩ := H
  obtain ⟨ht2, H⟩ := H
  refine g_getI rfl rfl rfl rfl ht2 (pc' := 113) rfl ?_
  refine g_ic_ge rfl (pc' := 116) (pt := 120) rfl rfl ⟨fun hc => ?_, fun hc => ?_⟩
  · replace H := H.1 hc
    refine g_iconst rfl rfl rfl (pc' := 121) ?_
    exact g_weak (show gm_Lle [some _, none, none, none, some _, some _] _ from ⟨rfl, ⟨rfl, ⟨rfl, trivial⟩⟩⟩) H
  · replace H := H.2 hc
    refine g_iconst rfl rfl rfl (pc' := 117) ?_
    refine g_goto rfl (pc' := 121) rfl ?_
    exact g_weak (show gm_Lle [some _, none, none, none, some _, some _] _ from ⟨rfl, ⟨rfl, ⟨rfl, trivial⟩⟩⟩) H
set_option maxRecDepth 20000 in
theorem w_530_121 {a0 : Nat} {r_4 : Option Nat} {x5 : Int32} {y0 : Int32} {h : hh_T} {Q : Option Value ⊕ Nat → hh_T → Prop} (H : gm_G 431 0 [some (.int y0), some (.int (Int32.ofInt (-2)))] [] h (pV (fun h1 => gm_G 530 126 [some (.ref a0), none, none, none, some (va_rf r_4), some (.int x5)] [] h1 Q) (fun e2 h3 => hh_tg h3 e2 = 21 ∧ gm_G 530 140 [some (.ref a0)] [.ref e2] h3 Q))) : gm_G 530 121 [some (.ref a0), none, none, none, some (va_rf r_4), some (.int x5)] [.int y0] h Q := by
  refine g_iconst rfl rfl rfl (pc' := 123) ?_
  refine g_call rfl (y := 431) (n := 2) (pc' := 126) (fun _ => rfl) rfl rfl ⟨(Nat.le_of_ble_eq_true rfl), (Nat.le_of_ble_eq_true rfl), (Nat.le_of_ble_eq_true rfl)⟩ rfl (gm_G.mono H (pV_elim (fun h1 H' => ?_) (fun e2 h3 H => ?_)))
  · show gm_G _ 126 _ _ _ _
    replace H := H'
    clear H'
    exact g_weak (show gm_Lle [some _, none, none, none, some _, some _] _ from ⟨rfl, ⟨rfl, ⟨rfl, trivial⟩⟩⟩) H
  · exact ⟨H.1, g_weak (show gm_Lle [some _] _ from ⟨rfl, trivial⟩) H.2⟩
set_option maxRecDepth 20000 in
theorem w_530_126 {a0 : Nat} {r_4 : Option Nat} {x5 : Int32} {h : hh_T} {Q : Option Value ⊕ Nat → hh_T → Prop} (H : ∃ a1, r_4 = some a1 ∧ (gm_sub (hh_tg h a1) 42 = true ∧ (∀ h3, h3 = hh_wi h a1 3 x5 → (hh_tg h3 a0 = 1 ∧ (gm_G 4 0 [some (.ref a0), some (.int x5)] [] h3 (pI (fun v6 h5 => Q (.inl (some (.int v6))) h5) (fun e7 h8 => hh_tg h8 e7 = 21 ∧ gm_G 530 140 [some (.ref a0)] [.ref e7] h8 Q))))))) : gm_G 530 126 [some (.ref a0), none, none, none, some (va_rf r_4), some (.int x5)] [] h Q := by
  refine g_aload (r := _) rfl rfl rfl (pc' := 128) ?_
  refine g_iload rfl rfl rfl (pc' := 130) ?_
  obtain ⟨a1, rfl, H⟩ := H
  obtain ⟨ht2, H⟩ := H
  refine g_putI rfl rfl rfl rfl ht2  (pc' := 133) rfl ?_
  replace H := H _ rfl
  refine g_aload (r := some _) rfl rfl rfl (pc' := 134) ?_
  refine g_iload rfl rfl rfl (pc' := 136) ?_
  obtain ⟨ht4, H⟩ := H
  refine g_call rfl (y := 4) (n := 2) (pc' := 139) (g_vt ht4 rfl rfl) rfl rfl ⟨(Nat.le_of_ble_eq_true rfl), (Nat.le_of_ble_eq_true rfl), (Nat.le_of_ble_eq_true rfl)⟩ rfl (gm_G.mono H (pI_elim (fun v6 h5 H' => ?_) (fun e7 h8 H => ?_)))
  · show gm_G _ 139 _ _ _ _
    replace H := H'
    clear H'
    exact g_ireturn rfl (Or.inl rfl) H
  · exact ⟨H.1, g_weak (show gm_Lle [some _] _ from ⟨rfl, trivial⟩) H.2⟩
set_option maxRecDepth 20000 in
theorem w_530_140 {a0 : Nat} {ex : Nat} {h : hh_T} {Q : Option Value ⊕ Nat → hh_T → Prop} (H : hh_tg h a0 = 1 ∧ (gm_G 1 0 [some (.ref a0), some (.ref ex)] [] h (pI (fun v3 h2 => Q (.inl (some (.int v3))) h2) (fun e4 h5 => hh_tg h5 e4 = 21 ∧ Q (.inr e4) h5)))) : gm_G 530 140 [some (.ref a0)] [.ref ex] h Q := by
  refine g_astore (r := some _) rfl rfl rfl (pc' := 142) ?_
  refine g_aload (r := some _) rfl rfl rfl (pc' := 143) ?_
  refine g_aload (r := some _) rfl rfl rfl (pc' := 145) ?_
  obtain ⟨ht1, H⟩ := H
  refine g_call rfl (y := 1) (n := 2) (pc' := 148) (g_vt ht1 rfl rfl) rfl rfl ⟨(Nat.le_of_ble_eq_true rfl), (Nat.le_of_ble_eq_true rfl), (Nat.le_of_ble_eq_true rfl)⟩ rfl (gm_G.mono H (pI_elim (fun v3 h2 H' => ?_) (fun e4 h5 H => ?_)))
  · show gm_G _ 148 _ _ _ _
    replace H := H'
    clear H'
    exact g_ireturn rfl (Or.inl rfl) H
  · exact H
set_option maxRecDepth 20000 in
theorem w_531_0 {a0 : Nat} {x1 : Int32} {h : hh_T} {Q : Option Value ⊕ Nat → hh_T → Prop} (H : hh_tg h a0 = 1 ∧ (gm_G 456 0 [some (.ref a0)] [] h (pV (fun h2 => hh_tg h2 a0 = 1 ∧ (gm_G 499 0 [some (.ref a0), some (.int x1)] [] h2 (pR (fun r5 h4 => ∃ a6, r5 = some a6 ∧ (hh_tg h4 a6 = 48 ∧ (gm_G 215 0 [some (.ref a6)] [] h4 (pI (fun v9 h8 => hh_tg h8 a0 = 1 ∧ (gm_G 4 0 [some (.ref a0), some (.int v9)] [] h8 (pI (fun v12 h11 => Q (.inl (some (.int v12))) h11) (fun e13 h14 => hh_tg h14 e13 = 21 ∧ gm_G 531 17 [some (.ref a0)] [.ref e13] h14 Q)))) (fun e15 h16 => hh_tg h16 e15 = 21 ∧ gm_G 531 17 [some (.ref a0)] [.ref e15] h16 Q))))) (fun e17 h18 => hh_tg h18 e17 = 21 ∧ gm_G 531 17 [some (.ref a0)] [.ref e17] h18 Q)))) (fun e19 h20 => hh_tg h20 e19 = 21 ∧ gm_G 531 17 [some (.ref a0)] [.ref e19] h20 Q)))) : gm_G 531 0 [some (.ref a0), some (.int x1)] [] h Q := by
  refine g_aload (r := some _) rfl rfl rfl (pc' := 1) ?_
  obtain ⟨ht1, H⟩ := H
  refine g_call rfl (y := 456) (n := 1) (pc' := 4) (g_vt ht1 rfl rfl) rfl rfl ⟨(Nat.le_of_ble_eq_true rfl), (Nat.le_of_ble_eq_true rfl), (Nat.le_of_ble_eq_true rfl)⟩ rfl (gm_G.mono H (pV_elim (fun h2 H' => ?_) (fun e19 h20 H => ?_)))
  · show gm_G _ 4 _ _ _ _
    replace H := H'
    clear H'
    refine g_aload (r := some _) rfl rfl rfl (pc' := 5) ?_
    refine g_aload (r := some _) rfl rfl rfl (pc' := 6) ?_
    refine g_iload rfl rfl rfl (pc' := 7) ?_
    obtain ⟨ht3, H⟩ := H
    refine g_call rfl (y := 499) (n := 2) (pc' := 10) (g_vt ht3 rfl rfl) rfl rfl ⟨(Nat.le_of_ble_eq_true rfl), (Nat.le_of_ble_eq_true rfl), (Nat.le_of_ble_eq_true rfl)⟩ rfl (gm_G.mono H (pR_elim (fun r5 h4 H' => ?_) (fun e17 h18 H => ?_)))
    · show gm_G _ 10 _ _ _ _
      replace H := H'
      clear H'
      obtain ⟨a6, rfl, H⟩ := H
      obtain ⟨ht7, H⟩ := H
      refine g_call rfl (y := 215) (n := 1) (pc' := 13) (g_vt ht7 rfl rfl) rfl rfl ⟨(Nat.le_of_ble_eq_true rfl), (Nat.le_of_ble_eq_true rfl), (Nat.le_of_ble_eq_true rfl)⟩ rfl (gm_G.mono H (pI_elim (fun v9 h8 H' => ?_) (fun e15 h16 H => ?_)))
      · show gm_G _ 13 _ _ _ _
        replace H := H'
        clear H'
        obtain ⟨ht10, H⟩ := H
        refine g_call rfl (y := 4) (n := 2) (pc' := 16) (g_vt ht10 rfl rfl) rfl rfl ⟨(Nat.le_of_ble_eq_true rfl), (Nat.le_of_ble_eq_true rfl), (Nat.le_of_ble_eq_true rfl)⟩ rfl (gm_G.mono H (pI_elim (fun v12 h11 H' => ?_) (fun e13 h14 H => ?_)))
        · show gm_G _ 16 _ _ _ _
          replace H := H'
          clear H'
          exact g_ireturn rfl (Or.inl rfl) H
        · exact ⟨H.1, g_weak (show gm_Lle [some _] _ from ⟨rfl, trivial⟩) H.2⟩
      · exact ⟨H.1, g_weak (show gm_Lle [some _] _ from ⟨rfl, trivial⟩) H.2⟩
    · exact ⟨H.1, g_weak (show gm_Lle [some _] _ from ⟨rfl, trivial⟩) H.2⟩
  · exact ⟨H.1, g_weak (show gm_Lle [some _] _ from ⟨rfl, trivial⟩) H.2⟩
set_option maxRecDepth 20000 in
theorem w_531_17 {a0 : Nat} {ex : Nat} {h : hh_T} {Q : Option Value ⊕ Nat → hh_T → Prop} (H : hh_tg h a0 = 1 ∧ (gm_G 1 0 [some (.ref a0), some (.ref ex)] [] h (pI (fun v3 h2 => Q (.inl (some (.int v3))) h2) (fun e4 h5 => hh_tg h5 e4 = 21 ∧ Q (.inr e4) h5)))) : gm_G 531 17 [some (.ref a0)] [.ref ex] h Q := by
  refine g_astore (r := some _) rfl rfl rfl (pc' := 18) ?_
  refine g_aload (r := some _) rfl rfl rfl (pc' := 19) ?_
  refine g_aload (r := some _) rfl rfl rfl (pc' := 20) ?_
  obtain ⟨ht1, H⟩ := H
  refine g_call rfl (y := 1) (n := 2) (pc' := 23) (g_vt ht1 rfl rfl) rfl rfl ⟨(Nat.le_of_ble_eq_true rfl), (Nat.le_of_ble_eq_true rfl), (Nat.le_of_ble_eq_true rfl)⟩ rfl (gm_G.mono H (pI_elim (fun v3 h2 H' => ?_) (fun e4 h5 H => ?_)))
  · show gm_G _ 23 _ _ _ _
    replace H := H'
    clear H'
    exact g_ireturn rfl (Or.inl rfl) H
  · exact H
set_option maxRecDepth 20000 in
theorem w_532_0 {a0 : Nat} {x1 : Int32} {h : hh_T} {Q : Option Value ⊕ Nat → hh_T → Prop} (H : hh_tg h a0 = 1 ∧ (gm_G 456 0 [some (.ref a0)] [] h (pV (fun h2 => hh_tg h2 a0 = 1 ∧ (gm_G 499 0 [some (.ref a0), some (.int x1)] [] h2 (pR (fun r5 h4 => gm_sub (hh_tg h4 a0) 0 = true ∧ (∀ r7, r7 = hh_r h4 a0 52 → (∃ a8, r7 = some a8 ∧ (gm_sub (hh_tg h4 a8) 15 = true ∧ (∀ r10, r10 = hh_r h4 a8 0 → (∃ a11, r10 = some a11 ∧ (200 ≤ hh_tg h4 a11 ∧ (True) ∧ (∃ n12, gm_ix x1 n12 (hh_ln h4 a11) ∧ (∀ h13, h13 = hh_wr h4 a11 n12 none → (hh_tg h13 a0 = 1 ∧ (gm_G 4 0 [some (.ref a0), some (.int (Int32.ofNat 0))] [] h13 (pI (fun v16 h15 => Q (.inl (some (.int v16))) h15) (fun e17 h18 => hh_tg h18 e17 = 21 ∧ gm_G 532 26 [some (.ref a0)] [.ref e17] h18 Q))))))))))))) (fun e19 h20 => hh_tg h20 e19 = 21 ∧ gm_G 532 26 [some (.ref a0)] [.ref e19] h20 Q)))) (fun e21 h22 => hh_tg h22 e21 = 21 ∧ gm_G 532 26 [some (.ref a0)] [.ref e21] h22 Q)))) : gm_G 532 0 [some (.ref a0), some (.int x1)] [] h Q := by
  refine g_aload (r := some _) rfl rfl rfl (pc' := 1) ?_
  obtain ⟨ht1, H⟩ := H
  refine g_call rfl (y := 456) (n := 1) (pc' := 4) (g_vt ht1 rfl rfl) rfl rfl ⟨(Nat.le_of_ble_eq_true rfl), (Nat.le_of_ble_eq_true rfl), (Nat.le_of_ble_eq_true rfl)⟩ rfl (gm_G.mono H (pV_elim (fun h2 H' => ?_) (fun e21 h22 H => ?_)))
  · show gm_G _ 4 _ _ _ _
    replace H := H'
    clear H'
    refine g_aload (r := some _) rfl rfl rfl (pc' := 5) ?_
    refine g_iload rfl rfl rfl (pc' := 6) ?_
    obtain ⟨ht3, H⟩ := H
    refine g_call rfl (y := 499) (n := 2) (pc' := 9) (g_vt ht3 rfl rfl) rfl rfl ⟨(Nat.le_of_ble_eq_true rfl), (Nat.le_of_ble_eq_true rfl), (Nat.le_of_ble_eq_true rfl)⟩ rfl (gm_G.mono H (pR_elim (fun r5 h4 H' => ?_) (fun e19 h20 H => ?_)))
    · show gm_G _ 9 _ _ _ _
      replace H := H'
      clear H'
      refine g_pop_a (r := _) rfl rfl (pc' := 10) ?_
      refine g_aload (r := some _) rfl rfl rfl (pc' := 11) ?_
      obtain ⟨ht6, H⟩ := H
      refine g_getRv rfl rfl rfl rfl ht6 (pc' := 14) rfl (fun r7 hr7 => ?_)
      replace H := H r7 hr7
      obtain ⟨a8, rfl, H⟩ := H
      obtain ⟨ht9, H⟩ := H
      refine g_getRv rfl rfl rfl rfl ht9 (pc' := 17) rfl (fun r10 hr10 => ?_)
      replace H := H r10 hr10
      refine g_iload rfl rfl rfl (pc' := 18) ?_
      refine g_null rfl rfl (pc' := 19) ?_
      obtain ⟨a11, rfl, H⟩ := H
      obtain ⟨Ha, Hb, H⟩ := H
      obtain ⟨n12, hn12, H⟩ := H
      refine g_aastore (r := _) rfl Ha (fun b hb => by cases hb) hn12 (pc' := 20) rfl ?_
      replace H := H _ rfl
      refine g_aload (r := some _) rfl rfl rfl (pc' := 21) ?_
      refine g_iconst rfl rfl rfl (pc' := 22) ?_
      obtain ⟨ht14, H⟩ := H
      refine g_call rfl (y := 4) (n := 2) (pc' := 25) (g_vt ht14 rfl rfl) rfl rfl ⟨(Nat.le_of_ble_eq_true rfl), (Nat.le_of_ble_eq_true rfl), (Nat.le_of_ble_eq_true rfl)⟩ rfl (gm_G.mono H (pI_elim (fun v16 h15 H' => ?_) (fun e17 h18 H => ?_)))
      · show gm_G _ 25 _ _ _ _
        replace H := H'
        clear H'
        exact g_ireturn rfl (Or.inl rfl) H
      · exact ⟨H.1, g_weak (show gm_Lle [some _] _ from ⟨rfl, trivial⟩) H.2⟩
    · exact ⟨H.1, g_weak (show gm_Lle [some _] _ from ⟨rfl, trivial⟩) H.2⟩
  · exact ⟨H.1, g_weak (show gm_Lle [some _] _ from ⟨rfl, trivial⟩) H.2⟩
set_option maxRecDepth 20000 in
theorem w_532_26 {a0 : Nat} {ex : Nat} {h : hh_T} {Q : Option Value ⊕ Nat → hh_T → Prop} (H : hh_tg h a0 = 1 ∧ (gm_G 1 0 [some (.ref a0), some (.ref ex)] [] h (pI (fun v3 h2 => Q (.inl (some (.int v3))) h2) (fun e4 h5 => hh_tg h5 e4 = 21 ∧ Q (.inr e4) h5)))) : gm_G 532 26 [some (.ref a0)] [.ref ex] h Q := by
  refine g_astore (r := some _) rfl rfl rfl (pc' := 27) ?_
  refine g_aload (r := some _) rfl rfl rfl (pc' := 28) ?_
  refine g_aload (r := some _) rfl rfl rfl (pc' := 29) ?_
  obtain ⟨ht1, H⟩ := H
  refine g_call rfl (y := 1) (n := 2) (pc' := 32) (g_vt ht1 rfl rfl) rfl rfl ⟨(Nat.le_of_ble_eq_true rfl), (Nat.le_of_ble_eq_true rfl), (Nat.le_of_ble_eq_true rfl)⟩ rfl (gm_G.mono H (pI_elim (fun v3 h2 H' => ?_) (fun e4 h5 H => ?_)))
  · show gm_G _ 32 _ _ _ _
    replace H := H'
    clear H'
    exact g_ireturn rfl (Or.inl rfl) H
  · exact H
set_option maxRecDepth 20000 in
theorem w_533_0 {a0 : Nat} {r_1 : Option Nat} {x2 : Int32} {r_3 : Option Nat} {x4 : Int32} {x5 : Int32} {x6 : Int32} {h : hh_T} {Q : Option Value ⊕ Nat → hh_T → Prop} (H : gm_sub (hh_tg h a0) 0 = true ∧ (∀ r2, r2 = hh_r h a0 44 → (∃ a3, r2 = some a3 ∧ (gm_sub (hh_tg h a3) 12 = true ∧ (∀ h5, h5 = hh_wi h a3 1 (Int32.ofNat 0) → (gm_G 533 12 [some (.ref a0), some (va_rf r_1), some (.int x2), some (va_rf r_3), none, some (.int x5), some (.int x6), some (.int x4)] [] h5 Q)))))) : gm_G 533 0 [some (.ref a0), some (va_rf r_1), some (.int x2), some (va_rf r_3), some (.int x4), some (.int x5), some (.int x6)] [] h Q := by
  refine g_aload (r := some _) rfl rfl rfl (pc' := 1) ?_
  obtain ⟨ht1, H⟩ := H
  refine g_getRv rfl rfl rfl rfl ht1 (pc' := 4) rfl (fun r2 hr2 => ?_)
  replace H := H r2 hr2
  refine g_iconst rfl rfl rfl (pc' := 5) ?_
  obtain ⟨a3, rfl, H⟩ := H
  obtain ⟨ht4, H⟩ := H
  refine g_putI rfl rfl rfl rfl ht4  (pc' := 8) rfl ?_
  replace H := H _ rfl
  refine g_iload rfl rfl rfl (pc' := 10) ?_
  refine g_istore rfl rfl rfl (pc' := 12) ?_
  exact g_weak (show gm_Lle [some _, some _, some _, some _, none, some _, some _, some _] _ from ⟨rfl, ⟨rfl, ⟨rfl, ⟨rfl, ⟨rfl, ⟨rfl, ⟨rfl, trivial⟩⟩⟩⟩⟩⟩⟩) H
set_option maxRecDepth 20000 in
theorem w_533_12 {a0 : Nat} {r_1 : Option Nat} {x2 : Int32} {r_3 : Option Nat} {x5 : Int32} {x6 : Int32} {x7 : Int32} {h : hh_T} {Q : Option Value ⊕ Nat → hh_T → Prop} (H : (¬ x7 < x5 → (gm_G 533 48 [some (.ref a0), some (va_rf r_1), some (.int x2), none, none, none, some (.int x6), some (.int (Int32.ofNat 0)), some (.int (Int32.ofNat 0)), some (.int (Int32.ofNat 0))] [] h Q)) ∧ (x7 < x5 → (gm_sub (hh_tg h a0) 0 = true ∧ (∀ r2, r2 = hh_r h a0 44 → (∃ a3, r_3 = some a3 ∧ (gm_sub (hh_tg h a3) 12 = true ∧ (∀ r5, r5 = hh_r h a3 0 → (∃ a6, r5 = some a6 ∧ ((hh_tg h a6 = 101 ∨ hh_tg h a6 = 102) ∧ (∃ n7, gm_ix x7 n7 (hh_ln h a6) ∧ (∃ a9, r2 = some a9 ∧ (hh_tg h a9 = 13 ∧ (gm_G 459 0 [some (.ref a9), some (.int (hh_i h a6 n7))] [] h (pV (fun h11 => gm_G 533 12 [some (.ref a0), some (va_rf r_1), some (.int x2), some (.ref a3), none, some (.int x5), some (.int x6), some (.int (x7 + (Int32.ofNat 1)))] [] h11 Q) (fun e12 h13 => hh_tg h13 e12 = 21 ∧ Q (.inr e12) h13))))))))))))))) : gm_G 533 12 [some (.ref a0), some (va_rf r_1), some (.int x2), some (va_rf r_3), none, some (.int x5), some (.int x6), some (.int x7)] [] h Q := by
  refine g_iload rfl rfl rfl (pc' := 14) ?_
  refine g_iload rfl rfl rfl (pc' := 16) ?_
  refine g_ic_ge rfl (pc' := 19) (pt := 39) rfl rfl ⟨fun hc => ?_, fun hc => ?_⟩
  · replace H := H.1 hc
    refine g_iconst rfl rfl rfl (pc' := 40) ?_
    refine g_istore rfl rfl rfl (pc' := 42) ?_
    refine g_iconst rfl rfl rfl (pc' := 43) ?_
    refine g_istore rfl rfl rfl (pc' := 45) ?_
    refine g_iconst rfl rfl rfl (pc' := 46) ?_
    refine g_istore rfl rfl rfl (pc' := 48) ?_
    exact g_weak (show gm_Lle [some _, some _, some _, none, none, none, some _, some _, some _, some _] _ from ⟨rfl, ⟨rfl, ⟨rfl, ⟨rfl, ⟨rfl, ⟨rfl, ⟨rfl, trivial⟩⟩⟩⟩⟩⟩⟩) H
  · replace H := H.2 hc
    refine g_aload (r := some _) rfl rfl rfl (pc' := 20) ?_
    obtain ⟨ht1, H⟩ := H
    refine g_getRv rfl rfl rfl rfl ht1 (pc' := 23) rfl (fun r2 hr2 => ?_)
    replace H := H r2 hr2
    refine g_aload (r := _) rfl rfl rfl (pc' := 24) ?_
    obtain ⟨a3, rfl, H⟩ := H
    obtain ⟨ht4, H⟩ := H
    refine g_getRv rfl rfl rfl rfl ht4 (pc' := 27) rfl (fun r5 hr5 => ?_)
    replace H := H r5 hr5
    refine g_iload rfl rfl rfl (pc' := 29) ?_
    obtain ⟨a6, rfl, H⟩ := H
    obtain ⟨ht8, H⟩ := H
    obtain ⟨n7, hn7, H⟩ := H
    refine g_baload rfl ht8 hn7 (pc' := 30) rfl ?_
    obtain ⟨a9, rfl, H⟩ := H
    obtain ⟨ht10, H⟩ := H
    refine g_call rfl (y := 459) (n := 2) (pc' := 33) (g_vt ht10 rfl rfl) rfl rfl ⟨(Nat.le_of_ble_eq_true rfl), (Nat.le_of_ble_eq_true rfl), (Nat.le_of_ble_eq_true rfl)⟩ rfl (gm_G.mono H (pV_elim (fun h11 H' => ?_) (fun e12 h13 H => ?_)))
    · show gm_G _ 33 _ _ _ _
      replace H := H'
      clear H'
      refine g_iinc (c := (Int32.ofNat 1)) rfl rfl rfl rfl rfl (pc' := 36) ?_
      refine g_goto rfl (pc' := 12) rfl ?_
      exact g_weak (show gm_Lle [some _, some _, some _, some _, none, some _, some _, some _] _ from ⟨rfl, ⟨rfl, ⟨rfl, ⟨rfl, ⟨rfl, ⟨rfl, ⟨rfl, trivial⟩⟩⟩⟩⟩⟩⟩) H
    · exact H
set_option maxRecDepth 20000 in
theorem w_533_48 {a0 : Nat} {r_1 : Option Nat} {x2 : Int32} {x6 : Int32} {x7 : Int32} {x8 : Int32} {x9 : Int32} {h : hh_T} {Q : Option Value ⊕ Nat → hh_T → Prop} (H : gm_sub (hh_tg h a0) 0 = true ∧ (∀ r2, r2 = hh_r h a0 44 → (∃ a3, r2 = some a3 ∧ (gm_sub (hh_tg h a3) 12 = true ∧ ((¬ x7 < (hh_i h a3 1) → (Q (.inl (some (.int x8))) h)) ∧ (x7 < (hh_i h a3 1) → (∀ r5, r5 = hh_r h a0 44 → (∀ r6, r6 = hh_r h a0 44 → (∃ a7, r6 = some a7 ∧ (gm_sub (hh_tg h a7) 12 = true ∧ (gm_G 18 0 [some (va_rf r5), some (.int x7), some (.int (hh_i h a7 1))] [] h (pI (fun v10 h9 => ∃ a11, r_1 = some a11 ∧ (gm_sub (hh_tg h9 a11) 24 = true ∧ (∀ r13, r13 = hh_r h9 a11 2 → (∃ a14, r13 = some a14 ∧ ((hh_tg h9 a14 = 104 ∨ 200 ≤ hh_tg h9 a14) ∧ (∃ n15, gm_ix x8 n15 (hh_ln h9 a14) ∧ (∀ r17, r17 = hh_r h9 a14 n15 → (∃ a18, r17 = some a18 ∧ (gm_sub (hh_tg h9 a18) 25 = true ∧ ((¬ (hh_i h9 a18 1) = (Int32.ofNat 2) → (gm_G 533 101 [some (.ref a0), some (.ref a11), some (.int x2), none, none, none, some (.int x6), some (.int x7), some (.int x8), some (.int x9), some (.int v10), some (.ref a18)] [.int (Int32.ofNat 0)] h9 Q)) ∧ ((hh_i h9 a18 1) = (Int32.ofNat 2) → (gm_G 533 101 [some (.ref a0), some (.ref a11), some (.int x2), none, none, none, some (.int x6), some (.int x7), some (.int x8), some (.int x9), some (.int v10), some (.ref a18)] [.int (Int32.ofNat 1)] h9 Q)))))))))))) (fun e20 h21 => hh_tg h21 e20 = 21 ∧ Q (.inr e20) h21))))))))))))) : gm_G 533 48 [some (.ref a0), some (va_rf r_1), some (.int x2), none, none, none, some (.int x6), some (.int x7), some (.int x8), some (.int x9)] [] h Q := by
  refine g_iload rfl rfl rfl (pc' := 50) ?_
  refine g_aload (r := some _) rfl rfl rfl (pc' := 51) ?_
  obtain ⟨ht1, H⟩ := H
  refine g_getRv rfl rfl rfl rfl ht1 (pc' := 54) rfl (fun r2 hr2 => ?_)
  replace H := H r2 hr2
  obtain ⟨a3, rfl, H⟩ := H
  obtain ⟨ht4, H⟩ := H
  refine g_getI rfl rfl rfl rfl ht4 (pc' := 57) rfl ?_
  refine g_ic_ge rfl (pc' := 60) (pt := 296) rfl rfl ⟨fun hc => ?_, fun hc => ?_⟩
  · replace H := H.1 hc
    refine g_iload rfl rfl rfl (pc' := 298) ?_
    exact g_ireturn rfl (Or.inl rfl) H
  · replace H := H.2 hc
    refine g_aload (r := some _) rfl rfl rfl (pc' := 61) ?_
    refine g_getRv rfl rfl rfl rfl ht1 (pc' := 64) rfl (fun r5 hr5 => ?_)
    replace H := H r5 hr5
    refine g_iload rfl rfl rfl (pc' := 66) ?_
    refine g_aload (r := some _) rfl rfl rfl (pc' := 67) ?_
    refine g_getRv rfl rfl rfl rfl ht1 (pc' := 70) rfl (fun r6 hr6 => ?_)
    replace H := H r6 hr6
    obtain ⟨a7, rfl, H⟩ := H
    obtain ⟨ht8, H⟩ := H
    refine g_getI rfl rfl rfl rfl ht8 (pc' := 73) rfl ?_
    refine g_call rfl (y := 18) (n := 3) (pc' := 76) (fun _ => rfl) (by cases r5 <;> rfl) rfl ⟨(Nat.le_of_ble_eq_true rfl), (Nat.le_of_ble_eq_true rfl), (Nat.le_of_ble_eq_true rfl)⟩ rfl (gm_G.mono H (pI_elim (fun v10 h9 H' => ?_) (fun e20 h21 H => ?_)))
    · show gm_G _ 76 _ _ _ _
      replace H := H'
      clear H'
      refine g_istore rfl rfl rfl (pc' := 78) ?_
      refine g_aload (r := _) rfl rfl rfl (pc' := 79) ?_
      obtain ⟨a11, rfl, H⟩ := H
      obtain ⟨ht12, H⟩ := H
      refine g_getRv rfl rfl rfl rfl ht12 (pc' := 82) rfl (fun r13 hr13 => ?_)
      replace H := H r13 hr13
      refine g_iload rfl rfl rfl (pc' := 84) ?_
      obtain ⟨a14, rfl, H⟩ := H
      obtain ⟨ht16, H⟩ := H
      obtain ⟨n15, hn15, H⟩ := H
      refine g_aaloadv rfl ht16 hn15 (pc' := 85) rfl (fun r17 hr17 => ?_)
      replace H := H r17 hr17
      refine g_astore (r := _) rfl rfl rfl (pc' := 87) ?_
      refine g_aload (r := _) rfl rfl rfl (pc' := 89) ?_
      obtain ⟨a18, rfl, H⟩ := H
      obtain ⟨ht19, H⟩ := H
      refine g_getI rfl rfl rfl rfl ht19 (pc' := 92) rfl ?_
      refine g_iconst rfl rfl rfl (pc' := 93) ?_
      refine g_ic_ne rfl (pc' := 96) (pt := 100) rfl rfl ⟨fun hc => ?_, fun hc => ?_⟩
      · replace H := H.1 hc
        refine g_iconst rfl rfl rfl (pc' := 101) ?_
        exact g_weak (show gm_Lle [some _, some _, some _, none, none, none, some _, some _, some _, some _, some _, some _] _ from ⟨rfl, ⟨rfl, ⟨rfl, ⟨rfl, ⟨rfl, ⟨rfl, ⟨rfl, ⟨rfl, ⟨rfl, trivial⟩⟩⟩⟩⟩⟩⟩⟩⟩) H
      · replace H := H.2 hc
        refine g_iconst rfl rfl rfl (pc' := 97) ?_
        refine g_goto rfl (pc' := 101) rfl ?_
        exact g_weak (show gm_Lle [some _, some _, some _, none, none, none, some _, some _, some _, some _, some _, some _] _ from ⟨rfl, ⟨rfl, ⟨rfl, ⟨rfl, ⟨rfl, ⟨rfl, ⟨rfl, ⟨rfl, ⟨rfl, trivial⟩⟩⟩⟩⟩⟩⟩⟩⟩) H
    · exact H
set_option maxRecDepth 20000 in
theorem w_533_101 {a0 : Nat} {r_1 : Option Nat} {x2 : Int32} {x6 : Int32} {x7 : Int32} {x8 : Int32} {x9 : Int32} {x10 : Int32} {r_11 : Option Nat} {y0 : Int32} {h : hh_T} {Q : Option Value ⊕ Nat → hh_T → Prop} (H : gm_G 431 0 [some (.int y0), some (.int (Int32.ofInt (-10)))] [] h (pV (fun h1 => hh_tg h1 a0 = 1 ∧ (gm_G 393 0 [some (.ref a0), some (va_rf r_11), some (.int x2), some (.int (Int32.ofNat 1))] [] h1 (pI (fun v4 h3 => gm_G 431 0 [some (.int v4), some (.int (Int32.ofInt (-6)))] [] h3 (pV (fun h5 => (∀ b, r_11 = some b → gm_sub (hh_tg h5 b) 27 = true) ∧ (gm_sub (hh_tg h5 a0) 0 = true ∧ (∀ r7, r7 = hh_r h5 a0 44 → (gm_G 7 0 [some (va_rf r7), some (.int x7), some (.int x10)] [] h5 (pI (fun v9 h8 => (v9 = Int32.ofNat 0 → (gm_sub (hh_tg h8 a0) 0 = true ∧ (∀ r11, r11 = hh_r h8 a0 44 → (gm_G 233 0 [some (va_rf r11), some (.int x7), some (.int x10)] [] h8 (pL (fun v13 h12 => ∃ a14, r_11 = some a14 ∧ (hh_tg h12 a14 = 28 ∧ (gm_G 196 0 [some (.ref a14), some (.long v13), none] [] h12 (pI (fun v17 h16 => gm_G 533 187 [some (.ref a0), some (va_rf r_1), some (.int x2), none, none, none, some (.int x6), some (.int (x10 + (Int32.ofNat 1))), none, some (.int x9), some (.int x10), none, some (.ref a14), none, some (.int v17)] [] h16 Q) (fun e18 h19 => hh_tg h19 e18 = 21 ∧ Q (.inr e18) h19))))) (fun e20 h21 => hh_tg h21 e20 = 21 ∧ Q (.inr e20) h21)))))) ∧ (¬ v9 = Int32.ofNat 0 → ((¬ (x10 - x7) = (Int32.ofNat 2) → (gm_G 533 48 [some (.ref a0), some (va_rf r_1), some (.int x2), none, none, none, some (.int x6), some (.int (x10 + (Int32.ofNat 1))), some (.int x8), some (.int x9)] [] h8 Q)) ∧ ((x10 - x7) = (Int32.ofNat 2) → (∃ a22, r_11 = some a22 ∧ (gm_sub (hh_tg h8 a22) 27 = true ∧ (gm_G 533 48 [some (.ref a0), some (va_rf r_1), some (.int x2), none, none, none, some (.int x6), some (.int (x10 + (Int32.ofNat 1))), some (.int (hh_i h8 a22 14)), some (.int x9)] [] h8 Q))))))) (fun e24 h25 => hh_tg h25 e24 = 21 ∧ Q (.inr e24) h25)))))) (fun e26 h27 => hh_tg h27 e26 = 21 ∧ Q (.inr e26) h27))) (fun e28 h29 => hh_tg h29 e28 = 21 ∧ Q (.inr e28) h29)))) (fun e30 h31 => hh_tg h31 e30 = 21 ∧ Q (.inr e30) h31))) : gm_G 533 101 [some (.ref a0), some (va_rf r_1), some (.int x2), none, none, none, some (.int x6), some (.int x7), some (.int x8), some (.int x9), some (.int x10), some (va_rf r_11)] [.int y0] h Q := by
  refine g_iconst rfl rfl rfl (pc' := 103) ?_
  refine g_call rfl (y := 431) (n := 2) (pc' := 106) (fun _ => rfl) rfl rfl ⟨(Nat.le_of_ble_eq_true rfl), (Nat.le_of_ble_eq_true rfl), (Nat.le_of_ble_eq_true rfl)⟩ rfl (gm_G.mono H (pV_elim (fun h1 H' => ?_) (fun e30 h31 H => ?_)))
  · show gm_G _ 106 _ _ _ _
    replace H := H'
    clear H'
    refine g_aload (r := some _) rfl rfl rfl (pc' := 107) ?_
    refine g_aload (r := _) rfl rfl rfl (pc' := 109) ?_
    refine g_iload rfl rfl rfl (pc' := 110) ?_
    refine g_iconst rfl rfl rfl (pc' := 111) ?_
    obtain ⟨ht2, H⟩ := H
    refine g_call rfl (y := 393) (n := 4) (pc' := 114) (g_vt ht2 rfl rfl) (by cases r_11 <;> rfl) rfl ⟨(Nat.le_of_ble_eq_true rfl), (Nat.le_of_ble_eq_true rfl), (Nat.le_of_ble_eq_true rfl)⟩ rfl (gm_G.mono H (pI_elim (fun v4 h3 H' => ?_) (fun e28 h29 H => ?_)))
    · show gm_G _ 114 _ _ _ _
      replace H := H'
      clear H'
      refine g_iconst rfl rfl rfl (pc' := 116) ?_
      refine g_call rfl (y := 431) (n := 2) (pc' := 119) (fun _ => rfl) rfl rfl ⟨(Nat.le_of_ble_eq_true rfl), (Nat.le_of_ble_eq_true rfl), (Nat.le_of_ble_eq_true rfl)⟩ rfl (gm_G.mono H (pV_elim (fun h5 H' => ?_) (fun e26 h27 H => ?_)))
      · show gm_G _ 119 _ _ _ _
        replace H := H'
        clear H'
        refine g_aload (r := _) rfl rfl rfl (pc' := 121) ?_
        obtain ⟨Hc, H⟩ := H
        refine g_cast rfl Hc (pc' := 124) rfl ?_
        refine g_astore (r := _) rfl gm_sto_rf11 rfl (pc' := 126) ?_
        refine g_iload rfl rfl rfl (pc' := 128) ?_
        refine g_istore rfl gm_sto_rf12 rfl (pc' := 130) ?_
        refine g_iload rfl rfl rfl (pc' := 132) ?_
        refine g_iconst rfl rfl rfl (pc' := 133) ?_
        refine g_iadd rfl rfl (pc' := 134) ?_
        refine g_istore rfl rfl rfl (pc' := 136) ?_
        refine g_aload (r := some _) rfl rfl rfl (pc' := 137) ?_
        obtain ⟨ht6, H⟩ := H
        refine g_getRv rfl rfl rfl rfl ht6 (pc' := 140) rfl (fun r7 hr7 => ?_)
        replace H := H r7 hr7
        refine g_iload rfl rfl rfl (pc' := 142) ?_
        refine g_iload rfl rfl rfl (pc' := 144) ?_
        refine g_call rfl (y := 7) (n := 3) (pc' := 147) (fun _ => rfl) (by cases r7 <;> rfl) rfl ⟨(Nat.le_of_ble_eq_true rfl), (Nat.le_of_ble_eq_true rfl), (Nat.le_of_ble_eq_true rfl)⟩ rfl (gm_G.mono H (pI_elim (fun v9 h8 H' => ?_) (fun e24 h25 H => ?_)))
        · show gm_G _ 147 _ _ _ _
          replace H := H'
          clear H'
          refine g_if_eq rfl (pc' := 150) (pt := 169) rfl rfl ⟨fun hc => ?_, fun hc => ?_⟩
          · replace H := H.1 hc
            refine g_aload (r := _) rfl rfl rfl (pc' := 171) ?_
            refine g_aload (r := some _) rfl rfl rfl (pc' := 172) ?_
            obtain ⟨ht10, H⟩ := H
            refine g_getRv rfl rfl rfl rfl ht10 (pc' := 175) rfl (fun r11 hr11 => ?_)
            replace H := H r11 hr11
            refine g_iload rfl rfl rfl (pc' := 177) ?_
            refine g_iload rfl rfl rfl (pc' := 179) ?_
            refine g_call rfl (y := 233) (n := 3) (pc' := 182) (fun _ => rfl) (by cases r11 <;> rfl) rfl ⟨(Nat.le_of_ble_eq_true rfl), (Nat.le_of_ble_eq_true rfl), (Nat.le_of_ble_eq_true rfl)⟩ rfl (gm_G.mono H (pL_elim (fun v13 h12 H' => ?_) (fun e20 h21 H => ?_)))
            · show gm_G _ 182 _ _ _ _
              replace H := H'
              clear H'
              obtain ⟨a14, rfl, H⟩ := H
              obtain ⟨ht15, H⟩ := H
              refine g_call rfl (y := 196) (n := 2) (pc' := 185) (g_vt ht15 rfl rfl) rfl rfl ⟨(Nat.le_of_ble_eq_true rfl), (Nat.le_of_ble_eq_true rfl), (Nat.le_of_ble_eq_true rfl)⟩ rfl (gm_G.mono H (pI_elim (fun v17 h16 H' => ?_) (fun e18 h19 H => ?_)))
              · show gm_G _ 185 _ _ _ _
                replace H := H'
                clear H'
                refine g_istore rfl rfl rfl (pc' := 187) ?_
                exact g_weak (show gm_Lle [some _, some _, some _, none, none, none, some _, some _, none, some _, some _, none, some _, none, some _] _ from ⟨rfl, ⟨rfl, ⟨rfl, ⟨rfl, ⟨rfl, ⟨rfl, ⟨rfl, ⟨rfl, ⟨rfl, trivial⟩⟩⟩⟩⟩⟩⟩⟩⟩) H
              · exact H
            · exact H
          · replace H := H.2 hc
            refine g_iload rfl rfl rfl (pc' := 152) ?_
            refine g_iload rfl rfl rfl (pc' := 154) ?_
            refine g_isub rfl rfl (pc' := 155) ?_
            refine g_iconst rfl rfl rfl (pc' := 156) ?_
            refine g_ic_ne rfl (pc' := 159) (pt := 48) rfl rfl ⟨fun hc => ?_, fun hc => ?_⟩
            · replace H := H.1 hc
              exact g_weak (show gm_Lle [some _, some _, some _, none, none, none, some _, some _, some _, some _] _ from ⟨rfl, ⟨rfl, ⟨rfl, ⟨rfl, ⟨rfl, ⟨rfl, ⟨rfl, trivial⟩⟩⟩⟩⟩⟩⟩) H
            · replace H := H.2 hc
              refine g_aload (r := _) rfl rfl rfl (pc' := 161) ?_
              obtain ⟨a22, rfl, H⟩ := H
              obtain ⟨ht23, H⟩ := H
              refine g_getI rfl rfl rfl rfl ht23 (pc' := 164) rfl ?_
              refine g_istore rfl rfl rfl (pc' := 166) ?_
              refine g_goto rfl (pc' := 48) rfl ?_
              exact g_weak (show gm_Lle [some _, some _, some _, none, none, none, some _, some _, some _, some _] _ from ⟨rfl, ⟨rfl, ⟨rfl, ⟨rfl, ⟨rfl, ⟨rfl, ⟨rfl, trivial⟩⟩⟩⟩⟩⟩⟩) H
        · exact H
      · exact H
    · exact H
  · exact H
set_option maxRecDepth 20000 in
theorem w_533_187 {a0 : Nat} {r_1 : Option Nat} {x2 : Int32} {x6 : Int32} {x7 : Int32} {x9 : Int32} {x10 : Int32} {r_12 : Option Nat} {x14 : Int32} {h : hh_T} {Q : Option Value ⊕ Nat → hh_T → Prop} (H : (x14 < Int32.ofNat 0 → (gm_G 533 197 [some (.ref a0), some (va_rf r_1), some (.int x2), none, none, none, some (.int x6), some (.int x7), none, some (.int x9), some (.int x10), none, some (va_rf r_12), none, some (.int x14)] [.int (Int32.ofNat 0)] h Q)) ∧ (¬ x14 < Int32.ofNat 0 → (gm_G 533 197 [some (.ref a0), some (va_rf r_1), some (.int x2), none, none, none, some (.int x6), some (.int x7), none, some (.int x9), some (.int x10), none, some (va_rf r_12), none, some (.int x14)] [.int (Int32.ofNat 1)] h Q))) : gm_G 533 187 [some (.ref a0), some (va_rf r_1), some (.int x2), none, none, none, some (.int x6), some (.int x7), none, some (.int x9), some (.int x10), none, some (va_rf r_12), none, some (.int x14)] [] h Q := by
  refine g_iload rfl rfl rfl (pc' := 189) ?_
  refine g_if_lt rfl (pc' := 192) (pt := 196) rfl rfl ⟨fun hc => ?_, fun hc => ?_⟩
  · replace H := H.1 hc
    refine g_iconst rfl rfl rfl (pc' := 197) ?_
    exact g_weak (show gm_Lle [some _, some _, some _, none, none, none, some _, some _, none, some _, some _, none, some _, none, some _] _ from ⟨rfl, ⟨rfl, ⟨rfl, ⟨rfl, ⟨rfl, ⟨rfl, ⟨rfl, ⟨rfl, ⟨rfl, trivial⟩⟩⟩⟩⟩⟩⟩⟩⟩) H
  · replace H := H.2 hc
    refine g_iconst rfl rfl rfl (pc' := 193) ?_
    refine g_goto rfl (pc' := 197) rfl ?_
    exact g_weak (show gm_Lle [some _, some _, some _, none, none, none, some _, some _, none, some _, some _, none, some _, none, some _] _ from ⟨rfl, ⟨rfl, ⟨rfl, ⟨rfl, ⟨rfl, ⟨rfl, ⟨rfl, ⟨rfl, ⟨rfl, trivial⟩⟩⟩⟩⟩⟩⟩⟩⟩) H
set_option maxRecDepth 20000 in
theorem w_533_197 {a0 : Nat} {r_1 : Option Nat} {x2 : Int32} {x6 : Int32} {x7 : Int32} {x9 : Int32} {x10 : Int32} {r_12 : Option Nat} {x14 : Int32} {y0 : Int32} {h : hh_T} {Q : Option Value ⊕ Nat → hh_T → Prop} (H : gm_G 431 0 [some (.int y0), some (.int (Int32.ofInt (-2)))] [] h (pV (fun h1 => ∃ a2, r_1 = some a2 ∧ (gm_sub (hh_tg h1 a2) 24 = true ∧ (∀ r4, r4 = hh_r h1 a2 2 → (∃ a5, r_12 = some a5 ∧ (gm_sub (hh_tg h1 a5) 27 = true ∧ (∀ r7, r7 = hh_r h1 a5 13 → (∃ a8, r7 = some a8 ∧ ((hh_tg h1 a8 = 100 ∨ hh_tg h1 a8 = 105) ∧ (∃ n9, gm_ix x14 n9 (hh_ln h1 a8) ∧ (∃ a11, r4 = some a11 ∧ ((hh_tg h1 a11 = 104 ∨ 200 ≤ hh_tg h1 a11) ∧ (∃ n12, gm_ix (hh_i h1 a8 n9) n12 (hh_ln h1 a11) ∧ (∀ r14, r14 = hh_r h1 a11 n12 → (∃ a15, r14 = some a15 ∧ (gm_sub (hh_tg h1 a15) 25 = true ∧ ((¬ (hh_i h1 a15 1) = (Int32.ofNat 3) → (gm_G 533 283 [some (.ref a0), some (.ref a2), some (.int x2), none, none, none, some (.int x6), some (.int x7), none, some (.int x9), none, none, some (.ref a5), none, some (.int x14)] [] h1 Q)) ∧ ((hh_i h1 a15 1) = (Int32.ofNat 3) → ((¬ x6 = Int32.ofNat 0 → (gm_G 533 243 [some (.ref a0), some (.ref a2), some (.int x2), none, none, none, some (.int x6), none, none, some (.int x9), some (.int x10), none, none, none, none, some (.ref a15)] [] h1 Q)) ∧ (x6 = Int32.ofNat 0 → (gm_sub (hh_tg h1 a0) 0 = true ∧ (∀ r18, r18 = hh_r h1 a0 44 → (∃ a19, r18 = some a19 ∧ (gm_sub (hh_tg h1 a19) 12 = true ∧ ((¬ x10 < (hh_i h1 a19 1) → (gm_G 533 283 [some (.ref a0), some (.ref a2), some (.int x2), none, none, none, some (.int x6), some (.int x7), none, some (.int x9), none, none, some (.ref a5), none, some (.int x14)] [] h1 Q)) ∧ (x10 < (hh_i h1 a19 1) → (gm_G 533 243 [some (.ref a0), some (.ref a2), some (.int x2), none, none, none, some (.int x6), none, none, some (.int x9), some (.int x10), none, none, none, none, some (.ref a15)] [] h1 Q)))))))))))))))))))))))))) (fun e21 h22 => hh_tg h22 e21 = 21 ∧ Q (.inr e21) h22))) : gm_G 533 197 [some (.ref a0), some (va_rf r_1), some (.int x2), none, none, none, some (.int x6), some (.int x7), none, some (.int x9), some (.int x10), none, some (va_rf r_12), none, some (.int x14)] [.int y0] h Q := by
  refine g_iconst rfl rfl rfl (pc' := 199) ?_
  refine g_call rfl (y := 431) (n := 2) (pc' := 202) (fun _ => rfl) rfl rfl ⟨(Nat.le_of_ble_eq_true rfl), (Nat.le_of_ble_eq_true rfl), (Nat.le_of_ble_eq_true rfl)⟩ rfl (gm_G.mono H (pV_elim (fun h1 H' => ?_) (fun e21 h22 H => ?_)))
  · show gm_G _ 202 _ _ _ _
    replace H := H'
    clear H'
    refine g_aload (r := _) rfl rfl rfl (pc' := 203) ?_
    obtain ⟨a2, rfl, H⟩ := H
    obtain ⟨ht3, H⟩ := H
    refine g_getRv rfl rfl rfl rfl ht3 (pc' := 206) rfl (fun r4 hr4 => ?_)
    replace H := H r4 hr4
    refine g_aload (r := _) rfl rfl rfl (pc' := 208) ?_
    obtain ⟨a5, rfl, H⟩ := H
    obtain ⟨ht6, H⟩ := H
    refine g_getRv rfl rfl rfl rfl ht6 (pc' := 211) rfl (fun r7 hr7 => ?_)
    replace H := H r7 hr7
    refine g_iload rfl rfl rfl (pc' := 213) ?_
    obtain ⟨a8, rfl, H⟩ := H
    obtain ⟨ht10, H⟩ := H
    obtain ⟨n9, hn9, H⟩ := H
    refine g_iaload rfl ht10 hn9 (pc' := 214) rfl ?_
    obtain ⟨a11, rfl, H⟩ := H
    obtain ⟨ht13, H⟩ := H
    obtain ⟨n12, hn12, H⟩ := H
    refine g_aaloadv rfl ht13 hn12 (pc' := 215) rfl (fun r14 hr14 => ?_)
    replace H := H r14 hr14
    refine g_astore (r := _) rfl rfl rfl (pc' := 217) ?_
    refine g_aload (r := _) rfl rfl rfl (pc' := 219) ?_
    obtain ⟨a15, rfl, H⟩ := H
    obtain ⟨ht16, H⟩ := H
    refine g_getI rfl rfl rfl rfl ht16 (pc' := 222) rfl ?_
    refine g_iconst rfl rfl rfl (pc' := 223) ?_
    refine g_ic_ne rfl (pc' := 226) (pt := 283) rfl rfl ⟨fun hc => ?_, fun hc => ?_⟩
    · replace H := H.1 hc
      exact g_weak (show gm_Lle [some _, some _, some _, none, none, none, some _, some _, none, some _, none, none, some _, none, some _] _ from ⟨rfl, ⟨rfl, ⟨rfl, ⟨rfl, ⟨rfl, ⟨rfl, ⟨rfl, ⟨rfl, trivial⟩⟩⟩⟩⟩⟩⟩⟩) H
    · replace H := H.2 hc
      refine g_iload rfl rfl rfl (pc' := 228) ?_
      refine g_if_ne rfl (pc' := 231) (pt := 243) rfl rfl ⟨fun hc => ?_, fun hc => ?_⟩
      · replace H := H.1 hc
        exact g_weak (show gm_Lle [some _, some _, some _, none, none, none, some _, none, none, some _, some _, none, none, none, none, some _] _ from ⟨rfl, ⟨rfl, ⟨rfl, ⟨rfl, ⟨rfl, ⟨rfl, ⟨rfl, trivial⟩⟩⟩⟩⟩⟩⟩) H
      · replace H := H.2 hc
        refine g_iload rfl rfl rfl (pc' := 233) ?_
        refine g_aload (r := some _) rfl rfl rfl (pc' := 234) ?_
        obtain ⟨ht17, H⟩ := H
        refine g_getRv rfl rfl rfl rfl ht17 (pc' := 237) rfl (fun r18 hr18 => ?_)
        replace H := H r18 hr18
        obtain ⟨a19, rfl, H⟩ := H
        obtain ⟨ht20, H⟩ := H
        refine g_getI rfl rfl rfl rfl ht20 (pc' := 240) rfl ?_
        refine g_ic_ge rfl (pc' := 243) (pt := 283) rfl rfl ⟨fun hc => ?_, fun hc => ?_⟩
        · replace H := H.1 hc
          exact g_weak (show gm_Lle [some _, some _, some _, none, none, none, some _, some _, none, some _, none, none, some _, none, some _] _ from ⟨rfl, ⟨rfl, ⟨rfl, ⟨rfl, ⟨rfl, ⟨rfl, ⟨rfl, ⟨rfl, trivial⟩⟩⟩⟩⟩⟩⟩⟩) H
        · replace H := H.2 hc
          exact g_weak (show gm_Lle [some _, some _, some _, none, none, none, some _, none, none, some _, some _, none, none, none, none, some _] _ from ⟨rfl, ⟨rfl, ⟨rfl, ⟨rfl, ⟨rfl, ⟨rfl, ⟨rfl, trivial⟩⟩⟩⟩⟩⟩⟩) H
  · exact H
set_option maxRecDepth 20000 in
theorem w_533_243 {a0 : Nat} {r_1 : Option Nat} {x2 : Int32} {x6 : Int32} {x9 : Int32} {x10 : Int32} {r_15 : Option Nat} {h : hh_T} {Q : Option Value ⊕ Nat → hh_T → Prop} (H : (¬ x9 < (Int32.ofNat 6) → (gm_G 533 255 [some (.ref a0), some (va_rf r_1), some (.int x2), none, none, none, some (.int x6), none, none, some (.int x9), some (.int x10), none, none, none, none, some (va_rf r_15)] [.int (Int32.ofNat 0)] h Q)) ∧ (x9 < (Int32.ofNat 6) → (gm_G 533 255 [some (.ref a0), some (va_rf r_1), some (.int x2), none, none, none, some (.int x6), none, none, some (.int x9), some (.int x10), none, none, none, none, some (va_rf r_15)] [.int (Int32.ofNat 1)] h Q))) : gm_G 533 243 [some (.ref a0), some (va_rf r_1), some (.int x2), none, none, none, some (.int x6), none, none, some (.int x9), some (.int x10), none, none, none, none, some (va_rf r_15)] [] h Q := by
  refine g_iload rfl rfl rfl (pc' := 245) ?_
  refine g_iconst rfl rfl rfl (pc' := 247) ?_
  refine g_ic_ge rfl (pc' := 250) (pt := 254) rfl rfl ⟨fun hc => ?_, fun hc => ?_⟩
  · replace H := H.1 hc
    refine g_iconst rfl rfl rfl (pc' := 255) ?_
    exact g_weak (show gm_Lle [some _, some _, some _, none, none, none, some _, none, none, some _, some _, none, none, none, none, some _] _ from ⟨rfl, ⟨rfl, ⟨rfl, ⟨rfl, ⟨rfl, ⟨rfl, ⟨rfl, trivial⟩⟩⟩⟩⟩⟩⟩) H
  · replace H := H.2 hc
    refine g_iconst rfl rfl rfl (pc' := 251) ?_
    refine g_goto rfl (pc' := 255) rfl ?_
    exact g_weak (show gm_Lle [some _, some _, some _, none, none, none, some _, none, none, some _, some _, none, none, none, none, some _] _ from ⟨rfl, ⟨rfl, ⟨rfl, ⟨rfl, ⟨rfl, ⟨rfl, ⟨rfl, trivial⟩⟩⟩⟩⟩⟩⟩) H
set_option maxRecDepth 20000 in
theorem w_533_255 {a0 : Nat} {r_1 : Option Nat} {x2 : Int32} {x6 : Int32} {x9 : Int32} {x10 : Int32} {r_15 : Option Nat} {y0 : Int32} {h : hh_T} {Q : Option Value ⊕ Nat → hh_T → Prop} (H : gm_G 431 0 [some (.int y0), some (.int (Int32.ofInt (-15)))] [] h (pV (fun h1 => (∀ b, r_15 = some b → gm_sub (hh_tg h1 b) 28 = true) ∧ (hh_tg h1 a0 = 1 ∧ (gm_G 500 0 [some (.ref a0), some (va_rf r_15), some (.int x10)] [] h1 (pV (fun h3 => gm_G 533 48 [some (.ref a0), some (va_rf r_1), some (.int x2), none, none, none, some (.int x6), some (.int (Int32.ofNat 0)), some (.int (Int32.ofNat 0)), some (.int (x9 + (Int32.ofNat 1)))] [] h3 Q) (fun e4 h5 => hh_tg h5 e4 = 21 ∧ Q (.inr e4) h5))))) (fun e6 h7 => hh_tg h7 e6 = 21 ∧ Q (.inr e6) h7))) : gm_G 533 255 [some (.ref a0), some (va_rf r_1), some (.int x2), none, none, none, some (.int x6), none, none, some (.int x9), some (.int x10), none, none, none, none, some (va_rf r_15)] [.int y0] h Q := by
  refine g_iconst rfl rfl rfl (pc' := 257) ?_
  refine g_call rfl (y := 431) (n := 2) (pc' := 260) (fun _ => rfl) rfl rfl ⟨(Nat.le_of_ble_eq_true rfl), (Nat.le_of_ble_eq_true rfl), (Nat.le_of_ble_eq_true rfl)⟩ rfl (gm_G.mono H (pV_elim (fun h1 H' => ?_) (fun e6 h7 H => ?_)))
  · show gm_G _ 260 _ _ _ _
    replace H := H'
    clear H'
    refine g_iinc (c := (Int32.ofNat 1)) rfl rfl rfl rfl rfl (pc' := 263) ?_
    refine g_aload (r := some _) rfl rfl rfl (pc' := 264) ?_
    refine g_aload (r := _) rfl rfl rfl (pc' := 266) ?_
    obtain ⟨Hc, H⟩ := H
    refine g_cast rfl Hc (pc' := 269) rfl ?_
    refine g_iload rfl rfl rfl (pc' := 271) ?_
    obtain ⟨ht2, H⟩ := H
    refine g_call rfl (y := 500) (n := 3) (pc' := 274) (g_vt ht2 rfl rfl) (by cases r_15 <;> rfl) rfl ⟨(Nat.le_of_ble_eq_true rfl), (Nat.le_of_ble_eq_true rfl), (Nat.le_of_ble_eq_true rfl)⟩ rfl (gm_G.mono H (pV_elim (fun h3 H' => ?_) (fun e4 h5 H => ?_)))
    · show gm_G _ 274 _ _ _ _
      replace H := H'
      clear H'
      refine g_iconst rfl rfl rfl (pc' := 275) ?_
      refine g_istore rfl rfl rfl (pc' := 277) ?_
      refine g_iconst rfl rfl rfl (pc' := 278) ?_
      refine g_istore rfl rfl rfl (pc' := 280) ?_
      refine g_goto rfl (pc' := 48) rfl ?_
      exact g_weak (show gm_Lle [some _, some _, some _, none, none, none, some _, some _, some _, some _] _ from ⟨rfl, ⟨rfl, ⟨rfl, ⟨rfl, ⟨rfl, ⟨rfl, ⟨rfl, trivial⟩⟩⟩⟩⟩⟩⟩) H
    · exact H
  · exact H
set_option maxRecDepth 20000 in
theorem w_533_283 {a0 : Nat} {r_1 : Option Nat} {x2 : Int32} {x6 : Int32} {x7 : Int32} {x9 : Int32} {r_12 : Option Nat} {x14 : Int32} {h : hh_T} {Q : Option Value ⊕ Nat → hh_T → Prop} (H : ∃ a1, r_12 = some a1 ∧ (gm_sub (hh_tg h a1) 27 = true ∧ (∀ r3, r3 = hh_r h a1 13 → (∃ a4, r3 = some a4 ∧ ((hh_tg h a4 = 100 ∨ hh_tg h a4 = 105) ∧ (∃ n5, gm_ix x14 n5 (hh_ln h a4) ∧ (gm_G 533 48 [some (.ref a0), some (va_rf r_1), some (.int x2), none, none, none, some (.int x6), some (.int x7), some (.int (hh_i h a4 n5)), some (.int x9)] [] h Q))))))) : gm_G 533 283 [some (.ref a0), some (va_rf r_1), some (.int x2), none, none, none, some (.int x6), some (.int x7), none, some (.int x9), none, none, some (va_rf r_12), none, some (.int x14)] [] h Q := by
  refine g_aload (r := _) rfl rfl rfl (pc' := 285) ?_
  obtain ⟨a1, rfl, H⟩ := H
  obtain ⟨ht2, H⟩ := H
  refine g_getRv rfl rfl rfl rfl ht2 (pc' := 288) rfl (fun r3 hr3 => ?_)
  replace H := H r3 hr3
  refine g_iload rfl rfl rfl (pc' := 290) ?_
  obtain ⟨a4, rfl, H⟩ := H
  obtain ⟨ht6, H⟩ := H
  obtain ⟨n5, hn5, H⟩ := H
  refine g_iaload rfl ht6 hn5 (pc' := 291) rfl ?_
  refine g_istore rfl rfl rfl (pc' := 293) ?_
  refine g_goto rfl (pc' := 48) rfl ?_
  exact g_weak (show gm_Lle [some _, some _, some _, none, none, none, some _, some _, some _, some _] _ from ⟨rfl, ⟨rfl, ⟨rfl, ⟨rfl, ⟨rfl, ⟨rfl, ⟨rfl, trivial⟩⟩⟩⟩⟩⟩⟩) H
set_option maxRecDepth 20000 in
theorem w_534_0 {a0 : Nat} {r_1 : Option Nat} {r_2 : Option Nat} {h : hh_T} {Q : Option Value ⊕ Nat → hh_T → Prop} (H : gm_G 534 5 [some (.ref a0), some (va_rf r_1), some (va_rf r_2), some (.int (Int32.ofNat 0)), some (.int (Int32.ofNat 0))] [] h Q) : gm_G 534 0 [some (.ref a0), some (va_rf r_1), some (va_rf r_2)] [] h Q := by
  refine g_iconst rfl rfl rfl (pc' := 1) ?_
  refine g_istore rfl gm_sto_rf2 rfl (pc' := 2) ?_
  refine g_iconst rfl rfl rfl (pc' := 3) ?_
  refine g_istore rfl rfl rfl (pc' := 5) ?_
  exact g_weak (show gm_Lle [some _, some _, some _, some _, some _] _ from ⟨rfl, ⟨rfl, ⟨rfl, ⟨rfl, ⟨rfl, trivial⟩⟩⟩⟩⟩) H
set_option maxRecDepth 20000 in
theorem w_534_5 {a0 : Nat} {r_1 : Option Nat} {r_2 : Option Nat} {x3 : Int32} {x4 : Int32} {h : hh_T} {Q : Option Value ⊕ Nat → hh_T → Prop} (H : (¬ x4 < (Int32.ofNat 32) → (hh_tg h a0 = 10 ∧ (gm_G 505 0 [some (.ref a0), some (va_rf r_1), some (.int x3), some (.int (Int32.ofNat 32)), some (va_rf r_2)] [] h (pV (fun h2 => gm_G 534 85 [] [] h2 Q) (fun e3 h4 => hh_tg h4 e3 = 21 ∧ Q (.inr e3) h4))))) ∧ (x4 < (Int32.ofNat 32) → (hh_tg h a0 = 10 ∧ (gm_G 53 0 [some (.ref a0), some (va_rf r_1), some (.int x4)] [] h (pV (fun h6 => gm_sub (hh_tg h6 a0) 9 = true ∧ ((¬ (hh_i h6 a0 1) < (Int32.ofNat 3) → (hh_tg h6 a0 = 10 ∧ (gm_G 505 0 [some (.ref a0), some (va_rf r_1), some (.int x3), some (.int x4), some (va_rf r_2)] [] h6 (pV (fun h9 => gm_sub (hh_tg h9 a0) 9 = true ∧ (∃ a11, r_2 = some a11 ∧ (hh_tg h9 a11 = 13 ∧ (gm_G 459 0 [some (.ref a11), some (.int ((Int32.ofNat 125) + (hh_i h9 a0 1)))] [] h9 (pV (fun h13 => gm_sub (hh_tg h13 a0) 9 = true ∧ (hh_tg h13 a11 = 13 ∧ (gm_G 459 0 [some (.ref a11), some (.int (hh_i h13 a0 0))] [] h13 (pV (fun h16 => gm_sub (hh_tg h16 a0) 9 = true ∧ (gm_G 534 5 [some (.ref a0), some (va_rf r_1), some (.ref a11), some (.int (x4 + (hh_i h16 a0 1))), some (.int (x4 + (hh_i h16 a0 1)))] [] h16 Q)) (fun e18 h19 => hh_tg h19 e18 = 21 ∧ Q (.inr e18) h19))))) (fun e20 h21 => hh_tg h21 e20 = 21 ∧ Q (.inr e20) h21)))))) (fun e22 h23 => hh_tg h23 e22 = 21 ∧ Q (.inr e22) h23))))) ∧ ((hh_i h6 a0 1) < (Int32.ofNat 3) → (gm_G 534 5 [some (.ref a0), some (va_rf r_1), some (va_rf r_2), some (.int x3), some (.int (x4 + (Int32.ofNat 1)))] [] h6 Q)))) (fun e24 h25 => hh_tg h25 e24 = 21 ∧ Q (.inr e24) h25)))))) : gm_G 534 5 [some (.ref a0), some (va_rf r_1), some (va_rf r_2), some (.int x3), some (.int x4)] [] h Q := by
  refine g_iload rfl rfl rfl (pc' := 7) ?_
  refine g_iconst rfl rfl rfl (pc' := 9) ?_
  refine g_ic_ge rfl (pc' := 12) (pt := 76) rfl rfl ⟨fun hc => ?_, fun hc => ?_⟩
  · replace H := H.1 hc
    refine g_aload (r := some _) rfl rfl rfl (pc' := 77) ?_
    refine g_aload (r := _) rfl rfl rfl (pc' := 78) ?_
    refine g_iload rfl rfl rfl (pc' := 79) ?_
    refine g_iconst rfl rfl rfl (pc' := 81) ?_
    refine g_aload (r := _) rfl rfl rfl (pc' := 82) ?_
    obtain ⟨ht1, H⟩ := H
    refine g_call rfl (y := 505) (n := 5) (pc' := 85) (g_vt ht1 rfl rfl) (by cases r_1 <;> cases r_2 <;> rfl) rfl ⟨(Nat.le_of_ble_eq_true rfl), (Nat.le_of_ble_eq_true rfl), (Nat.le_of_ble_eq_true rfl)⟩ rfl (gm_G.mono H (pV_elim (fun h2 H' => ?_) (fun e3 h4 H => ?_)))
    · show gm_G _ 85 _ _ _ _
      replace H := H'
      clear H'
      exact g_weak (show gm_Lle [] _ from trivial) H
    · exact H
  · replace H := H.2 hc
    refine g_aload (r := some _) rfl rfl rfl (pc' := 13) ?_
    refine g_aload (r := _) rfl rfl rfl (pc' := 14) ?_
    refine g_iload rfl rfl rfl (pc' := 16) ?_
    obtain ⟨ht5, H⟩ := H
    refine g_call rfl (y := 53) (n := 3) (pc' := 19) (g_vt ht5 rfl rfl) (by cases r_1 <;> rfl) rfl ⟨(Nat.le_of_ble_eq_true rfl), (Nat.le_of_ble_eq_true rfl), (Nat.le_of_ble_eq_true rfl)⟩ rfl (gm_G.mono H (pV_elim (fun h6 H' => ?_) (fun e24 h25 H => ?_)))
    · show gm_G _ 19 _ _ _ _
      replace H := H'
      clear H'
      refine g_aload (r := some _) rfl rfl rfl (pc' := 20) ?_
      obtain ⟨ht7, H⟩ := H
      refine g_getI rfl rfl rfl rfl ht7 (pc' := 23) rfl ?_
      refine g_iconst rfl rfl rfl (pc' := 24) ?_
      refine g_ic_ge rfl (pc' := 27) (pt := 33) rfl rfl ⟨fun hc => ?_, fun hc => ?_⟩
      · replace H := H.1 hc
        refine g_aload (r := some _) rfl rfl rfl (pc' := 34) ?_
        refine g_aload (r := _) rfl rfl rfl (pc' := 35) ?_
        refine g_iload rfl rfl rfl (pc' := 36) ?_
        refine g_iload rfl rfl rfl (pc' := 38) ?_
        refine g_aload (r := _) rfl rfl rfl (pc' := 39) ?_
        obtain ⟨ht8, H⟩ := H
        refine g_call rfl (y := 505) (n := 5) (pc' := 42) (g_vt ht8 rfl rfl) (by cases r_1 <;> cases r_2 <;> rfl) rfl ⟨(Nat.le_of_ble_eq_true rfl), (Nat.le_of_ble_eq_true rfl), (Nat.le_of_ble_eq_true rfl)⟩ rfl (gm_G.mono H (pV_elim (fun h9 H' => ?_) (fun e22 h23 H => ?_)))
        · show gm_G _ 42 _ _ _ _
          replace H := H'
          clear H'
          refine g_aload (r := _) rfl rfl rfl (pc' := 43) ?_
          refine g_iconst rfl rfl rfl (pc' := 45) ?_
          refine g_aload (r := some _) rfl rfl rfl (pc' := 46) ?_
          obtain ⟨ht10, H⟩ := H
          refine g_getI rfl rfl rfl rfl ht10 (pc' := 49) rfl ?_
          refine g_iadd rfl rfl (pc' := 50) ?_
          obtain ⟨a11, rfl, H⟩ := H
          obtain ⟨ht12, H⟩ := H
          refine g_call rfl (y := 459) (n := 2) (pc' := 53) (g_vt ht12 rfl rfl) rfl rfl ⟨(Nat.le_of_ble_eq_true rfl), (Nat.le_of_ble_eq_true rfl), (Nat.le_of_ble_eq_true rfl)⟩ rfl (gm_G.mono H (pV_elim (fun h13 H' => ?_) (fun e20 h21 H => ?_)))
          · show gm_G _ 53 _ _ _ _
            replace H := H'
            clear H'
            refine g_aload (r := some _) rfl rfl rfl (pc' := 54) ?_
            refine g_aload (r := some _) rfl rfl rfl (pc' := 55) ?_
            obtain ⟨ht14, H⟩ := H
            refine g_getI rfl rfl rfl rfl ht14 (pc' := 58) rfl ?_
            obtain ⟨ht15, H⟩ := H
            refine g_call rfl (y := 459) (n := 2) (pc' := 61) (g_vt ht15 rfl rfl) rfl rfl ⟨(Nat.le_of_ble_eq_true rfl), (Nat.le_of_ble_eq_true rfl), (Nat.le_of_ble_eq_true rfl)⟩ rfl (gm_G.mono H (pV_elim (fun h16 H' => ?_) (fun e18 h19 H => ?_)))
            · show gm_G _ 61 _ _ _ _
              replace H := H'
              clear H'
              refine g_iload rfl rfl rfl (pc' := 63) ?_
              refine g_aload (r := some _) rfl rfl rfl (pc' := 64) ?_
              obtain ⟨ht17, H⟩ := H
              refine g_getI rfl rfl rfl rfl ht17 (pc' := 67) rfl ?_
              refine g_iadd rfl rfl (pc' := 68) ?_
              refine g_istore rfl rfl rfl (pc' := 70) ?_
              refine g_iload rfl rfl rfl (pc' := 72) ?_
              refine g_istore rfl rfl rfl (pc' := 73) ?_
              refine g_goto rfl (pc' := 5) rfl ?_
              exact g_weak (show gm_Lle [some _, some _, some _, some _, some _] _ from ⟨rfl, ⟨rfl, ⟨rfl, ⟨rfl, ⟨rfl, trivial⟩⟩⟩⟩⟩) H
            · exact H
          · exact H
        · exact H
      · replace H := H.2 hc
        refine g_iinc (c := (Int32.ofNat 1)) rfl rfl rfl rfl rfl (pc' := 30) ?_
        refine g_goto rfl (pc' := 5) rfl ?_
        exact g_weak (show gm_Lle [some _, some _, some _, some _, some _] _ from ⟨rfl, ⟨rfl, ⟨rfl, ⟨rfl, ⟨rfl, trivial⟩⟩⟩⟩⟩) H
    · exact H
set_option maxRecDepth 20000 in
theorem w_534_85 {a0 : Nat}  {h : hh_T} {Q : Option Value ⊕ Nat → hh_T → Prop} (H : Q (.inl none) h) : gm_G 534 85 [] [] h Q := by
  exact g_return rfl H
set_option maxRecDepth 20000 in
theorem w_535_0 {a0 : Nat} {x1 : Int32} {h : hh_T} {Q : Option Value ⊕ Nat → hh_T → Prop} (H : hh_tg h a0 = 13 ∧ (gm_G 507 0 [some (.ref a0), some (.int (x1 >>> ((Int32.ofNat 16) &&& 31)))] [] h (pV (fun h2 => hh_tg h2 a0 = 13 ∧ (gm_G 507 0 [some (.ref a0), some (.int x1)] [] h2 (pV (fun h4 => Q (.inl none) h4) (fun e5 h6 => hh_tg h6 e5 = 21 ∧ Q (.inr e5) h6)))) (fun e7 h8 => hh_tg h8 e7 = 21 ∧ Q (.inr e7) h8)))) : gm_G 535 0 [some (.ref a0), some (.int x1)] [] h Q := by
  refine g_aload (r := some _) rfl rfl rfl (pc' := 1) ?_
  refine g_iload rfl rfl rfl (pc' := 2) ?_
  refine g_iconst rfl rfl rfl (pc' := 4) ?_
  refine g_ishr rfl rfl (pc' := 5) ?_
  obtain ⟨ht1, H⟩ := H
  refine g_call rfl (y := 507) (n := 2) (pc' := 8) (g_vt ht1 rfl rfl) rfl rfl ⟨(Nat.le_of_ble_eq_true rfl), (Nat.le_of_ble_eq_true rfl), (Nat.le_of_ble_eq_true rfl)⟩ rfl (gm_G.mono H (pV_elim (fun h2 H' => ?_) (fun e7 h8 H => ?_)))
  · show gm_G _ 8 _ _ _ _
    replace H := H'
    clear H'
    refine g_aload (r := some _) rfl rfl rfl (pc' := 9) ?_
    refine g_iload rfl rfl rfl (pc' := 10) ?_
    obtain ⟨ht3, H⟩ := H
    refine g_call rfl (y := 507) (n := 2) (pc' := 13) (g_vt ht3 rfl rfl) rfl rfl ⟨(Nat.le_of_ble_eq_true rfl), (Nat.le_of_ble_eq_true rfl), (Nat.le_of_ble_eq_true rfl)⟩ rfl (gm_G.mono H (pV_elim (fun h4 H' => ?_) (fun e5 h6 H => ?_)))
    · show gm_G _ 13 _ _ _ _
      replace H := H'
      clear H'
      exact g_return rfl H
    · exact H
  · exact H
set_option maxRecDepth 20000 in
theorem w_536_0 {a0 : Nat} {r_1 : Option Nat} {h : hh_T} {Q : Option Value ⊕ Nat → hh_T → Prop} (H : gm_sub (hh_tg h a0) 17 = true ∧ (∀ r2, r2 = hh_r h a0 6 → (∃ a3, r2 = some a3 ∧ (gm_sub (hh_tg h a3) 12 = true ∧ ((¬ (Int32.ofNat 6) < (hh_i h a3 1) → (gm_G 536 27 [some (.ref a0), some (va_rf r_1)] [.ref a0, .ref a0] h Q)) ∧ ((Int32.ofNat 6) < (hh_i h a3 1) → (hh_tg h a0 = 18 ∧ (gm_G 361 0 [some (.ref a0), some (.int (Int32.ofNat 6))] [] h (pI (fun v7 h6 => (v7 = Int32.ofNat 0 → (gm_G 536 27 [some (.ref a0), some (va_rf r_1)] [.ref a0, .ref a0] h6 Q)) ∧ (¬ v7 = Int32.ofNat 0 → (gm_G 536 28 [some (.ref a0), some (va_rf r_1)] [.int (Int32.ofNat 1), .ref a0, .ref a0] h6 Q))) (fun e8 h9 => hh_tg h9 e8 = 21 ∧ Q (.inr e8) h9)))))))))) : gm_G 536 0 [some (.ref a0), some (va_rf r_1)] [] h Q := by
  refine g_aload (r := some _) rfl rfl rfl (pc' := 1) ?_
  refine g_aload (r := some _) rfl rfl rfl (pc' := 2) ?_
  refine g_aload (r := some _) rfl rfl rfl (pc' := 3) ?_
  obtain ⟨ht1, H⟩ := H
  refine g_getRv rfl rfl rfl rfl ht1 (pc' := 6) rfl (fun r2 hr2 => ?_)
  replace H := H r2 hr2
  obtain ⟨a3, rfl, H⟩ := H
  obtain ⟨ht4, H⟩ := H
  refine g_getI rfl rfl rfl rfl ht4 (pc' := 9) rfl ?_
  refine g_iconst rfl rfl rfl (pc' := 11) ?_
  refine g_ic_le rfl (pc' := 14) (pt := 27) rfl rfl ⟨fun hc => ?_, fun hc => ?_⟩
  · replace H := H.1 hc
    exact g_weak (show gm_Lle [some _, some _] _ from ⟨rfl, ⟨rfl, trivial⟩⟩) H
  · replace H := H.2 hc
    refine g_aload (r := some _) rfl rfl rfl (pc' := 15) ?_
    refine g_iconst rfl rfl rfl (pc' := 17) ?_
    obtain ⟨ht5, H⟩ := H
    refine g_call rfl (y := 361) (n := 2) (pc' := 20) (g_vt ht5 rfl rfl) rfl rfl ⟨(Nat.le_of_ble_eq_true rfl), (Nat.le_of_ble_eq_true rfl), (Nat.le_of_ble_eq_true rfl)⟩ rfl (gm_G.mono H (pI_elim (fun v7 h6 H' => ?_) (fun e8 h9 H => ?_)))
    · show gm_G _ 20 _ _ _ _
      replace H := H'
      clear H'
      refine g_if_eq rfl (pc' := 23) (pt := 27) rfl rfl ⟨fun hc => ?_, fun hc => ?_⟩
      · replace H := H.1 hc
        exact g_weak (show gm_Lle [some _, some _] _ from ⟨rfl, ⟨rfl, trivial⟩⟩) H
      · replace H := H.2 hc
        refine g_iconst rfl rfl rfl (pc' := 24) ?_
        refine g_goto rfl (pc' := 28) rfl ?_
        exact g_weak (show gm_Lle [some _, some _] _ from ⟨rfl, ⟨rfl, trivial⟩⟩) H
    · exact H
set_option maxRecDepth 20000 in
theorem w_536_27 {a0 : Nat} {r_1 : Option Nat} {q0 : Option Nat} {q1 : Option Nat} {h : hh_T} {Q : Option Value ⊕ Nat → hh_T → Prop} (H : gm_G 536 28 [some (.ref a0), some (va_rf r_1)] [.int (Int32.ofNat 0), va_rf q0, va_rf q1] h Q) : gm_G 536 27 [some (.ref a0), some (va_rf r_1)] [va_rf q0, va_rf q1] h Q := by
  refine g_iconst rfl rfl rfl (pc' := 28) ?_
  exact g_weak (show gm_Lle [some _, some _] _ from ⟨rfl, ⟨rfl, trivial⟩⟩) H
set_option maxRecDepth 20000 in
theorem w_536_28 {a0 : Nat} {r_1 : Option Nat} {y0 : Int32} {q1 : Option Nat} {q2 : Option Nat} {h : hh_T} {Q : Option Value ⊕ Nat → hh_T → Prop} (H : ∃ a1, q1 = some a1 ∧ (hh_tg h a1 = 18 ∧ (gm_G 461 0 [some (.ref a1), some (.int y0)] [] h (pR (fun r4 h3 => ∃ a5, q2 = some a5 ∧ (hh_tg h3 a5 = 18 ∧ (gm_G 460 0 [some (.ref a5), some (va_rf r4)] [] h3 (pR (fun r8 h7 => gm_sub (hh_tg h7 a0) 17 = true ∧ (∀ r10, r10 = hh_r h7 a0 11 → (∃ a11, r10 = some a11 ∧ (hh_tg h7 a11 = 1 ∧ (gm_G 393 0 [some (.ref a11), some (va_rf r8), some (.int (hh_i h7 a0 7)), some (.int (Int32.ofNat 1))] [] h7 (pI (fun v14 h13 => gm_G 431 0 [some (.int v14), some (.int (Int32.ofInt (-6)))] [] h13 (pV (fun h15 => gm_sub (hh_tg h15 a0) 17 = true ∧ (∀ r17, r17 = hh_r h15 a0 6 → (∀ r18, r18 = hh_r h15 a0 6 → (∃ a19, r18 = some a19 ∧ (gm_sub (hh_tg h15 a19) 12 = true ∧ (gm_G 233 0 [some (va_rf r17), some (.int (Int32.ofNat 6)), some (.int (hh_i h15 a19 1))] [] h15 (pL (fun v22 h21 => ∃ a23, r8 = some a23 ∧ (hh_tg h21 a23 = 28 ∧ (gm_G 196 0 [some (.ref a23), some (.long v22), none] [] h21 (pI (fun v26 h25 => gm_G 536 74 [some (.ref a0), some (va_rf r_1), some (.ref a23), some (.int v26)] [] h25 Q) (fun e27 h28 => hh_tg h28 e27 = 21 ∧ Q (.inr e27) h28))))) (fun e29 h30 => hh_tg h30 e29 = 21 ∧ Q (.inr e29) h30)))))))) (fun e31 h32 => hh_tg h32 e31 = 21 ∧ Q (.inr e31) h32))) (fun e33 h34 => hh_tg h34 e33 = 21 ∧ Q (.inr e33) h34))))))) (fun e35 h36 => hh_tg h36 e35 = 21 ∧ Q (.inr e35) h36))))) (fun e37 h38 => hh_tg h38 e37 = 21 ∧ Q (.inr e37) h38))))) : gm_G 536 28 [some (.ref a0), some (va_rf r_1)] [.int y0, va_rf q1, va_rf q2] h Q := by
  obtain ⟨a1, rfl, H⟩ := H
  obtain ⟨ht2, H⟩ := H
  refine g_call rfl (y := 461) (n := 2) (pc' := 31) (g_vt ht2 rfl rfl) rfl rfl ⟨(Nat.le_of_ble_eq_true rfl), (Nat.le_of_ble_eq_true rfl), (Nat.le_of_ble_eq_true rfl)⟩ rfl (gm_G.mono H (pR_elim (fun r4 h3 H' => ?_) (fun e37 h38 H => ?_)))
  · show gm_G _ 31 _ _ _ _
    replace H := H'
    clear H'
    obtain ⟨a5, rfl, H⟩ := H
    obtain ⟨ht6, H⟩ := H
    refine g_call rfl (y := 460) (n := 2) (pc' := 34) (g_vt ht6 rfl rfl) (by cases r4 <;> rfl) rfl ⟨(Nat.le_of_ble_eq_true rfl), (Nat.le_of_ble_eq_true rfl), (Nat.le_of_ble_eq_true rfl)⟩ rfl (gm_G.mono H (pR_elim (fun r8 h7 H' => ?_) (fun e35 h36 H => ?_)))
    · show gm_G _ 34 _ _ _ _
      replace H := H'
      clear H'
      refine g_astore (r := _) rfl gm_sto_rf1 rfl (pc' := 35) ?_
      refine g_aload (r := some _) rfl rfl rfl (pc' := 36) ?_
      obtain ⟨ht9, H⟩ := H
      refine g_getRv rfl rfl rfl rfl ht9 (pc' := 39) rfl (fun r10 hr10 => ?_)
      replace H := H r10 hr10
      refine g_aload (r := _) rfl rfl rfl (pc' := 40) ?_
      refine g_aload (r := some _) rfl rfl rfl (pc' := 41) ?_
      refine g_getI rfl rfl rfl rfl ht9 (pc' := 44) rfl ?_
      refine g_iconst rfl rfl rfl (pc' := 45) ?_
      obtain ⟨a11, rfl, H⟩ := H
      obtain ⟨ht12, H⟩ := H
      refine g_call rfl (y := 393) (n := 4) (pc' := 48) (g_vt ht12 rfl rfl) (by cases r8 <;> rfl) rfl ⟨(Nat.le_of_ble_eq_true rfl), (Nat.le_of_ble_eq_true rfl), (Nat.le_of_ble_eq_true rfl)⟩ rfl (gm_G.mono H (pI_elim (fun v14 h13 H' => ?_) (fun e33 h34 H => ?_)))
      · show gm_G _ 48 _ _ _ _
        replace H := H'
        clear H'
        refine g_iconst rfl rfl rfl (pc' := 50) ?_
        refine g_call rfl (y := 431) (n := 2) (pc' := 53) (fun _ => rfl) rfl rfl ⟨(Nat.le_of_ble_eq_true rfl), (Nat.le_of_ble_eq_true rfl), (Nat.le_of_ble_eq_true rfl)⟩ rfl (gm_G.mono H (pV_elim (fun h15 H' => ?_) (fun e31 h32 H => ?_)))
        · show gm_G _ 53 _ _ _ _
          replace H := H'
          clear H'
          refine g_aload (r := _) rfl rfl rfl (pc' := 54) ?_
          refine g_aload (r := some _) rfl rfl rfl (pc' := 55) ?_
          obtain ⟨ht16, H⟩ := H
          refine g_getRv rfl rfl rfl rfl ht16 (pc' := 58) rfl (fun r17 hr17 => ?_)
          replace H := H r17 hr17
          refine g_iconst rfl rfl rfl (pc' := 60) ?_
          refine g_aload (r := some _) rfl rfl rfl (pc' := 61) ?_
          refine g_getRv rfl rfl rfl rfl ht16 (pc' := 64) rfl (fun r18 hr18 => ?_)
          replace H := H r18 hr18
          obtain ⟨a19, rfl, H⟩ := H
          obtain ⟨ht20, H⟩ := H
          refine g_getI rfl rfl rfl rfl ht20 (pc' := 67) rfl ?_
          refine g_call rfl (y := 233) (n := 3) (pc' := 70) (fun _ => rfl) (by cases r17 <;> rfl) rfl ⟨(Nat.le_of_ble_eq_true rfl), (Nat.le_of_ble_eq_true rfl), (Nat.le_of_ble_eq_true rfl)⟩ rfl (gm_G.mono H (pL_elim (fun v22 h21 H' => ?_) (fun e29 h30 H => ?_)))
          · show gm_G _ 70 _ _ _ _
            replace H := H'
            clear H'
            obtain ⟨a23, rfl, H⟩ := H
            obtain ⟨ht24, H⟩ := H
            refine g_call rfl (y := 196) (n := 2) (pc' := 73) (g_vt ht24 rfl rfl) rfl rfl ⟨(Nat.le_of_ble_eq_true rfl), (Nat.le_of_ble_eq_true rfl), (Nat.le_of_ble_eq_true rfl)⟩ rfl (gm_G.mono H (pI_elim (fun v26 h25 H' => ?_) (fun e27 h28 H => ?_)))
            · show gm_G _ 73 _ _ _ _
              replace H := H'
              clear H'
              refine g_istore rfl rfl rfl (pc' := 74) ?_
              exact g_weak (show gm_Lle [some _, some _, some _, some _] _ from ⟨rfl, ⟨rfl, ⟨rfl, ⟨rfl, trivial⟩⟩⟩⟩) H
            · exact H
          · exact H
        · exact H
      · exact H
    · exact H
  · exact H
set_option maxRecDepth 20000 in
theorem w_536_74 {a0 : Nat} {r_1 : Option Nat} {r_2 : Option Nat} {x3 : Int32} {h : hh_T} {Q : Option Value ⊕ Nat → hh_T → Prop} (H : (x3 < Int32.ofNat 0 → (gm_G 536 83 [some (.ref a0), some (va_rf r_1), some (va_rf r_2), some (.int x3)] [.int (Int32.ofNat 0)] h Q)) ∧ (¬ x3 < Int32.ofNat 0 → (gm_G 536 83 [some (.ref a0), some (va_rf r_1), some (va_rf r_2), some (.int x3)] [.int (Int32.ofNat 1)] h Q))) : gm_G 536 74 [some (.ref a0), some (va_rf r_1), some (va_rf r_2), some (.int x3)] [] h Q := by
  refine g_iload rfl rfl rfl (pc' := 75) ?_
  refine g_if_lt rfl (pc' := 78) (pt := 82) rfl rfl ⟨fun hc => ?_, fun hc => ?_⟩
  · replace H := H.1 hc
    refine g_iconst rfl rfl rfl (pc' := 83) ?_
    exact g_weak (show gm_Lle [some _, some _, some _, some _] _ from ⟨rfl, ⟨rfl, ⟨rfl, ⟨rfl, trivial⟩⟩⟩⟩) H
  · replace H := H.2 hc
    refine g_iconst rfl rfl rfl (pc' := 79) ?_
    refine g_goto rfl (pc' := 83) rfl ?_
    exact g_weak (show gm_Lle [some _, some _, some _, some _] _ from ⟨rfl, ⟨rfl, ⟨rfl, ⟨rfl, trivial⟩⟩⟩⟩) H
set_option maxRecDepth 20000 in
theorem w_536_83 {a0 : Nat} {r_1 : Option Nat} {r_2 : Option Nat} {x3 : Int32} {y0 : Int32} {h : hh_T} {Q : Option Value ⊕ Nat → hh_T → Prop} (H : gm_G 431 0 [some (.int y0), some (.int (Int32.ofInt (-2)))] [] h (pV (fun h1 => gm_sub (hh_tg h1 a0) 17 = true ∧ (∃ a3, r_2 = some a3 ∧ (gm_sub (hh_tg h1 a3) 27 = true ∧ (∀ r5, r5 = hh_r h1 a3 13 → (∃ a6, r5 = some a6 ∧ ((hh_tg h1 a6 = 100 ∨ hh_tg h1 a6 = 105) ∧ (∃ n7, gm_ix x3 n7 (hh_ln h1 a6) ∧ (∀ r9, r9 = hh_r h1 a0 8 → (∃ a10, r9 = some a10 ∧ (gm_sub (hh_tg h1 a10) 24 = true ∧ (∀ r12, r12 = hh_r h1 a10 2 → (∀ r13, r13 = hh_r h1 a3 13 → (∃ a14, r13 = some a14 ∧ ((hh_tg h1 a14 = 100 ∨ hh_tg h1 a14 = 105) ∧ (∃ n15, gm_ix x3 n15 (hh_ln h1 a14) ∧ (∃ a17, r12 = some a17 ∧ ((hh_tg h1 a17 = 104 ∨ 200 ≤ hh_tg h1 a17) ∧ (∃ n18, gm_ix (hh_i h1 a14 n15) n18 (hh_ln h1 a17) ∧ (∀ r20, r20 = hh_r h1 a17 n18 → (∃ a21, r20 = some a21 ∧ (gm_sub (hh_tg h1 a21) 25 = true ∧ (hh_tg h1 a0 = 18 ∧ (gm_G 508 0 [some (.ref a0), some (.int (hh_i h1 a0 9)), some (.int (hh_i h1 a6 n7)), some (.int (hh_i h1 a21 8)), some (va_rf r_1)] [] h1 (pV (fun h24 => Q (.inl none) h24) (fun e25 h26 => hh_tg h26 e25 = 21 ∧ Q (.inr e25) h26))))))))))))))))))))))))) (fun e27 h28 => hh_tg h28 e27 = 21 ∧ Q (.inr e27) h28))) : gm_G 536 83 [some (.ref a0), some (va_rf r_1), some (va_rf r_2), some (.int x3)] [.int y0] h Q := by
  refine g_iconst rfl rfl rfl (pc' := 85) ?_
  refine g_call rfl (y := 431) (n := 2) (pc' := 88) (fun _ => rfl) rfl rfl ⟨(Nat.le_of_ble_eq_true rfl), (Nat.le_of_ble_eq_true rfl), (Nat.le_of_ble_eq_true rfl)⟩ rfl (gm_G.mono H (pV_elim (fun h1 H' => ?_) (fun e27 h28 H => ?_)))
  · show gm_G _ 88 _ _ _ _
    replace H := H'
    clear H'
    refine g_aload (r := some _) rfl rfl rfl (pc' := 89) ?_
    refine g_aload (r := some _) rfl rfl rfl (pc' := 90) ?_
    obtain ⟨ht2, H⟩ := H
    refine g_getI rfl rfl rfl rfl ht2 (pc' := 93) rfl ?_
    refine g_aload (r := _) rfl rfl rfl (pc' := 94) ?_
    obtain ⟨a3, rfl, H⟩ := H
    obtain ⟨ht4, H⟩ := H
    refine g_getRv rfl rfl rfl rfl ht4 (pc' := 97) rfl (fun r5 hr5 => ?_)
    replace H := H r5 hr5
    refine g_iload rfl rfl rfl (pc' := 98) ?_
    obtain ⟨a6, rfl, H⟩ := H
    obtain ⟨ht8, H⟩ := H
    obtain ⟨n7, hn7, H⟩ := H
    refine g_iaload rfl ht8 hn7 (pc' := 99) rfl ?_
    refine g_aload (r := some _) rfl rfl rfl (pc' := 100) ?_
    refine g_getRv rfl rfl rfl rfl ht2 (pc' := 103) rfl (fun r9 hr9 => ?_)
    replace H := H r9 hr9
    obtain ⟨a10, rfl, H⟩ := H
    obtain ⟨ht11, H⟩ := H
    refine g_getRv rfl rfl rfl rfl ht11 (pc' := 106) rfl (fun r12 hr12 => ?_)
    replace H := H r12 hr12
    refine g_aload (r := some _) rfl rfl rfl (pc' := 107) ?_
    refine g_getRv rfl rfl rfl rfl ht4 (pc' := 110) rfl (fun r13 hr13 => ?_)
    replace H := H r13 hr13
    refine g_iload rfl rfl rfl (pc' := 111) ?_
    obtain ⟨a14, rfl, H⟩ := H
    obtain ⟨ht16, H⟩ := H
    obtain ⟨n15, hn15, H⟩ := H
    refine g_iaload rfl ht16 hn15 (pc' := 112) rfl ?_
    obtain ⟨a17, rfl, H⟩ := H
    obtain ⟨ht19, H⟩ := H
    obtain ⟨n18, hn18, H⟩ := H
    refine g_aaloadv rfl ht19 hn18 (pc' := 113) rfl (fun r20 hr20 => ?_)
    replace H := H r20 hr20
    obtain ⟨a21, rfl, H⟩ := H
    obtain ⟨ht22, H⟩ := H
    refine g_getI rfl rfl rfl rfl ht22 (pc' := 116) rfl ?_
    refine g_aload (r := _) rfl rfl rfl (pc' := 117) ?_
    obtain ⟨ht23, H⟩ := H
    refine g_call rfl (y := 508) (n := 5) (pc' := 120) (g_vt ht23 rfl rfl) (by cases r_1 <;> rfl) rfl ⟨(Nat.le_of_ble_eq_true rfl), (Nat.le_of_ble_eq_true rfl), (Nat.le_of_ble_eq_true rfl)⟩ rfl (gm_G.mono H (pV_elim (fun h24 H' => ?_) (fun e25 h26 H => ?_)))
    · show gm_G _ 120 _ _ _ _
      replace H := H'
      clear H'
      exact g_return rfl H
    · exact H
  · exact H
set_option maxRecDepth 20000 in
theorem w_537_0 {a0 : Nat} {r_1 : Option Nat} {h : hh_T} {Q : Option Value ⊕ Nat → hh_T → Prop} (H : gm_sub (hh_tg h a0) 17 = true ∧ (∀ r2, r2 = hh_r h a0 6 → (∃ a3, r2 = some a3 ∧ (gm_sub (hh_tg h a3) 12 = true ∧ ((¬ (hh_i h a3 1) = (Int32.ofNat 3) → (gm_G 537 16 [some (.ref a0), some (va_rf r_1)] [.int (Int32.ofNat 0)] h Q)) ∧ ((hh_i h a3 1) = (Int32.ofNat 3) → (gm_G 537 16 [some (.ref a0), some (va_rf r_1)] [.int (Int32.ofNat 1)] h Q))))))) : gm_G 537 0 [some (.ref a0), some (va_rf r_1)] [] h Q := by
  refine g_aload (r := some _) rfl rfl rfl (pc' := 1) ?_
  obtain ⟨ht1, H⟩ := H
  refine g_getRv rfl rfl rfl rfl ht1 (pc' := 4) rfl (fun r2 hr2 => ?_)
  replace H := H r2 hr2
  obtain ⟨a3, rfl, H⟩ := H
  obtain ⟨ht4, H⟩ := H
  refine g_getI rfl rfl rfl rfl ht4 (pc' := 7) rfl ?_
  refine g_iconst rfl rfl rfl (pc' := 8) ?_
  refine g_ic_ne rfl (pc' := 11) (pt := 15) rfl rfl ⟨fun hc => ?_, fun hc => ?_⟩
  · replace H := H.1 hc
    refine g_iconst rfl rfl rfl (pc' := 16) ?_
    exact g_weak (show gm_Lle [some _, some _] _ from ⟨rfl, ⟨rfl, trivial⟩⟩) H
  · replace H := H.2 hc
    refine g_iconst rfl rfl rfl (pc' := 12) ?_
    refine g_goto rfl (pc' := 16) rfl ?_
    exact g_weak (show gm_Lle [some _, some _] _ from ⟨rfl, ⟨rfl, trivial⟩⟩) H
set_option maxRecDepth 20000 in
theorem w_537_16 {a0 : Nat} {r_1 : Option Nat} {y0 : Int32} {h : hh_T} {Q : Option Value ⊕ Nat → hh_T → Prop} (H : gm_G 431 0 [some (.int y0), some (.int (Int32.ofInt (-11)))] [] h (pV (fun h1 => gm_sub (hh_tg h1 a0) 17 = true ∧ (∀ r3, r3 = hh_r h1 a0 6 → (∃ a4, r3 = some a4 ∧ (hh_tg h1 a4 = 13 ∧ (gm_G 63 0 [some (.ref a4), some (.int (Int32.ofNat 2))] [] h1 (pI (fun v7 h6 => (¬ (Int32.ofNat 127) < v7 → (gm_sub (hh_tg h6 a0) 17 = true ∧ (∀ r9, r9 = hh_r h6 a0 11 → (∃ a10, r9 = some a10 ∧ (gm_sub (hh_tg h6 a10) 0 = true ∧ (∀ r12, r12 = hh_r h6 a10 33 → (∃ a13, r12 = some a13 ∧ (hh_tg h6 a13 = 23 ∧ (gm_G 178 0 [some (.ref a13), some (.int v7)] [] h6 (pR (fun r16 h15 => gm_G 537 51 [some (.ref a0), some (va_rf r_1), some (.int v7)] [va_rf r16] h15 Q) (fun e17 h18 => hh_tg h18 e17 = 21 ∧ Q (.inr e17) h18))))))))))) ∧ ((Int32.ofNat 127) < v7 → (gm_G 537 51 [some (.ref a0), some (va_rf r_1), some (.int v7)] [va_rf none] h6 Q))) (fun e19 h20 => hh_tg h20 e19 = 21 ∧ Q (.inr e19) h20))))))) (fun e21 h22 => hh_tg h22 e21 = 21 ∧ Q (.inr e21) h22))) : gm_G 537 16 [some (.ref a0), some (va_rf r_1)] [.int y0] h Q := by
  refine g_iconst rfl rfl rfl (pc' := 18) ?_
  refine g_call rfl (y := 431) (n := 2) (pc' := 21) (fun _ => rfl) rfl rfl ⟨(Nat.le_of_ble_eq_true rfl), (Nat.le_of_ble_eq_true rfl), (Nat.le_of_ble_eq_true rfl)⟩ rfl (gm_G.mono H (pV_elim (fun h1 H' => ?_) (fun e21 h22 H => ?_)))
  · show gm_G _ 21 _ _ _ _
    replace H := H'
    clear H'
    refine g_aload (r := some _) rfl rfl rfl (pc' := 22) ?_
    obtain ⟨ht2, H⟩ := H
    refine g_getRv rfl rfl rfl rfl ht2 (pc' := 25) rfl (fun r3 hr3 => ?_)
    replace H := H r3 hr3
    refine g_iconst rfl rfl rfl (pc' := 26) ?_
    obtain ⟨a4, rfl, H⟩ := H
    obtain ⟨ht5, H⟩ := H
    refine g_call rfl (y := 63) (n := 2) (pc' := 29) (g_vt ht5 rfl rfl) rfl rfl ⟨(Nat.le_of_ble_eq_true rfl), (Nat.le_of_ble_eq_true rfl), (Nat.le_of_ble_eq_true rfl)⟩ rfl (gm_G.mono H (pI_elim (fun v7 h6 H' => ?_) (fun e19 h20 H => ?_)))
    · show gm_G _ 29 _ _ _ _
      replace H := H'
      clear H'
      refine g_istore rfl gm_sto_rf1 rfl (pc' := 30) ?_
      refine g_iload rfl rfl rfl (pc' := 31) ?_
      refine g_iconst rfl rfl rfl (pc' := 33) ?_
      refine g_ic_le rfl (pc' := 36) (pt := 40) rfl rfl ⟨fun hc => ?_, fun hc => ?_⟩
      · replace H := H.1 hc
        refine g_aload (r := some _) rfl rfl rfl (pc' := 41) ?_
        obtain ⟨ht8, H⟩ := H
        refine g_getRv rfl rfl rfl rfl ht8 (pc' := 44) rfl (fun r9 hr9 => ?_)
        replace H := H r9 hr9
        obtain ⟨a10, rfl, H⟩ := H
        obtain ⟨ht11, H⟩ := H
        refine g_getRv rfl rfl rfl rfl ht11 (pc' := 47) rfl (fun r12 hr12 => ?_)
        replace H := H r12 hr12
        refine g_iload rfl rfl rfl (pc' := 48) ?_
        obtain ⟨a13, rfl, H⟩ := H
        obtain ⟨ht14, H⟩ := H
        refine g_call rfl (y := 178) (n := 2) (pc' := 51) (g_vt ht14 rfl rfl) rfl rfl ⟨(Nat.le_of_ble_eq_true rfl), (Nat.le_of_ble_eq_true rfl), (Nat.le_of_ble_eq_true rfl)⟩ rfl (gm_G.mono H (pR_elim (fun r16 h15 H' => ?_) (fun e17 h18 H => ?_)))
        · show gm_G _ 51 _ _ _ _
          replace H := H'
          clear H'
          exact g_weak (show gm_Lle [some _, some _, some _] _ from ⟨rfl, ⟨rfl, ⟨rfl, trivial⟩⟩⟩) H
        · exact H
      · replace H := H.2 hc
        refine g_null rfl rfl (pc' := 37) ?_
        refine g_goto rfl (pc' := 51) rfl ?_
        exact g_weak (show gm_Lle [some _, some _, some _] _ from ⟨rfl, ⟨rfl, ⟨rfl, trivial⟩⟩⟩) H
    · exact H
  · exact H
set_option maxRecDepth 20000 in
theorem w_537_51 {a0 : Nat} {r_1 : Option Nat} {x2 : Int32} {q0 : Option Nat} {h : hh_T} {Q : Option Value ⊕ Nat → hh_T → Prop} (H : (q0 = none → (gm_G 537 61 [some (.ref a0), some (va_rf r_1), some (.int x2), some (va_rf none)] [.int (Int32.ofNat 0)] h Q)) ∧ (∀ a1, q0 = some a1 → (gm_G 537 61 [some (.ref a0), some (va_rf r_1), some (.int x2), some (.ref a1)] [.int (Int32.ofNat 1)] h Q))) : gm_G 537 51 [some (.ref a0), some (va_rf r_1), some (.int x2)] [va_rf q0] h Q := by
  refine g_astore (r := _) rfl rfl rfl (pc' := 52) ?_
  refine g_aload (r := _) rfl rfl rfl (pc' := 53) ?_
  refine g_ifnull rfl (pc' := 56) (pt := 60) rfl rfl ⟨fun hc => ?_, fun a1 hc => ?_⟩
  · replace H := H.1 hc
    subst hc
    refine g_iconst rfl rfl rfl (pc' := 61) ?_
    exact g_weak (show gm_Lle [some _, some _, some _, some _] _ from ⟨rfl, ⟨rfl, ⟨rfl, ⟨rfl, trivial⟩⟩⟩⟩) H
  · replace H := H.2 a1 hc
    subst hc
    refine g_iconst rfl rfl rfl (pc' := 57) ?_
    refine g_goto rfl (pc' := 61) rfl ?_
    exact g_weak (show gm_Lle [some _, some _, some _, some _] _ from ⟨rfl, ⟨rfl, ⟨rfl, ⟨rfl, trivial⟩⟩⟩⟩) H
set_option maxRecDepth 20000 in
theorem w_537_61 {a0 : Nat} {r_1 : Option Nat} {x2 : Int32} {r_3 : Option Nat} {y0 : Int32} {h : hh_T} {Q : Option Value ⊕ Nat → hh_T → Prop} (H : gm_G 431 0 [some (.int y0), some (.int (Int32.ofInt (-2)))] [] h (pV (fun h1 => ∃ a2, r_3 = some a2 ∧ (gm_sub (hh_tg h1 a2) 23 = true ∧ ((¬ (hh_i h1 a2 2) = Int32.ofNat 0 → (gm_G 537 78 [some (.ref a0), some (va_rf r_1), some (.int x2), some (.ref a2)] [.int (Int32.ofNat 0)] h1 Q)) ∧ ((hh_i h1 a2 2) = Int32.ofNat 0 → (gm_G 537 78 [some (.ref a0), some (va_rf r_1), some (.int x2), some (.ref a2)] [.int (Int32.ofNat 1)] h1 Q))))) (fun e4 h5 => hh_tg h5 e4 = 21 ∧ Q (.inr e4) h5))) : gm_G 537 61 [some (.ref a0), some (va_rf r_1), some (.int x2), some (va_rf r_3)] [.int y0] h Q := by
  refine g_iconst rfl rfl rfl (pc' := 63) ?_
  refine g_call rfl (y := 431) (n := 2) (pc' := 66) (fun _ => rfl) rfl rfl ⟨(Nat.le_of_ble_eq_true rfl), (Nat.le_of_ble_eq_true rfl), (Nat.le_of_ble_eq_true rfl)⟩ rfl (gm_G.mono H (pV_elim (fun h1 H' => ?_) (fun e4 h5 H => ?_)))
  · show gm_G _ 66 _ _ _ _
    replace H := H'
    clear H'
    refine g_aload (r := _) rfl rfl rfl (pc' := 67) ?_
    obtain ⟨a2, rfl, H⟩ := H
    obtain ⟨ht3, H⟩ := H
    refine g_getI rfl rfl rfl rfl ht3 (pc' := 70) rfl ?_
    refine g_if_ne rfl (pc' := 73) (pt := 77) rfl rfl ⟨fun hc => ?_, fun hc => ?_⟩
    · replace H := H.1 hc
      refine g_iconst rfl rfl rfl (pc' := 78) ?_
      exact g_weak (show gm_Lle [some _, some _, some _, some _] _ from ⟨rfl, ⟨rfl, ⟨rfl, ⟨rfl, trivial⟩⟩⟩⟩) H
    · replace H := H.2 hc
      refine g_iconst rfl rfl rfl (pc' := 74) ?_
      refine g_goto rfl (pc' := 78) rfl ?_
      exact g_weak (show gm_Lle [some _, some _, some _, some _] _ from ⟨rfl, ⟨rfl, ⟨rfl, ⟨rfl, trivial⟩⟩⟩⟩) H
  · exact H
set_option maxRecDepth 20000 in
theorem w_537_78 {a0 : Nat} {r_1 : Option Nat} {x2 : Int32} {r_3 : Option Nat} {y0 : Int32} {h : hh_T} {Q : Option Value ⊕ Nat → hh_T → Prop} (H : gm_G 431 0 [some (.int y0), some (.int (Int32.ofInt (-10)))] [] h (pV (fun h1 => ∃ a2, r_3 = some a2 ∧ (gm_sub (hh_tg h1 a2) 23 = true ∧ (∀ r4, r4 = hh_r h1 a2 9 → (∃ a5, r4 = some a5 ∧ (gm_sub (hh_tg h1 a5) 24 = true ∧ (∀ r7, r7 = hh_r h1 a5 2 → (∃ a8, r7 = some a8 ∧ ((hh_tg h1 a8 = 104 ∨ 200 ≤ hh_tg h1 a8) ∧ (0 < hh_ln h1 a8 ∧ (∀ r11, r11 = hh_r h1 a8 0 → (∃ a12, r11 = some a12 ∧ (gm_sub (hh_tg h1 a12) 25 = true ∧ (hh_tg h1 a0 = 18 ∧ (gm_G 508 0 [some (.ref a0), some (.int ((Int32.ofNat 2) * x2)), some (.int (Int32.ofNat 0)), some (.int (hh_i h1 a12 8)), some (va_rf r_1)] [] h1 (pV (fun h15 => Q (.inl none) h15) (fun e16 h17 => hh_tg h17 e16 = 21 ∧ Q (.inr e16) h17)))))))))))))))) (fun e18 h19 => hh_tg h19 e18 = 21 ∧ Q (.inr e18) h19))) : gm_G 537 78 [some (.ref a0), some (va_rf r_1), some (.int x2), some (va_rf r_3)] [.int y0] h Q := by
  refine g_iconst rfl rfl rfl (pc' := 80) ?_
  refine g_call rfl (y := 431) (n := 2) (pc' := 83) (fun _ => rfl) rfl rfl ⟨(Nat.le_of_ble_eq_true rfl), (Nat.le_of_ble_eq_true rfl), (Nat.le_of_ble_eq_true rfl)⟩ rfl (gm_G.mono H (pV_elim (fun h1 H' => ?_) (fun e18 h19 H => ?_)))
  · show gm_G _ 83 _ _ _ _
    replace H := H'
    clear H'
    refine g_aload (r := some _) rfl rfl rfl (pc' := 84) ?_
    refine g_iconst rfl rfl rfl (pc' := 85) ?_
    refine g_iload rfl rfl rfl (pc' := 86) ?_
    refine g_imul rfl rfl (pc' := 87) ?_
    refine g_iconst rfl rfl rfl (pc' := 88) ?_
    refine g_aload (r := _) rfl rfl rfl (pc' := 89) ?_
    obtain ⟨a2, rfl, H⟩ := H
    obtain ⟨ht3, H⟩ := H
    refine g_getRv rfl rfl rfl rfl ht3 (pc' := 92) rfl (fun r4 hr4 => ?_)
    replace H := H r4 hr4
    obtain ⟨a5, rfl, H⟩ := H
    obtain ⟨ht6, H⟩ := H
    refine g_getRv rfl rfl rfl rfl ht6 (pc' := 95) rfl (fun r7 hr7 => ?_)
    replace H := H r7 hr7
    refine g_iconst rfl rfl rfl (pc' := 96) ?_
    obtain ⟨a8, rfl, H⟩ := H
    obtain ⟨ht10, H⟩ := H
    obtain ⟨hn9, H⟩ := H
    refine g_aaloadv rfl ht10 ⟨rfl, by decide, hn9⟩ (pc' := 97) rfl (fun r11 hr11 => ?_)
    replace H := H r11 hr11
    obtain ⟨a12, rfl, H⟩ := H
    obtain ⟨ht13, H⟩ := H
    refine g_getI rfl rfl rfl rfl ht13 (pc' := 100) rfl ?_
    refine g_aload (r := _) rfl rfl rfl (pc' := 101) ?_
    obtain ⟨ht14, H⟩ := H
    refine g_call rfl (y := 508) (n := 5) (pc' := 104) (g_vt ht14 rfl rfl) (by cases r_1 <;> rfl) rfl ⟨(Nat.le_of_ble_eq_true rfl), (Nat.le_of_ble_eq_true rfl), (Nat.le_of_ble_eq_true rfl)⟩ rfl (gm_G.mono H (pV_elim (fun h15 H' => ?_) (fun e16 h17 H => ?_)))
    · show gm_G _ 104 _ _ _ _
      replace H := H'
      clear H'
      exact g_return rfl H
    · exact H
  · exact H
set_option maxRecDepth 20000 in
theorem w_547_0 {a0 : Nat} {x1 : Int32} {x2 : Int32} {x3 : Int32} {x4 : Int32} {h : hh_T} {Q : Option Value ⊕ Nat → hh_T → Prop} (H : gm_sub (hh_tg h a0) 0 = true ∧ (∀ r2, r2 = hh_r h a0 57 → (∃ a3, r2 = some a3 ∧ (gm_sub (hh_tg h a3) 12 = true ∧ ((¬ (Int32.ofNat 320) < ((hh_i h a3 1) + (Int32.ofNat 16)) → (∀ r5, r5 = hh_r h a0 57 → (∃ a6, r5 = some a6 ∧ (hh_tg h a6 = 13 ∧ (gm_G 535 0 [some (.ref a6), some (.int x1)] [] h (pV (fun h8 => gm_sub (hh_tg h8 a0) 0 = true ∧ (∀ r10, r10 = hh_r h8 a0 57 → (∃ a11, r10 = some a11 ∧ (hh_tg h8 a11 = 13 ∧ (gm_G 535 0 [some (.ref a11), some (.int x2)] [] h8 (pV (fun h13 => gm_sub (hh_tg h13 a0) 0 = true ∧ (∀ r15, r15 = hh_r h13 a0 57 → (∃ a16, r15 = some a16 ∧ (hh_tg h13 a16 = 13 ∧ (gm_G 535 0 [some (.ref a16), some (.int x3)] [] h13 (pV (fun h18 => gm_sub (hh_tg h18 a0) 0 = true ∧ (∀ r20, r20 = hh_r h18 a0 57 → (∃ a21, r20 = some a21 ∧ (hh_tg h18 a21 = 13 ∧ (gm_G 535 0 [some (.ref a21), some (.int x4)] [] h18 (pV (fun h23 => gm_sub (hh_tg h23 a0) 0 = true ∧ (∀ r25, r25 = hh_r h23 a0 57 → (∃ a26, r25 = some a26 ∧ (gm_sub (hh_tg h23 a26) 12 = true ∧ (Q (.inl (some (.int (hh_i h23 a26 1)))) h23))))) (fun e28 h29 => hh_tg h29 e28 = 21 ∧ Q (.inr e28) h29))))))) (fun e30 h31 => hh_tg h31 e30 = 21 ∧ Q (.inr e30) h31))))))) (fun e32 h33 => hh_tg h33 e32 = 21 ∧ Q (.inr e32) h33))))))) (fun e34 h35 => hh_tg h35 e34 = 21 ∧ Q (.inr e34) h35))))))) ∧ ((Int32.ofNat 320) < ((hh_i h a3 1) + (Int32.ofNat 16)) → (Q (.inl (some (.int (Int32.ofInt (-3))))) h))))))) : gm_G 547 0 [some (.ref a0), some (.int x1), some (.int x2), some (.int x3), some (.int x4)] [] h Q := by
  refine g_aload (r := some _) rfl rfl rfl (pc' := 1) ?_
  obtain ⟨ht1, H⟩ := H
  refine g_getRv rfl rfl rfl rfl ht1 (pc' := 4) rfl (fun r2 hr2 => ?_)
  replace H := H r2 hr2
  obtain ⟨a3, rfl, H⟩ := H
  obtain ⟨ht4, H⟩ := H
  refine g_getI rfl rfl rfl rfl ht4 (pc' := 7) rfl ?_
  refine g_iconst rfl rfl rfl (pc' := 9) ?_
  refine g_iadd rfl rfl (pc' := 10) ?_
  refine g_iconst rfl rfl rfl (pc' := 13) ?_
  refine g_ic_le rfl (pc' := 16) (pt := 19) rfl rfl ⟨fun hc => ?_, fun hc => ?_⟩
  · replace H := H.1 hc
    refine g_aload (r := some _) rfl rfl rfl (pc' := 20) ?_
    refine g_getRv rfl rfl rfl rfl ht1 (pc' := 23) rfl (fun r5 hr5 => ?_)
    replace H := H r5 hr5
    refine g_iload rfl rfl rfl (pc' := 24) ?_
    obtain ⟨a6, rfl, H⟩ := H
    obtain ⟨ht7, H⟩ := H
    refine g_call rfl (y := 535) (n := 2) (pc' := 27) (g_vt ht7 rfl rfl) rfl rfl ⟨(Nat.le_of_ble_eq_true rfl), (Nat.le_of_ble_eq_true rfl), (Nat.le_of_ble_eq_true rfl)⟩ rfl (gm_G.mono H (pV_elim (fun h8 H' => ?_) (fun e34 h35 H => ?_)))
    · show gm_G _ 27 _ _ _ _
      replace H := H'
      clear H'
      refine g_aload (r := some _) rfl rfl rfl (pc' := 28) ?_
      obtain ⟨ht9, H⟩ := H
      refine g_getRv rfl rfl rfl rfl ht9 (pc' := 31) rfl (fun r10 hr10 => ?_)
      replace H := H r10 hr10
      refine g_iload rfl rfl rfl (pc' := 32) ?_
      obtain ⟨a11, rfl, H⟩ := H
      obtain ⟨ht12, H⟩ := H
      refine g_call rfl (y := 535) (n := 2) (pc' := 35) (g_vt ht12 rfl rfl) rfl rfl ⟨(Nat.le_of_ble_eq_true rfl), (Nat.le_of_ble_eq_true rfl), (Nat.le_of_ble_eq_true rfl)⟩ rfl (gm_G.mono H (pV_elim (fun h13 H' => ?_) (fun e32 h33 H => ?_)))
      · show gm_G _ 35 _ _ _ _
        replace H := H'
        clear H'
        refine g_aload (r := some _) rfl rfl rfl (pc' := 36) ?_
        obtain ⟨ht14, H⟩ := H
        refine g_getRv rfl rfl rfl rfl ht14 (pc' := 39) rfl (fun r15 hr15 => ?_)
        replace H := H r15 hr15
        refine g_iload rfl rfl rfl (pc' := 40) ?_
        obtain ⟨a16, rfl, H⟩ := H
        obtain ⟨ht17, H⟩ := H
        refine g_call rfl (y := 535) (n := 2) (pc' := 43) (g_vt ht17 rfl rfl) rfl rfl ⟨(Nat.le_of_ble_eq_true rfl), (Nat.le_of_ble_eq_true rfl), (Nat.le_of_ble_eq_true rfl)⟩ rfl (gm_G.mono H (pV_elim (fun h18 H' => ?_) (fun e30 h31 H => ?_)))
        · show gm_G _ 43 _ _ _ _
          replace H := H'
          clear H'
          refine g_aload (r := some _) rfl rfl rfl (pc' := 44) ?_
          obtain ⟨ht19, H⟩ := H
          refine g_getRv rfl rfl rfl rfl ht19 (pc' := 47) rfl (fun r20 hr20 => ?_)
          replace H := H r20 hr20
          refine g_iload rfl rfl rfl (pc' := 49) ?_
          obtain ⟨a21, rfl, H⟩ := H
          obtain ⟨ht22, H⟩ := H
          refine g_call rfl (y := 535) (n := 2) (pc' := 52) (g_vt ht22 rfl rfl) rfl rfl ⟨(Nat.le_of_ble_eq_true rfl), (Nat.le_of_ble_eq_true rfl), (Nat.le_of_ble_eq_true rfl)⟩ rfl (gm_G.mono H (pV_elim (fun h23 H' => ?_) (fun e28 h29 H => ?_)))
          · show gm_G _ 52 _ _ _ _
            replace H := H'
            clear H'
            refine g_aload (r := some _) rfl rfl rfl (pc' := 53) ?_
            obtain ⟨ht24, H⟩ := H
            refine g_getRv rfl rfl rfl rfl ht24 (pc' := 56) rfl (fun r25 hr25 => ?_)
            replace H := H r25 hr25
            obtain ⟨a26, rfl, H⟩ := H
            obtain ⟨ht27, H⟩ := H
            refine g_getI rfl rfl rfl rfl ht27 (pc' := 59) rfl ?_
            exact g_ireturn rfl (Or.inl rfl) H
          · exact H
        · exact H
      · exact H
    · exact H
  · replace H := H.2 hc
    refine g_iconst rfl rfl rfl (pc' := 18) ?_
    exact g_ireturn rfl (Or.inl rfl) H
set_option maxRecDepth 20000 in
theorem w_548_0 {a0 : Nat} {x1 : Int32} {x2 : Int32} {h : hh_T} {Q : Option Value ⊕ Nat → hh_T → Prop} (H : hh_tg h a0 = 1 ∧ (gm_G 243 0 [some (.ref a0)] [] h (pV (fun h2 => hh_tg h2 a0 = 1 ∧ (gm_G 456 0 [some (.ref a0)] [] h2 (pV (fun h4 => gm_sub (hh_tg h4 a0) 0 = true ∧ (∀ r6, r6 = hh_r h4 a0 58 → (∀ r7, r7 = hh_r h4 a0 58 → (∃ a8, r7 = some a8 ∧ (gm_sub (hh_tg h4 a8) 12 = true ∧ (gm_G 344 0 [some (va_rf r6), some (.int (Int32.ofNat 0)), some (.int (hh_i h4 a8 1))] [] h4 (pI (fun v11 h10 => gm_G 457 0 [some (.int v11)] [] h10 (pV (fun h12 => hh_tg h12 a0 = 1 ∧ (gm_G 492 0 [some (.ref a0), some (.int x1)] [] h12 (pR (fun r15 h14 => gm_sub (hh_tg h14 a0) 0 = true ∧ (∀ r17, r17 = hh_r h14 a0 58 → (∀ r18, r18 = hh_r h14 a0 58 → (∃ a19, r18 = some a19 ∧ (gm_sub (hh_tg h14 a19) 12 = true ∧ (hh_tg h14 a0 = 1 ∧ (gm_G 533 0 [some (.ref a0), some (va_rf r15), some (.int (hh_i h14 a0 41)), some (va_rf r17), some (.int (Int32.ofNat 0)), some (.int (hh_i h14 a19 1)), some (.int x2)] [] h14 (pI (fun v23 h22 => hh_tg h22 a0 = 1 ∧ (gm_G 4 0 [some (.ref a0), some (.int v23)] [] h22 (pI (fun v26 h25 => Q (.inl (some (.int v26))) h25) (fun e27 h28 => hh_tg h28 e27 = 21 ∧ gm_G 548 57 [some (.ref a0)] [.ref e27] h28 Q)))) (fun e29 h30 => hh_tg h30 e29 = 21 ∧ gm_G 548 57 [some (.ref a0)] [.ref e29] h30 Q))))))))) (fun e31 h32 => hh_tg h32 e31 = 21 ∧ gm_G 548 57 [some (.ref a0)] [.ref e31] h32 Q)))) (fun e33 h34 => hh_tg h34 e33 = 21 ∧ gm_G 548 57 [some (.ref a0)] [.ref e33] h34 Q))) (fun e35 h36 => hh_tg h36 e35 = 21 ∧ gm_G 548 57 [some (.ref a0)] [.ref e35] h36 Q)))))))) (fun e37 h38 => hh_tg h38 e37 = 21 ∧ gm_G 548 57 [some (.ref a0)] [.ref e37] h38 Q)))) (fun e39 h40 => hh_tg h40 e39 = 21 ∧ Q (.inr e39) h40)))) : gm_G 548 0 [some (.ref a0), some (.int x1), some (.int x2)] [] h Q := by
  refine g_aload (r := some _) rfl rfl rfl (pc' := 1) ?_
  obtain ⟨ht1, H⟩ := H
  refine g_call rfl (y := 243) (n := 1) (pc' := 4) (g_vt ht1 rfl rfl) rfl rfl ⟨(Nat.le_of_ble_eq_true rfl), (Nat.le_of_ble_eq_true rfl), (Nat.le_of_ble_eq_true rfl)⟩ rfl (gm_G.mono H (pV_elim (fun h2 H' => ?_) (fun e39 h40 H => ?_)))
  · show gm_G _ 4 _ _ _ _
    replace H := H'
    clear H'
    refine g_aload (r := some _) rfl rfl rfl (pc' := 5) ?_
    obtain ⟨ht3, H⟩ := H
    refine g_call rfl (y := 456) (n := 1) (pc' := 8) (g_vt ht3 rfl rfl) rfl rfl ⟨(Nat.le_of_ble_eq_true rfl), (Nat.le_of_ble_eq_true rfl), (Nat.le_of_ble_eq_true rfl)⟩ rfl (gm_G.mono H (pV_elim (fun h4 H' => ?_) (fun e37 h38 H => ?_)))
    · show gm_G _ 8 _ _ _ _
      replace H := H'
      clear H'
      refine g_aload (r := some _) rfl rfl rfl (pc' := 9) ?_
      obtain ⟨ht5, H⟩ := H
      refine g_getRv rfl rfl rfl rfl ht5 (pc' := 12) rfl (fun r6 hr6 => ?_)
      replace H := H r6 hr6
      refine g_iconst rfl rfl rfl (pc' := 13) ?_
      refine g_aload (r := some _) rfl rfl rfl (pc' := 14) ?_
      refine g_getRv rfl rfl rfl rfl ht5 (pc' := 17) rfl (fun r7 hr7 => ?_)
      replace H := H r7 hr7
      obtain ⟨a8, rfl, H⟩ := H
      obtain ⟨ht9, H⟩ := H
      refine g_getI rfl rfl rfl rfl ht9 (pc' := 20) rfl ?_
      refine g_call rfl (y := 344) (n := 3) (pc' := 23) (fun _ => rfl) (by cases r6 <;> rfl) rfl ⟨(Nat.le_of_ble_eq_true rfl), (Nat.le_of_ble_eq_true rfl), (Nat.le_of_ble_eq_true rfl)⟩ rfl (gm_G.mono H (pI_elim (fun v11 h10 H' => ?_) (fun e35 h36 H => ?_)))
      · show gm_G _ 23 _ _ _ _
        replace H := H'
        clear H'
        refine g_call rfl (y := 457) (n := 1) (pc' := 26) (fun _ => rfl) rfl rfl ⟨(Nat.le_of_ble_eq_true rfl), (Nat.le_of_ble_eq_true rfl), (Nat.le_of_ble_eq_true rfl)⟩ rfl (gm_G.mono H (pV_elim (fun h12 H' => ?_) (fun e33 h34 H => ?_)))
        · show gm_G _ 26 _ _ _ _
          replace H := H'
          clear H'
          refine g_aload (r := some _) rfl rfl rfl (pc' := 27) ?_
          refine g_aload (r := some _) rfl rfl rfl (pc' := 28) ?_
          refine g_aload (r := some _) rfl rfl rfl (pc' := 29) ?_
          refine g_iload rfl rfl rfl (pc' := 30) ?_
          obtain ⟨ht13, H⟩ := H
          refine g_call rfl (y := 492) (n := 2) (pc' := 33) (g_vt ht13 rfl rfl) rfl rfl ⟨(Nat.le_of_ble_eq_true rfl), (Nat.le_of_ble_eq_true rfl), (Nat.le_of_ble_eq_true rfl)⟩ rfl (gm_G.mono H (pR_elim (fun r15 h14 H' => ?_) (fun e31 h32 H => ?_)))
          · show gm_G _ 33 _ _ _ _
            replace H := H'
            clear H'
            refine g_aload (r := some _) rfl rfl rfl (pc' := 34) ?_
            obtain ⟨ht16, H⟩ := H
            refine g_getI rfl rfl rfl rfl ht16 (pc' := 37) rfl ?_
            refine g_aload (r := some _) rfl rfl rfl (pc' := 38) ?_
            refine g_getRv rfl rfl rfl rfl ht16 (pc' := 41) rfl (fun r17 hr17 => ?_)
            replace H := H r17 hr17
            refine g_iconst rfl rfl rfl (pc' := 42) ?_
            refine g_aload (r := some _) rfl rfl rfl (pc' := 43) ?_
            refine g_getRv rfl rfl rfl rfl ht16 (pc' := 46) rfl (fun r18 hr18 => ?_)
            replace H := H r18 hr18
            obtain ⟨a19, rfl, H⟩ := H
            obtain ⟨ht20, H⟩ := H
            refine g_getI rfl rfl rfl rfl ht20 (pc' := 49) rfl ?_
            refine g_iload rfl rfl rfl (pc' := 50) ?_
            obtain ⟨ht21, H⟩ := H
            refine g_call rfl (y := 533) (n := 7) (pc' := 53) (g_vt ht21 rfl rfl) (by cases r15 <;> cases r17 <;> rfl) rfl ⟨(Nat.le_of_ble_eq_true rfl), (Nat.le_of_ble_eq_true rfl), (Nat.le_of_ble_eq_true rfl)⟩ rfl (gm_G.mono H (pI_elim (fun v23 h22 H' => ?_) (fun e29 h30 H => ?_)))
            · show gm_G _ 53 _ _ _ _
              replace H := H'
              clear H'
              obtain ⟨ht24, H⟩ := H
              refine g_call rfl (y := 4) (n := 2) (pc' := 56) (g_vt ht24 rfl rfl) rfl rfl ⟨(Nat.le_of_ble_eq_true rfl), (Nat.le_of_ble_eq_true rfl), (Nat.le_of_ble_eq_true rfl)⟩ rfl (gm_G.mono H (pI_elim (fun v26 h25 H' => ?_) (fun e27 h28 H => ?_)))
              · show gm_G _ 56 _ _ _ _
                replace H := H'
                clear H'
                exact g_ireturn rfl (Or.inl rfl) H
              · exact ⟨H.1, g_weak (show gm_Lle [some _] _ from ⟨rfl, trivial⟩) H.2⟩
            · exact ⟨H.1, g_weak (show gm_Lle [some _] _ from ⟨rfl, trivial⟩) H.2⟩
          · exact ⟨H.1, g_weak (show gm_Lle [some _] _ from ⟨rfl, trivial⟩) H.2⟩
        · exact ⟨H.1, g_weak (show gm_Lle [some _] _ from ⟨rfl, trivial⟩) H.2⟩
      · exact ⟨H.1, g_weak (show gm_Lle [some _] _ from ⟨rfl, trivial⟩) H.2⟩
    · exact ⟨H.1, g_weak (show gm_Lle [some _] _ from ⟨rfl, trivial⟩) H.2⟩
  · exact H
set_option maxRecDepth 20000 in
theorem w_548_57 {a0 : Nat} {ex : Nat} {h : hh_T} {Q : Option Value ⊕ Nat → hh_T → Prop} (H : hh_tg h a0 = 1 ∧ (gm_G 1 0 [some (.ref a0), some (.ref ex)] [] h (pI (fun v3 h2 => Q (.inl (some (.int v3))) h2) (fun e4 h5 => hh_tg h5 e4 = 21 ∧ Q (.inr e4) h5)))) : gm_G 548 57 [some (.ref a0)] [.ref ex] h Q := by
  refine g_astore (r := some _) rfl rfl rfl (pc' := 58) ?_
  refine g_aload (r := some _) rfl rfl rfl (pc' := 59) ?_
  refine g_aload (r := some _) rfl rfl rfl (pc' := 60) ?_
  obtain ⟨ht1, H⟩ := H
  refine g_call rfl (y := 1) (n := 2) (pc' := 63) (g_vt ht1 rfl rfl) rfl rfl ⟨(Nat.le_of_ble_eq_true rfl), (Nat.le_of_ble_eq_true rfl), (Nat.le_of_ble_eq_true rfl)⟩ rfl (gm_G.mono H (pI_elim (fun v3 h2 H' => ?_) (fun e4 h5 H => ?_)))
  · show gm_G _ 63 _ _ _ _
    replace H := H'
    clear H'
    exact g_ireturn rfl (Or.inl rfl) H
  · exact H
set_option maxRecDepth 20000 in
theorem w_549_0 {a0 : Nat} {r_1 : Option Nat} {x2 : Int32} {x3 : Int32} {x4 : Int32} {x5 : Int32} {h : hh_T} {Q : Option Value ⊕ Nat → hh_T → Prop} (H : gm_G 12 0 [some (va_rf r_1), some (.int x2)] [] h (pI (fun v2 h1 => (v2 = Int32.ofNat 0 → (gm_G 549 13 [some (.ref a0), some (va_rf r_1), some (.int x2), some (.int x3), some (.int x4), some (.int x5), some (.int (Int32.ofNat 0))] [] h1 Q)) ∧ (¬ v2 = Int32.ofNat 0 → (Q (.inl (some (va_rf none))) h1))) (fun e3 h4 => hh_tg h4 e3 = 21 ∧ Q (.inr e3) h4))) : gm_G 549 0 [some (.ref a0), some (va_rf r_1), some (.int x2), some (.int x3), some (.int x4), some (.int x5)] [] h Q := by
  refine g_aload (r := _) rfl rfl rfl (pc' := 1) ?_
  refine g_iload rfl rfl rfl (pc' := 2) ?_
  refine g_call rfl (y := 12) (n := 2) (pc' := 5) (fun _ => rfl) (by cases r_1 <;> rfl) rfl ⟨(Nat.le_of_ble_eq_true rfl), (Nat.le_of_ble_eq_true rfl), (Nat.le_of_ble_eq_true rfl)⟩ rfl (gm_G.mono H (pI_elim (fun v2 h1 H' => ?_) (fun e3 h4 H => ?_)))
  · show gm_G _ 5 _ _ _ _
    replace H := H'
    clear H'
    refine g_if_eq rfl (pc' := 8) (pt := 10) rfl rfl ⟨fun hc => ?_, fun hc => ?_⟩
    · replace H := H.1 hc
      refine g_iconst rfl rfl rfl (pc' := 11) ?_
      refine g_istore rfl rfl rfl (pc' := 13) ?_
      exact g_weak (show gm_Lle [some _, some _, some _, some _, some _, some _, some _] _ from ⟨rfl, ⟨rfl, ⟨rfl, ⟨rfl, ⟨rfl, ⟨rfl, ⟨rfl, trivial⟩⟩⟩⟩⟩⟩⟩) H
    · replace H := H.2 hc
      refine g_null rfl rfl (pc' := 9) ?_
      exact g_areturn (r := _) rfl H
  · exact H
set_option maxRecDepth 20000 in
theorem w_549_13 {a0 : Nat} {r_1 : Option Nat} {x2 : Int32} {x3 : Int32} {x4 : Int32} {x5 : Int32} {x6 : Int32} {h : hh_T} {Q : Option Value ⊕ Nat → hh_T → Prop} (H : (¬ x6 < (Int32.ofNat 32) → (gm_sub (hh_tg h a0) 0 = true ∧ (∀ r2, r2 = hh_r h a0 26 → (∃ a3, r2 = some a3 ∧ (gm_sub (hh_tg h a3) 12 = true ∧ (∀ h5, h5 = hh_wi h a3 1 (Int32.ofNat 0) → ((¬ Int32.ofNat 0 < x3 → (gm_G 549 72 [some (.ref a0), none, none, some (.int x3), some (.int x4), some (.int x5), some (.int x3)] [] h5 Q)) ∧ (Int32.ofNat 0 < x3 → (hh_tg h5 a0 = 1 ∧ (gm_G 3 0 [some (.ref a0), some (.int x3)] [] h5 (pR (fun r8 h7 => gm_sub (hh_tg h7 a0) 0 = true ∧ (∀ r10, r10 = hh_r h7 a0 20 → (∀ r11, r11 = hh_r h7 a0 26 → (∃ a12, r8 = some a12 ∧ ((hh_tg h7 a12 = 8 ∧ (gm_G 503 0 [some (.ref a12), some (va_rf r10), some (va_rf r11)] [] h7 (pV (fun h13 => gm_G 549 72 [some (.ref a0), none, none, some (.int x3), some (.int x4), some (.int x5), some (.int x3)] [] h13 Q) (fun e14 h15 => hh_tg h15 e14 = 21 ∧ Q (.inr e14) h15)))) ∨ (hh_tg h7 a12 = 9 ∧ (gm_G 504 0 [some (.ref a12), some (va_rf r10), some (va_rf r11)] [] h7 (pV (fun h16 => gm_G 549 72 [some (.ref a0), none, none, some (.int x3), some (.int x4), some (.int x5), some (.int x3)] [] h16 Q) (fun e17 h18 => hh_tg h18 e17 = 21 ∧ Q (.inr e17) h18)))) ∨ (hh_tg h7 a12 = 10 ∧ (gm_G 534 0 [some (.ref a12), some (va_rf r10), some (va_rf r11)] [] h7 (pV (fun h19 => gm_G 549 72 [some (.ref a0), none, none, some (.int x3), some (.int x4), some (.int x5), some (.int x3)] [] h19 Q) (fun e20 h21 => hh_tg h21 e20 = 21 ∧ Q (.inr e20) h21))))))))) (fun e22 h23 => hh_tg h23 e22 = 21 ∧ Q (.inr e22) h23)))))))))))) ∧ (x6 < (Int32.ofNat 32) → (gm_sub (hh_tg h a0) 0 = true ∧ (∀ r25, r25 = hh_r h a0 20 → (∃ a26, r_1 = some a26 ∧ ((hh_tg h a26 = 101 ∨ hh_tg h a26 = 102) ∧ (∃ n27, gm_ix (x2 + x6) n27 (hh_ln h a26) ∧ (∃ a29, r25 = some a29 ∧ (hh_tg h a29 = 101 ∧ (∃ n30, gm_ix x6 n30 (hh_ln h a29) ∧ (∀ h31, h31 = hh_wi h a29 n30 ((hh_i h a26 n27).toInt8.toInt32) → (gm_G 549 13 [some (.ref a0), some (.ref a26), some (.int x2), some (.int x3), some (.int x4), some (.int x5), some (.int (x6 + (Int32.ofNat 1)))] [] h31 Q)))))))))))) : gm_G 549 13 [some (.ref a0), some (va_rf r_1), some (.int x2), some (.int x3), some (.int x4), some (.int x5), some (.int x6)] [] h Q := by
  refine g_iload rfl rfl rfl (pc' := 15) ?_
  refine g_iconst rfl rfl rfl (pc' := 17) ?_
  refine g_ic_ge rfl (pc' := 20) (pt := 39) rfl rfl ⟨fun hc => ?_, fun hc => ?_⟩
  · replace H := H.1 hc
    refine g_iload rfl rfl rfl (pc' := 40) ?_
    refine g_istore rfl rfl rfl (pc' := 42) ?_
    refine g_aload (r := some _) rfl rfl rfl (pc' := 43) ?_
    obtain ⟨ht1, H⟩ := H
    refine g_getRv rfl rfl rfl rfl ht1 (pc' := 46) rfl (fun r2 hr2 => ?_)
    replace H := H r2 hr2
    refine g_iconst rfl rfl rfl (pc' := 47) ?_
    obtain ⟨a3, rfl, H⟩ := H
    obtain ⟨ht4, H⟩ := H
    refine g_putI rfl rfl rfl rfl ht4  (pc' := 50) rfl ?_
    replace H := H _ rfl
    refine g_iload rfl rfl rfl (pc' := 51) ?_
    refine g_if_le rfl (pc' := 54) (pt := 72) rfl rfl ⟨fun hc => ?_, fun hc => ?_⟩
    · replace H := H.1 hc
      exact g_weak (show gm_Lle [some _, none, none, some _, some _, some _, some _] _ from ⟨rfl, ⟨rfl, ⟨rfl, ⟨rfl, ⟨rfl, trivial⟩⟩⟩⟩⟩) H
    · replace H := H.2 hc
      refine g_aload (r := some _) rfl rfl rfl (pc' := 55) ?_
      refine g_iload rfl rfl rfl (pc' := 56) ?_
      obtain ⟨ht6, H⟩ := H
      refine g_call rfl (y := 3) (n := 2) (pc' := 59) (g_vt ht6 rfl rfl) rfl rfl ⟨(Nat.le_of_ble_eq_true rfl), (Nat.le_of_ble_eq_true rfl), (Nat.le_of_ble_eq_true rfl)⟩ rfl (gm_G.mono H (pR_elim (fun r8 h7 H' => ?_) (fun e22 h23 H => ?_)))
      · show gm_G _ 59 _ _ _ _
        replace H := H'
        clear H'
        refine g_aload (r := some _) rfl rfl rfl (pc' := 60) ?_
        obtain ⟨ht9, H⟩ := H
        refine g_getRv rfl rfl rfl rfl ht9 (pc' := 63) rfl (fun r10 hr10 => ?_)
        replace H := H r10 hr10
        refine g_aload (r := some _) rfl rfl rfl (pc' := 64) ?_
        refine g_getRv rfl rfl rfl rfl ht9 (pc' := 67) rfl (fun r11 hr11 => ?_)
        replace H := H r11 hr11
        obtain ⟨a12, rfl, H⟩ := H
        rcases H with ⟨ht, H⟩ | ⟨ht, H⟩ | ⟨ht, H⟩
        · refine g_call rfl (y := 503) (n := 3) (pc' := 72) (g_vti ht rfl rfl) (by cases r10 <;> cases r11 <;> rfl) rfl ⟨(Nat.le_of_ble_eq_true rfl), (Nat.le_of_ble_eq_true rfl), (Nat.le_of_ble_eq_true rfl)⟩ rfl (gm_G.mono H (pV_elim (fun h13 H' => ?_) (fun e14 h15 H => ?_)))
          · show gm_G _ 72 _ _ _ _
            replace H := H'
            clear H'
            exact g_weak (show gm_Lle [some _, none, none, some _, some _, some _, some _] _ from ⟨rfl, ⟨rfl, ⟨rfl, ⟨rfl, ⟨rfl, trivial⟩⟩⟩⟩⟩) H
          · exact H
        · refine g_call rfl (y := 504) (n := 3) (pc' := 72) (g_vti ht rfl rfl) (by cases r10 <;> cases r11 <;> rfl) rfl ⟨(Nat.le_of_ble_eq_true rfl), (Nat.le_of_ble_eq_true rfl), (Nat.le_of_ble_eq_true rfl)⟩ rfl (gm_G.mono H (pV_elim (fun h16 H' => ?_) (fun e17 h18 H => ?_)))
          · show gm_G _ 72 _ _ _ _
            replace H := H'
            clear H'
            exact g_weak (show gm_Lle [some _, none, none, some _, some _, some _, some _] _ from ⟨rfl, ⟨rfl, ⟨rfl, ⟨rfl, ⟨rfl, trivial⟩⟩⟩⟩⟩) H
          · exact H
        · refine g_call rfl (y := 534) (n := 3) (pc' := 72) (g_vti ht rfl rfl) (by cases r10 <;> cases r11 <;> rfl) rfl ⟨(Nat.le_of_ble_eq_true rfl), (Nat.le_of_ble_eq_true rfl), (Nat.le_of_ble_eq_true rfl)⟩ rfl (gm_G.mono H (pV_elim (fun h19 H' => ?_) (fun e20 h21 H => ?_)))
          · show gm_G _ 72 _ _ _ _
            replace H := H'
            clear H'
            exact g_weak (show gm_Lle [some _, none, none, some _, some _, some _, some _] _ from ⟨rfl, ⟨rfl, ⟨rfl, ⟨rfl, ⟨rfl, trivial⟩⟩⟩⟩⟩) H
          · exact H
      · exact H
  · replace H := H.2 hc
    refine g_aload (r := some _) rfl rfl rfl (pc' := 21) ?_
    obtain ⟨ht24, H⟩ := H
    refine g_getRv rfl rfl rfl rfl ht24 (pc' := 24) rfl (fun r25 hr25 => ?_)
    replace H := H r25 hr25
    refine g_iload rfl rfl rfl (pc' := 26) ?_
    refine g_aload (r := _) rfl rfl rfl (pc' := 27) ?_
    refine g_iload rfl rfl rfl (pc' := 28) ?_
    refine g_iload rfl rfl rfl (pc' := 30) ?_
    refine g_iadd rfl rfl (pc' := 31) ?_
    obtain ⟨a26, rfl, H⟩ := H
    obtain ⟨ht28, H⟩ := H
    obtain ⟨n27, hn27, H⟩ := H
    refine g_baload rfl ht28 hn27 (pc' := 32) rfl ?_
    obtain ⟨a29, rfl, H⟩ := H
    obtain ⟨ht32, H⟩ := H
    obtain ⟨n30, hn30, H⟩ := H
    refine g_bastore rfl ht32 hn30  (pc' := 33) rfl ?_
    replace H := H _ rfl
    refine g_iinc (c := (Int32.ofNat 1)) rfl rfl rfl rfl rfl (pc' := 36) ?_
    refine g_goto rfl (pc' := 13) rfl ?_
    exact g_weak (show gm_Lle [some _, some _, some _, some _, some _, some _, some _] _ from ⟨rfl, ⟨rfl, ⟨rfl, ⟨rfl, ⟨rfl, ⟨rfl, ⟨rfl, trivial⟩⟩⟩⟩⟩⟩⟩) H
set_option maxRecDepth 20000 in
theorem w_549_72 {a0 : Nat} {x3 : Int32} {x4 : Int32} {x5 : Int32} {x6 : Int32} {h : hh_T} {Q : Option Value ⊕ Nat → hh_T → Prop} (H : (x3 = Int32.ofNat 0 → (gm_G 549 88 [some (.ref a0), none, none, none, some (.int x4), some (.int x5)] [] h Q)) ∧ (¬ x3 = Int32.ofNat 0 → (gm_sub (hh_tg h a0) 0 = true ∧ (∀ r2, r2 = hh_r h a0 26 → (∃ a3, r2 = some a3 ∧ (gm_sub (hh_tg h a3) 12 = true ∧ ((¬ (Int32.ofNat 24) < (hh_i h a3 1) → (gm_G 549 116 [some (.ref a0), none, none, none, some (.int x4), some (.int x5), some (.int x6)] [] h Q)) ∧ ((Int32.ofNat 24) < (hh_i h a3 1) → (gm_G 549 88 [some (.ref a0), none, none, none, some (.int x4), some (.int x5)] [] h Q))))))))) : gm_G 549 72 [some (.ref a0), none, none, some (.int x3), some (.int x4), some (.int x5), some (.int x6)] [] h Q := by
  refine g_iload rfl rfl rfl (pc' := 73) ?_
  refine g_if_eq rfl (pc' := 76) (pt := 88) rfl rfl ⟨fun hc => ?_, fun hc => ?_⟩
  · replace H := H.1 hc
    exact g_weak (show gm_Lle [some _, none, none, none, some _, some _] _ from ⟨rfl, ⟨rfl, ⟨rfl, trivial⟩⟩⟩) H
  · replace H := H.2 hc
    refine g_aload (r := some _) rfl rfl rfl (pc' := 77) ?_
    obtain ⟨ht1, H⟩ := H
    refine g_getRv rfl rfl rfl rfl ht1 (pc' := 80) rfl (fun r2 hr2 => ?_)
    replace H := H r2 hr2
    obtain ⟨a3, rfl, H⟩ := H
    obtain ⟨ht4, H⟩ := H
    refine g_getI rfl rfl rfl rfl ht4 (pc' := 83) rfl ?_
    refine g_iconst rfl rfl rfl (pc' := 85) ?_
    refine g_ic_le rfl (pc' := 88) (pt := 116) rfl rfl ⟨fun hc => ?_, fun hc => ?_⟩
    · replace H := H.1 hc
      exact g_weak (show gm_Lle [some _, none, none, none, some _, some _, some _] _ from ⟨rfl, ⟨rfl, ⟨rfl, ⟨rfl, trivial⟩⟩⟩⟩) H
    · replace H := H.2 hc
      exact g_weak (show gm_Lle [some _, none, none, none, some _, some _] _ from ⟨rfl, ⟨rfl, ⟨rfl, trivial⟩⟩⟩) H
set_option maxRecDepth 20000 in
theorem w_549_88 {a0 : Nat} {x4 : Int32} {x5 : Int32} {h : hh_T} {Q : Option Value ⊕ Nat → hh_T → Prop} (H : gm_sub (hh_tg h a0) 0 = true ∧ (∀ r2, r2 = hh_r h a0 26 → (∃ a3, r2 = some a3 ∧ (gm_sub (hh_tg h a3) 12 = true ∧ (∀ h5, h5 = hh_wi h a3 1 (Int32.ofNat 0) → (∀ r6, r6 = hh_r h5 a0 11 → (∀ r7, r7 = hh_r h5 a0 20 → (∀ r8, r8 = hh_r h5 a0 26 → (∃ a9, r6 = some a9 ∧ ((hh_tg h5 a9 = 8 ∧ (gm_G 503 0 [some (.ref a9), some (va_rf r7), some (va_rf r8)] [] h5 (pV (fun h10 => gm_G 549 116 [some (.ref a0), none, none, none, some (.int x4), some (.int x5), some (.int (Int32.ofNat 0))] [] h10 Q) (fun e11 h12 => hh_tg h12 e11 = 21 ∧ Q (.inr e11) h12)))) ∨ (hh_tg h5 a9 = 9 ∧ (gm_G 504 0 [some (.ref a9), some (va_rf r7), some (va_rf r8)] [] h5 (pV (fun h13 => gm_G 549 116 [some (.ref a0), none, none, none, some (.int x4), some (.int x5), some (.int (Int32.ofNat 0))] [] h13 Q) (fun e14 h15 => hh_tg h15 e14 = 21 ∧ Q (.inr e14) h15)))) ∨ (hh_tg h5 a9 = 10 ∧ (gm_G 534 0 [some (.ref a9), some (va_rf r7), some (va_rf r8)] [] h5 (pV (fun h16 => gm_G 549 116 [some (.ref a0), none, none, none, some (.int x4), some (.int x5), some (.int (Int32.ofNat 0))] [] h16 Q) (fun e17 h18 => hh_tg h18 e17 = 21 ∧ Q (.inr e17) h18)))))))))))))) : gm_G 549 88 [some (.ref a0), none, none, none, some (.int x4), some (.int x5)] [] h Q := by
  refine g_iconst rfl rfl rfl (pc' := 89) ?_
  refine g_istore rfl rfl rfl (pc' := 91) ?_
  refine g_aload (r := some _) rfl rfl rfl (pc' := 92) ?_
  obtain ⟨ht1, H⟩ := H
  refine g_getRv rfl rfl rfl rfl ht1 (pc' := 95) rfl (fun r2 hr2 => ?_)
  replace H := H r2 hr2
  refine g_iconst rfl rfl rfl (pc' := 96) ?_
  obtain ⟨a3, rfl, H⟩ := H
  obtain ⟨ht4, H⟩ := H
  refine g_putI rfl rfl rfl rfl ht4  (pc' := 99) rfl ?_
  replace H := H _ rfl
  refine g_aload (r := some _) rfl rfl rfl (pc' := 100) ?_
  refine g_getRv rfl rfl rfl rfl ht1 (pc' := 103) rfl (fun r6 hr6 => ?_)
  replace H := H r6 hr6
  refine g_aload (r := some _) rfl rfl rfl (pc' := 104) ?_
  refine g_getRv rfl rfl rfl rfl ht1 (pc' := 107) rfl (fun r7 hr7 => ?_)
  replace H := H r7 hr7
  refine g_aload (r := some _) rfl rfl rfl (pc' := 108) ?_
  refine g_getRv rfl rfl rfl rfl ht1 (pc' := 111) rfl (fun r8 hr8 => ?_)
  replace H := H r8 hr8
  obtain ⟨a9, rfl, H⟩ := H
  rcases H with ⟨ht, H⟩ | ⟨ht, H⟩ | ⟨ht, H⟩
  · refine g_call rfl (y := 503) (n := 3) (pc' := 116) (g_vti ht rfl rfl) (by cases r7 <;> cases r8 <;> rfl) rfl ⟨(Nat.le_of_ble_eq_true rfl), (Nat.le_of_ble_eq_true rfl), (Nat.le_of_ble_eq_true rfl)⟩ rfl (gm_G.mono H (pV_elim (fun h10 H' => ?_) (fun e11 h12 H => ?_)))
    · show gm_G _ 116 _ _ _ _
      replace H := H'
      clear H'
      exact g_weak (show gm_Lle [some _, none, none, none, some _, some _, some _] _ from ⟨rfl, ⟨rfl, ⟨rfl, ⟨rfl, trivial⟩⟩⟩⟩) H
    · exact H
  · refine g_call rfl (y := 504) (n := 3) (pc' := 116) (g_vti ht rfl rfl) (by cases r7 <;> cases r8 <;> rfl) rfl ⟨(Nat.le_of_ble_eq_true rfl), (Nat.le_of_ble_eq_true rfl), (Nat.le_of_ble_eq_true rfl)⟩ rfl (gm_G.mono H (pV_elim (fun h13 H' => ?_) (fun e14 h15 H => ?_)))
    · show gm_G _ 116 _ _ _ _
      replace H := H'
      clear H'
      exact g_weak (show gm_Lle [some _, none, none, none, some _, some _, some _] _ from ⟨rfl, ⟨rfl, ⟨rfl, ⟨rfl, trivial⟩⟩⟩⟩) H
    · exact H
  · refine g_call rfl (y := 534) (n := 3) (pc' := 116) (g_vti ht rfl rfl) (by cases r7 <;> cases r8 <;> rfl) rfl ⟨(Nat.le_of_ble_eq_true rfl), (Nat.le_of_ble_eq_true rfl), (Nat.le_of_ble_eq_true rfl)⟩ rfl (gm_G.mono H (pV_elim (fun h16 H' => ?_) (fun e17 h18 H => ?_)))
    · show gm_G _ 116 _ _ _ _
      replace H := H'
      clear H'
      exact g_weak (show gm_Lle [some _, none, none, none, some _, some _, some _] _ from ⟨rfl, ⟨rfl, ⟨rfl, ⟨rfl, trivial⟩⟩⟩⟩) H
    · exact H
