/-! STAGE 2, 7: the component, label by label (printed) -/
set_option maxRecDepth 20000 in
theorem w_607_115 {a0 : Nat}  {h : hh_T} {Q : Option Value ⊕ Nat → hh_T → Prop} (H : hh_tg h a0 = 1 ∧ (gm_G 4 0 [some (.ref a0), some (.int (Int32.ofNat 0))] [] h (pI (fun v3 h2 => Q (.inl (some (.int v3))) h2) (fun e4 h5 => hh_tg h5 e4 = 21 ∧ gm_G 607 121 [some (.ref a0)] [.ref e4] h5 Q)))) : gm_G 607 115 [some (.ref a0)] [] h Q := by
  refine g_aload (r := some _) rfl rfl rfl (pc' := 116) ?_
  refine g_iconst rfl rfl rfl (pc' := 117) ?_
  obtain ⟨ht1, H⟩ := H
  refine g_call rfl (y := 4) (n := 2) (pc' := 120) (g_vt ht1 rfl rfl) rfl rfl ⟨(Nat.le_of_ble_eq_true rfl), (Nat.le_of_ble_eq_true rfl), (Nat.le_of_ble_eq_true rfl)⟩ rfl (gm_G.mono H (pI_elim (fun v3 h2 H' => ?_) (fun e4 h5 H => ?_)))
  · show gm_G _ 120 _ _ _ _
    replace H := H'
    clear H'
    exact g_ireturn rfl (Or.inl rfl) H
  · exact ⟨H.1, g_weak (show gm_Lle [some _] _ from ⟨rfl, trivial⟩) H.2⟩
set_option maxRecDepth 20000 in
theorem w_607_121 {a0 : Nat} {ex : Nat} {h : hh_T} {Q : Option Value ⊕ Nat → hh_T → Prop} (H : hh_tg h a0 = 1 ∧ (gm_G 1 0 [some (.ref a0), some (.ref ex)] [] h (pI (fun v3 h2 => Q (.inl (some (.int v3))) h2) (fun e4 h5 => hh_tg h5 e4 = 21 ∧ Q (.inr e4) h5)))) : gm_G 607 121 [some (.ref a0)] [.ref ex] h Q := by
  refine g_astore (r := some _) rfl rfl rfl (pc' := 122) ?_
  refine g_aload (r := some _) rfl rfl rfl (pc' := 123) ?_
  refine g_aload (r := some _) rfl rfl rfl (pc' := 124) ?_
  obtain ⟨ht1, H⟩ := H
  refine g_call rfl (y := 1) (n := 2) (pc' := 127) (g_vt ht1 rfl rfl) rfl rfl ⟨(Nat.le_of_ble_eq_true rfl), (Nat.le_of_ble_eq_true rfl), (Nat.le_of_ble_eq_true rfl)⟩ rfl (gm_G.mono H (pI_elim (fun v3 h2 H' => ?_) (fun e4 h5 H => ?_)))
  · show gm_G _ 127 _ _ _ _
    replace H := H'
    clear H'
    exact g_ireturn rfl (Or.inl rfl) H
  · exact H
set_option maxRecDepth 20000 in
theorem w_608_0 {a0 : Nat} {x1 : Int32} {x2 : Int32} {x3 : Int32} {x4 : Int32} {x5 : Int32} {h : hh_T} {Q : Option Value ⊕ Nat → hh_T → Prop} (H : hh_tg h a0 = 1 ∧ (gm_G 456 0 [some (.ref a0)] [] h (pV (fun h2 => gm_G 5 0 [some (.int x3), some (.int (Int32.ofNat 0)), some (.int (Int32.ofNat 2))] [] h2 (pI (fun v4 h3 => (v4 = Int32.ofNat 0 → (gm_G 608 55 [some (.ref a0), some (.int x1), some (.int x2), some (.int x3), some (.int x4), some (.int x5)] [] h3 Q)) ∧ (¬ v4 = Int32.ofNat 0 → ((x3 = (Int32.ofNat 2) → (gm_G 608 51 [some (.ref a0), some (.int x1), some (.int x2), some (.int x3), some (.int x4), some (.int x5)] [] h3 Q)) ∧ (¬ x3 = (Int32.ofNat 2) → (gm_G 5 0 [some (.int x4), some (.int (Int32.ofNat 0)), some (.int (Int32.ofNat 2))] [] h3 (pI (fun v6 h5 => (¬ v6 = Int32.ofNat 0 → (gm_G 608 40 [some (.ref a0), some (.int x1), some (.int x2), some (.int x3), some (.int x4), some (.int x5)] [] h5 Q)) ∧ (v6 = Int32.ofNat 0 → (gm_G 5 0 [some (.int x4), some (.int (Int32.ofNat 8)), some (.int (Int32.ofNat 23))] [] h5 (pI (fun v8 h7 => (v8 = Int32.ofNat 0 → (gm_G 608 55 [some (.ref a0), some (.int x1), some (.int x2), some (.int x3), some (.int x4), some (.int x5)] [] h7 Q)) ∧ (¬ v8 = Int32.ofNat 0 → (gm_G 608 40 [some (.ref a0), some (.int x1), some (.int x2), some (.int x3), some (.int x4), some (.int x5)] [] h7 Q))) (fun e9 h10 => hh_tg h10 e9 = 21 ∧ gm_G 608 178 [some (.ref a0)] [.ref e9] h10 Q))))) (fun e11 h12 => hh_tg h12 e11 = 21 ∧ gm_G 608 178 [some (.ref a0)] [.ref e11] h12 Q))))))) (fun e13 h14 => hh_tg h14 e13 = 21 ∧ gm_G 608 178 [some (.ref a0)] [.ref e13] h14 Q))) (fun e15 h16 => hh_tg h16 e15 = 21 ∧ gm_G 608 178 [some (.ref a0)] [.ref e15] h16 Q)))) : gm_G 608 0 [some (.ref a0), some (.int x1), some (.int x2), some (.int x3), some (.int x4), some (.int x5)] [] h Q := by
  refine g_aload (r := some _) rfl rfl rfl (pc' := 1) ?_
  obtain ⟨ht1, H⟩ := H
  refine g_call rfl (y := 456) (n := 1) (pc' := 4) (g_vt ht1 rfl rfl) rfl rfl ⟨(Nat.le_of_ble_eq_true rfl), (Nat.le_of_ble_eq_true rfl), (Nat.le_of_ble_eq_true rfl)⟩ rfl (gm_G.mono H (pV_elim (fun h2 H' => ?_) (fun e15 h16 H => ?_)))
  · show gm_G _ 4 _ _ _ _
    replace H := H'
    clear H'
    refine g_iload rfl rfl rfl (pc' := 5) ?_
    refine g_iconst rfl rfl rfl (pc' := 6) ?_
    refine g_iconst rfl rfl rfl (pc' := 7) ?_
    refine g_call rfl (y := 5) (n := 3) (pc' := 10) (fun _ => rfl) rfl rfl ⟨(Nat.le_of_ble_eq_true rfl), (Nat.le_of_ble_eq_true rfl), (Nat.le_of_ble_eq_true rfl)⟩ rfl (gm_G.mono H (pI_elim (fun v4 h3 H' => ?_) (fun e13 h14 H => ?_)))
    · show gm_G _ 10 _ _ _ _
      replace H := H'
      clear H'
      refine g_if_eq rfl (pc' := 13) (pt := 55) rfl rfl ⟨fun hc => ?_, fun hc => ?_⟩
      · replace H := H.1 hc
        exact g_weak (show gm_Lle [some _, some _, some _, some _, some _, some _] _ from ⟨rfl, ⟨rfl, ⟨rfl, ⟨rfl, ⟨rfl, ⟨rfl, trivial⟩⟩⟩⟩⟩⟩) H
      · replace H := H.2 hc
        refine g_iload rfl rfl rfl (pc' := 14) ?_
        refine g_iconst rfl rfl rfl (pc' := 15) ?_
        refine g_ic_eq rfl (pc' := 18) (pt := 51) rfl rfl ⟨fun hc => ?_, fun hc => ?_⟩
        · replace H := H.1 hc
          exact g_weak (show gm_Lle [some _, some _, some _, some _, some _, some _] _ from ⟨rfl, ⟨rfl, ⟨rfl, ⟨rfl, ⟨rfl, ⟨rfl, trivial⟩⟩⟩⟩⟩⟩) H
        · replace H := H.2 hc
          refine g_iload rfl rfl rfl (pc' := 20) ?_
          refine g_iconst rfl rfl rfl (pc' := 21) ?_
          refine g_iconst rfl rfl rfl (pc' := 22) ?_
          refine g_call rfl (y := 5) (n := 3) (pc' := 25) (fun _ => rfl) rfl rfl ⟨(Nat.le_of_ble_eq_true rfl), (Nat.le_of_ble_eq_true rfl), (Nat.le_of_ble_eq_true rfl)⟩ rfl (gm_G.mono H (pI_elim (fun v6 h5 H' => ?_) (fun e11 h12 H => ?_)))
          · show gm_G _ 25 _ _ _ _
            replace H := H'
            clear H'
            refine g_if_ne rfl (pc' := 28) (pt := 40) rfl rfl ⟨fun hc => ?_, fun hc => ?_⟩
            · replace H := H.1 hc
              exact g_weak (show gm_Lle [some _, some _, some _, some _, some _, some _] _ from ⟨rfl, ⟨rfl, ⟨rfl, ⟨rfl, ⟨rfl, ⟨rfl, trivial⟩⟩⟩⟩⟩⟩) H
            · replace H := H.2 hc
              refine g_iload rfl rfl rfl (pc' := 30) ?_
              refine g_iconst rfl rfl rfl (pc' := 32) ?_
              refine g_iconst rfl rfl rfl (pc' := 34) ?_
              refine g_call rfl (y := 5) (n := 3) (pc' := 37) (fun _ => rfl) rfl rfl ⟨(Nat.le_of_ble_eq_true rfl), (Nat.le_of_ble_eq_true rfl), (Nat.le_of_ble_eq_true rfl)⟩ rfl (gm_G.mono H (pI_elim (fun v8 h7 H' => ?_) (fun e9 h10 H => ?_)))
              · show gm_G _ 37 _ _ _ _
                replace H := H'
                clear H'
                refine g_if_eq rfl (pc' := 40) (pt := 55) rfl rfl ⟨fun hc => ?_, fun hc => ?_⟩
                · replace H := H.1 hc
                  exact g_weak (show gm_Lle [some _, some _, some _, some _, some _, some _] _ from ⟨rfl, ⟨rfl, ⟨rfl, ⟨rfl, ⟨rfl, ⟨rfl, trivial⟩⟩⟩⟩⟩⟩) H
                · replace H := H.2 hc
                  exact g_weak (show gm_Lle [some _, some _, some _, some _, some _, some _] _ from ⟨rfl, ⟨rfl, ⟨rfl, ⟨rfl, ⟨rfl, ⟨rfl, trivial⟩⟩⟩⟩⟩⟩) H
              · exact ⟨H.1, g_weak (show gm_Lle [some _] _ from ⟨rfl, trivial⟩) H.2⟩
          · exact ⟨H.1, g_weak (show gm_Lle [some _] _ from ⟨rfl, trivial⟩) H.2⟩
    · exact ⟨H.1, g_weak (show gm_Lle [some _] _ from ⟨rfl, trivial⟩) H.2⟩
  · exact ⟨H.1, g_weak (show gm_Lle [some _] _ from ⟨rfl, trivial⟩) H.2⟩
set_option maxRecDepth 20000 in
theorem w_608_40 {a0 : Nat} {x1 : Int32} {x2 : Int32} {x3 : Int32} {x4 : Int32} {x5 : Int32} {h : hh_T} {Q : Option Value ⊕ Nat → hh_T → Prop} (H : gm_G 5 0 [some (.int x5), some (.int (Int32.ofNat 1)), some (.int (Int32.ofNat 7))] [] h (pI (fun v2 h1 => (v2 = Int32.ofNat 0 → (gm_G 608 55 [some (.ref a0), some (.int x1), some (.int x2), some (.int x3), some (.int x4), some (.int x5)] [] h1 Q)) ∧ (¬ v2 = Int32.ofNat 0 → (gm_G 608 51 [some (.ref a0), some (.int x1), some (.int x2), some (.int x3), some (.int x4), some (.int x5)] [] h1 Q))) (fun e3 h4 => hh_tg h4 e3 = 21 ∧ gm_G 608 178 [some (.ref a0)] [.ref e3] h4 Q))) : gm_G 608 40 [some (.ref a0), some (.int x1), some (.int x2), some (.int x3), some (.int x4), some (.int x5)] [] h Q := by
  refine g_iload rfl rfl rfl (pc' := 42) ?_
  refine g_iconst rfl rfl rfl (pc' := 43) ?_
  refine g_iconst rfl rfl rfl (pc' := 45) ?_
  refine g_call rfl (y := 5) (n := 3) (pc' := 48) (fun _ => rfl) rfl rfl ⟨(Nat.le_of_ble_eq_true rfl), (Nat.le_of_ble_eq_true rfl), (Nat.le_of_ble_eq_true rfl)⟩ rfl (gm_G.mono H (pI_elim (fun v2 h1 H' => ?_) (fun e3 h4 H => ?_)))
  · show gm_G _ 48 _ _ _ _
    replace H := H'
    clear H'
    refine g_if_eq rfl (pc' := 51) (pt := 55) rfl rfl ⟨fun hc => ?_, fun hc => ?_⟩
    · replace H := H.1 hc
      exact g_weak (show gm_Lle [some _, some _, some _, some _, some _, some _] _ from ⟨rfl, ⟨rfl, ⟨rfl, ⟨rfl, ⟨rfl, ⟨rfl, trivial⟩⟩⟩⟩⟩⟩) H
    · replace H := H.2 hc
      exact g_weak (show gm_Lle [some _, some _, some _, some _, some _, some _] _ from ⟨rfl, ⟨rfl, ⟨rfl, ⟨rfl, ⟨rfl, ⟨rfl, trivial⟩⟩⟩⟩⟩⟩) H
  · exact ⟨H.1, g_weak (show gm_Lle [some _] _ from ⟨rfl, trivial⟩) H.2⟩
set_option maxRecDepth 20000 in
theorem w_608_51 {a0 : Nat} {x1 : Int32} {x2 : Int32} {x3 : Int32} {x4 : Int32} {x5 : Int32} {h : hh_T} {Q : Option Value ⊕ Nat → hh_T → Prop} (H : gm_G 608 56 [some (.ref a0), some (.int x1), some (.int x2), some (.int x3), some (.int x4), some (.int x5)] [.int (Int32.ofNat 1)] h Q) : gm_G 608 51 [some (.ref a0), some (.int x1), some (.int x2), some (.int x3), some (.int x4), some (.int x5)] [] h Q := by
  refine g_iconst rfl rfl rfl (pc' := 52) ?_
  refine g_goto rfl (pc' := 56) rfl ?_
  exact g_weak (show gm_Lle [some _, some _, some _, some _, some _, some _] _ from ⟨rfl, ⟨rfl, ⟨rfl, ⟨rfl, ⟨rfl, ⟨rfl, trivial⟩⟩⟩⟩⟩⟩) H
set_option maxRecDepth 20000 in
theorem w_608_55 {a0 : Nat} {x1 : Int32} {x2 : Int32} {x3 : Int32} {x4 : Int32} {x5 : Int32} {h : hh_T} {Q : Option Value ⊕ Nat → hh_T → Prop} (H : gm_G 608 56 [some (.ref a0), some (.int x1), some (.int x2), some (.int x3), some (.int x4), some (.int x5)] [.int (Int32.ofNat 0)] h Q) : gm_G 608 55 [some (.ref a0), some (.int x1), some (.int x2), some (.int x3), some (.int x4), some (.int x5)] [] h Q := by
  refine g_iconst rfl rfl rfl (pc' := 56) ?_
  exact g_weak (show gm_Lle [some _, some _, some _, some _, some _, some _] _ from ⟨rfl, ⟨rfl, ⟨rfl, ⟨rfl, ⟨rfl, ⟨rfl, trivial⟩⟩⟩⟩⟩⟩) H
set_option maxRecDepth 20000 in
theorem w_608_56 {a0 : Nat} {x1 : Int32} {x2 : Int32} {x3 : Int32} {x4 : Int32} {x5 : Int32} {y0 : Int32} {h : hh_T} {Q : Option Value ⊕ Nat → hh_T → Prop} (H : gm_G 452 0 [some (.int y0)] [] h (pV (fun h1 => hh_tg h1 a0 = 1 ∧ (gm_G 488 0 [some (.ref a0), some (.int x1)] [] h1 (pR (fun r4 h3 => ∃ a5, r4 = some a5 ∧ (gm_sub (hh_tg h3 a5) 23 = true ∧ (∀ r7, r7 = hh_r h3 a5 9 → (gm_G 448 0 [some (va_rf r7), some (.int x2)] [] h3 (pR (fun r9 h8 => hh_tg h8 a0 = 1 ∧ (gm_G 9 0 [some (.ref a0), some (va_rf r9)] [] h8 (pI (fun v12 h11 => gm_G 431 0 [some (.int v12), some (.int (Int32.ofInt (-6)))] [] h11 (pV (fun h13 => gm_G 608 88 [some (.ref a0), none, some (.int x2), some (.int x3), some (.int x4), some (.int x5), some (.ref a5), some (va_rf r9)] [] h13 Q) (fun e14 h15 => hh_tg h15 e14 = 21 ∧ gm_G 608 178 [some (.ref a0)] [.ref e14] h15 Q))) (fun e16 h17 => hh_tg h17 e16 = 21 ∧ gm_G 608 178 [some (.ref a0)] [.ref e16] h17 Q)))) (fun e18 h19 => hh_tg h19 e18 = 21 ∧ gm_G 608 178 [some (.ref a0)] [.ref e18] h19 Q)))))) (fun e20 h21 => hh_tg h21 e20 = 21 ∧ gm_G 608 178 [some (.ref a0)] [.ref e20] h21 Q)))) (fun e22 h23 => hh_tg h23 e22 = 21 ∧ gm_G 608 178 [some (.ref a0)] [.ref e22] h23 Q))) : gm_G 608 56 [some (.ref a0), some (.int x1), some (.int x2), some (.int x3), some (.int x4), some (.int x5)] [.int y0] h Q := by
  refine g_call rfl (y := 452) (n := 1) (pc' := 59) (fun _ => rfl) rfl rfl ⟨(Nat.le_of_ble_eq_true rfl), (Nat.le_of_ble_eq_true rfl), (Nat.le_of_ble_eq_true rfl)⟩ rfl (gm_G.mono H (pV_elim (fun h1 H' => ?_) (fun e22 h23 H => ?_)))
  · show gm_G _ 59 _ _ _ _
    replace H := H'
    clear H'
    refine g_aload (r := some _) rfl rfl rfl (pc' := 60) ?_
    refine g_iload rfl rfl rfl (pc' := 61) ?_
    obtain ⟨ht2, H⟩ := H
    refine g_call rfl (y := 488) (n := 2) (pc' := 64) (g_vt ht2 rfl rfl) rfl rfl ⟨(Nat.le_of_ble_eq_true rfl), (Nat.le_of_ble_eq_true rfl), (Nat.le_of_ble_eq_true rfl)⟩ rfl (gm_G.mono H (pR_elim (fun r4 h3 H' => ?_) (fun e20 h21 H => ?_)))
    · show gm_G _ 64 _ _ _ _
      replace H := H'
      clear H'
      refine g_astore (r := _) rfl rfl rfl (pc' := 66) ?_
      refine g_aload (r := _) rfl rfl rfl (pc' := 68) ?_
      obtain ⟨a5, rfl, H⟩ := H
      obtain ⟨ht6, H⟩ := H
      refine g_getRv rfl rfl rfl rfl ht6 (pc' := 71) rfl (fun r7 hr7 => ?_)
      replace H := H r7 hr7
      refine g_iload rfl rfl rfl (pc' := 72) ?_
      refine g_call rfl (y := 448) (n := 2) (pc' := 75) (fun _ => rfl) (by cases r7 <;> rfl) rfl ⟨(Nat.le_of_ble_eq_true rfl), (Nat.le_of_ble_eq_true rfl), (Nat.le_of_ble_eq_true rfl)⟩ rfl (gm_G.mono H (pR_elim (fun r9 h8 H' => ?_) (fun e18 h19 H => ?_)))
      · show gm_G _ 75 _ _ _ _
        replace H := H'
        clear H'
        refine g_astore (r := _) rfl rfl rfl (pc' := 77) ?_
        refine g_aload (r := some _) rfl rfl rfl (pc' := 78) ?_
        refine g_aload (r := _) rfl rfl rfl (pc' := 80) ?_
        obtain ⟨ht10, H⟩ := H
        refine g_call rfl (y := 9) (n := 2) (pc' := 83) (g_vt ht10 rfl rfl) (by cases r9 <;> rfl) rfl ⟨(Nat.le_of_ble_eq_true rfl), (Nat.le_of_ble_eq_true rfl), (Nat.le_of_ble_eq_true rfl)⟩ rfl (gm_G.mono H (pI_elim (fun v12 h11 H' => ?_) (fun e16 h17 H => ?_)))
        · show gm_G _ 83 _ _ _ _
          replace H := H'
          clear H'
          refine g_iconst rfl rfl rfl (pc' := 85) ?_
          refine g_call rfl (y := 431) (n := 2) (pc' := 88) (fun _ => rfl) rfl rfl ⟨(Nat.le_of_ble_eq_true rfl), (Nat.le_of_ble_eq_true rfl), (Nat.le_of_ble_eq_true rfl)⟩ rfl (gm_G.mono H (pV_elim (fun h13 H' => ?_) (fun e14 h15 H => ?_)))
          · show gm_G _ 88 _ _ _ _
            replace H := H'
            clear H'
            exact g_weak (show gm_Lle [some _, none, some _, some _, some _, some _, some _, some _] _ from ⟨rfl, ⟨rfl, ⟨rfl, ⟨rfl, ⟨rfl, ⟨rfl, ⟨rfl, trivial⟩⟩⟩⟩⟩⟩⟩) H
          · exact ⟨H.1, g_weak (show gm_Lle [some _] _ from ⟨rfl, trivial⟩) H.2⟩
        · exact ⟨H.1, g_weak (show gm_Lle [some _] _ from ⟨rfl, trivial⟩) H.2⟩
      · exact ⟨H.1, g_weak (show gm_Lle [some _] _ from ⟨rfl, trivial⟩) H.2⟩
    · exact ⟨H.1, g_weak (show gm_Lle [some _] _ from ⟨rfl, trivial⟩) H.2⟩
  · exact ⟨H.1, g_weak (show gm_Lle [some _] _ from ⟨rfl, trivial⟩) H.2⟩
set_option maxRecDepth 20000 in
theorem w_608_88 {a0 : Nat} {x2 : Int32} {x3 : Int32} {x4 : Int32} {x5 : Int32} {r_6 : Option Nat} {r_7 : Option Nat} {h : hh_T} {Q : Option Value ⊕ Nat → hh_T → Prop} (H : (x3 = (Int32.ofNat 2) → (gm_G 608 102 [some (.ref a0), none, some (.int x2), some (.int x3), some (.int x4), some (.int x5), some (va_rf r_6)] [] h Q)) ∧ (¬ x3 = (Int32.ofNat 2) → (∃ a1, r_7 = some a1 ∧ (gm_sub (hh_tg h a1) 25 = true ∧ ((¬ (hh_i h a1 9) < (Int32.ofNat 4) → (gm_G 608 107 [some (.ref a0), none, some (.int x2), some (.int x3), some (.int x4), some (.int x5), some (va_rf r_6)] [.int (Int32.ofNat 0)] h Q)) ∧ ((hh_i h a1 9) < (Int32.ofNat 4) → (gm_G 608 102 [some (.ref a0), none, some (.int x2), some (.int x3), some (.int x4), some (.int x5), some (va_rf r_6)] [] h Q))))))) : gm_G 608 88 [some (.ref a0), none, some (.int x2), some (.int x3), some (.int x4), some (.int x5), some (va_rf r_6), some (va_rf r_7)] [] h Q := by
  refine g_iload rfl rfl rfl (pc' := 89) ?_
  refine g_iconst rfl rfl rfl (pc' := 90) ?_
  refine g_ic_eq rfl (pc' := 93) (pt := 102) rfl rfl ⟨fun hc => ?_, fun hc => ?_⟩
  · replace H := H.1 hc
    exact g_weak (show gm_Lle [some _, none, some _, some _, some _, some _, some _] _ from ⟨rfl, ⟨rfl, ⟨rfl, ⟨rfl, ⟨rfl, ⟨rfl, trivial⟩⟩⟩⟩⟩⟩) H
  · replace H := H.2 hc
    refine g_aload (r := _) rfl rfl rfl (pc' := 95) ?_
    obtain ⟨a1, rfl, H⟩ := H
    obtain ⟨ht2, H⟩ := H
    refine g_getI rfl rfl rfl rfl ht2 (pc' := 98) rfl ?_
    refine g_iconst rfl rfl rfl (pc' := 99) ?_
    refine g_ic_ge rfl (pc' := 102) (pt := 106) rfl rfl ⟨fun hc => ?_, fun hc => ?_⟩
    · replace H := H.1 hc
      refine g_iconst rfl rfl rfl (pc' := 107) ?_
      exact g_weak (show gm_Lle [some _, none, some _, some _, some _, some _, some _] _ from ⟨rfl, ⟨rfl, ⟨rfl, ⟨rfl, ⟨rfl, ⟨rfl, trivial⟩⟩⟩⟩⟩⟩) H
    · replace H := H.2 hc
      exact g_weak (show gm_Lle [some _, none, some _, some _, some _, some _, some _] _ from ⟨rfl, ⟨rfl, ⟨rfl, ⟨rfl, ⟨rfl, ⟨rfl, trivial⟩⟩⟩⟩⟩⟩) H
set_option maxRecDepth 20000 in
theorem w_608_102 {a0 : Nat} {x2 : Int32} {x3 : Int32} {x4 : Int32} {x5 : Int32} {r_6 : Option Nat} {h : hh_T} {Q : Option Value ⊕ Nat → hh_T → Prop} (H : gm_G 608 107 [some (.ref a0), none, some (.int x2), some (.int x3), some (.int x4), some (.int x5), some (va_rf r_6)] [.int (Int32.ofNat 1)] h Q) : gm_G 608 102 [some (.ref a0), none, some (.int x2), some (.int x3), some (.int x4), some (.int x5), some (va_rf r_6)] [] h Q := by
  refine g_iconst rfl rfl rfl (pc' := 103) ?_
  refine g_goto rfl (pc' := 107) rfl ?_
  exact g_weak (show gm_Lle [some _, none, some _, some _, some _, some _, some _] _ from ⟨rfl, ⟨rfl, ⟨rfl, ⟨rfl, ⟨rfl, ⟨rfl, trivial⟩⟩⟩⟩⟩⟩) H
set_option maxRecDepth 20000 in
theorem w_608_107 {a0 : Nat} {x2 : Int32} {x3 : Int32} {x4 : Int32} {x5 : Int32} {r_6 : Option Nat} {y0 : Int32} {h : hh_T} {Q : Option Value ⊕ Nat → hh_T → Prop} (H : gm_G 431 0 [some (.int y0), some (.int (Int32.ofInt (-3)))] [] h (pV (fun h1 => ∀ a2 h3, a2 = hh_sz h1 → h3 = hh_al h1 40 0 6 → ((¬ x3 = (Int32.ofNat 2) → (gm_G 608 142 [some (.ref a0), none, some (.int x2), none, none, none, some (va_rf r_6)] [.int ((x3 ||| (x4 <<< ((Int32.ofNat 1) &&& 31))) ||| (x5 <<< ((Int32.ofNat 8) &&& 31))), .int x2, .ref a0, .ref a2, .ref a2, va_rf r_6, .ref a0] h3 Q)) ∧ (x3 = (Int32.ofNat 2) → (gm_G 608 142 [some (.ref a0), none, some (.int x2), none, none, none, some (va_rf r_6)] [.int (Int32.ofInt (-1)), .int x2, .ref a0, .ref a2, .ref a2, va_rf r_6, .ref a0] h3 Q)))) (fun e4 h5 => hh_tg h5 e4 = 21 ∧ gm_G 608 178 [some (.ref a0)] [.ref e4] h5 Q))) : gm_G 608 107 [some (.ref a0), none, some (.int x2), some (.int x3), some (.int x4), some (.int x5), some (va_rf r_6)] [.int y0] h Q := by
  refine g_iconst rfl rfl rfl (pc' := 109) ?_
  refine g_call rfl (y := 431) (n := 2) (pc' := 112) (fun _ => rfl) rfl rfl ⟨(Nat.le_of_ble_eq_true rfl), (Nat.le_of_ble_eq_true rfl), (Nat.le_of_ble_eq_true rfl)⟩ rfl (gm_G.mono H (pV_elim (fun h1 H' => ?_) (fun e4 h5 H => ?_)))
  · show gm_G _ 112 _ _ _ _
    replace H := H'
    clear H'
    refine g_aload (r := some _) rfl rfl rfl (pc' := 113) ?_
    refine g_aload (r := _) rfl rfl rfl (pc' := 115) ?_
    refine g_new rfl (t := 40) (s := 6) rfl rfl (pc' := 118) rfl ?_
    replace H := H _ _ rfl rfl
    refine g_dup_a (r := some _) rfl rfl (pc' := 119) ?_
    refine g_aload (r := some _) rfl rfl rfl (pc' := 120) ?_
    refine g_iload rfl rfl rfl (pc' := 121) ?_
    refine g_iload rfl rfl rfl (pc' := 122) ?_
    refine g_iconst rfl rfl rfl (pc' := 123) ?_
    refine g_ic_ne rfl (pc' := 126) (pt := 130) rfl rfl ⟨fun hc => ?_, fun hc => ?_⟩
    · replace H := H.1 hc
      refine g_iload rfl rfl rfl (pc' := 131) ?_
      refine g_iload rfl rfl rfl (pc' := 133) ?_
      refine g_iconst rfl rfl rfl (pc' := 134) ?_
      refine g_ishl rfl rfl (pc' := 135) ?_
      refine g_ior rfl rfl (pc' := 136) ?_
      refine g_iload rfl rfl rfl (pc' := 138) ?_
      refine g_iconst rfl rfl rfl (pc' := 140) ?_
      refine g_ishl rfl rfl (pc' := 141) ?_
      refine g_ior rfl rfl (pc' := 142) ?_
      exact g_weak (show gm_Lle [some _, none, some _, none, none, none, some _] _ from ⟨rfl, ⟨rfl, ⟨rfl, trivial⟩⟩⟩) H
    · replace H := H.2 hc
      refine g_iconst rfl rfl rfl (pc' := 127) ?_
      refine g_goto rfl (pc' := 142) rfl ?_
      exact g_weak (show gm_Lle [some _, none, some _, none, none, none, some _] _ from ⟨rfl, ⟨rfl, ⟨rfl, trivial⟩⟩⟩) H
  · exact ⟨H.1, g_weak (show gm_Lle [some _] _ from ⟨rfl, trivial⟩) H.2⟩
set_option maxRecDepth 20000 in
theorem w_608_142 {a0 : Nat} {x2 : Int32} {r_6 : Option Nat} {y0 : Int32} {y1 : Int32} {q2 : Option Nat} {q3 : Option Nat} {q4 : Option Nat} {q5 : Option Nat} {q6 : Option Nat} {h : hh_T} {Q : Option Value ⊕ Nat → hh_T → Prop} (H : ∃ a1, q3 = some a1 ∧ (gm_G 328 0 [some (.ref a1), some (va_rf q2), some (.int y1), some (.int y0)] [] h (pV (fun h2 => ∃ a3, q6 = some a3 ∧ (hh_tg h2 a3 = 1 ∧ (gm_G 605 0 [some (.ref a3), some (va_rf q5), some (va_rf q4)] [] h2 (pV (fun h5 => gm_sub (hh_tg h5 a0) 0 = true ∧ (∀ r7, r7 = hh_r h5 a0 52 → (∃ a8, r7 = some a8 ∧ (hh_tg h5 a8 = 16 ∧ (gm_G 262 0 [some (.ref a8), some (va_rf r_6), some (.int (Int32.ofNat 6)), some (.int x2)] [] h5 (pV (fun h10 => ∃ a11, r_6 = some a11 ∧ (gm_sub (hh_tg h10 a11) 23 = true ∧ (∀ r13, r13 = hh_r h10 a11 9 → (∃ a14, r13 = some a14 ∧ (gm_sub (hh_tg h10 a14) 24 = true ∧ (∀ r16, r16 = hh_r h10 a14 2 → (∃ a17, r16 = some a17 ∧ ((hh_tg h10 a17 = 104 ∨ 200 ≤ hh_tg h10 a17) ∧ (∃ n18, gm_ix x2 n18 (hh_ln h10 a17) ∧ (∀ r20, r20 = hh_r h10 a17 n18 → (∃ a21, r20 = some a21 ∧ (gm_sub (hh_tg h10 a21) 25 = true ∧ (hh_tg h10 a0 = 1 ∧ (gm_G 4 0 [some (.ref a0), some (.int (hh_i h10 a21 9))] [] h10 (pI (fun v25 h24 => Q (.inl (some (.int v25))) h24) (fun e26 h27 => hh_tg h27 e26 = 21 ∧ gm_G 608 178 [some (.ref a0)] [.ref e26] h27 Q)))))))))))))))) (fun e28 h29 => hh_tg h29 e28 = 21 ∧ gm_G 608 178 [some (.ref a0)] [.ref e28] h29 Q))))))) (fun e30 h31 => hh_tg h31 e30 = 21 ∧ gm_G 608 178 [some (.ref a0)] [.ref e30] h31 Q))))) (fun e32 h33 => hh_tg h33 e32 = 21 ∧ gm_G 608 178 [some (.ref a0)] [.ref e32] h33 Q)))) : gm_G 608 142 [some (.ref a0), none, some (.int x2), none, none, none, some (va_rf r_6)] [.int y0, .int y1, va_rf q2, va_rf q3, va_rf q4, va_rf q5, va_rf q6] h Q := by
  obtain ⟨a1, rfl, H⟩ := H
  refine g_call rfl (y := 328) (n := 4) (pc' := 145) (fun _ => rfl) (by cases q2 <;> rfl) rfl ⟨(Nat.le_of_ble_eq_true rfl), (Nat.le_of_ble_eq_true rfl), (Nat.le_of_ble_eq_true rfl)⟩ rfl (gm_G.mono H (pV_elim (fun h2 H' => ?_) (fun e32 h33 H => ?_)))
  · show gm_G _ 145 _ _ _ _
    replace H := H'
    clear H'
    obtain ⟨a3, rfl, H⟩ := H
    obtain ⟨ht4, H⟩ := H
    refine g_call rfl (y := 605) (n := 3) (pc' := 148) (g_vt ht4 rfl rfl) (by cases q4 <;> cases q5 <;> rfl) rfl ⟨(Nat.le_of_ble_eq_true rfl), (Nat.le_of_ble_eq_true rfl), (Nat.le_of_ble_eq_true rfl)⟩ rfl (gm_G.mono H (pV_elim (fun h5 H' => ?_) (fun e30 h31 H => ?_)))
    · show gm_G _ 148 _ _ _ _
      replace H := H'
      clear H'
      refine g_aload (r := some _) rfl rfl rfl (pc' := 149) ?_
      obtain ⟨ht6, H⟩ := H
      refine g_getRv rfl rfl rfl rfl ht6 (pc' := 152) rfl (fun r7 hr7 => ?_)
      replace H := H r7 hr7
      refine g_aload (r := _) rfl rfl rfl (pc' := 154) ?_
      refine g_iconst rfl rfl rfl (pc' := 156) ?_
      refine g_iload rfl rfl rfl (pc' := 157) ?_
      obtain ⟨a8, rfl, H⟩ := H
      obtain ⟨ht9, H⟩ := H
      refine g_call rfl (y := 262) (n := 4) (pc' := 160) (g_vt ht9 rfl rfl) (by cases r_6 <;> rfl) rfl ⟨(Nat.le_of_ble_eq_true rfl), (Nat.le_of_ble_eq_true rfl), (Nat.le_of_ble_eq_true rfl)⟩ rfl (gm_G.mono H (pV_elim (fun h10 H' => ?_) (fun e28 h29 H => ?_)))
      · show gm_G _ 160 _ _ _ _
        replace H := H'
        clear H'
        refine g_aload (r := some _) rfl rfl rfl (pc' := 161) ?_
        refine g_aload (r := _) rfl rfl rfl (pc' := 163) ?_
        obtain ⟨a11, rfl, H⟩ := H
        obtain ⟨ht12, H⟩ := H
        refine g_getRv rfl rfl rfl rfl ht12 (pc' := 166) rfl (fun r13 hr13 => ?_)
        replace H := H r13 hr13
        obtain ⟨a14, rfl, H⟩ := H
        obtain ⟨ht15, H⟩ := H
        refine g_getRv rfl rfl rfl rfl ht15 (pc' := 169) rfl (fun r16 hr16 => ?_)
        replace H := H r16 hr16
        refine g_iload rfl rfl rfl (pc' := 170) ?_
        obtain ⟨a17, rfl, H⟩ := H
        obtain ⟨ht19, H⟩ := H
        obtain ⟨n18, hn18, H⟩ := H
        refine g_aaloadv rfl ht19 hn18 (pc' := 171) rfl (fun r20 hr20 => ?_)
        replace H := H r20 hr20
        obtain ⟨a21, rfl, H⟩ := H
        obtain ⟨ht22, H⟩ := H
        refine g_getI rfl rfl rfl rfl ht22 (pc' := 174) rfl ?_
        obtain ⟨ht23, H⟩ := H
        refine g_call rfl (y := 4) (n := 2) (pc' := 177) (g_vt ht23 rfl rfl) rfl rfl ⟨(Nat.le_of_ble_eq_true rfl), (Nat.le_of_ble_eq_true rfl), (Nat.le_of_ble_eq_true rfl)⟩ rfl (gm_G.mono H (pI_elim (fun v25 h24 H' => ?_) (fun e26 h27 H => ?_)))
        · show gm_G _ 177 _ _ _ _
          replace H := H'
          clear H'
          exact g_ireturn rfl (Or.inl rfl) H
        · exact ⟨H.1, g_weak (show gm_Lle [some _] _ from ⟨rfl, trivial⟩) H.2⟩
      · exact ⟨H.1, g_weak (show gm_Lle [some _] _ from ⟨rfl, trivial⟩) H.2⟩
    · exact ⟨H.1, g_weak (show gm_Lle [some _] _ from ⟨rfl, trivial⟩) H.2⟩
  · exact ⟨H.1, g_weak (show gm_Lle [some _] _ from ⟨rfl, trivial⟩) H.2⟩
set_option maxRecDepth 20000 in
theorem w_608_178 {a0 : Nat} {ex : Nat} {h : hh_T} {Q : Option Value ⊕ Nat → hh_T → Prop} (H : hh_tg h a0 = 1 ∧ (gm_G 1 0 [some (.ref a0), some (.ref ex)] [] h (pI (fun v3 h2 => Q (.inl (some (.int v3))) h2) (fun e4 h5 => hh_tg h5 e4 = 21 ∧ Q (.inr e4) h5)))) : gm_G 608 178 [some (.ref a0)] [.ref ex] h Q := by
  refine g_astore (r := some _) rfl rfl rfl (pc' := 180) ?_
  refine g_aload (r := some _) rfl rfl rfl (pc' := 181) ?_
  refine g_aload (r := some _) rfl rfl rfl (pc' := 183) ?_
  obtain ⟨ht1, H⟩ := H
  refine g_call rfl (y := 1) (n := 2) (pc' := 186) (g_vt ht1 rfl rfl) rfl rfl ⟨(Nat.le_of_ble_eq_true rfl), (Nat.le_of_ble_eq_true rfl), (Nat.le_of_ble_eq_true rfl)⟩ rfl (gm_G.mono H (pI_elim (fun v3 h2 H' => ?_) (fun e4 h5 H => ?_)))
  · show gm_G _ 186 _ _ _ _
    replace H := H'
    clear H'
    exact g_ireturn rfl (Or.inl rfl) H
  · exact H
set_option maxRecDepth 20000 in
theorem w_609_0 {a0 : Nat} {x1 : Int32} {x2 : Int32} {x3 : Int32} {h : hh_T} {Q : Option Value ⊕ Nat → hh_T → Prop} (H : hh_tg h a0 = 1 ∧ (gm_G 456 0 [some (.ref a0)] [] h (pV (fun h2 => gm_G 493 0 [some (.int x1)] [] h2 (pV (fun h3 => gm_G 5 0 [some (.int x2), some (.int (Int32.ofNat 0)), some (.int (Int32.ofNat 255))] [] h3 (pI (fun v5 h4 => (v5 = Int32.ofNat 0 → (gm_G 609 34 [some (.ref a0), some (.int x1), some (.int x2), some (.int x3)] [] h4 Q)) ∧ (¬ v5 = Int32.ofNat 0 → (gm_G 5 0 [some (.int x3), some (.int (Int32.ofNat 1)), some (.int (Int32.ofNat 256))] [] h4 (pI (fun v7 h6 => (v7 = Int32.ofNat 0 → (gm_G 609 34 [some (.ref a0), some (.int x1), some (.int x2), some (.int x3)] [] h6 Q)) ∧ (¬ v7 = Int32.ofNat 0 → (gm_G 609 35 [some (.ref a0), some (.int x1), some (.int x2), some (.int x3)] [.int (Int32.ofNat 1)] h6 Q))) (fun e8 h9 => hh_tg h9 e8 = 21 ∧ gm_G 609 160 [some (.ref a0)] [.ref e8] h9 Q))))) (fun e10 h11 => hh_tg h11 e10 = 21 ∧ gm_G 609 160 [some (.ref a0)] [.ref e10] h11 Q))) (fun e12 h13 => hh_tg h13 e12 = 21 ∧ gm_G 609 160 [some (.ref a0)] [.ref e12] h13 Q))) (fun e14 h15 => hh_tg h15 e14 = 21 ∧ gm_G 609 160 [some (.ref a0)] [.ref e14] h15 Q)))) : gm_G 609 0 [some (.ref a0), some (.int x1), some (.int x2), some (.int x3)] [] h Q := by
  refine g_aload (r := some _) rfl rfl rfl (pc' := 1) ?_
  obtain ⟨ht1, H⟩ := H
  refine g_call rfl (y := 456) (n := 1) (pc' := 4) (g_vt ht1 rfl rfl) rfl rfl ⟨(Nat.le_of_ble_eq_true rfl), (Nat.le_of_ble_eq_true rfl), (Nat.le_of_ble_eq_true rfl)⟩ rfl (gm_G.mono H (pV_elim (fun h2 H' => ?_) (fun e14 h15 H => ?_)))
  · show gm_G _ 4 _ _ _ _
    replace H := H'
    clear H'
    refine g_iload rfl rfl rfl (pc' := 5) ?_
    refine g_call rfl (y := 493) (n := 1) (pc' := 8) (fun _ => rfl) rfl rfl ⟨(Nat.le_of_ble_eq_true rfl), (Nat.le_of_ble_eq_true rfl), (Nat.le_of_ble_eq_true rfl)⟩ rfl (gm_G.mono H (pV_elim (fun h3 H' => ?_) (fun e12 h13 H => ?_)))
    · show gm_G _ 8 _ _ _ _
      replace H := H'
      clear H'
      refine g_iload rfl rfl rfl (pc' := 9) ?_
      refine g_iconst rfl rfl rfl (pc' := 10) ?_
      refine g_iconst rfl rfl rfl (pc' := 13) ?_
      refine g_call rfl (y := 5) (n := 3) (pc' := 16) (fun _ => rfl) rfl rfl ⟨(Nat.le_of_ble_eq_true rfl), (Nat.le_of_ble_eq_true rfl), (Nat.le_of_ble_eq_true rfl)⟩ rfl (gm_G.mono H (pI_elim (fun v5 h4 H' => ?_) (fun e10 h11 H => ?_)))
      · show gm_G _ 16 _ _ _ _
        replace H := H'
        clear H'
        refine g_if_eq rfl (pc' := 19) (pt := 34) rfl rfl ⟨fun hc => ?_, fun hc => ?_⟩
        · replace H := H.1 hc
          exact g_weak (show gm_Lle [some _, some _, some _, some _] _ from ⟨rfl, ⟨rfl, ⟨rfl, ⟨rfl, trivial⟩⟩⟩⟩) H
        · replace H := H.2 hc
          refine g_iload rfl rfl rfl (pc' := 20) ?_
          refine g_iconst rfl rfl rfl (pc' := 21) ?_
          refine g_iconst rfl rfl rfl (pc' := 24) ?_
          refine g_call rfl (y := 5) (n := 3) (pc' := 27) (fun _ => rfl) rfl rfl ⟨(Nat.le_of_ble_eq_true rfl), (Nat.le_of_ble_eq_true rfl), (Nat.le_of_ble_eq_true rfl)⟩ rfl (gm_G.mono H (pI_elim (fun v7 h6 H' => ?_) (fun e8 h9 H => ?_)))
          · show gm_G _ 27 _ _ _ _
            replace H := H'
            clear H'
            refine g_if_eq rfl (pc' := 30) (pt := 34) rfl rfl ⟨fun hc => ?_, fun hc => ?_⟩
            · replace H := H.1 hc
              exact g_weak (show gm_Lle [some _, some _, some _, some _] _ from ⟨rfl, ⟨rfl, ⟨rfl, ⟨rfl, trivial⟩⟩⟩⟩) H
            · replace H := H.2 hc
              refine g_iconst rfl rfl rfl (pc' := 31) ?_
              refine g_goto rfl (pc' := 35) rfl ?_
              exact g_weak (show gm_Lle [some _, some _, some _, some _] _ from ⟨rfl, ⟨rfl, ⟨rfl, ⟨rfl, trivial⟩⟩⟩⟩) H
          · exact ⟨H.1, g_weak (show gm_Lle [some _] _ from ⟨rfl, trivial⟩) H.2⟩
      · exact ⟨H.1, g_weak (show gm_Lle [some _] _ from ⟨rfl, trivial⟩) H.2⟩
    · exact ⟨H.1, g_weak (show gm_Lle [some _] _ from ⟨rfl, trivial⟩) H.2⟩
  · exact ⟨H.1, g_weak (show gm_Lle [some _] _ from ⟨rfl, trivial⟩) H.2⟩
set_option maxRecDepth 20000 in
theorem w_609_34 {a0 : Nat} {x1 : Int32} {x2 : Int32} {x3 : Int32} {h : hh_T} {Q : Option Value ⊕ Nat → hh_T → Prop} (H : gm_G 609 35 [some (.ref a0), some (.int x1), some (.int x2), some (.int x3)] [.int (Int32.ofNat 0)] h Q) : gm_G 609 34 [some (.ref a0), some (.int x1), some (.int x2), some (.int x3)] [] h Q := by
  refine g_iconst rfl rfl rfl (pc' := 35) ?_
  exact g_weak (show gm_Lle [some _, some _, some _, some _] _ from ⟨rfl, ⟨rfl, ⟨rfl, ⟨rfl, trivial⟩⟩⟩⟩) H
set_option maxRecDepth 20000 in
theorem w_609_35 {a0 : Nat} {x1 : Int32} {x2 : Int32} {x3 : Int32} {y0 : Int32} {h : hh_T} {Q : Option Value ⊕ Nat → hh_T → Prop} (H : gm_G 452 0 [some (.int y0)] [] h (pV (fun h1 => hh_tg h1 a0 = 1 ∧ (gm_G 447 0 [some (.ref a0), some (.int x1)] [] h1 (pR (fun r4 h3 => hh_tg h3 a0 = 1 ∧ (gm_G 458 0 [some (.ref a0), some (va_rf r4)] [] h3 (pR (fun r7 h6 => hh_tg h6 a0 = 1 ∧ (gm_G 346 0 [some (.ref a0), some (va_rf r4)] [] h6 (pR (fun r10 h9 => ∃ a11, r10 = some a11 ∧ (gm_sub (hh_tg h9 a11) 25 = true ∧ (gm_G 609 70 [some (.ref a0), none, some (.int x2), none, some (va_rf r4), some (va_rf r7), some (.int (if (x2 + x3) < (hh_i h9 a11 6) then (x2 + x3) else (hh_i h9 a11 6)))] [] h9 Q))) (fun e13 h14 => hh_tg h14 e13 = 21 ∧ gm_G 609 160 [some (.ref a0)] [.ref e13] h14 Q)))) (fun e15 h16 => hh_tg h16 e15 = 21 ∧ gm_G 609 160 [some (.ref a0)] [.ref e15] h16 Q)))) (fun e17 h18 => hh_tg h18 e17 = 21 ∧ gm_G 609 160 [some (.ref a0)] [.ref e17] h18 Q)))) (fun e19 h20 => hh_tg h20 e19 = 21 ∧ gm_G 609 160 [some (.ref a0)] [.ref e19] h20 Q))) : gm_G 609 35 [some (.ref a0), some (.int x1), some (.int x2), some (.int x3)] [.int y0] h Q := by
  refine g_call rfl (y := 452) (n := 1) (pc' := 38) (fun _ => rfl) rfl rfl ⟨(Nat.le_of_ble_eq_true rfl), (Nat.le_of_ble_eq_true rfl), (Nat.le_of_ble_eq_true rfl)⟩ rfl (gm_G.mono H (pV_elim (fun h1 H' => ?_) (fun e19 h20 H => ?_)))
  · show gm_G _ 38 _ _ _ _
    replace H := H'
    clear H'
    refine g_aload (r := some _) rfl rfl rfl (pc' := 39) ?_
    refine g_iload rfl rfl rfl (pc' := 40) ?_
    obtain ⟨ht2, H⟩ := H
    refine g_call rfl (y := 447) (n := 2) (pc' := 43) (g_vt ht2 rfl rfl) rfl rfl ⟨(Nat.le_of_ble_eq_true rfl), (Nat.le_of_ble_eq_true rfl), (Nat.le_of_ble_eq_true rfl)⟩ rfl (gm_G.mono H (pR_elim (fun r4 h3 H' => ?_) (fun e17 h18 H => ?_)))
    · show gm_G _ 43 _ _ _ _
      replace H := H'
      clear H'
      refine g_astore (r := _) rfl rfl rfl (pc' := 45) ?_
      refine g_aload (r := some _) rfl rfl rfl (pc' := 46) ?_
      refine g_aload (r := _) rfl rfl rfl (pc' := 48) ?_
      obtain ⟨ht5, H⟩ := H
      refine g_call rfl (y := 458) (n := 2) (pc' := 51) (g_vt ht5 rfl rfl) (by cases r4 <;> rfl) rfl ⟨(Nat.le_of_ble_eq_true rfl), (Nat.le_of_ble_eq_true rfl), (Nat.le_of_ble_eq_true rfl)⟩ rfl (gm_G.mono H (pR_elim (fun r7 h6 H' => ?_) (fun e15 h16 H => ?_)))
      · show gm_G _ 51 _ _ _ _
        replace H := H'
        clear H'
        refine g_astore (r := _) rfl gm_sto_rf4 rfl (pc' := 53) ?_
        refine g_aload (r := some _) rfl rfl rfl (pc' := 54) ?_
        refine g_aload (r := _) rfl rfl rfl (pc' := 56) ?_
        obtain ⟨ht8, H⟩ := H
        refine g_call rfl (y := 346) (n := 2) (pc' := 59) (g_vt ht8 rfl rfl) (by cases r4 <;> rfl) rfl ⟨(Nat.le_of_ble_eq_true rfl), (Nat.le_of_ble_eq_true rfl), (Nat.le_of_ble_eq_true rfl)⟩ rfl (gm_G.mono H (pR_elim (fun r10 h9 H' => ?_) (fun e13 h14 H => ?_)))
        · show gm_G _ 59 _ _ _ _
          replace H := H'
          clear H'
          obtain ⟨a11, rfl, H⟩ := H
          obtain ⟨ht12, H⟩ := H
          refine g_getI rfl rfl rfl rfl ht12 (pc' := 62) rfl ?_
          refine g_iload rfl rfl rfl (pc' := 63) ?_
          refine g_iload rfl rfl rfl (pc' := 64) ?_
          refine g_iadd rfl rfl (pc' := 65) ?_
          refine g_dsub rfl (Nat.le_of_ble_eq_true rfl) rfl (pc' := 68) ?_
          refine g_istore rfl gm_sto_rf5 rfl (pc' := 70) ?_
          exact g_weak (show gm_Lle [some _, none, some _, none, some _, some _, some _] _ from ⟨rfl, ⟨rfl, ⟨rfl, ⟨rfl, ⟨rfl, trivial⟩⟩⟩⟩⟩) H
        · exact ⟨H.1, g_weak (show gm_Lle [some _] _ from ⟨rfl, trivial⟩) H.2⟩
      · exact ⟨H.1, g_weak (show gm_Lle [some _] _ from ⟨rfl, trivial⟩) H.2⟩
    · exact ⟨H.1, g_weak (show gm_Lle [some _] _ from ⟨rfl, trivial⟩) H.2⟩
  · exact ⟨H.1, g_weak (show gm_Lle [some _] _ from ⟨rfl, trivial⟩) H.2⟩
set_option maxRecDepth 20000 in
theorem w_609_70 {a0 : Nat} {x2 : Int32} {r_4 : Option Nat} {r_5 : Option Nat} {x6 : Int32} {h : hh_T} {Q : Option Value ⊕ Nat → hh_T → Prop} (H : gm_sub (hh_tg h a0) 0 = true ∧ (∀ r2, r2 = hh_r h a0 51 → (∃ a3, r2 = some a3 ∧ (hh_tg h a3 = 15 ∧ (gm_G 259 0 [some (.ref a3), some (va_rf r_4), some (.int x2), some (.int x6), some (.int (Int32.ofNat 1))] [] h (pI (fun v6 h5 => (¬ v6 = Int32.ofNat 0 → (gm_G 609 91 [some (.ref a0), none, some (.int x2), none, some (va_rf r_4), some (va_rf r_5), some (.int x6)] [.int (Int32.ofNat 0)] h5 Q)) ∧ (v6 = Int32.ofNat 0 → (gm_G 609 91 [some (.ref a0), none, some (.int x2), none, some (va_rf r_4), some (va_rf r_5), some (.int x6)] [.int (Int32.ofNat 1)] h5 Q))) (fun e7 h8 => hh_tg h8 e7 = 21 ∧ gm_G 609 160 [some (.ref a0)] [.ref e7] h8 Q))))))) : gm_G 609 70 [some (.ref a0), none, some (.int x2), none, some (va_rf r_4), some (va_rf r_5), some (.int x6)] [] h Q := by
  refine g_aload (r := some _) rfl rfl rfl (pc' := 71) ?_
  obtain ⟨ht1, H⟩ := H
  refine g_getRv rfl rfl rfl rfl ht1 (pc' := 74) rfl (fun r2 hr2 => ?_)
  replace H := H r2 hr2
  refine g_aload (r := _) rfl rfl rfl (pc' := 76) ?_
  refine g_iload rfl rfl rfl (pc' := 77) ?_
  refine g_iload rfl rfl rfl (pc' := 79) ?_
  refine g_iconst rfl rfl rfl (pc' := 80) ?_
  obtain ⟨a3, rfl, H⟩ := H
  obtain ⟨ht4, H⟩ := H
  refine g_call rfl (y := 259) (n := 5) (pc' := 83) (g_vt ht4 rfl rfl) (by cases r_4 <;> rfl) rfl ⟨(Nat.le_of_ble_eq_true rfl), (Nat.le_of_ble_eq_true rfl), (Nat.le_of_ble_eq_true rfl)⟩ rfl (gm_G.mono H (pI_elim (fun v6 h5 H' => ?_) (fun e7 h8 H => ?_)))
  · show gm_G _ 83 _ _ _ _
    replace H := H'
    clear H'
    refine g_if_ne rfl (pc' := 86) (pt := 90) rfl rfl ⟨fun hc => ?_, fun hc => ?_⟩
    · replace H := H.1 hc
      refine g_iconst rfl rfl rfl (pc' := 91) ?_
      exact g_weak (show gm_Lle [some _, none, some _, none, some _, some _, some _] _ from ⟨rfl, ⟨rfl, ⟨rfl, ⟨rfl, ⟨rfl, trivial⟩⟩⟩⟩⟩) H
    · replace H := H.2 hc
      refine g_iconst rfl rfl rfl (pc' := 87) ?_
      refine g_goto rfl (pc' := 91) rfl ?_
      exact g_weak (show gm_Lle [some _, none, some _, none, some _, some _, some _] _ from ⟨rfl, ⟨rfl, ⟨rfl, ⟨rfl, ⟨rfl, trivial⟩⟩⟩⟩⟩) H
  · exact ⟨H.1, g_weak (show gm_Lle [some _] _ from ⟨rfl, trivial⟩) H.2⟩
set_option maxRecDepth 20000 in
theorem w_609_91 {a0 : Nat} {x2 : Int32} {r_4 : Option Nat} {r_5 : Option Nat} {x6 : Int32} {y0 : Int32} {h : hh_T} {Q : Option Value ⊕ Nat → hh_T → Prop} (H : gm_G 431 0 [some (.int y0), some (.int (Int32.ofInt (-5)))] [] h (pV (fun h1 => (x2 < x6 → (∀ a2 h3, a2 = hh_sz h1 → h3 = hh_al h1 46 0 8 → (gm_sub (hh_tg h3 a0) 0 = true ∧ (∃ a5, r_4 = some a5 ∧ (gm_sub (hh_tg h3 a5) 42 = true ∧ (gm_G 389 0 [some (.ref a2), some (.ref a0), some (.int (hh_i h3 a0 41)), some (.int (hh_i h3 a5 1)), some (.int x2), some (.int (x6 - x2))] [] h3 (pV (fun h7 => hh_tg h7 a0 = 1 ∧ (gm_G 605 0 [some (.ref a0), some (va_rf r_5), some (.ref a2)] [] h7 (pV (fun h9 => gm_G 609 136 [some (.ref a0), none, some (.int x2), none, some (.ref a5), some (va_rf r_5), some (.int x6)] [] h9 Q) (fun e10 h11 => hh_tg h11 e10 = 21 ∧ gm_G 609 160 [some (.ref a0)] [.ref e10] h11 Q)))) (fun e12 h13 => hh_tg h13 e12 = 21 ∧ gm_G 609 160 [some (.ref a0)] [.ref e12] h13 Q)))))))) ∧ (¬ x2 < x6 → (hh_tg h1 a0 = 1 ∧ (gm_G 4 0 [some (.ref a0), some (.int (Int32.ofNat 0))] [] h1 (pI (fun v16 h15 => Q (.inl (some (.int v16))) h15) (fun e17 h18 => hh_tg h18 e17 = 21 ∧ gm_G 609 160 [some (.ref a0)] [.ref e17] h18 Q)))))) (fun e19 h20 => hh_tg h20 e19 = 21 ∧ gm_G 609 160 [some (.ref a0)] [.ref e19] h20 Q))) : gm_G 609 91 [some (.ref a0), none, some (.int x2), none, some (va_rf r_4), some (va_rf r_5), some (.int x6)] [.int y0] h Q := by
  refine g_iconst rfl rfl rfl (pc' := 93) ?_
  refine g_call rfl (y := 431) (n := 2) (pc' := 96) (fun _ => rfl) rfl rfl ⟨(Nat.le_of_ble_eq_true rfl), (Nat.le_of_ble_eq_true rfl), (Nat.le_of_ble_eq_true rfl)⟩ rfl (gm_G.mono H (pV_elim (fun h1 H' => ?_) (fun e19 h20 H => ?_)))
  · show gm_G _ 96 _ _ _ _
    replace H := H'
    clear H'
    refine g_iload rfl rfl rfl (pc' := 98) ?_
    refine g_iload rfl rfl rfl (pc' := 99) ?_
    refine g_ic_gt rfl (pc' := 102) (pt := 108) rfl rfl ⟨fun hc => ?_, fun hc => ?_⟩
    · replace H := H.1 hc
      refine g_aload (r := some _) rfl rfl rfl (pc' := 109) ?_
      refine g_aload (r := _) rfl rfl rfl (pc' := 111) ?_
      refine g_new rfl (t := 46) (s := 8) rfl rfl (pc' := 114) rfl ?_
      replace H := H _ _ rfl rfl
      refine g_dup_a (r := some _) rfl rfl (pc' := 115) ?_
      refine g_aload (r := some _) rfl rfl rfl (pc' := 116) ?_
      refine g_aload (r := some _) rfl rfl rfl (pc' := 117) ?_
      obtain ⟨ht4, H⟩ := H
      refine g_getI rfl rfl rfl rfl ht4 (pc' := 120) rfl ?_
      refine g_aload (r := _) rfl rfl rfl (pc' := 122) ?_
      obtain ⟨a5, rfl, H⟩ := H
      obtain ⟨ht6, H⟩ := H
      refine g_getI rfl rfl rfl rfl ht6 (pc' := 125) rfl ?_
      refine g_iload rfl rfl rfl (pc' := 126) ?_
      refine g_iload rfl rfl rfl (pc' := 128) ?_
      refine g_iload rfl rfl rfl (pc' := 129) ?_
      refine g_isub rfl rfl (pc' := 130) ?_
      refine g_call rfl (y := 389) (n := 6) (pc' := 133) (fun _ => rfl) rfl rfl ⟨(Nat.le_of_ble_eq_true rfl), (Nat.le_of_ble_eq_true rfl), (Nat.le_of_ble_eq_true rfl)⟩ rfl (gm_G.mono H (pV_elim (fun h7 H' => ?_) (fun e12 h13 H => ?_)))
      · show gm_G _ 133 _ _ _ _
        replace H := H'
        clear H'
        obtain ⟨ht8, H⟩ := H
        refine g_call rfl (y := 605) (n := 3) (pc' := 136) (g_vt ht8 rfl rfl) (by cases r_5 <;> rfl) rfl ⟨(Nat.le_of_ble_eq_true rfl), (Nat.le_of_ble_eq_true rfl), (Nat.le_of_ble_eq_true rfl)⟩ rfl (gm_G.mono H (pV_elim (fun h9 H' => ?_) (fun e10 h11 H => ?_)))
        · show gm_G _ 136 _ _ _ _
          replace H := H'
          clear H'
          exact g_weak (show gm_Lle [some _, none, some _, none, some _, some _, some _] _ from ⟨rfl, ⟨rfl, ⟨rfl, ⟨rfl, ⟨rfl, trivial⟩⟩⟩⟩⟩) H
        · exact ⟨H.1, g_weak (show gm_Lle [some _] _ from ⟨rfl, trivial⟩) H.2⟩
      · exact ⟨H.1, g_weak (show gm_Lle [some _] _ from ⟨rfl, trivial⟩) H.2⟩
    · replace H := H.2 hc
      refine g_aload (r := some _) rfl rfl rfl (pc' := 103) ?_
      refine g_iconst rfl rfl rfl (pc' := 104) ?_
      obtain ⟨ht14, H⟩ := H
      refine g_call rfl (y := 4) (n := 2) (pc' := 107) (g_vt ht14 rfl rfl) rfl rfl ⟨(Nat.le_of_ble_eq_true rfl), (Nat.le_of_ble_eq_true rfl), (Nat.le_of_ble_eq_true rfl)⟩ rfl (gm_G.mono H (pI_elim (fun v16 h15 H' => ?_) (fun e17 h18 H => ?_)))
      · show gm_G _ 107 _ _ _ _
        replace H := H'
        clear H'
        exact g_ireturn rfl (Or.inl rfl) H
      · exact ⟨H.1, g_weak (show gm_Lle [some _] _ from ⟨rfl, trivial⟩) H.2⟩
  · exact ⟨H.1, g_weak (show gm_Lle [some _] _ from ⟨rfl, trivial⟩) H.2⟩
set_option maxRecDepth 20000 in
theorem w_609_136 {a0 : Nat} {x2 : Int32} {r_4 : Option Nat} {r_5 : Option Nat} {x6 : Int32} {h : hh_T} {Q : Option Value ⊕ Nat → hh_T → Prop} (H : gm_sub (hh_tg h a0) 0 = true ∧ (∀ r2, r2 = hh_r h a0 52 → (∃ a3, r_4 = some a3 ∧ (gm_sub (hh_tg h a3) 42 = true ∧ (∃ a5, r2 = some a5 ∧ (hh_tg h a5 = 16 ∧ (gm_G 262 0 [some (.ref a5), some (va_rf r_5), some (.int (Int32.ofNat 5)), some (.int (hh_i h a3 1))] [] h (pV (fun h7 => hh_tg h7 a0 = 1 ∧ (gm_G 4 0 [some (.ref a0), some (.int (x6 - x2))] [] h7 (pI (fun v10 h9 => Q (.inl (some (.int v10))) h9) (fun e11 h12 => hh_tg h12 e11 = 21 ∧ gm_G 609 160 [some (.ref a0)] [.ref e11] h12 Q)))) (fun e13 h14 => hh_tg h14 e13 = 21 ∧ gm_G 609 160 [some (.ref a0)] [.ref e13] h14 Q))))))))) : gm_G 609 136 [some (.ref a0), none, some (.int x2), none, some (va_rf r_4), some (va_rf r_5), some (.int x6)] [] h Q := by
  refine g_aload (r := some _) rfl rfl rfl (pc' := 137) ?_
  obtain ⟨ht1, H⟩ := H
  refine g_getRv rfl rfl rfl rfl ht1 (pc' := 140) rfl (fun r2 hr2 => ?_)
  replace H := H r2 hr2
  refine g_aload (r := _) rfl rfl rfl (pc' := 142) ?_
  refine g_iconst rfl rfl rfl (pc' := 143) ?_
  refine g_aload (r := _) rfl rfl rfl (pc' := 145) ?_
  obtain ⟨a3, rfl, H⟩ := H
  obtain ⟨ht4, H⟩ := H
  refine g_getI rfl rfl rfl rfl ht4 (pc' := 148) rfl ?_
  obtain ⟨a5, rfl, H⟩ := H
  obtain ⟨ht6, H⟩ := H
  refine g_call rfl (y := 262) (n := 4) (pc' := 151) (g_vt ht6 rfl rfl) (by cases r_5 <;> rfl) rfl ⟨(Nat.le_of_ble_eq_true rfl), (Nat.le_of_ble_eq_true rfl), (Nat.le_of_ble_eq_true rfl)⟩ rfl (gm_G.mono H (pV_elim (fun h7 H' => ?_) (fun e13 h14 H => ?_)))
  · show gm_G _ 151 _ _ _ _
    replace H := H'
    clear H'
    refine g_aload (r := some _) rfl rfl rfl (pc' := 152) ?_
    refine g_iload rfl rfl rfl (pc' := 154) ?_
    refine g_iload rfl rfl rfl (pc' := 155) ?_
    refine g_isub rfl rfl (pc' := 156) ?_
    obtain ⟨ht8, H⟩ := H
    refine g_call rfl (y := 4) (n := 2) (pc' := 159) (g_vt ht8 rfl rfl) rfl rfl ⟨(Nat.le_of_ble_eq_true rfl), (Nat.le_of_ble_eq_true rfl), (Nat.le_of_ble_eq_true rfl)⟩ rfl (gm_G.mono H (pI_elim (fun v10 h9 H' => ?_) (fun e11 h12 H => ?_)))
    · show gm_G _ 159 _ _ _ _
      replace H := H'
      clear H'
      exact g_ireturn rfl (Or.inl rfl) H
    · exact ⟨H.1, g_weak (show gm_Lle [some _] _ from ⟨rfl, trivial⟩) H.2⟩
  · exact ⟨H.1, g_weak (show gm_Lle [some _] _ from ⟨rfl, trivial⟩) H.2⟩
set_option maxRecDepth 20000 in
theorem w_609_160 {a0 : Nat} {ex : Nat} {h : hh_T} {Q : Option Value ⊕ Nat → hh_T → Prop} (H : hh_tg h a0 = 1 ∧ (gm_G 1 0 [some (.ref a0), some (.ref ex)] [] h (pI (fun v3 h2 => Q (.inl (some (.int v3))) h2) (fun e4 h5 => hh_tg h5 e4 = 21 ∧ Q (.inr e4) h5)))) : gm_G 609 160 [some (.ref a0)] [.ref ex] h Q := by
  refine g_astore (r := some _) rfl rfl rfl (pc' := 162) ?_
  refine g_aload (r := some _) rfl rfl rfl (pc' := 163) ?_
  refine g_aload (r := some _) rfl rfl rfl (pc' := 165) ?_
  obtain ⟨ht1, H⟩ := H
  refine g_call rfl (y := 1) (n := 2) (pc' := 168) (g_vt ht1 rfl rfl) rfl rfl ⟨(Nat.le_of_ble_eq_true rfl), (Nat.le_of_ble_eq_true rfl), (Nat.le_of_ble_eq_true rfl)⟩ rfl (gm_G.mono H (pI_elim (fun v3 h2 H' => ?_) (fun e4 h5 H => ?_)))
  · show gm_G _ 168 _ _ _ _
    replace H := H'
    clear H'
    exact g_ireturn rfl (Or.inl rfl) H
  · exact H
set_option maxRecDepth 20000 in
theorem w_610_0 {a0 : Nat} {x1 : Int32} {h : hh_T} {Q : Option Value ⊕ Nat → hh_T → Prop} (H : hh_tg h a0 = 1 ∧ (gm_G 243 0 [some (.ref a0)] [] h (pV (fun h2 => hh_tg h2 a0 = 1 ∧ (gm_G 456 0 [some (.ref a0)] [] h2 (pV (fun h4 => hh_tg h4 a0 = 1 ∧ (gm_G 17 0 [some (.ref a0)] [] h4 (pI (fun v7 h6 => (v7 < Int32.ofNat 0 → (gm_G 610 73 [some (.ref a0), some (.int x1), some (.int v7)] [] h6 Q)) ∧ (¬ v7 < Int32.ofNat 0 → (gm_sub (hh_tg h6 a0) 0 = true ∧ (∀ r9, r9 = hh_r h6 a0 58 → (gm_G 344 0 [some (va_rf r9), some (.int (Int32.ofNat 0)), some (.int v7)] [] h6 (pI (fun v11 h10 => (v11 = Int32.ofNat 0 → (gm_G 610 73 [some (.ref a0), some (.int x1), some (.int v7)] [] h10 Q)) ∧ (¬ v11 = Int32.ofNat 0 → (gm_sub (hh_tg h10 a0) 0 = true ∧ (∀ r13, r13 = hh_r h10 a0 58 → (∀ r14, r14 = hh_r h10 a0 58 → (∃ a15, r14 = some a15 ∧ (gm_sub (hh_tg h10 a15) 12 = true ∧ (gm_G 339 0 [some (va_rf r13), some (.int (v7 + (Int32.ofNat 1))), some (.int (hh_i h10 a15 1))] [] h10 (pI (fun v18 h17 => (v18 = Int32.ofNat 0 → (gm_G 610 73 [some (.ref a0), some (.int x1), some (.int v7)] [] h17 Q)) ∧ (¬ v18 = Int32.ofNat 0 → (gm_G 610 49 [some (.ref a0), some (.int x1), some (.int v7)] [] h17 Q))) (fun e19 h20 => hh_tg h20 e19 = 21 ∧ gm_G 610 302 [some (.ref a0)] [.ref e19] h20 Q)))))))))) (fun e21 h22 => hh_tg h22 e21 = 21 ∧ gm_G 610 302 [some (.ref a0)] [.ref e21] h22 Q))))))) (fun e23 h24 => hh_tg h24 e23 = 21 ∧ gm_G 610 302 [some (.ref a0)] [.ref e23] h24 Q)))) (fun e25 h26 => hh_tg h26 e25 = 21 ∧ gm_G 610 302 [some (.ref a0)] [.ref e25] h26 Q)))) (fun e27 h28 => hh_tg h28 e27 = 21 ∧ Q (.inr e27) h28)))) : gm_G 610 0 [some (.ref a0), some (.int x1)] [] h Q := by
  refine g_aload (r := some _) rfl rfl rfl (pc' := 1) ?_
  obtain ⟨ht1, H⟩ := H
  refine g_call rfl (y := 243) (n := 1) (pc' := 4) (g_vt ht1 rfl rfl) rfl rfl ⟨(Nat.le_of_ble_eq_true rfl), (Nat.le_of_ble_eq_true rfl), (Nat.le_of_ble_eq_true rfl)⟩ rfl (gm_G.mono H (pV_elim (fun h2 H' => ?_) (fun e27 h28 H => ?_)))
  · show gm_G _ 4 _ _ _ _
    replace H := H'
    clear H'
    refine g_aload (r := some _) rfl rfl rfl (pc' := 5) ?_
    obtain ⟨ht3, H⟩ := H
    refine g_call rfl (y := 456) (n := 1) (pc' := 8) (g_vt ht3 rfl rfl) rfl rfl ⟨(Nat.le_of_ble_eq_true rfl), (Nat.le_of_ble_eq_true rfl), (Nat.le_of_ble_eq_true rfl)⟩ rfl (gm_G.mono H (pV_elim (fun h4 H' => ?_) (fun e25 h26 H => ?_)))
    · show gm_G _ 8 _ _ _ _
      replace H := H'
      clear H'
      refine g_aload (r := some _) rfl rfl rfl (pc' := 9) ?_
      obtain ⟨ht5, H⟩ := H
      refine g_call rfl (y := 17) (n := 1) (pc' := 12) (g_vt ht5 rfl rfl) rfl rfl ⟨(Nat.le_of_ble_eq_true rfl), (Nat.le_of_ble_eq_true rfl), (Nat.le_of_ble_eq_true rfl)⟩ rfl (gm_G.mono H (pI_elim (fun v7 h6 H' => ?_) (fun e23 h24 H => ?_)))
      · show gm_G _ 12 _ _ _ _
        replace H := H'
        clear H'
        refine g_istore rfl rfl rfl (pc' := 13) ?_
        refine g_iload rfl rfl rfl (pc' := 14) ?_
        refine g_if_lt rfl (pc' := 17) (pt := 73) rfl rfl ⟨fun hc => ?_, fun hc => ?_⟩
        · replace H := H.1 hc
          exact g_weak (show gm_Lle [some _, some _, some _] _ from ⟨rfl, ⟨rfl, ⟨rfl, trivial⟩⟩⟩) H
        · replace H := H.2 hc
          refine g_aload (r := some _) rfl rfl rfl (pc' := 18) ?_
          obtain ⟨ht8, H⟩ := H
          refine g_getRv rfl rfl rfl rfl ht8 (pc' := 21) rfl (fun r9 hr9 => ?_)
          replace H := H r9 hr9
          refine g_iconst rfl rfl rfl (pc' := 22) ?_
          refine g_iload rfl rfl rfl (pc' := 23) ?_
          refine g_call rfl (y := 344) (n := 3) (pc' := 26) (fun _ => rfl) (by cases r9 <;> rfl) rfl ⟨(Nat.le_of_ble_eq_true rfl), (Nat.le_of_ble_eq_true rfl), (Nat.le_of_ble_eq_true rfl)⟩ rfl (gm_G.mono H (pI_elim (fun v11 h10 H' => ?_) (fun e21 h22 H => ?_)))
          · show gm_G _ 26 _ _ _ _
            replace H := H'
            clear H'
            refine g_if_eq rfl (pc' := 29) (pt := 73) rfl rfl ⟨fun hc => ?_, fun hc => ?_⟩
            · replace H := H.1 hc
              exact g_weak (show gm_Lle [some _, some _, some _] _ from ⟨rfl, ⟨rfl, ⟨rfl, trivial⟩⟩⟩) H
            · replace H := H.2 hc
              refine g_aload (r := some _) rfl rfl rfl (pc' := 30) ?_
              obtain ⟨ht12, H⟩ := H
              refine g_getRv rfl rfl rfl rfl ht12 (pc' := 33) rfl (fun r13 hr13 => ?_)
              replace H := H r13 hr13
              refine g_iload rfl rfl rfl (pc' := 34) ?_
              refine g_iconst rfl rfl rfl (pc' := 35) ?_
              refine g_iadd rfl rfl (pc' := 36) ?_
              refine g_aload (r := some _) rfl rfl rfl (pc' := 37) ?_
              refine g_getRv rfl rfl rfl rfl ht12 (pc' := 40) rfl (fun r14 hr14 => ?_)
              replace H := H r14 hr14
              obtain ⟨a15, rfl, H⟩ := H
              obtain ⟨ht16, H⟩ := H
              refine g_getI rfl rfl rfl rfl ht16 (pc' := 43) rfl ?_
              refine g_call rfl (y := 339) (n := 3) (pc' := 46) (fun _ => rfl) (by cases r13 <;> rfl) rfl ⟨(Nat.le_of_ble_eq_true rfl), (Nat.le_of_ble_eq_true rfl), (Nat.le_of_ble_eq_true rfl)⟩ rfl (gm_G.mono H (pI_elim (fun v18 h17 H' => ?_) (fun e19 h20 H => ?_)))
              · show gm_G _ 46 _ _ _ _
                replace H := H'
                clear H'
                refine g_if_eq rfl (pc' := 49) (pt := 73) rfl rfl ⟨fun hc => ?_, fun hc => ?_⟩
                · replace H := H.1 hc
                  exact g_weak (show gm_Lle [some _, some _, some _] _ from ⟨rfl, ⟨rfl, ⟨rfl, trivial⟩⟩⟩) H
                · replace H := H.2 hc
                  exact g_weak (show gm_Lle [some _, some _, some _] _ from ⟨rfl, ⟨rfl, ⟨rfl, trivial⟩⟩⟩) H
              · exact ⟨H.1, g_weak (show gm_Lle [some _] _ from ⟨rfl, trivial⟩) H.2⟩
          · exact ⟨H.1, g_weak (show gm_Lle [some _] _ from ⟨rfl, trivial⟩) H.2⟩
      · exact ⟨H.1, g_weak (show gm_Lle [some _] _ from ⟨rfl, trivial⟩) H.2⟩
    · exact ⟨H.1, g_weak (show gm_Lle [some _] _ from ⟨rfl, trivial⟩) H.2⟩
  · exact H
set_option maxRecDepth 20000 in
theorem w_610_49 {a0 : Nat} {x1 : Int32} {x2 : Int32} {h : hh_T} {Q : Option Value ⊕ Nat → hh_T → Prop} (H : gm_sub (hh_tg h a0) 0 = true ∧ (∀ r2, r2 = hh_r h a0 58 → (∀ r3, r3 = hh_r h a0 58 → (∃ a4, r3 = some a4 ∧ (gm_sub (hh_tg h a4) 12 = true ∧ (gm_G 344 0 [some (va_rf r2), some (.int (x2 + (Int32.ofNat 1))), some (.int (hh_i h a4 1))] [] h (pI (fun v7 h6 => (v7 = Int32.ofNat 0 → (gm_G 610 73 [some (.ref a0), some (.int x1), some (.int x2)] [] h6 Q)) ∧ (¬ v7 = Int32.ofNat 0 → (gm_G 610 74 [some (.ref a0), some (.int x1), some (.int x2)] [.int (Int32.ofNat 1)] h6 Q))) (fun e8 h9 => hh_tg h9 e8 = 21 ∧ gm_G 610 302 [some (.ref a0)] [.ref e8] h9 Q)))))))) : gm_G 610 49 [some (.ref a0), some (.int x1), some (.int x2)] [] h Q := by
  refine g_aload (r := some _) rfl rfl rfl (pc' := 50) ?_
  obtain ⟨ht1, H⟩ := H
  refine g_getRv rfl rfl rfl rfl ht1 (pc' := 53) rfl (fun r2 hr2 => ?_)
  replace H := H r2 hr2
  refine g_iload rfl rfl rfl (pc' := 54) ?_
  refine g_iconst rfl rfl rfl (pc' := 55) ?_
  refine g_iadd rfl rfl (pc' := 56) ?_
  refine g_aload (r := some _) rfl rfl rfl (pc' := 57) ?_
  refine g_getRv rfl rfl rfl rfl ht1 (pc' := 60) rfl (fun r3 hr3 => ?_)
  replace H := H r3 hr3
  obtain ⟨a4, rfl, H⟩ := H
  obtain ⟨ht5, H⟩ := H
  refine g_getI rfl rfl rfl rfl ht5 (pc' := 63) rfl ?_
  refine g_call rfl (y := 344) (n := 3) (pc' := 66) (fun _ => rfl) (by cases r2 <;> rfl) rfl ⟨(Nat.le_of_ble_eq_true rfl), (Nat.le_of_ble_eq_true rfl), (Nat.le_of_ble_eq_true rfl)⟩ rfl (gm_G.mono H (pI_elim (fun v7 h6 H' => ?_) (fun e8 h9 H => ?_)))
  · show gm_G _ 66 _ _ _ _
    replace H := H'
    clear H'
    refine g_if_eq rfl (pc' := 69) (pt := 73) rfl rfl ⟨fun hc => ?_, fun hc => ?_⟩
    · replace H := H.1 hc
      exact g_weak (show gm_Lle [some _, some _, some _] _ from ⟨rfl, ⟨rfl, ⟨rfl, trivial⟩⟩⟩) H
    · replace H := H.2 hc
      refine g_iconst rfl rfl rfl (pc' := 70) ?_
      refine g_goto rfl (pc' := 74) rfl ?_
      exact g_weak (show gm_Lle [some _, some _, some _] _ from ⟨rfl, ⟨rfl, ⟨rfl, trivial⟩⟩⟩) H
  · exact ⟨H.1, g_weak (show gm_Lle [some _] _ from ⟨rfl, trivial⟩) H.2⟩
set_option maxRecDepth 20000 in
theorem w_610_73 {a0 : Nat} {x1 : Int32} {x2 : Int32} {h : hh_T} {Q : Option Value ⊕ Nat → hh_T → Prop} (H : gm_G 610 74 [some (.ref a0), some (.int x1), some (.int x2)] [.int (Int32.ofNat 0)] h Q) : gm_G 610 73 [some (.ref a0), some (.int x1), some (.int x2)] [] h Q := by
  refine g_iconst rfl rfl rfl (pc' := 74) ?_
  exact g_weak (show gm_Lle [some _, some _, some _] _ from ⟨rfl, ⟨rfl, ⟨rfl, trivial⟩⟩⟩) H
set_option maxRecDepth 20000 in
theorem w_610_74 {a0 : Nat} {x1 : Int32} {x2 : Int32} {y0 : Int32} {h : hh_T} {Q : Option Value ⊕ Nat → hh_T → Prop} (H : gm_G 457 0 [some (.int y0)] [] h (pV (fun h1 => hh_tg h1 a0 = 1 ∧ (gm_G 488 0 [some (.ref a0), some (.int x1)] [] h1 (pR (fun r4 h3 => ∃ a5, r4 = some a5 ∧ (gm_sub (hh_tg h3 a5) 23 = true ∧ (∀ r7, r7 = hh_r h3 a5 9 → (gm_sub (hh_tg h3 a0) 0 = true ∧ (∀ r9, r9 = hh_r h3 a0 58 → (hh_tg h3 a0 = 1 ∧ (gm_G 533 0 [some (.ref a0), some (va_rf r7), some (.int (hh_i h3 a0 41)), some (va_rf r9), some (.int (Int32.ofNat 0)), some (.int x2), some (.int (Int32.ofNat 0))] [] h3 (pI (fun v12 h11 => gm_sub (hh_tg h11 a5) 23 = true ∧ (∀ r14, r14 = hh_r h11 a5 9 → (∃ a15, r14 = some a15 ∧ (gm_sub (hh_tg h11 a15) 24 = true ∧ (∀ r17, r17 = hh_r h11 a15 2 → (∃ a18, r17 = some a18 ∧ ((hh_tg h11 a18 = 104 ∨ 200 ≤ hh_tg h11 a18) ∧ (∃ n19, gm_ix v12 n19 (hh_ln h11 a18) ∧ (∀ r21, r21 = hh_r h11 a18 n19 → (∃ a22, r21 = some a22 ∧ (gm_sub (hh_tg h11 a22) 25 = true ∧ ((¬ (hh_i h11 a22 1) = (Int32.ofNat 1) → (gm_G 610 126 [some (.ref a0), some (.int x1), some (.int x2), some (.ref a5), some (.int v12)] [.int (Int32.ofNat 0)] h11 Q)) ∧ ((hh_i h11 a22 1) = (Int32.ofNat 1) → (gm_G 610 126 [some (.ref a0), some (.int x1), some (.int x2), some (.ref a5), some (.int v12)] [.int (Int32.ofNat 1)] h11 Q)))))))))))))) (fun e24 h25 => hh_tg h25 e24 = 21 ∧ gm_G 610 302 [some (.ref a0)] [.ref e24] h25 Q))))))))) (fun e26 h27 => hh_tg h27 e26 = 21 ∧ gm_G 610 302 [some (.ref a0)] [.ref e26] h27 Q)))) (fun e28 h29 => hh_tg h29 e28 = 21 ∧ gm_G 610 302 [some (.ref a0)] [.ref e28] h29 Q))) : gm_G 610 74 [some (.ref a0), some (.int x1), some (.int x2)] [.int y0] h Q := by
  refine g_call rfl (y := 457) (n := 1) (pc' := 77) (fun _ => rfl) rfl rfl ⟨(Nat.le_of_ble_eq_true rfl), (Nat.le_of_ble_eq_true rfl), (Nat.le_of_ble_eq_true rfl)⟩ rfl (gm_G.mono H (pV_elim (fun h1 H' => ?_) (fun e28 h29 H => ?_)))
  · show gm_G _ 77 _ _ _ _
    replace H := H'
    clear H'
    refine g_aload (r := some _) rfl rfl rfl (pc' := 78) ?_
    refine g_iload rfl rfl rfl (pc' := 79) ?_
    obtain ⟨ht2, H⟩ := H
    refine g_call rfl (y := 488) (n := 2) (pc' := 82) (g_vt ht2 rfl rfl) rfl rfl ⟨(Nat.le_of_ble_eq_true rfl), (Nat.le_of_ble_eq_true rfl), (Nat.le_of_ble_eq_true rfl)⟩ rfl (gm_G.mono H (pR_elim (fun r4 h3 H' => ?_) (fun e26 h27 H => ?_)))
    · show gm_G _ 82 _ _ _ _
      replace H := H'
      clear H'
      refine g_astore (r := _) rfl rfl rfl (pc' := 83) ?_
      refine g_aload (r := some _) rfl rfl rfl (pc' := 84) ?_
      refine g_aload (r := _) rfl rfl rfl (pc' := 85) ?_
      obtain ⟨a5, rfl, H⟩ := H
      obtain ⟨ht6, H⟩ := H
      refine g_getRv rfl rfl rfl rfl ht6 (pc' := 88) rfl (fun r7 hr7 => ?_)
      replace H := H r7 hr7
      refine g_aload (r := some _) rfl rfl rfl (pc' := 89) ?_
      obtain ⟨ht8, H⟩ := H
      refine g_getI rfl rfl rfl rfl ht8 (pc' := 92) rfl ?_
      refine g_aload (r := some _) rfl rfl rfl (pc' := 93) ?_
      refine g_getRv rfl rfl rfl rfl ht8 (pc' := 96) rfl (fun r9 hr9 => ?_)
      replace H := H r9 hr9
      refine g_iconst rfl rfl rfl (pc' := 97) ?_
      refine g_iload rfl rfl rfl (pc' := 98) ?_
      refine g_iconst rfl rfl rfl (pc' := 99) ?_
      obtain ⟨ht10, H⟩ := H
      refine g_call rfl (y := 533) (n := 7) (pc' := 102) (g_vt ht10 rfl rfl) (by cases r7 <;> cases r9 <;> rfl) rfl ⟨(Nat.le_of_ble_eq_true rfl), (Nat.le_of_ble_eq_true rfl), (Nat.le_of_ble_eq_true rfl)⟩ rfl (gm_G.mono H (pI_elim (fun v12 h11 H' => ?_) (fun e24 h25 H => ?_)))
      · show gm_G _ 102 _ _ _ _
        replace H := H'
        clear H'
        refine g_istore rfl rfl rfl (pc' := 104) ?_
        refine g_aload (r := some _) rfl rfl rfl (pc' := 105) ?_
        obtain ⟨ht13, H⟩ := H
        refine g_getRv rfl rfl rfl rfl ht13 (pc' := 108) rfl (fun r14 hr14 => ?_)
        replace H := H r14 hr14
        obtain ⟨a15, rfl, H⟩ := H
        obtain ⟨ht16, H⟩ := H
        refine g_getRv rfl rfl rfl rfl ht16 (pc' := 111) rfl (fun r17 hr17 => ?_)
        replace H := H r17 hr17
        refine g_iload rfl rfl rfl (pc' := 113) ?_
        obtain ⟨a18, rfl, H⟩ := H
        obtain ⟨ht20, H⟩ := H
        obtain ⟨n19, hn19, H⟩ := H
        refine g_aaloadv rfl ht20 hn19 (pc' := 114) rfl (fun r21 hr21 => ?_)
        replace H := H r21 hr21
        obtain ⟨a22, rfl, H⟩ := H
        obtain ⟨ht23, H⟩ := H
        refine g_getI rfl rfl rfl rfl ht23 (pc' := 117) rfl ?_
        refine g_iconst rfl rfl rfl (pc' := 118) ?_
        refine g_ic_ne rfl (pc' := 121) (pt := 125) rfl rfl ⟨fun hc => ?_, fun hc => ?_⟩
        · replace H := H.1 hc
          refine g_iconst rfl rfl rfl (pc' := 126) ?_
          exact g_weak (show gm_Lle [some _, some _, some _, some _, some _] _ from ⟨rfl, ⟨rfl, ⟨rfl, ⟨rfl, ⟨rfl, trivial⟩⟩⟩⟩⟩) H
        · replace H := H.2 hc
          refine g_iconst rfl rfl rfl (pc' := 122) ?_
          refine g_goto rfl (pc' := 126) rfl ?_
          exact g_weak (show gm_Lle [some _, some _, some _, some _, some _] _ from ⟨rfl, ⟨rfl, ⟨rfl, ⟨rfl, ⟨rfl, trivial⟩⟩⟩⟩⟩) H
      · exact ⟨H.1, g_weak (show gm_Lle [some _] _ from ⟨rfl, trivial⟩) H.2⟩
    · exact ⟨H.1, g_weak (show gm_Lle [some _] _ from ⟨rfl, trivial⟩) H.2⟩
  · exact ⟨H.1, g_weak (show gm_Lle [some _] _ from ⟨rfl, trivial⟩) H.2⟩
set_option maxRecDepth 20000 in
theorem w_610_126 {a0 : Nat} {x1 : Int32} {x2 : Int32} {r_3 : Option Nat} {x4 : Int32} {y0 : Int32} {h : hh_T} {Q : Option Value ⊕ Nat → hh_T → Prop} (H : gm_G 431 0 [some (.int y0), some (.int (Int32.ofInt (-10)))] [] h (pV (fun h1 => ∃ a2, r_3 = some a2 ∧ (gm_sub (hh_tg h1 a2) 23 = true ∧ (∀ r4, r4 = hh_r h1 a2 9 → (gm_sub (hh_tg h1 a0) 0 = true ∧ (∀ r6, r6 = hh_r h1 a0 58 → (∀ r7, r7 = hh_r h1 a0 58 → (∃ a8, r7 = some a8 ∧ (gm_sub (hh_tg h1 a8) 12 = true ∧ (hh_tg h1 a0 = 1 ∧ (gm_G 551 0 [some (.ref a0), some (va_rf r4), some (.int (hh_i h1 a0 41)), some (va_rf r6), some (.int (x2 + (Int32.ofNat 1))), some (.int (hh_i h1 a8 1))] [] h1 (pI (fun v12 h11 => gm_sub (hh_tg h11 a0) 0 = true ∧ (∀ r14, r14 = hh_r h11 a0 58 → (∀ r15, r15 = hh_r h11 a0 58 → (∀ r16, r16 = hh_r h11 a0 58 → (∃ a17, r16 = some a17 ∧ (gm_sub (hh_tg h11 a17) 12 = true ∧ (gm_G 13 0 [some (va_rf r15), some (.int (x2 + (Int32.ofNat 1))), some (.int (hh_i h11 a17 1))] [] h11 (pI (fun v20 h19 => gm_sub (hh_tg h19 a0) 0 = true ∧ (∀ r22, r22 = hh_r h19 a0 58 → (∃ a23, r22 = some a23 ∧ (gm_sub (hh_tg h19 a23) 12 = true ∧ (gm_G 233 0 [some (va_rf r14), some (.int v20), some (.int (hh_i h19 a23 1))] [] h19 (pL (fun v26 h25 => gm_sub (hh_tg h25 a2) 23 = true ∧ (∀ r28, r28 = hh_r h25 a2 9 → (∃ a29, r28 = some a29 ∧ (gm_sub (hh_tg h25 a29) 24 = true ∧ (∀ r31, r31 = hh_r h25 a29 2 → (∃ a32, r31 = some a32 ∧ ((hh_tg h25 a32 = 104 ∨ 200 ≤ hh_tg h25 a32) ∧ (∃ n33, gm_ix v12 n33 (hh_ln h25 a32) ∧ (∀ r35, r35 = hh_r h25 a32 n33 → ((∀ b, r35 = some b → gm_sub (hh_tg h25 b) 27 = true) ∧ (∃ a36, r35 = some a36 ∧ (hh_tg h25 a36 = 28 ∧ (gm_G 196 0 [some (.ref a36), some (.long v26), none] [] h25 (pI (fun v39 h38 => (¬ v39 < Int32.ofNat 0 → (gm_G 610 222 [some (.ref a0), some (.int x1), none, some (.ref a2), some (.int x4), some (.int v12), some (.long v26), none, some (.ref a36)] [.int (Int32.ofNat 0)] h38 Q)) ∧ (v39 < Int32.ofNat 0 → (gm_G 610 217 [some (.ref a0), some (.int x1), none, some (.ref a2), some (.int x4), some (.int v12), some (.long v26), none, some (.ref a36)] [] h38 Q))) (fun e40 h41 => hh_tg h41 e40 = 21 ∧ gm_G 610 302 [some (.ref a0)] [.ref e40] h41 Q))))))))))))))) (fun e42 h43 => hh_tg h43 e42 = 21 ∧ gm_G 610 302 [some (.ref a0)] [.ref e42] h43 Q))))))) (fun e44 h45 => hh_tg h45 e44 = 21 ∧ gm_G 610 302 [some (.ref a0)] [.ref e44] h45 Q))))))))) (fun e46 h47 => hh_tg h47 e46 = 21 ∧ gm_G 610 302 [some (.ref a0)] [.ref e46] h47 Q)))))))))))) (fun e48 h49 => hh_tg h49 e48 = 21 ∧ gm_G 610 302 [some (.ref a0)] [.ref e48] h49 Q))) : gm_G 610 126 [some (.ref a0), some (.int x1), some (.int x2), some (va_rf r_3), some (.int x4)] [.int y0] h Q := by
  refine g_iconst rfl rfl rfl (pc' := 128) ?_
  refine g_call rfl (y := 431) (n := 2) (pc' := 131) (fun _ => rfl) rfl rfl ⟨(Nat.le_of_ble_eq_true rfl), (Nat.le_of_ble_eq_true rfl), (Nat.le_of_ble_eq_true rfl)⟩ rfl (gm_G.mono H (pV_elim (fun h1 H' => ?_) (fun e48 h49 H => ?_)))
  · show gm_G _ 131 _ _ _ _
    replace H := H'
    clear H'
    refine g_aload (r := some _) rfl rfl rfl (pc' := 132) ?_
    refine g_aload (r := _) rfl rfl rfl (pc' := 133) ?_
    obtain ⟨a2, rfl, H⟩ := H
    obtain ⟨ht3, H⟩ := H
    refine g_getRv rfl rfl rfl rfl ht3 (pc' := 136) rfl (fun r4 hr4 => ?_)
    replace H := H r4 hr4
    refine g_aload (r := some _) rfl rfl rfl (pc' := 137) ?_
    obtain ⟨ht5, H⟩ := H
    refine g_getI rfl rfl rfl rfl ht5 (pc' := 140) rfl ?_
    refine g_aload (r := some _) rfl rfl rfl (pc' := 141) ?_
    refine g_getRv rfl rfl rfl rfl ht5 (pc' := 144) rfl (fun r6 hr6 => ?_)
    replace H := H r6 hr6
    refine g_iload rfl rfl rfl (pc' := 145) ?_
    refine g_iconst rfl rfl rfl (pc' := 146) ?_
    refine g_iadd rfl rfl (pc' := 147) ?_
    refine g_aload (r := some _) rfl rfl rfl (pc' := 148) ?_
    refine g_getRv rfl rfl rfl rfl ht5 (pc' := 151) rfl (fun r7 hr7 => ?_)
    replace H := H r7 hr7
    obtain ⟨a8, rfl, H⟩ := H
    obtain ⟨ht9, H⟩ := H
    refine g_getI rfl rfl rfl rfl ht9 (pc' := 154) rfl ?_
    obtain ⟨ht10, H⟩ := H
    refine g_call rfl (y := 551) (n := 6) (pc' := 157) (g_vt ht10 rfl rfl) (by cases r4 <;> cases r6 <;> rfl) rfl ⟨(Nat.le_of_ble_eq_true rfl), (Nat.le_of_ble_eq_true rfl), (Nat.le_of_ble_eq_true rfl)⟩ rfl (gm_G.mono H (pI_elim (fun v12 h11 H' => ?_) (fun e46 h47 H => ?_)))
    · show gm_G _ 157 _ _ _ _
      replace H := H'
      clear H'
      refine g_istore rfl rfl rfl (pc' := 159) ?_
      refine g_aload (r := some _) rfl rfl rfl (pc' := 160) ?_
      obtain ⟨ht13, H⟩ := H
      refine g_getRv rfl rfl rfl rfl ht13 (pc' := 163) rfl (fun r14 hr14 => ?_)
      replace H := H r14 hr14
      refine g_aload (r := some _) rfl rfl rfl (pc' := 164) ?_
      refine g_getRv rfl rfl rfl rfl ht13 (pc' := 167) rfl (fun r15 hr15 => ?_)
      replace H := H r15 hr15
      refine g_iload rfl rfl rfl (pc' := 168) ?_
      refine g_iconst rfl rfl rfl (pc' := 169) ?_
      refine g_iadd rfl rfl (pc' := 170) ?_
      refine g_aload (r := some _) rfl rfl rfl (pc' := 171) ?_
      refine g_getRv rfl rfl rfl rfl ht13 (pc' := 174) rfl (fun r16 hr16 => ?_)
      replace H := H r16 hr16
      obtain ⟨a17, rfl, H⟩ := H
      obtain ⟨ht18, H⟩ := H
      refine g_getI rfl rfl rfl rfl ht18 (pc' := 177) rfl ?_
      refine g_call rfl (y := 13) (n := 3) (pc' := 180) (fun _ => rfl) (by cases r15 <;> rfl) rfl ⟨(Nat.le_of_ble_eq_true rfl), (Nat.le_of_ble_eq_true rfl), (Nat.le_of_ble_eq_true rfl)⟩ rfl (gm_G.mono H (pI_elim (fun v20 h19 H' => ?_) (fun e44 h45 H => ?_)))
      · show gm_G _ 180 _ _ _ _
        replace H := H'
        clear H'
        refine g_aload (r := some _) rfl rfl rfl (pc' := 181) ?_
        obtain ⟨ht21, H⟩ := H
        refine g_getRv rfl rfl rfl rfl ht21 (pc' := 184) rfl (fun r22 hr22 => ?_)
        replace H := H r22 hr22
        obtain ⟨a23, rfl, H⟩ := H
        obtain ⟨ht24, H⟩ := H
        refine g_getI rfl rfl rfl rfl ht24 (pc' := 187) rfl ?_
        refine g_call rfl (y := 233) (n := 3) (pc' := 190) (fun _ => rfl) (by cases r14 <;> rfl) rfl ⟨(Nat.le_of_ble_eq_true rfl), (Nat.le_of_ble_eq_true rfl), (Nat.le_of_ble_eq_true rfl)⟩ rfl (gm_G.mono H (pL_elim (fun v26 h25 H' => ?_) (fun e42 h43 H => ?_)))
        · show gm_G _ 190 _ _ _ _
          replace H := H'
          clear H'
          refine g_lstore rfl rfl rfl (pc' := 192) ?_
          refine g_aload (r := some _) rfl rfl rfl (pc' := 193) ?_
          obtain ⟨ht27, H⟩ := H
          refine g_getRv rfl rfl rfl rfl ht27 (pc' := 196) rfl (fun r28 hr28 => ?_)
          replace H := H r28 hr28
          obtain ⟨a29, rfl, H⟩ := H
          obtain ⟨ht30, H⟩ := H
          refine g_getRv rfl rfl rfl rfl ht30 (pc' := 199) rfl (fun r31 hr31 => ?_)
          replace H := H r31 hr31
          refine g_iload rfl rfl rfl (pc' := 201) ?_
          obtain ⟨a32, rfl, H⟩ := H
          obtain ⟨ht34, H⟩ := H
          obtain ⟨n33, hn33, H⟩ := H
          refine g_aaloadv rfl ht34 hn33 (pc' := 202) rfl (fun r35 hr35 => ?_)
          replace H := H r35 hr35
          obtain ⟨Hc, H⟩ := H
          refine g_cast rfl Hc (pc' := 205) rfl ?_
          refine g_astore (r := _) rfl rfl rfl (pc' := 207) ?_
          refine g_aload (r := _) rfl rfl rfl (pc' := 209) ?_
          refine g_lload rfl rfl rfl (pc' := 211) ?_
          obtain ⟨a36, rfl, H⟩ := H
          obtain ⟨ht37, H⟩ := H
          refine g_call rfl (y := 196) (n := 2) (pc' := 214) (g_vt ht37 rfl rfl) rfl rfl ⟨(Nat.le_of_ble_eq_true rfl), (Nat.le_of_ble_eq_true rfl), (Nat.le_of_ble_eq_true rfl)⟩ rfl (gm_G.mono H (pI_elim (fun v39 h38 H' => ?_) (fun e40 h41 H => ?_)))
          · show gm_G _ 214 _ _ _ _
            replace H := H'
            clear H'
            refine g_if_ge rfl (pc' := 217) (pt := 221) rfl rfl ⟨fun hc => ?_, fun hc => ?_⟩
            · replace H := H.1 hc
              refine g_iconst rfl rfl rfl (pc' := 222) ?_
              exact g_weak (show gm_Lle [some _, some _, none, some _, some _, some _, some _, none, some _] _ from ⟨rfl, ⟨rfl, ⟨rfl, ⟨rfl, ⟨rfl, ⟨rfl, ⟨rfl, trivial⟩⟩⟩⟩⟩⟩⟩) H
            · replace H := H.2 hc
              exact g_weak (show gm_Lle [some _, some _, none, some _, some _, some _, some _, none, some _] _ from ⟨rfl, ⟨rfl, ⟨rfl, ⟨rfl, ⟨rfl, ⟨rfl, ⟨rfl, trivial⟩⟩⟩⟩⟩⟩⟩) H
          · exact ⟨H.1, g_weak (show gm_Lle [some _] _ from ⟨rfl, trivial⟩) H.2⟩
        · exact ⟨H.1, g_weak (show gm_Lle [some _] _ from ⟨rfl, trivial⟩) H.2⟩
      · exact ⟨H.1, g_weak (show gm_Lle [some _] _ from ⟨rfl, trivial⟩) H.2⟩
    · exact ⟨H.1, g_weak (show gm_Lle [some _] _ from ⟨rfl, trivial⟩) H.2⟩
  · exact ⟨H.1, g_weak (show gm_Lle [some _] _ from ⟨rfl, trivial⟩) H.2⟩
set_option maxRecDepth 20000 in
theorem w_610_217 {a0 : Nat} {x1 : Int32} {r_3 : Option Nat} {x4 : Int32} {x5 : Int32} {j6 : Int64} {r_8 : Option Nat} {h : hh_T} {Q : Option Value ⊕ Nat → hh_T → Prop} (H : gm_G 610 222 [some (.ref a0), some (.int x1), none, some (va_rf r_3), some (.int x4), some (.int x5), some (.long j6), none, some (va_rf r_8)] [.int (Int32.ofNat 1)] h Q) : gm_G 610 217 [some (.ref a0), some (.int x1), none, some (va_rf r_3), some (.int x4), some (.int x5), some (.long j6), none, some (va_rf r_8)] [] h Q := by
  refine g_iconst rfl rfl rfl (pc' := 218) ?_
  refine g_goto rfl (pc' := 222) rfl ?_
  exact g_weak (show gm_Lle [some _, some _, none, some _, some _, some _, some _, none, some _] _ from ⟨rfl, ⟨rfl, ⟨rfl, ⟨rfl, ⟨rfl, ⟨rfl, ⟨rfl, trivial⟩⟩⟩⟩⟩⟩⟩) H
set_option maxRecDepth 20000 in
theorem w_610_222 {a0 : Nat} {x1 : Int32} {r_3 : Option Nat} {x4 : Int32} {x5 : Int32} {j6 : Int64} {r_8 : Option Nat} {y0 : Int32} {h : hh_T} {Q : Option Value ⊕ Nat → hh_T → Prop} (H : gm_G 431 0 [some (.int y0), some (.int (Int32.ofInt (-4)))] [] h (pV (fun h1 => gm_sub (hh_tg h1 a0) 0 = true ∧ (hh_tg h1 a0 = 1 ∧ (gm_G 393 0 [some (.ref a0), some (va_rf r_8), some (.int (hh_i h1 a0 41)), some (.int (Int32.ofNat 3))] [] h1 (pI (fun v5 h4 => gm_G 431 0 [some (.int v5), some (.int (Int32.ofInt (-6)))] [] h4 (pV (fun h6 => ∃ a7, r_8 = some a7 ∧ (gm_sub (hh_tg h6 a7) 25 = true ∧ ((¬ (hh_i h6 a7 6) < (Int32.ofNat 8) → (gm_G 610 258 [some (.ref a0), some (.int x1), none, some (va_rf r_3), some (.int x4), some (.int x5), some (.long j6)] [.int (Int32.ofNat 0)] h6 Q)) ∧ ((hh_i h6 a7 6) < (Int32.ofNat 8) → (gm_G 610 258 [some (.ref a0), some (.int x1), none, some (va_rf r_3), some (.int x4), some (.int x5), some (.long j6)] [.int (Int32.ofNat 1)] h6 Q))))) (fun e9 h10 => hh_tg h10 e9 = 21 ∧ gm_G 610 302 [some (.ref a0)] [.ref e9] h10 Q))) (fun e11 h12 => hh_tg h12 e11 = 21 ∧ gm_G 610 302 [some (.ref a0)] [.ref e11] h12 Q))))) (fun e13 h14 => hh_tg h14 e13 = 21 ∧ gm_G 610 302 [some (.ref a0)] [.ref e13] h14 Q))) : gm_G 610 222 [some (.ref a0), some (.int x1), none, some (va_rf r_3), some (.int x4), some (.int x5), some (.long j6), none, some (va_rf r_8)] [.int y0] h Q := by
  refine g_iconst rfl rfl rfl (pc' := 224) ?_
  refine g_call rfl (y := 431) (n := 2) (pc' := 227) (fun _ => rfl) rfl rfl ⟨(Nat.le_of_ble_eq_true rfl), (Nat.le_of_ble_eq_true rfl), (Nat.le_of_ble_eq_true rfl)⟩ rfl (gm_G.mono H (pV_elim (fun h1 H' => ?_) (fun e13 h14 H => ?_)))
  · show gm_G _ 227 _ _ _ _
    replace H := H'
    clear H'
    refine g_aload (r := some _) rfl rfl rfl (pc' := 228) ?_
    refine g_aload (r := _) rfl rfl rfl (pc' := 230) ?_
    refine g_aload (r := some _) rfl rfl rfl (pc' := 231) ?_
    obtain ⟨ht2, H⟩ := H
    refine g_getI rfl rfl rfl rfl ht2 (pc' := 234) rfl ?_
    refine g_iconst rfl rfl rfl (pc' := 235) ?_
    obtain ⟨ht3, H⟩ := H
    refine g_call rfl (y := 393) (n := 4) (pc' := 238) (g_vt ht3 rfl rfl) (by cases r_8 <;> rfl) rfl ⟨(Nat.le_of_ble_eq_true rfl), (Nat.le_of_ble_eq_true rfl), (Nat.le_of_ble_eq_true rfl)⟩ rfl (gm_G.mono H (pI_elim (fun v5 h4 H' => ?_) (fun e11 h12 H => ?_)))
    · show gm_G _ 238 _ _ _ _
      replace H := H'
      clear H'
      refine g_iconst rfl rfl rfl (pc' := 240) ?_
      refine g_call rfl (y := 431) (n := 2) (pc' := 243) (fun _ => rfl) rfl rfl ⟨(Nat.le_of_ble_eq_true rfl), (Nat.le_of_ble_eq_true rfl), (Nat.le_of_ble_eq_true rfl)⟩ rfl (gm_G.mono H (pV_elim (fun h6 H' => ?_) (fun e9 h10 H => ?_)))
      · show gm_G _ 243 _ _ _ _
        replace H := H'
        clear H'
        refine g_aload (r := _) rfl rfl rfl (pc' := 245) ?_
        obtain ⟨a7, rfl, H⟩ := H
        obtain ⟨ht8, H⟩ := H
        refine g_getI rfl rfl rfl rfl ht8 (pc' := 248) rfl ?_
        refine g_iconst rfl rfl rfl (pc' := 250) ?_
        refine g_ic_ge rfl (pc' := 253) (pt := 257) rfl rfl ⟨fun hc => ?_, fun hc => ?_⟩
        · replace H := H.1 hc
          refine g_iconst rfl rfl rfl (pc' := 258) ?_
          exact g_weak (show gm_Lle [some _, some _, none, some _, some _, some _, some _] _ from ⟨rfl, ⟨rfl, ⟨rfl, ⟨rfl, ⟨rfl, ⟨rfl, trivial⟩⟩⟩⟩⟩⟩) H
        · replace H := H.2 hc
          refine g_iconst rfl rfl rfl (pc' := 254) ?_
          refine g_goto rfl (pc' := 258) rfl ?_
          exact g_weak (show gm_Lle [some _, some _, none, some _, some _, some _, some _] _ from ⟨rfl, ⟨rfl, ⟨rfl, ⟨rfl, ⟨rfl, ⟨rfl, trivial⟩⟩⟩⟩⟩⟩) H
      · exact ⟨H.1, g_weak (show gm_Lle [some _] _ from ⟨rfl, trivial⟩) H.2⟩
    · exact ⟨H.1, g_weak (show gm_Lle [some _] _ from ⟨rfl, trivial⟩) H.2⟩
  · exact ⟨H.1, g_weak (show gm_Lle [some _] _ from ⟨rfl, trivial⟩) H.2⟩
set_option maxRecDepth 20000 in
theorem w_610_258 {a0 : Nat} {x1 : Int32} {r_3 : Option Nat} {x4 : Int32} {x5 : Int32} {j6 : Int64} {y0 : Int32} {h : hh_T} {Q : Option Value ⊕ Nat → hh_T → Prop} (H : gm_G 431 0 [some (.int y0), some (.int (Int32.ofInt (-3)))] [] h (pV (fun h1 => ∀ a2 h3, a2 = hh_sz h1 → h3 = hh_al h1 36 0 7 → (gm_G 324 0 [some (.ref a2), some (.ref a0), some (.int x5), some (.long j6), none, some (.int x4)] [] h3 (pV (fun h4 => hh_tg h4 a0 = 1 ∧ (gm_G 605 0 [some (.ref a0), some (va_rf r_3), some (.ref a2)] [] h4 (pV (fun h6 => gm_sub (hh_tg h6 a0) 0 = true ∧ (∀ r8, r8 = hh_r h6 a0 52 → (∃ a9, r8 = some a9 ∧ (hh_tg h6 a9 = 16 ∧ (gm_G 261 0 [some (.ref a9), some (.int x1), some (.int x5), some (.int (Int32.ofNat 1)), some (.int x4)] [] h6 (pV (fun h11 => gm_G 610 295 [some (.ref a0), none, none, none, some (.int x4)] [] h11 Q) (fun e12 h13 => hh_tg h13 e12 = 21 ∧ gm_G 610 302 [some (.ref a0)] [.ref e12] h13 Q))))))) (fun e14 h15 => hh_tg h15 e14 = 21 ∧ gm_G 610 302 [some (.ref a0)] [.ref e14] h15 Q)))) (fun e16 h17 => hh_tg h17 e16 = 21 ∧ gm_G 610 302 [some (.ref a0)] [.ref e16] h17 Q)))) (fun e18 h19 => hh_tg h19 e18 = 21 ∧ gm_G 610 302 [some (.ref a0)] [.ref e18] h19 Q))) : gm_G 610 258 [some (.ref a0), some (.int x1), none, some (va_rf r_3), some (.int x4), some (.int x5), some (.long j6)] [.int y0] h Q := by
  refine g_iconst rfl rfl rfl (pc' := 260) ?_
  refine g_call rfl (y := 431) (n := 2) (pc' := 263) (fun _ => rfl) rfl rfl ⟨(Nat.le_of_ble_eq_true rfl), (Nat.le_of_ble_eq_true rfl), (Nat.le_of_ble_eq_true rfl)⟩ rfl (gm_G.mono H (pV_elim (fun h1 H' => ?_) (fun e18 h19 H => ?_)))
  · show gm_G _ 263 _ _ _ _
    replace H := H'
    clear H'
    refine g_aload (r := some _) rfl rfl rfl (pc' := 264) ?_
    refine g_aload (r := _) rfl rfl rfl (pc' := 265) ?_
    refine g_new rfl (t := 36) (s := 7) rfl rfl (pc' := 268) rfl ?_
    replace H := H _ _ rfl rfl
    refine g_dup_a (r := some _) rfl rfl (pc' := 269) ?_
    refine g_aload (r := some _) rfl rfl rfl (pc' := 270) ?_
    refine g_iload rfl rfl rfl (pc' := 272) ?_
    refine g_lload rfl rfl rfl (pc' := 274) ?_
    refine g_iload rfl rfl rfl (pc' := 276) ?_
    refine g_call rfl (y := 324) (n := 5) (pc' := 279) (fun _ => rfl) rfl rfl ⟨(Nat.le_of_ble_eq_true rfl), (Nat.le_of_ble_eq_true rfl), (Nat.le_of_ble_eq_true rfl)⟩ rfl (gm_G.mono H (pV_elim (fun h4 H' => ?_) (fun e16 h17 H => ?_)))
    · show gm_G _ 279 _ _ _ _
      replace H := H'
      clear H'
      obtain ⟨ht5, H⟩ := H
      refine g_call rfl (y := 605) (n := 3) (pc' := 282) (g_vt ht5 rfl rfl) (by cases r_3 <;> rfl) rfl ⟨(Nat.le_of_ble_eq_true rfl), (Nat.le_of_ble_eq_true rfl), (Nat.le_of_ble_eq_true rfl)⟩ rfl (gm_G.mono H (pV_elim (fun h6 H' => ?_) (fun e14 h15 H => ?_)))
      · show gm_G _ 282 _ _ _ _
        replace H := H'
        clear H'
        refine g_aload (r := some _) rfl rfl rfl (pc' := 283) ?_
        obtain ⟨ht7, H⟩ := H
        refine g_getRv rfl rfl rfl rfl ht7 (pc' := 286) rfl (fun r8 hr8 => ?_)
        replace H := H r8 hr8
        refine g_iload rfl rfl rfl (pc' := 287) ?_
        refine g_iload rfl rfl rfl (pc' := 289) ?_
        refine g_iconst rfl rfl rfl (pc' := 290) ?_
        refine g_iload rfl rfl rfl (pc' := 292) ?_
        obtain ⟨a9, rfl, H⟩ := H
        obtain ⟨ht10, H⟩ := H
        refine g_call rfl (y := 261) (n := 5) (pc' := 295) (g_vt ht10 rfl rfl) rfl rfl ⟨(Nat.le_of_ble_eq_true rfl), (Nat.le_of_ble_eq_true rfl), (Nat.le_of_ble_eq_true rfl)⟩ rfl (gm_G.mono H (pV_elim (fun h11 H' => ?_) (fun e12 h13 H => ?_)))
        · show gm_G _ 295 _ _ _ _
          replace H := H'
          clear H'
          exact g_weak (show gm_Lle [some _, none, none, none, some _] _ from ⟨rfl, ⟨rfl, trivial⟩⟩) H
        · exact ⟨H.1, g_weak (show gm_Lle [some _] _ from ⟨rfl, trivial⟩) H.2⟩
      · exact ⟨H.1, g_weak (show gm_Lle [some _] _ from ⟨rfl, trivial⟩) H.2⟩
    · exact ⟨H.1, g_weak (show gm_Lle [some _] _ from ⟨rfl, trivial⟩) H.2⟩
  · exact ⟨H.1, g_weak (show gm_Lle [some _] _ from ⟨rfl, trivial⟩) H.2⟩
set_option maxRecDepth 20000 in
theorem w_610_295 {a0 : Nat} {x4 : Int32} {h : hh_T} {Q : Option Value ⊕ Nat → hh_T → Prop} (H : hh_tg h a0 = 1 ∧ (gm_G 4 0 [some (.ref a0), some (.int x4)] [] h (pI (fun v3 h2 => Q (.inl (some (.int v3))) h2) (fun e4 h5 => hh_tg h5 e4 = 21 ∧ gm_G 610 302 [some (.ref a0)] [.ref e4] h5 Q)))) : gm_G 610 295 [some (.ref a0), none, none, none, some (.int x4)] [] h Q := by
  refine g_aload (r := some _) rfl rfl rfl (pc' := 296) ?_
  refine g_iload rfl rfl rfl (pc' := 298) ?_
  obtain ⟨ht1, H⟩ := H
  refine g_call rfl (y := 4) (n := 2) (pc' := 301) (g_vt ht1 rfl rfl) rfl rfl ⟨(Nat.le_of_ble_eq_true rfl), (Nat.le_of_ble_eq_true rfl), (Nat.le_of_ble_eq_true rfl)⟩ rfl (gm_G.mono H (pI_elim (fun v3 h2 H' => ?_) (fun e4 h5 H => ?_)))
  · show gm_G _ 301 _ _ _ _
    replace H := H'
    clear H'
    exact g_ireturn rfl (Or.inl rfl) H
  · exact ⟨H.1, g_weak (show gm_Lle [some _] _ from ⟨rfl, trivial⟩) H.2⟩
set_option maxRecDepth 20000 in
theorem w_610_302 {a0 : Nat} {ex : Nat} {h : hh_T} {Q : Option Value ⊕ Nat → hh_T → Prop} (H : hh_tg h a0 = 1 ∧ (gm_G 1 0 [some (.ref a0), some (.ref ex)] [] h (pI (fun v3 h2 => Q (.inl (some (.int v3))) h2) (fun e4 h5 => hh_tg h5 e4 = 21 ∧ Q (.inr e4) h5)))) : gm_G 610 302 [some (.ref a0)] [.ref ex] h Q := by
  refine g_astore (r := some _) rfl rfl rfl (pc' := 303) ?_
  refine g_aload (r := some _) rfl rfl rfl (pc' := 304) ?_
  refine g_aload (r := some _) rfl rfl rfl (pc' := 305) ?_
  obtain ⟨ht1, H⟩ := H
  refine g_call rfl (y := 1) (n := 2) (pc' := 308) (g_vt ht1 rfl rfl) rfl rfl ⟨(Nat.le_of_ble_eq_true rfl), (Nat.le_of_ble_eq_true rfl), (Nat.le_of_ble_eq_true rfl)⟩ rfl (gm_G.mono H (pI_elim (fun v3 h2 H' => ?_) (fun e4 h5 H => ?_)))
  · show gm_G _ 308 _ _ _ _
    replace H := H'
    clear H'
    exact g_ireturn rfl (Or.inl rfl) H
  · exact H
set_option maxRecDepth 20000 in
theorem w_611_0 {a0 : Nat} {r_1 : Option Nat} {x2 : Int32} {j3 : Int64} {x5 : Int32} {r_6 : Option Nat} {h : hh_T} {Q : Option Value ⊕ Nat → hh_T → Prop} (H : ∃ a1, r_1 = some a1 ∧ (gm_sub (hh_tg h a1) 23 = true ∧ (∀ r3, r3 = hh_r h a1 9 → (∃ a4, r3 = some a4 ∧ (gm_sub (hh_tg h a4) 24 = true ∧ (∀ r6, r6 = hh_r h a4 2 → (∃ a7, r6 = some a7 ∧ ((hh_tg h a7 = 104 ∨ 200 ≤ hh_tg h a7) ∧ (∃ n8, gm_ix x2 n8 (hh_ln h a7) ∧ (∀ r10, r10 = hh_r h a7 n8 → ((∀ b, r10 = some b → gm_sub (hh_tg h b) 27 = true) ∧ (∃ a11, r10 = some a11 ∧ (hh_tg h a11 = 28 ∧ (gm_G 196 0 [some (.ref a11), some (.long j3), none] [] h (pI (fun v14 h13 => (¬ v14 < Int32.ofNat 0 → (gm_G 611 28 [some (.ref a0), some (.ref a1), some (.int x2), some (.long j3), none, some (.int x5), some (va_rf r_6), some (.ref a11)] [.int (Int32.ofNat 0)] h13 Q)) ∧ (v14 < Int32.ofNat 0 → (gm_G 611 28 [some (.ref a0), some (.ref a1), some (.int x2), some (.long j3), none, some (.int x5), some (va_rf r_6), some (.ref a11)] [.int (Int32.ofNat 1)] h13 Q))) (fun e15 h16 => hh_tg h16 e15 = 21 ∧ Q (.inr e15) h16)))))))))))))))) : gm_G 611 0 [some (.ref a0), some (va_rf r_1), some (.int x2), some (.long j3), none, some (.int x5), some (va_rf r_6)] [] h Q := by
  refine g_aload (r := _) rfl rfl rfl (pc' := 1) ?_
  obtain ⟨a1, rfl, H⟩ := H
  obtain ⟨ht2, H⟩ := H
  refine g_getRv rfl rfl rfl rfl ht2 (pc' := 4) rfl (fun r3 hr3 => ?_)
  replace H := H r3 hr3
  obtain ⟨a4, rfl, H⟩ := H
  obtain ⟨ht5, H⟩ := H
  refine g_getRv rfl rfl rfl rfl ht5 (pc' := 7) rfl (fun r6 hr6 => ?_)
  replace H := H r6 hr6
  refine g_iload rfl rfl rfl (pc' := 8) ?_
  obtain ⟨a7, rfl, H⟩ := H
  obtain ⟨ht9, H⟩ := H
  obtain ⟨n8, hn8, H⟩ := H
  refine g_aaloadv rfl ht9 hn8 (pc' := 9) rfl (fun r10 hr10 => ?_)
  replace H := H r10 hr10
  obtain ⟨Hc, H⟩ := H
  refine g_cast rfl Hc (pc' := 12) rfl ?_
  refine g_astore (r := _) rfl gm_sto_rf6 rfl (pc' := 14) ?_
  refine g_aload (r := _) rfl rfl rfl (pc' := 16) ?_
  refine g_lload rfl rfl rfl (pc' := 17) ?_
  obtain ⟨a11, rfl, H⟩ := H
  obtain ⟨ht12, H⟩ := H
  refine g_call rfl (y := 196) (n := 2) (pc' := 20) (g_vt ht12 rfl rfl) rfl rfl ⟨(Nat.le_of_ble_eq_true rfl), (Nat.le_of_ble_eq_true rfl), (Nat.le_of_ble_eq_true rfl)⟩ rfl (gm_G.mono H (pI_elim (fun v14 h13 H' => ?_) (fun e15 h16 H => ?_)))
  · show gm_G _ 20 _ _ _ _
    replace H := H'
    clear H'
    refine g_if_ge rfl (pc' := 23) (pt := 27) rfl rfl ⟨fun hc => ?_, fun hc => ?_⟩
    · replace H := H.1 hc
      refine g_iconst rfl rfl rfl (pc' := 28) ?_
      exact g_weak (show gm_Lle [some _, some _, some _, some _, none, some _, some _, some _] _ from ⟨rfl, ⟨rfl, ⟨rfl, ⟨rfl, ⟨rfl, ⟨rfl, ⟨rfl, trivial⟩⟩⟩⟩⟩⟩⟩) H
    · replace H := H.2 hc
      refine g_iconst rfl rfl rfl (pc' := 24) ?_
      refine g_goto rfl (pc' := 28) rfl ?_
      exact g_weak (show gm_Lle [some _, some _, some _, some _, none, some _, some _, some _] _ from ⟨rfl, ⟨rfl, ⟨rfl, ⟨rfl, ⟨rfl, ⟨rfl, ⟨rfl, trivial⟩⟩⟩⟩⟩⟩⟩) H
  · exact H
set_option maxRecDepth 20000 in
theorem w_611_28 {a0 : Nat} {r_1 : Option Nat} {x2 : Int32} {j3 : Int64} {x5 : Int32} {r_6 : Option Nat} {r_7 : Option Nat} {y0 : Int32} {h : hh_T} {Q : Option Value ⊕ Nat → hh_T → Prop} (H : gm_G 431 0 [some (.int y0), some (.int (Int32.ofInt (-4)))] [] h (pV (fun h1 => gm_sub (hh_tg h1 a0) 0 = true ∧ (hh_tg h1 a0 = 1 ∧ (gm_G 393 0 [some (.ref a0), some (va_rf r_7), some (.int (hh_i h1 a0 41)), some (.int (Int32.ofNat 3))] [] h1 (pI (fun v5 h4 => gm_G 431 0 [some (.int v5), some (.int (Int32.ofInt (-6)))] [] h4 (pV (fun h6 => ∃ a7, r_7 = some a7 ∧ (gm_sub (hh_tg h6 a7) 25 = true ∧ ((¬ (hh_i h6 a7 6) < (Int32.ofNat 8) → (gm_G 611 73 [some (.ref a0), some (va_rf r_1), some (.int x2), some (.long j3), none, some (.int x5), some (va_rf r_6)] [] h6 Q)) ∧ ((hh_i h6 a7 6) < (Int32.ofNat 8) → (∃ a9, r_1 = some a9 ∧ (gm_sub (hh_tg h6 a9) 23 = true ∧ (∀ r11, r11 = hh_r h6 a9 9 → (∃ a12, r11 = some a12 ∧ (hh_tg h6 a12 = 25 ∧ (gm_G 188 0 [some (.ref a12)] [] h6 (pI (fun v15 h14 => (v15 < Int32.ofNat 0 → (gm_G 611 73 [some (.ref a0), some (.ref a9), some (.int x2), some (.long j3), none, some (.int x5), some (va_rf r_6)] [] h14 Q)) ∧ (¬ v15 < Int32.ofNat 0 → (gm_G 611 74 [some (.ref a0), some (.ref a9), some (.int x2), some (.long j3), none, some (.int x5), some (va_rf r_6)] [.int (Int32.ofNat 1)] h14 Q))) (fun e16 h17 => hh_tg h17 e16 = 21 ∧ Q (.inr e16) h17)))))))))))) (fun e18 h19 => hh_tg h19 e18 = 21 ∧ Q (.inr e18) h19))) (fun e20 h21 => hh_tg h21 e20 = 21 ∧ Q (.inr e20) h21))))) (fun e22 h23 => hh_tg h23 e22 = 21 ∧ Q (.inr e22) h23))) : gm_G 611 28 [some (.ref a0), some (va_rf r_1), some (.int x2), some (.long j3), none, some (.int x5), some (va_rf r_6), some (va_rf r_7)] [.int y0] h Q := by
  refine g_iconst rfl rfl rfl (pc' := 30) ?_
  refine g_call rfl (y := 431) (n := 2) (pc' := 33) (fun _ => rfl) rfl rfl ⟨(Nat.le_of_ble_eq_true rfl), (Nat.le_of_ble_eq_true rfl), (Nat.le_of_ble_eq_true rfl)⟩ rfl (gm_G.mono H (pV_elim (fun h1 H' => ?_) (fun e22 h23 H => ?_)))
  · show gm_G _ 33 _ _ _ _
    replace H := H'
    clear H'
    refine g_aload (r := some _) rfl rfl rfl (pc' := 34) ?_
    refine g_aload (r := _) rfl rfl rfl (pc' := 36) ?_
    refine g_aload (r := some _) rfl rfl rfl (pc' := 37) ?_
    obtain ⟨ht2, H⟩ := H
    refine g_getI rfl rfl rfl rfl ht2 (pc' := 40) rfl ?_
    refine g_iconst rfl rfl rfl (pc' := 41) ?_
    obtain ⟨ht3, H⟩ := H
    refine g_call rfl (y := 393) (n := 4) (pc' := 44) (g_vt ht3 rfl rfl) (by cases r_7 <;> rfl) rfl ⟨(Nat.le_of_ble_eq_true rfl), (Nat.le_of_ble_eq_true rfl), (Nat.le_of_ble_eq_true rfl)⟩ rfl (gm_G.mono H (pI_elim (fun v5 h4 H' => ?_) (fun e20 h21 H => ?_)))
    · show gm_G _ 44 _ _ _ _
      replace H := H'
      clear H'
      refine g_iconst rfl rfl rfl (pc' := 46) ?_
      refine g_call rfl (y := 431) (n := 2) (pc' := 49) (fun _ => rfl) rfl rfl ⟨(Nat.le_of_ble_eq_true rfl), (Nat.le_of_ble_eq_true rfl), (Nat.le_of_ble_eq_true rfl)⟩ rfl (gm_G.mono H (pV_elim (fun h6 H' => ?_) (fun e18 h19 H => ?_)))
      · show gm_G _ 49 _ _ _ _
        replace H := H'
        clear H'
        refine g_aload (r := _) rfl rfl rfl (pc' := 51) ?_
        obtain ⟨a7, rfl, H⟩ := H
        obtain ⟨ht8, H⟩ := H
        refine g_getI rfl rfl rfl rfl ht8 (pc' := 54) rfl ?_
        refine g_iconst rfl rfl rfl (pc' := 56) ?_
        refine g_ic_ge rfl (pc' := 59) (pt := 73) rfl rfl ⟨fun hc => ?_, fun hc => ?_⟩
        · replace H := H.1 hc
          exact g_weak (show gm_Lle [some _, some _, some _, some _, none, some _, some _] _ from ⟨rfl, ⟨rfl, ⟨rfl, ⟨rfl, ⟨rfl, ⟨rfl, trivial⟩⟩⟩⟩⟩⟩) H
        · replace H := H.2 hc
          refine g_aload (r := _) rfl rfl rfl (pc' := 60) ?_
          obtain ⟨a9, rfl, H⟩ := H
          obtain ⟨ht10, H⟩ := H
          refine g_getRv rfl rfl rfl rfl ht10 (pc' := 63) rfl (fun r11 hr11 => ?_)
          replace H := H r11 hr11
          obtain ⟨a12, rfl, H⟩ := H
          obtain ⟨ht13, H⟩ := H
          refine g_call rfl (y := 188) (n := 1) (pc' := 66) (g_vt ht13 rfl rfl) rfl rfl ⟨(Nat.le_of_ble_eq_true rfl), (Nat.le_of_ble_eq_true rfl), (Nat.le_of_ble_eq_true rfl)⟩ rfl (gm_G.mono H (pI_elim (fun v15 h14 H' => ?_) (fun e16 h17 H => ?_)))
          · show gm_G _ 66 _ _ _ _
            replace H := H'
            clear H'
            refine g_if_lt rfl (pc' := 69) (pt := 73) rfl rfl ⟨fun hc => ?_, fun hc => ?_⟩
            · replace H := H.1 hc
              exact g_weak (show gm_Lle [some _, some _, some _, some _, none, some _, some _] _ from ⟨rfl, ⟨rfl, ⟨rfl, ⟨rfl, ⟨rfl, ⟨rfl, trivial⟩⟩⟩⟩⟩⟩) H
            · replace H := H.2 hc
              refine g_iconst rfl rfl rfl (pc' := 70) ?_
              refine g_goto rfl (pc' := 74) rfl ?_
              exact g_weak (show gm_Lle [some _, some _, some _, some _, none, some _, some _] _ from ⟨rfl, ⟨rfl, ⟨rfl, ⟨rfl, ⟨rfl, ⟨rfl, trivial⟩⟩⟩⟩⟩⟩) H
          · exact H
      · exact H
    · exact H
  · exact H
set_option maxRecDepth 20000 in
theorem w_611_73 {a0 : Nat} {r_1 : Option Nat} {x2 : Int32} {j3 : Int64} {x5 : Int32} {r_6 : Option Nat} {h : hh_T} {Q : Option Value ⊕ Nat → hh_T → Prop} (H : gm_G 611 74 [some (.ref a0), some (va_rf r_1), some (.int x2), some (.long j3), none, some (.int x5), some (va_rf r_6)] [.int (Int32.ofNat 0)] h Q) : gm_G 611 73 [some (.ref a0), some (va_rf r_1), some (.int x2), some (.long j3), none, some (.int x5), some (va_rf r_6)] [] h Q := by
  refine g_iconst rfl rfl rfl (pc' := 74) ?_
  exact g_weak (show gm_Lle [some _, some _, some _, some _, none, some _, some _] _ from ⟨rfl, ⟨rfl, ⟨rfl, ⟨rfl, ⟨rfl, ⟨rfl, trivial⟩⟩⟩⟩⟩⟩) H
set_option maxRecDepth 20000 in
theorem w_611_74 {a0 : Nat} {r_1 : Option Nat} {x2 : Int32} {j3 : Int64} {x5 : Int32} {r_6 : Option Nat} {y0 : Int32} {h : hh_T} {Q : Option Value ⊕ Nat → hh_T → Prop} (H : gm_G 431 0 [some (.int y0), some (.int (Int32.ofInt (-3)))] [] h (pV (fun h1 => ∀ a2 h3, a2 = hh_sz h1 → h3 = hh_al h1 35 0 10 → (gm_sub (hh_tg h3 a0) 0 = true ∧ ((¬ x5 = (Int32.ofNat 1) → ((¬ x5 = (Int32.ofNat 2) → (gm_G 611 118 [some (.ref a0), some (va_rf r_1), some (.int x2), some (.long j3), none, none, some (va_rf r_6)] [.int (Int32.ofNat 511), .int x5, .int x2, .int (hh_i h3 a0 41), .ref a0, .ref a2, .ref a2] h3 Q)) ∧ (x5 = (Int32.ofNat 2) → (gm_G 611 118 [some (.ref a0), some (va_rf r_1), some (.int x2), some (.long j3), none, none, some (va_rf r_6)] [.int (Int32.ofNat 493), .int x5, .int x2, .int (hh_i h3 a0 41), .ref a0, .ref a2, .ref a2] h3 Q)))) ∧ (x5 = (Int32.ofNat 1) → (gm_G 611 118 [some (.ref a0), some (va_rf r_1), some (.int x2), some (.long j3), none, none, some (va_rf r_6)] [.int (Int32.ofNat 420), .int x5, .int x2, .int (hh_i h3 a0 41), .ref a0, .ref a2, .ref a2] h3 Q))))) (fun e5 h6 => hh_tg h6 e5 = 21 ∧ Q (.inr e5) h6))) : gm_G 611 74 [some (.ref a0), some (va_rf r_1), some (.int x2), some (.long j3), none, some (.int x5), some (va_rf r_6)] [.int y0] h Q := by
  refine g_iconst rfl rfl rfl (pc' := 76) ?_
  refine g_call rfl (y := 431) (n := 2) (pc' := 79) (fun _ => rfl) rfl rfl ⟨(Nat.le_of_ble_eq_true rfl), (Nat.le_of_ble_eq_true rfl), (Nat.le_of_ble_eq_true rfl)⟩ rfl (gm_G.mono H (pV_elim (fun h1 H' => ?_) (fun e5 h6 H => ?_)))
  · show gm_G _ 79 _ _ _ _
    replace H := H'
    clear H'
    refine g_new rfl (t := 35) (s := 10) rfl rfl (pc' := 82) rfl ?_
    replace H := H _ _ rfl rfl
    refine g_dup_a (r := some _) rfl rfl (pc' := 83) ?_
    refine g_aload (r := some _) rfl rfl rfl (pc' := 84) ?_
    refine g_aload (r := some _) rfl rfl rfl (pc' := 85) ?_
    obtain ⟨ht4, H⟩ := H
    refine g_getI rfl rfl rfl rfl ht4 (pc' := 88) rfl ?_
    refine g_iload rfl rfl rfl (pc' := 89) ?_
    refine g_iload rfl rfl rfl (pc' := 91) ?_
    refine g_iload rfl rfl rfl (pc' := 93) ?_
    refine g_iconst rfl rfl rfl (pc' := 94) ?_
    refine g_ic_ne rfl (pc' := 97) (pt := 103) rfl rfl ⟨fun hc => ?_, fun hc => ?_⟩
    · replace H := H.1 hc
      refine g_iload rfl rfl rfl (pc' := 105) ?_
      refine g_iconst rfl rfl rfl (pc' := 106) ?_
      refine g_ic_ne rfl (pc' := 109) (pt := 115) rfl rfl ⟨fun hc => ?_, fun hc => ?_⟩
      · replace H := H.1 hc
        refine g_iconst rfl rfl rfl (pc' := 118) ?_
        exact g_weak (show gm_Lle [some _, some _, some _, some _, none, none, some _] _ from ⟨rfl, ⟨rfl, ⟨rfl, ⟨rfl, ⟨rfl, trivial⟩⟩⟩⟩⟩) H
      · replace H := H.2 hc
        refine g_iconst rfl rfl rfl (pc' := 112) ?_
        refine g_goto rfl (pc' := 118) rfl ?_
        exact g_weak (show gm_Lle [some _, some _, some _, some _, none, none, some _] _ from ⟨rfl, ⟨rfl, ⟨rfl, ⟨rfl, ⟨rfl, trivial⟩⟩⟩⟩⟩) H
    · replace H := H.2 hc
      refine g_iconst rfl rfl rfl (pc' := 100) ?_
      refine g_goto rfl (pc' := 118) rfl ?_
      exact g_weak (show gm_Lle [some _, some _, some _, some _, none, none, some _] _ from ⟨rfl, ⟨rfl, ⟨rfl, ⟨rfl, ⟨rfl, trivial⟩⟩⟩⟩⟩) H
  · exact H
set_option maxRecDepth 20000 in
theorem w_611_118 {a0 : Nat} {r_1 : Option Nat} {x2 : Int32} {j3 : Int64} {r_6 : Option Nat} {y0 : Int32} {y1 : Int32} {y2 : Int32} {y3 : Int32} {q4 : Option Nat} {q5 : Option Nat} {q6 : Option Nat} {h : hh_T} {Q : Option Value ⊕ Nat → hh_T → Prop} (H : ∃ a1, q5 = some a1 ∧ (gm_G 323 0 [some (.ref a1), some (va_rf q4), some (.int y3), some (.int y2), some (.int y1), some (.int y0), some (.long j3), none, some (va_rf r_6)] [] h (pV (fun h2 => hh_tg h2 a0 = 1 ∧ (gm_G 605 0 [some (.ref a0), some (va_rf r_1), some (va_rf q6)] [] h2 (pV (fun h4 => gm_sub (hh_tg h4 a0) 0 = true ∧ (∀ r6, r6 = hh_r h4 a0 52 → (∃ a7, r_1 = some a7 ∧ (gm_sub (hh_tg h4 a7) 23 = true ∧ (∃ a9, q6 = some a9 ∧ (gm_sub (hh_tg h4 a9) 34 = true ∧ (∃ a11, r6 = some a11 ∧ (hh_tg h4 a11 = 16 ∧ (gm_G 261 0 [some (.ref a11), some (.int (hh_i h4 a7 0)), some (.int x2), some (.int (Int32.ofNat 1)), some (.int (hh_i h4 a9 8))] [] h4 (pV (fun h13 => gm_sub (hh_tg h13 a9) 34 = true ∧ (Q (.inl (some (.int (hh_i h13 a9 8)))) h13)) (fun e15 h16 => hh_tg h16 e15 = 21 ∧ Q (.inr e15) h16))))))))))) (fun e17 h18 => hh_tg h18 e17 = 21 ∧ Q (.inr e17) h18)))) (fun e19 h20 => hh_tg h20 e19 = 21 ∧ Q (.inr e19) h20)))) : gm_G 611 118 [some (.ref a0), some (va_rf r_1), some (.int x2), some (.long j3), none, none, some (va_rf r_6)] [.int y0, .int y1, .int y2, .int y3, va_rf q4, va_rf q5, va_rf q6] h Q := by
  refine g_lload rfl rfl rfl (pc' := 119) ?_
  refine g_aload (r := _) rfl rfl rfl (pc' := 121) ?_
  obtain ⟨a1, rfl, H⟩ := H
  refine g_call rfl (y := 323) (n := 8) (pc' := 124) (fun _ => rfl) (by cases q4 <;> cases r_6 <;> rfl) rfl ⟨(Nat.le_of_ble_eq_true rfl), (Nat.le_of_ble_eq_true rfl), (Nat.le_of_ble_eq_true rfl)⟩ rfl (gm_G.mono H (pV_elim (fun h2 H' => ?_) (fun e19 h20 H => ?_)))
  · show gm_G _ 124 _ _ _ _
    replace H := H'
    clear H'
    refine g_astore (r := _) rfl rfl rfl (pc' := 126) ?_
    refine g_aload (r := some _) rfl rfl rfl (pc' := 127) ?_
    refine g_aload (r := _) rfl rfl rfl (pc' := 128) ?_
    refine g_aload (r := _) rfl rfl rfl (pc' := 130) ?_
    obtain ⟨ht3, H⟩ := H
    refine g_call rfl (y := 605) (n := 3) (pc' := 133) (g_vt ht3 rfl rfl) (by cases q6 <;> cases r_1 <;> rfl) rfl ⟨(Nat.le_of_ble_eq_true rfl), (Nat.le_of_ble_eq_true rfl), (Nat.le_of_ble_eq_true rfl)⟩ rfl (gm_G.mono H (pV_elim (fun h4 H' => ?_) (fun e17 h18 H => ?_)))
    · show gm_G _ 133 _ _ _ _
      replace H := H'
      clear H'
      refine g_aload (r := some _) rfl rfl rfl (pc' := 134) ?_
      obtain ⟨ht5, H⟩ := H
      refine g_getRv rfl rfl rfl rfl ht5 (pc' := 137) rfl (fun r6 hr6 => ?_)
      replace H := H r6 hr6
      refine g_aload (r := _) rfl rfl rfl (pc' := 138) ?_
      obtain ⟨a7, rfl, H⟩ := H
      obtain ⟨ht8, H⟩ := H
      refine g_getI rfl rfl rfl rfl ht8 (pc' := 141) rfl ?_
      refine g_iload rfl rfl rfl (pc' := 142) ?_
      refine g_iconst rfl rfl rfl (pc' := 143) ?_
      refine g_aload (r := _) rfl rfl rfl (pc' := 145) ?_
      obtain ⟨a9, rfl, H⟩ := H
      obtain ⟨ht10, H⟩ := H
      refine g_getI rfl rfl rfl rfl ht10 (pc' := 148) rfl ?_
      obtain ⟨a11, rfl, H⟩ := H
      obtain ⟨ht12, H⟩ := H
      refine g_call rfl (y := 261) (n := 5) (pc' := 151) (g_vt ht12 rfl rfl) rfl rfl ⟨(Nat.le_of_ble_eq_true rfl), (Nat.le_of_ble_eq_true rfl), (Nat.le_of_ble_eq_true rfl)⟩ rfl (gm_G.mono H (pV_elim (fun h13 H' => ?_) (fun e15 h16 H => ?_)))
      · show gm_G _ 151 _ _ _ _
        replace H := H'
        clear H'
        refine g_aload (r := some _) rfl rfl rfl (pc' := 153) ?_
        obtain ⟨ht14, H⟩ := H
        refine g_getI rfl rfl rfl rfl ht14 (pc' := 156) rfl ?_
        exact g_ireturn rfl (Or.inl rfl) H
      · exact H
    · exact H
  · exact H
set_option maxRecDepth 20000 in
theorem w_612_0 {a0 : Nat} {x1 : Int32} {h : hh_T} {Q : Option Value ⊕ Nat → hh_T → Prop} (H : hh_tg h a0 = 1 ∧ (gm_G 243 0 [some (.ref a0)] [] h (pV (fun h2 => hh_tg h2 a0 = 1 ∧ (gm_G 456 0 [some (.ref a0)] [] h2 (pV (fun h4 => hh_tg h4 a0 = 1 ∧ (gm_G 17 0 [some (.ref a0)] [] h4 (pI (fun v7 h6 => (v7 < Int32.ofNat 0 → (gm_G 612 85 [some (.ref a0), some (.int x1), some (.int v7)] [] h6 Q)) ∧ (¬ v7 < Int32.ofNat 0 → (gm_sub (hh_tg h6 a0) 0 = true ∧ (∀ r9, r9 = hh_r h6 a0 58 → (gm_G 339 0 [some (va_rf r9), some (.int (Int32.ofNat 0)), some (.int v7)] [] h6 (pI (fun v11 h10 => (v11 = Int32.ofNat 0 → (gm_G 612 85 [some (.ref a0), some (.int x1), some (.int v7)] [] h10 Q)) ∧ (¬ v11 = Int32.ofNat 0 → (gm_sub (hh_tg h10 a0) 0 = true ∧ (∀ r13, r13 = hh_r h10 a0 58 → (gm_G 344 0 [some (va_rf r13), some (.int (Int32.ofNat 0)), some (.int v7)] [] h10 (pI (fun v15 h14 => (v15 = Int32.ofNat 0 → (gm_G 612 85 [some (.ref a0), some (.int x1), some (.int v7)] [] h14 Q)) ∧ (¬ v15 = Int32.ofNat 0 → (gm_G 612 41 [some (.ref a0), some (.int x1), some (.int v7)] [] h14 Q))) (fun e16 h17 => hh_tg h17 e16 = 21 ∧ gm_G 612 448 [some (.ref a0)] [.ref e16] h17 Q))))))) (fun e18 h19 => hh_tg h19 e18 = 21 ∧ gm_G 612 448 [some (.ref a0)] [.ref e18] h19 Q))))))) (fun e20 h21 => hh_tg h21 e20 = 21 ∧ gm_G 612 448 [some (.ref a0)] [.ref e20] h21 Q)))) (fun e22 h23 => hh_tg h23 e22 = 21 ∧ gm_G 612 448 [some (.ref a0)] [.ref e22] h23 Q)))) (fun e24 h25 => hh_tg h25 e24 = 21 ∧ Q (.inr e24) h25)))) : gm_G 612 0 [some (.ref a0), some (.int x1)] [] h Q := by
  refine g_aload (r := some _) rfl rfl rfl (pc' := 1) ?_
  obtain ⟨ht1, H⟩ := H
  refine g_call rfl (y := 243) (n := 1) (pc' := 4) (g_vt ht1 rfl rfl) rfl rfl ⟨(Nat.le_of_ble_eq_true rfl), (Nat.le_of_ble_eq_true rfl), (Nat.le_of_ble_eq_true rfl)⟩ rfl (gm_G.mono H (pV_elim (fun h2 H' => ?_) (fun e24 h25 H => ?_)))
  · show gm_G _ 4 _ _ _ _
    replace H := H'
    clear H'
    refine g_aload (r := some _) rfl rfl rfl (pc' := 5) ?_
    obtain ⟨ht3, H⟩ := H
    refine g_call rfl (y := 456) (n := 1) (pc' := 8) (g_vt ht3 rfl rfl) rfl rfl ⟨(Nat.le_of_ble_eq_true rfl), (Nat.le_of_ble_eq_true rfl), (Nat.le_of_ble_eq_true rfl)⟩ rfl (gm_G.mono H (pV_elim (fun h4 H' => ?_) (fun e22 h23 H => ?_)))
    · show gm_G _ 8 _ _ _ _
      replace H := H'
      clear H'
      refine g_aload (r := some _) rfl rfl rfl (pc' := 9) ?_
      obtain ⟨ht5, H⟩ := H
      refine g_call rfl (y := 17) (n := 1) (pc' := 12) (g_vt ht5 rfl rfl) rfl rfl ⟨(Nat.le_of_ble_eq_true rfl), (Nat.le_of_ble_eq_true rfl), (Nat.le_of_ble_eq_true rfl)⟩ rfl (gm_G.mono H (pI_elim (fun v7 h6 H' => ?_) (fun e20 h21 H => ?_)))
      · show gm_G _ 12 _ _ _ _
        replace H := H'
        clear H'
        refine g_istore rfl rfl rfl (pc' := 13) ?_
        refine g_iload rfl rfl rfl (pc' := 14) ?_
        refine g_if_lt rfl (pc' := 17) (pt := 85) rfl rfl ⟨fun hc => ?_, fun hc => ?_⟩
        · replace H := H.1 hc
          exact g_weak (show gm_Lle [some _, some _, some _] _ from ⟨rfl, ⟨rfl, ⟨rfl, trivial⟩⟩⟩) H
        · replace H := H.2 hc
          refine g_aload (r := some _) rfl rfl rfl (pc' := 18) ?_
          obtain ⟨ht8, H⟩ := H
          refine g_getRv rfl rfl rfl rfl ht8 (pc' := 21) rfl (fun r9 hr9 => ?_)
          replace H := H r9 hr9
          refine g_iconst rfl rfl rfl (pc' := 22) ?_
          refine g_iload rfl rfl rfl (pc' := 23) ?_
          refine g_call rfl (y := 339) (n := 3) (pc' := 26) (fun _ => rfl) (by cases r9 <;> rfl) rfl ⟨(Nat.le_of_ble_eq_true rfl), (Nat.le_of_ble_eq_true rfl), (Nat.le_of_ble_eq_true rfl)⟩ rfl (gm_G.mono H (pI_elim (fun v11 h10 H' => ?_) (fun e18 h19 H => ?_)))
          · show gm_G _ 26 _ _ _ _
            replace H := H'
            clear H'
            refine g_if_eq rfl (pc' := 29) (pt := 85) rfl rfl ⟨fun hc => ?_, fun hc => ?_⟩
            · replace H := H.1 hc
              exact g_weak (show gm_Lle [some _, some _, some _] _ from ⟨rfl, ⟨rfl, ⟨rfl, trivial⟩⟩⟩) H
            · replace H := H.2 hc
              refine g_aload (r := some _) rfl rfl rfl (pc' := 30) ?_
              obtain ⟨ht12, H⟩ := H
              refine g_getRv rfl rfl rfl rfl ht12 (pc' := 33) rfl (fun r13 hr13 => ?_)
              replace H := H r13 hr13
              refine g_iconst rfl rfl rfl (pc' := 34) ?_
              refine g_iload rfl rfl rfl (pc' := 35) ?_
              refine g_call rfl (y := 344) (n := 3) (pc' := 38) (fun _ => rfl) (by cases r13 <;> rfl) rfl ⟨(Nat.le_of_ble_eq_true rfl), (Nat.le_of_ble_eq_true rfl), (Nat.le_of_ble_eq_true rfl)⟩ rfl (gm_G.mono H (pI_elim (fun v15 h14 H' => ?_) (fun e16 h17 H => ?_)))
              · show gm_G _ 38 _ _ _ _
                replace H := H'
                clear H'
                refine g_if_eq rfl (pc' := 41) (pt := 85) rfl rfl ⟨fun hc => ?_, fun hc => ?_⟩
                · replace H := H.1 hc
                  exact g_weak (show gm_Lle [some _, some _, some _] _ from ⟨rfl, ⟨rfl, ⟨rfl, trivial⟩⟩⟩) H
                · replace H := H.2 hc
                  exact g_weak (show gm_Lle [some _, some _, some _] _ from ⟨rfl, ⟨rfl, ⟨rfl, trivial⟩⟩⟩) H
              · exact ⟨H.1, g_weak (show gm_Lle [some _] _ from ⟨rfl, trivial⟩) H.2⟩
          · exact ⟨H.1, g_weak (show gm_Lle [some _] _ from ⟨rfl, trivial⟩) H.2⟩
      · exact ⟨H.1, g_weak (show gm_Lle [some _] _ from ⟨rfl, trivial⟩) H.2⟩
    · exact ⟨H.1, g_weak (show gm_Lle [some _] _ from ⟨rfl, trivial⟩) H.2⟩
  · exact H
set_option maxRecDepth 20000 in
theorem w_612_41 {a0 : Nat} {x1 : Int32} {x2 : Int32} {h : hh_T} {Q : Option Value ⊕ Nat → hh_T → Prop} (H : gm_sub (hh_tg h a0) 0 = true ∧ (∀ r2, r2 = hh_r h a0 58 → (∀ r3, r3 = hh_r h a0 58 → (∃ a4, r3 = some a4 ∧ (gm_sub (hh_tg h a4) 12 = true ∧ (gm_G 339 0 [some (va_rf r2), some (.int (x2 + (Int32.ofNat 1))), some (.int (hh_i h a4 1))] [] h (pI (fun v7 h6 => (v7 = Int32.ofNat 0 → (gm_G 612 85 [some (.ref a0), some (.int x1), some (.int x2)] [] h6 Q)) ∧ (¬ v7 = Int32.ofNat 0 → (gm_sub (hh_tg h6 a0) 0 = true ∧ (∀ r9, r9 = hh_r h6 a0 58 → (∀ r10, r10 = hh_r h6 a0 58 → (∃ a11, r10 = some a11 ∧ (gm_sub (hh_tg h6 a11) 12 = true ∧ (gm_G 344 0 [some (va_rf r9), some (.int (x2 + (Int32.ofNat 1))), some (.int (hh_i h6 a11 1))] [] h6 (pI (fun v14 h13 => (v14 = Int32.ofNat 0 → (gm_G 612 85 [some (.ref a0), some (.int x1), some (.int x2)] [] h13 Q)) ∧ (¬ v14 = Int32.ofNat 0 → (gm_G 612 86 [some (.ref a0), some (.int x1), some (.int x2)] [.int (Int32.ofNat 1)] h13 Q))) (fun e15 h16 => hh_tg h16 e15 = 21 ∧ gm_G 612 448 [some (.ref a0)] [.ref e15] h16 Q)))))))))) (fun e17 h18 => hh_tg h18 e17 = 21 ∧ gm_G 612 448 [some (.ref a0)] [.ref e17] h18 Q)))))))) : gm_G 612 41 [some (.ref a0), some (.int x1), some (.int x2)] [] h Q := by
  refine g_aload (r := some _) rfl rfl rfl (pc' := 42) ?_
  obtain ⟨ht1, H⟩ := H
  refine g_getRv rfl rfl rfl rfl ht1 (pc' := 45) rfl (fun r2 hr2 => ?_)
  replace H := H r2 hr2
  refine g_iload rfl rfl rfl (pc' := 46) ?_
  refine g_iconst rfl rfl rfl (pc' := 47) ?_
  refine g_iadd rfl rfl (pc' := 48) ?_
  refine g_aload (r := some _) rfl rfl rfl (pc' := 49) ?_
  refine g_getRv rfl rfl rfl rfl ht1 (pc' := 52) rfl (fun r3 hr3 => ?_)
  replace H := H r3 hr3
  obtain ⟨a4, rfl, H⟩ := H
  obtain ⟨ht5, H⟩ := H
  refine g_getI rfl rfl rfl rfl ht5 (pc' := 55) rfl ?_
  refine g_call rfl (y := 339) (n := 3) (pc' := 58) (fun _ => rfl) (by cases r2 <;> rfl) rfl ⟨(Nat.le_of_ble_eq_true rfl), (Nat.le_of_ble_eq_true rfl), (Nat.le_of_ble_eq_true rfl)⟩ rfl (gm_G.mono H (pI_elim (fun v7 h6 H' => ?_) (fun e17 h18 H => ?_)))
  · show gm_G _ 58 _ _ _ _
    replace H := H'
    clear H'
    refine g_if_eq rfl (pc' := 61) (pt := 85) rfl rfl ⟨fun hc => ?_, fun hc => ?_⟩
    · replace H := H.1 hc
      exact g_weak (show gm_Lle [some _, some _, some _] _ from ⟨rfl, ⟨rfl, ⟨rfl, trivial⟩⟩⟩) H
    · replace H := H.2 hc
      refine g_aload (r := some _) rfl rfl rfl (pc' := 62) ?_
      obtain ⟨ht8, H⟩ := H
      refine g_getRv rfl rfl rfl rfl ht8 (pc' := 65) rfl (fun r9 hr9 => ?_)
      replace H := H r9 hr9
      refine g_iload rfl rfl rfl (pc' := 66) ?_
      refine g_iconst rfl rfl rfl (pc' := 67) ?_
      refine g_iadd rfl rfl (pc' := 68) ?_
      refine g_aload (r := some _) rfl rfl rfl (pc' := 69) ?_
      refine g_getRv rfl rfl rfl rfl ht8 (pc' := 72) rfl (fun r10 hr10 => ?_)
      replace H := H r10 hr10
      obtain ⟨a11, rfl, H⟩ := H
      obtain ⟨ht12, H⟩ := H
      refine g_getI rfl rfl rfl rfl ht12 (pc' := 75) rfl ?_
      refine g_call rfl (y := 344) (n := 3) (pc' := 78) (fun _ => rfl) (by cases r9 <;> rfl) rfl ⟨(Nat.le_of_ble_eq_true rfl), (Nat.le_of_ble_eq_true rfl), (Nat.le_of_ble_eq_true rfl)⟩ rfl (gm_G.mono H (pI_elim (fun v14 h13 H' => ?_) (fun e15 h16 H => ?_)))
      · show gm_G _ 78 _ _ _ _
        replace H := H'
        clear H'
        refine g_if_eq rfl (pc' := 81) (pt := 85) rfl rfl ⟨fun hc => ?_, fun hc => ?_⟩
        · replace H := H.1 hc
          exact g_weak (show gm_Lle [some _, some _, some _] _ from ⟨rfl, ⟨rfl, ⟨rfl, trivial⟩⟩⟩) H
        · replace H := H.2 hc
          refine g_iconst rfl rfl rfl (pc' := 82) ?_
          refine g_goto rfl (pc' := 86) rfl ?_
          exact g_weak (show gm_Lle [some _, some _, some _] _ from ⟨rfl, ⟨rfl, ⟨rfl, trivial⟩⟩⟩) H
      · exact ⟨H.1, g_weak (show gm_Lle [some _] _ from ⟨rfl, trivial⟩) H.2⟩
  · exact ⟨H.1, g_weak (show gm_Lle [some _] _ from ⟨rfl, trivial⟩) H.2⟩
set_option maxRecDepth 20000 in
theorem w_612_85 {a0 : Nat} {x1 : Int32} {x2 : Int32} {h : hh_T} {Q : Option Value ⊕ Nat → hh_T → Prop} (H : gm_G 612 86 [some (.ref a0), some (.int x1), some (.int x2)] [.int (Int32.ofNat 0)] h Q) : gm_G 612 85 [some (.ref a0), some (.int x1), some (.int x2)] [] h Q := by
  refine g_iconst rfl rfl rfl (pc' := 86) ?_
  exact g_weak (show gm_Lle [some _, some _, some _] _ from ⟨rfl, ⟨rfl, ⟨rfl, trivial⟩⟩⟩) H
set_option maxRecDepth 20000 in
theorem w_612_86 {a0 : Nat} {x1 : Int32} {x2 : Int32} {y0 : Int32} {h : hh_T} {Q : Option Value ⊕ Nat → hh_T → Prop} (H : gm_G 457 0 [some (.int y0)] [] h (pV (fun h1 => hh_tg h1 a0 = 1 ∧ (gm_G 488 0 [some (.ref a0), some (.int x1)] [] h1 (pR (fun r4 h3 => ∃ a5, r4 = some a5 ∧ (gm_sub (hh_tg h3 a5) 23 = true ∧ (∀ r7, r7 = hh_r h3 a5 9 → (gm_sub (hh_tg h3 a0) 0 = true ∧ (∀ r9, r9 = hh_r h3 a0 58 → (hh_tg h3 a0 = 1 ∧ (gm_G 551 0 [some (.ref a0), some (va_rf r7), some (.int (hh_i h3 a0 41)), some (va_rf r9), some (.int (Int32.ofNat 0)), some (.int x2)] [] h3 (pI (fun v12 h11 => gm_sub (hh_tg h11 a5) 23 = true ∧ (∀ r14, r14 = hh_r h11 a5 9 → (∃ a15, r14 = some a15 ∧ (gm_sub (hh_tg h11 a15) 24 = true ∧ (∀ r17, r17 = hh_r h11 a15 2 → (∃ a18, r17 = some a18 ∧ ((hh_tg h11 a18 = 104 ∨ 200 ≤ hh_tg h11 a18) ∧ (∃ n19, gm_ix v12 n19 (hh_ln h11 a18) ∧ (∀ r21, r21 = hh_r h11 a18 n19 → ((∀ b, r21 = some b → gm_sub (hh_tg h11 b) 27 = true) ∧ (gm_sub (hh_tg h11 a0) 0 = true ∧ (∀ r23, r23 = hh_r h11 a0 58 → (∀ r24, r24 = hh_r h11 a0 58 → (gm_G 13 0 [some (va_rf r24), some (.int (Int32.ofNat 0)), some (.int x2)] [] h11 (pI (fun v26 h25 => gm_G 233 0 [some (va_rf r23), some (.int v26), some (.int x2)] [] h25 (pL (fun v28 h27 => gm_G 612 149 [some (.ref a0), some (.int x1), some (.int x2), some (.ref a5), some (.int v12), some (va_rf r21), some (.long v28)] [] h27 Q) (fun e29 h30 => hh_tg h30 e29 = 21 ∧ gm_G 612 448 [some (.ref a0)] [.ref e29] h30 Q))) (fun e31 h32 => hh_tg h32 e31 = 21 ∧ gm_G 612 448 [some (.ref a0)] [.ref e31] h32 Q)))))))))))))))) (fun e33 h34 => hh_tg h34 e33 = 21 ∧ gm_G 612 448 [some (.ref a0)] [.ref e33] h34 Q))))))))) (fun e35 h36 => hh_tg h36 e35 = 21 ∧ gm_G 612 448 [some (.ref a0)] [.ref e35] h36 Q)))) (fun e37 h38 => hh_tg h38 e37 = 21 ∧ gm_G 612 448 [some (.ref a0)] [.ref e37] h38 Q))) : gm_G 612 86 [some (.ref a0), some (.int x1), some (.int x2)] [.int y0] h Q := by
  refine g_call rfl (y := 457) (n := 1) (pc' := 89) (fun _ => rfl) rfl rfl ⟨(Nat.le_of_ble_eq_true rfl), (Nat.le_of_ble_eq_true rfl), (Nat.le_of_ble_eq_true rfl)⟩ rfl (gm_G.mono H (pV_elim (fun h1 H' => ?_) (fun e37 h38 H => ?_)))
  · show gm_G _ 89 _ _ _ _
    replace H := H'
    clear H'
    refine g_aload (r := some _) rfl rfl rfl (pc' := 90) ?_
    refine g_iload rfl rfl rfl (pc' := 91) ?_
    obtain ⟨ht2, H⟩ := H
    refine g_call rfl (y := 488) (n := 2) (pc' := 94) (g_vt ht2 rfl rfl) rfl rfl ⟨(Nat.le_of_ble_eq_true rfl), (Nat.le_of_ble_eq_true rfl), (Nat.le_of_ble_eq_true rfl)⟩ rfl (gm_G.mono H (pR_elim (fun r4 h3 H' => ?_) (fun e35 h36 H => ?_)))
    · show gm_G _ 94 _ _ _ _
      replace H := H'
      clear H'
      refine g_astore (r := _) rfl rfl rfl (pc' := 95) ?_
      refine g_aload (r := some _) rfl rfl rfl (pc' := 96) ?_
      refine g_aload (r := _) rfl rfl rfl (pc' := 97) ?_
      obtain ⟨a5, rfl, H⟩ := H
      obtain ⟨ht6, H⟩ := H
      refine g_getRv rfl rfl rfl rfl ht6 (pc' := 100) rfl (fun r7 hr7 => ?_)
      replace H := H r7 hr7
      refine g_aload (r := some _) rfl rfl rfl (pc' := 101) ?_
      obtain ⟨ht8, H⟩ := H
      refine g_getI rfl rfl rfl rfl ht8 (pc' := 104) rfl ?_
      refine g_aload (r := some _) rfl rfl rfl (pc' := 105) ?_
      refine g_getRv rfl rfl rfl rfl ht8 (pc' := 108) rfl (fun r9 hr9 => ?_)
      replace H := H r9 hr9
      refine g_iconst rfl rfl rfl (pc' := 109) ?_
      refine g_iload rfl rfl rfl (pc' := 110) ?_
      obtain ⟨ht10, H⟩ := H
      refine g_call rfl (y := 551) (n := 6) (pc' := 113) (g_vt ht10 rfl rfl) (by cases r7 <;> cases r9 <;> rfl) rfl ⟨(Nat.le_of_ble_eq_true rfl), (Nat.le_of_ble_eq_true rfl), (Nat.le_of_ble_eq_true rfl)⟩ rfl (gm_G.mono H (pI_elim (fun v12 h11 H' => ?_) (fun e33 h34 H => ?_)))
      · show gm_G _ 113 _ _ _ _
        replace H := H'
        clear H'
        refine g_istore rfl rfl rfl (pc' := 115) ?_
        refine g_aload (r := some _) rfl rfl rfl (pc' := 116) ?_
        obtain ⟨ht13, H⟩ := H
        refine g_getRv rfl rfl rfl rfl ht13 (pc' := 119) rfl (fun r14 hr14 => ?_)
        replace H := H r14 hr14
        obtain ⟨a15, rfl, H⟩ := H
        obtain ⟨ht16, H⟩ := H
        refine g_getRv rfl rfl rfl rfl ht16 (pc' := 122) rfl (fun r17 hr17 => ?_)
        replace H := H r17 hr17
        refine g_iload rfl rfl rfl (pc' := 124) ?_
        obtain ⟨a18, rfl, H⟩ := H
        obtain ⟨ht20, H⟩ := H
        obtain ⟨n19, hn19, H⟩ := H
        refine g_aaloadv rfl ht20 hn19 (pc' := 125) rfl (fun r21 hr21 => ?_)
        replace H := H r21 hr21
        obtain ⟨Hc, H⟩ := H
        refine g_cast rfl Hc (pc' := 128) rfl ?_
        refine g_astore (r := _) rfl rfl rfl (pc' := 130) ?_
        refine g_aload (r := some _) rfl rfl rfl (pc' := 131) ?_
        obtain ⟨ht22, H⟩ := H
        refine g_getRv rfl rfl rfl rfl ht22 (pc' := 134) rfl (fun r23 hr23 => ?_)
        replace H := H r23 hr23
        refine g_aload (r := some _) rfl rfl rfl (pc' := 135) ?_
        refine g_getRv rfl rfl rfl rfl ht22 (pc' := 138) rfl (fun r24 hr24 => ?_)
        replace H := H r24 hr24
        refine g_iconst rfl rfl rfl (pc' := 139) ?_
        refine g_iload rfl rfl rfl (pc' := 140) ?_
        refine g_call rfl (y := 13) (n := 3) (pc' := 143) (fun _ => rfl) (by cases r24 <;> rfl) rfl ⟨(Nat.le_of_ble_eq_true rfl), (Nat.le_of_ble_eq_true rfl), (Nat.le_of_ble_eq_true rfl)⟩ rfl (gm_G.mono H (pI_elim (fun v26 h25 H' => ?_) (fun e31 h32 H => ?_)))
        · show gm_G _ 143 _ _ _ _
          replace H := H'
          clear H'
          refine g_iload rfl rfl rfl (pc' := 144) ?_
          refine g_call rfl (y := 233) (n := 3) (pc' := 147) (fun _ => rfl) (by cases r23 <;> rfl) rfl ⟨(Nat.le_of_ble_eq_true rfl), (Nat.le_of_ble_eq_true rfl), (Nat.le_of_ble_eq_true rfl)⟩ rfl (gm_G.mono H (pL_elim (fun v28 h27 H' => ?_) (fun e29 h30 H => ?_)))
          · show gm_G _ 147 _ _ _ _
            replace H := H'
            clear H'
            refine g_lstore rfl gm_sto2_rf5 rfl (pc' := 149) ?_
            exact g_weak (show gm_Lle [some _, some _, some _, some _, some _, some _, some _] _ from ⟨rfl, ⟨rfl, ⟨rfl, ⟨rfl, ⟨rfl, ⟨rfl, ⟨rfl, trivial⟩⟩⟩⟩⟩⟩⟩) H
          · exact ⟨H.1, g_weak (show gm_Lle [some _] _ from ⟨rfl, trivial⟩) H.2⟩
        · exact ⟨H.1, g_weak (show gm_Lle [some _] _ from ⟨rfl, trivial⟩) H.2⟩
      · exact ⟨H.1, g_weak (show gm_Lle [some _] _ from ⟨rfl, trivial⟩) H.2⟩
    · exact ⟨H.1, g_weak (show gm_Lle [some _] _ from ⟨rfl, trivial⟩) H.2⟩
  · exact ⟨H.1, g_weak (show gm_Lle [some _] _ from ⟨rfl, trivial⟩) H.2⟩
set_option maxRecDepth 20000 in
theorem w_612_149 {a0 : Nat} {x1 : Int32} {x2 : Int32} {r_3 : Option Nat} {x4 : Int32} {r_5 : Option Nat} {j6 : Int64} {h : hh_T} {Q : Option Value ⊕ Nat → hh_T → Prop} (H : ∃ a1, r_5 = some a1 ∧ (hh_tg h a1 = 28 ∧ (gm_G 196 0 [some (.ref a1), some (.long j6), none] [] h (pI (fun v4 h3 => (v4 < Int32.ofNat 0 → (gm_G 612 168 [some (.ref a0), some (.int x1), some (.int x2), some (va_rf r_3), some (.int x4), some (.ref a1), some (.long j6), none, some (.int v4)] [.int (Int32.ofNat 0)] h3 Q)) ∧ (¬ v4 < Int32.ofNat 0 → (gm_G 612 168 [some (.ref a0), some (.int x1), some (.int x2), some (va_rf r_3), some (.int x4), some (.ref a1), some (.long j6), none, some (.int v4)] [.int (Int32.ofNat 1)] h3 Q))) (fun e5 h6 => hh_tg h6 e5 = 21 ∧ gm_G 612 448 [some (.ref a0)] [.ref e5] h6 Q))))) : gm_G 612 149 [some (.ref a0), some (.int x1), some (.int x2), some (va_rf r_3), some (.int x4), some (va_rf r_5), some (.long j6)] [] h Q := by
  refine g_aload (r := _) rfl rfl rfl (pc' := 151) ?_
  refine g_lload rfl rfl rfl (pc' := 153) ?_
  obtain ⟨a1, rfl, H⟩ := H
  obtain ⟨ht2, H⟩ := H
  refine g_call rfl (y := 196) (n := 2) (pc' := 156) (g_vt ht2 rfl rfl) rfl rfl ⟨(Nat.le_of_ble_eq_true rfl), (Nat.le_of_ble_eq_true rfl), (Nat.le_of_ble_eq_true rfl)⟩ rfl (gm_G.mono H (pI_elim (fun v4 h3 H' => ?_) (fun e5 h6 H => ?_)))
  · show gm_G _ 156 _ _ _ _
    replace H := H'
    clear H'
    refine g_istore rfl rfl rfl (pc' := 158) ?_
    refine g_iload rfl rfl rfl (pc' := 160) ?_
    refine g_if_lt rfl (pc' := 163) (pt := 167) rfl rfl ⟨fun hc => ?_, fun hc => ?_⟩
    · replace H := H.1 hc
      refine g_iconst rfl rfl rfl (pc' := 168) ?_
      exact g_weak (show gm_Lle [some _, some _, some _, some _, some _, some _, some _, none, some _] _ from ⟨rfl, ⟨rfl, ⟨rfl, ⟨rfl, ⟨rfl, ⟨rfl, ⟨rfl, ⟨rfl, trivial⟩⟩⟩⟩⟩⟩⟩⟩) H
    · replace H := H.2 hc
      refine g_iconst rfl rfl rfl (pc' := 164) ?_
      refine g_goto rfl (pc' := 168) rfl ?_
      exact g_weak (show gm_Lle [some _, some _, some _, some _, some _, some _, some _, none, some _] _ from ⟨rfl, ⟨rfl, ⟨rfl, ⟨rfl, ⟨rfl, ⟨rfl, ⟨rfl, ⟨rfl, trivial⟩⟩⟩⟩⟩⟩⟩⟩) H
  · exact ⟨H.1, g_weak (show gm_Lle [some _] _ from ⟨rfl, trivial⟩) H.2⟩
set_option maxRecDepth 20000 in
theorem w_612_168 {a0 : Nat} {x1 : Int32} {x2 : Int32} {r_3 : Option Nat} {x4 : Int32} {r_5 : Option Nat} {j6 : Int64} {x8 : Int32} {y0 : Int32} {h : hh_T} {Q : Option Value ⊕ Nat → hh_T → Prop} (H : gm_G 431 0 [some (.int y0), some (.int (Int32.ofInt (-2)))] [] h (pV (fun h1 => ∃ a2, r_3 = some a2 ∧ (gm_sub (hh_tg h1 a2) 23 = true ∧ (∀ r4, r4 = hh_r h1 a2 9 → (gm_sub (hh_tg h1 a0) 0 = true ∧ (∀ r6, r6 = hh_r h1 a0 58 → (∀ r7, r7 = hh_r h1 a0 58 → (∃ a8, r7 = some a8 ∧ (gm_sub (hh_tg h1 a8) 12 = true ∧ (hh_tg h1 a0 = 1 ∧ (gm_G 551 0 [some (.ref a0), some (va_rf r4), some (.int (hh_i h1 a0 41)), some (va_rf r6), some (.int (x2 + (Int32.ofNat 1))), some (.int (hh_i h1 a8 1))] [] h1 (pI (fun v12 h11 => gm_sub (hh_tg h11 a2) 23 = true ∧ (∀ r14, r14 = hh_r h11 a2 9 → (∃ a15, r14 = some a15 ∧ (gm_sub (hh_tg h11 a15) 24 = true ∧ (∀ r17, r17 = hh_r h11 a15 2 → (∃ a18, r17 = some a18 ∧ ((hh_tg h11 a18 = 104 ∨ 200 ≤ hh_tg h11 a18) ∧ (∃ n19, gm_ix v12 n19 (hh_ln h11 a18) ∧ (∀ r21, r21 = hh_r h11 a18 n19 → ((∀ b, r21 = some b → gm_sub (hh_tg h11 b) 27 = true) ∧ (gm_sub (hh_tg h11 a0) 0 = true ∧ (∀ r23, r23 = hh_r h11 a0 58 → (∀ r24, r24 = hh_r h11 a0 58 → (∀ r25, r25 = hh_r h11 a0 58 → (∃ a26, r25 = some a26 ∧ (gm_sub (hh_tg h11 a26) 12 = true ∧ (gm_G 13 0 [some (va_rf r24), some (.int (x2 + (Int32.ofNat 1))), some (.int (hh_i h11 a26 1))] [] h11 (pI (fun v29 h28 => gm_sub (hh_tg h28 a0) 0 = true ∧ (∀ r31, r31 = hh_r h28 a0 58 → (∃ a32, r31 = some a32 ∧ (gm_sub (hh_tg h28 a32) 12 = true ∧ (gm_G 233 0 [some (va_rf r23), some (.int v29), some (.int (hh_i h28 a32 1))] [] h28 (pL (fun v35 h34 => ∃ a36, r21 = some a36 ∧ (hh_tg h34 a36 = 28 ∧ (gm_G 196 0 [some (.ref a36), some (.long v35), none] [] h34 (pI (fun v39 h38 => (¬ v39 < Int32.ofNat 0 → (gm_G 612 264 [some (.ref a0), some (.int x1), none, some (.ref a2), some (.int x4), some (va_rf r_5), some (.long j6), none, some (.int x8), some (.int v12), some (.ref a36), some (.long v35)] [.int (Int32.ofNat 0)] h38 Q)) ∧ (v39 < Int32.ofNat 0 → (gm_G 612 259 [some (.ref a0), some (.int x1), none, some (.ref a2), some (.int x4), some (va_rf r_5), some (.long j6), none, some (.int x8), some (.int v12), some (.ref a36), some (.long v35)] [] h38 Q))) (fun e40 h41 => hh_tg h41 e40 = 21 ∧ gm_G 612 448 [some (.ref a0)] [.ref e40] h41 Q))))) (fun e42 h43 => hh_tg h43 e42 = 21 ∧ gm_G 612 448 [some (.ref a0)] [.ref e42] h43 Q))))))) (fun e44 h45 => hh_tg h45 e44 = 21 ∧ gm_G 612 448 [some (.ref a0)] [.ref e44] h45 Q))))))))))))))))))) (fun e46 h47 => hh_tg h47 e46 = 21 ∧ gm_G 612 448 [some (.ref a0)] [.ref e46] h47 Q)))))))))))) (fun e48 h49 => hh_tg h49 e48 = 21 ∧ gm_G 612 448 [some (.ref a0)] [.ref e48] h49 Q))) : gm_G 612 168 [some (.ref a0), some (.int x1), some (.int x2), some (va_rf r_3), some (.int x4), some (va_rf r_5), some (.long j6), none, some (.int x8)] [.int y0] h Q := by
  refine g_iconst rfl rfl rfl (pc' := 170) ?_
  refine g_call rfl (y := 431) (n := 2) (pc' := 173) (fun _ => rfl) rfl rfl ⟨(Nat.le_of_ble_eq_true rfl), (Nat.le_of_ble_eq_true rfl), (Nat.le_of_ble_eq_true rfl)⟩ rfl (gm_G.mono H (pV_elim (fun h1 H' => ?_) (fun e48 h49 H => ?_)))
  · show gm_G _ 173 _ _ _ _
    replace H := H'
    clear H'
    refine g_aload (r := some _) rfl rfl rfl (pc' := 174) ?_
    refine g_aload (r := _) rfl rfl rfl (pc' := 175) ?_
    obtain ⟨a2, rfl, H⟩ := H
    obtain ⟨ht3, H⟩ := H
    refine g_getRv rfl rfl rfl rfl ht3 (pc' := 178) rfl (fun r4 hr4 => ?_)
    replace H := H r4 hr4
    refine g_aload (r := some _) rfl rfl rfl (pc' := 179) ?_
    obtain ⟨ht5, H⟩ := H
    refine g_getI rfl rfl rfl rfl ht5 (pc' := 182) rfl ?_
    refine g_aload (r := some _) rfl rfl rfl (pc' := 183) ?_
    refine g_getRv rfl rfl rfl rfl ht5 (pc' := 186) rfl (fun r6 hr6 => ?_)
    replace H := H r6 hr6
    refine g_iload rfl rfl rfl (pc' := 187) ?_
    refine g_iconst rfl rfl rfl (pc' := 188) ?_
    refine g_iadd rfl rfl (pc' := 189) ?_
    refine g_aload (r := some _) rfl rfl rfl (pc' := 190) ?_
    refine g_getRv rfl rfl rfl rfl ht5 (pc' := 193) rfl (fun r7 hr7 => ?_)
    replace H := H r7 hr7
    obtain ⟨a8, rfl, H⟩ := H
    obtain ⟨ht9, H⟩ := H
    refine g_getI rfl rfl rfl rfl ht9 (pc' := 196) rfl ?_
    obtain ⟨ht10, H⟩ := H
    refine g_call rfl (y := 551) (n := 6) (pc' := 199) (g_vt ht10 rfl rfl) (by cases r4 <;> cases r6 <;> rfl) rfl ⟨(Nat.le_of_ble_eq_true rfl), (Nat.le_of_ble_eq_true rfl), (Nat.le_of_ble_eq_true rfl)⟩ rfl (gm_G.mono H (pI_elim (fun v12 h11 H' => ?_) (fun e46 h47 H => ?_)))
    · show gm_G _ 199 _ _ _ _
      replace H := H'
      clear H'
      refine g_istore rfl rfl rfl (pc' := 201) ?_
      refine g_aload (r := some _) rfl rfl rfl (pc' := 202) ?_
      obtain ⟨ht13, H⟩ := H
      refine g_getRv rfl rfl rfl rfl ht13 (pc' := 205) rfl (fun r14 hr14 => ?_)
      replace H := H r14 hr14
      obtain ⟨a15, rfl, H⟩ := H
      obtain ⟨ht16, H⟩ := H
      refine g_getRv rfl rfl rfl rfl ht16 (pc' := 208) rfl (fun r17 hr17 => ?_)
      replace H := H r17 hr17
      refine g_iload rfl rfl rfl (pc' := 210) ?_
      obtain ⟨a18, rfl, H⟩ := H
      obtain ⟨ht20, H⟩ := H
      obtain ⟨n19, hn19, H⟩ := H
      refine g_aaloadv rfl ht20 hn19 (pc' := 211) rfl (fun r21 hr21 => ?_)
      replace H := H r21 hr21
      obtain ⟨Hc, H⟩ := H
      refine g_cast rfl Hc (pc' := 214) rfl ?_
      refine g_astore (r := _) rfl rfl rfl (pc' := 216) ?_
      refine g_aload (r := some _) rfl rfl rfl (pc' := 217) ?_
      obtain ⟨ht22, H⟩ := H
      refine g_getRv rfl rfl rfl rfl ht22 (pc' := 220) rfl (fun r23 hr23 => ?_)
      replace H := H r23 hr23
      refine g_aload (r := some _) rfl rfl rfl (pc' := 221) ?_
      refine g_getRv rfl rfl rfl rfl ht22 (pc' := 224) rfl (fun r24 hr24 => ?_)
      replace H := H r24 hr24
      refine g_iload rfl rfl rfl (pc' := 225) ?_
      refine g_iconst rfl rfl rfl (pc' := 226) ?_
      refine g_iadd rfl rfl (pc' := 227) ?_
      refine g_aload (r := some _) rfl rfl rfl (pc' := 228) ?_
      refine g_getRv rfl rfl rfl rfl ht22 (pc' := 231) rfl (fun r25 hr25 => ?_)
      replace H := H r25 hr25
      obtain ⟨a26, rfl, H⟩ := H
      obtain ⟨ht27, H⟩ := H
      refine g_getI rfl rfl rfl rfl ht27 (pc' := 234) rfl ?_
      refine g_call rfl (y := 13) (n := 3) (pc' := 237) (fun _ => rfl) (by cases r24 <;> rfl) rfl ⟨(Nat.le_of_ble_eq_true rfl), (Nat.le_of_ble_eq_true rfl), (Nat.le_of_ble_eq_true rfl)⟩ rfl (gm_G.mono H (pI_elim (fun v29 h28 H' => ?_) (fun e44 h45 H => ?_)))
      · show gm_G _ 237 _ _ _ _
        replace H := H'
        clear H'
        refine g_aload (r := some _) rfl rfl rfl (pc' := 238) ?_
        obtain ⟨ht30, H⟩ := H
        refine g_getRv rfl rfl rfl rfl ht30 (pc' := 241) rfl (fun r31 hr31 => ?_)
        replace H := H r31 hr31
        obtain ⟨a32, rfl, H⟩ := H
        obtain ⟨ht33, H⟩ := H
        refine g_getI rfl rfl rfl rfl ht33 (pc' := 244) rfl ?_
        refine g_call rfl (y := 233) (n := 3) (pc' := 247) (fun _ => rfl) (by cases r23 <;> rfl) rfl ⟨(Nat.le_of_ble_eq_true rfl), (Nat.le_of_ble_eq_true rfl), (Nat.le_of_ble_eq_true rfl)⟩ rfl (gm_G.mono H (pL_elim (fun v35 h34 H' => ?_) (fun e42 h43 H => ?_)))
        · show gm_G _ 247 _ _ _ _
          replace H := H'
          clear H'
          refine g_lstore rfl gm_sto2_rf10 rfl (pc' := 249) ?_
          refine g_aload (r := _) rfl rfl rfl (pc' := 251) ?_
          refine g_lload rfl rfl rfl (pc' := 253) ?_
          obtain ⟨a36, rfl, H⟩ := H
          obtain ⟨ht37, H⟩ := H
          refine g_call rfl (y := 196) (n := 2) (pc' := 256) (g_vt ht37 rfl rfl) rfl rfl ⟨(Nat.le_of_ble_eq_true rfl), (Nat.le_of_ble_eq_true rfl), (Nat.le_of_ble_eq_true rfl)⟩ rfl (gm_G.mono H (pI_elim (fun v39 h38 H' => ?_) (fun e40 h41 H => ?_)))
          · show gm_G _ 256 _ _ _ _
            replace H := H'
            clear H'
            refine g_if_ge rfl (pc' := 259) (pt := 263) rfl rfl ⟨fun hc => ?_, fun hc => ?_⟩
            · replace H := H.1 hc
              refine g_iconst rfl rfl rfl (pc' := 264) ?_
              exact g_weak (show gm_Lle [some _, some _, none, some _, some _, some _, some _, none, some _, some _, some _, some _] _ from ⟨rfl, ⟨rfl, ⟨rfl, ⟨rfl, ⟨rfl, ⟨rfl, ⟨rfl, ⟨rfl, ⟨rfl, ⟨rfl, trivial⟩⟩⟩⟩⟩⟩⟩⟩⟩⟩) H
            · replace H := H.2 hc
              exact g_weak (show gm_Lle [some _, some _, none, some _, some _, some _, some _, none, some _, some _, some _, some _] _ from ⟨rfl, ⟨rfl, ⟨rfl, ⟨rfl, ⟨rfl, ⟨rfl, ⟨rfl, ⟨rfl, ⟨rfl, ⟨rfl, trivial⟩⟩⟩⟩⟩⟩⟩⟩⟩⟩) H
          · exact ⟨H.1, g_weak (show gm_Lle [some _] _ from ⟨rfl, trivial⟩) H.2⟩
        · exact ⟨H.1, g_weak (show gm_Lle [some _] _ from ⟨rfl, trivial⟩) H.2⟩
      · exact ⟨H.1, g_weak (show gm_Lle [some _] _ from ⟨rfl, trivial⟩) H.2⟩
    · exact ⟨H.1, g_weak (show gm_Lle [some _] _ from ⟨rfl, trivial⟩) H.2⟩
  · exact ⟨H.1, g_weak (show gm_Lle [some _] _ from ⟨rfl, trivial⟩) H.2⟩
set_option maxRecDepth 20000 in
theorem w_612_259 {a0 : Nat} {x1 : Int32} {r_3 : Option Nat} {x4 : Int32} {r_5 : Option Nat} {j6 : Int64} {x8 : Int32} {x9 : Int32} {r_10 : Option Nat} {j11 : Int64} {h : hh_T} {Q : Option Value ⊕ Nat → hh_T → Prop} (H : gm_G 612 264 [some (.ref a0), some (.int x1), none, some (va_rf r_3), some (.int x4), some (va_rf r_5), some (.long j6), none, some (.int x8), some (.int x9), some (va_rf r_10), some (.long j11)] [.int (Int32.ofNat 1)] h Q) : gm_G 612 259 [some (.ref a0), some (.int x1), none, some (va_rf r_3), some (.int x4), some (va_rf r_5), some (.long j6), none, some (.int x8), some (.int x9), some (va_rf r_10), some (.long j11)] [] h Q := by
  refine g_iconst rfl rfl rfl (pc' := 260) ?_
  refine g_goto rfl (pc' := 264) rfl ?_
  exact g_weak (show gm_Lle [some _, some _, none, some _, some _, some _, some _, none, some _, some _, some _, some _] _ from ⟨rfl, ⟨rfl, ⟨rfl, ⟨rfl, ⟨rfl, ⟨rfl, ⟨rfl, ⟨rfl, ⟨rfl, ⟨rfl, trivial⟩⟩⟩⟩⟩⟩⟩⟩⟩⟩) H
set_option maxRecDepth 20000 in
theorem w_612_264 {a0 : Nat} {x1 : Int32} {r_3 : Option Nat} {x4 : Int32} {r_5 : Option Nat} {j6 : Int64} {x8 : Int32} {x9 : Int32} {r_10 : Option Nat} {j11 : Int64} {y0 : Int32} {h : hh_T} {Q : Option Value ⊕ Nat → hh_T → Prop} (H : gm_G 431 0 [some (.int y0), some (.int (Int32.ofInt (-4)))] [] h (pV (fun h1 => gm_sub (hh_tg h1 a0) 0 = true ∧ (hh_tg h1 a0 = 1 ∧ (gm_G 393 0 [some (.ref a0), some (va_rf r_5), some (.int (hh_i h1 a0 41)), some (.int (Int32.ofNat 3))] [] h1 (pI (fun v5 h4 => (v5 = Int32.ofNat 0 → (gm_G 612 301 [some (.ref a0), some (.int x1), none, some (va_rf r_3), some (.int x4), some (va_rf r_5), some (.long j6), none, some (.int x8), some (.int x9), some (va_rf r_10), some (.long j11)] [] h4 Q)) ∧ (¬ v5 = Int32.ofNat 0 → (gm_sub (hh_tg h4 a0) 0 = true ∧ (hh_tg h4 a0 = 1 ∧ (gm_G 393 0 [some (.ref a0), some (va_rf r_10), some (.int (hh_i h4 a0 41)), some (.int (Int32.ofNat 3))] [] h4 (pI (fun v9 h8 => (v9 = Int32.ofNat 0 → (gm_G 612 301 [some (.ref a0), some (.int x1), none, some (va_rf r_3), some (.int x4), some (va_rf r_5), some (.long j6), none, some (.int x8), some (.int x9), some (va_rf r_10), some (.long j11)] [] h8 Q)) ∧ (¬ v9 = Int32.ofNat 0 → (gm_G 612 302 [some (.ref a0), some (.int x1), none, some (va_rf r_3), some (.int x4), some (va_rf r_5), some (.long j6), none, some (.int x8), some (.int x9), some (va_rf r_10), some (.long j11)] [.int (Int32.ofNat 1)] h8 Q))) (fun e10 h11 => hh_tg h11 e10 = 21 ∧ gm_G 612 448 [some (.ref a0)] [.ref e10] h11 Q))))))) (fun e12 h13 => hh_tg h13 e12 = 21 ∧ gm_G 612 448 [some (.ref a0)] [.ref e12] h13 Q))))) (fun e14 h15 => hh_tg h15 e14 = 21 ∧ gm_G 612 448 [some (.ref a0)] [.ref e14] h15 Q))) : gm_G 612 264 [some (.ref a0), some (.int x1), none, some (va_rf r_3), some (.int x4), some (va_rf r_5), some (.long j6), none, some (.int x8), some (.int x9), some (va_rf r_10), some (.long j11)] [.int y0] h Q := by
  refine g_iconst rfl rfl rfl (pc' := 266) ?_
  refine g_call rfl (y := 431) (n := 2) (pc' := 269) (fun _ => rfl) rfl rfl ⟨(Nat.le_of_ble_eq_true rfl), (Nat.le_of_ble_eq_true rfl), (Nat.le_of_ble_eq_true rfl)⟩ rfl (gm_G.mono H (pV_elim (fun h1 H' => ?_) (fun e14 h15 H => ?_)))
  · show gm_G _ 269 _ _ _ _
    replace H := H'
    clear H'
    refine g_aload (r := some _) rfl rfl rfl (pc' := 270) ?_
    refine g_aload (r := _) rfl rfl rfl (pc' := 272) ?_
    refine g_aload (r := some _) rfl rfl rfl (pc' := 273) ?_
    obtain ⟨ht2, H⟩ := H
    refine g_getI rfl rfl rfl rfl ht2 (pc' := 276) rfl ?_
    refine g_iconst rfl rfl rfl (pc' := 277) ?_
    obtain ⟨ht3, H⟩ := H
    refine g_call rfl (y := 393) (n := 4) (pc' := 280) (g_vt ht3 rfl rfl) (by cases r_5 <;> rfl) rfl ⟨(Nat.le_of_ble_eq_true rfl), (Nat.le_of_ble_eq_true rfl), (Nat.le_of_ble_eq_true rfl)⟩ rfl (gm_G.mono H (pI_elim (fun v5 h4 H' => ?_) (fun e12 h13 H => ?_)))
    · show gm_G _ 280 _ _ _ _
      replace H := H'
      clear H'
      refine g_if_eq rfl (pc' := 283) (pt := 301) rfl rfl ⟨fun hc => ?_, fun hc => ?_⟩
      · replace H := H.1 hc
        exact g_weak (show gm_Lle [some _, some _, none, some _, some _, some _, some _, none, some _, some _, some _, some _] _ from ⟨rfl, ⟨rfl, ⟨rfl, ⟨rfl, ⟨rfl, ⟨rfl, ⟨rfl, ⟨rfl, ⟨rfl, ⟨rfl, trivial⟩⟩⟩⟩⟩⟩⟩⟩⟩⟩) H
      · replace H := H.2 hc
        refine g_aload (r := some _) rfl rfl rfl (pc' := 284) ?_
        refine g_aload (r := _) rfl rfl rfl (pc' := 286) ?_
        refine g_aload (r := some _) rfl rfl rfl (pc' := 287) ?_
        obtain ⟨ht6, H⟩ := H
        refine g_getI rfl rfl rfl rfl ht6 (pc' := 290) rfl ?_
        refine g_iconst rfl rfl rfl (pc' := 291) ?_
        obtain ⟨ht7, H⟩ := H
        refine g_call rfl (y := 393) (n := 4) (pc' := 294) (g_vt ht7 rfl rfl) (by cases r_10 <;> rfl) rfl ⟨(Nat.le_of_ble_eq_true rfl), (Nat.le_of_ble_eq_true rfl), (Nat.le_of_ble_eq_true rfl)⟩ rfl (gm_G.mono H (pI_elim (fun v9 h8 H' => ?_) (fun e10 h11 H => ?_)))
        · show gm_G _ 294 _ _ _ _
          replace H := H'
          clear H'
          refine g_if_eq rfl (pc' := 297) (pt := 301) rfl rfl ⟨fun hc => ?_, fun hc => ?_⟩
          · replace H := H.1 hc
            exact g_weak (show gm_Lle [some _, some _, none, some _, some _, some _, some _, none, some _, some _, some _, some _] _ from ⟨rfl, ⟨rfl, ⟨rfl, ⟨rfl, ⟨rfl, ⟨rfl, ⟨rfl, ⟨rfl, ⟨rfl, ⟨rfl, trivial⟩⟩⟩⟩⟩⟩⟩⟩⟩⟩) H
          · replace H := H.2 hc
            refine g_iconst rfl rfl rfl (pc' := 298) ?_
            refine g_goto rfl (pc' := 302) rfl ?_
            exact g_weak (show gm_Lle [some _, some _, none, some _, some _, some _, some _, none, some _, some _, some _, some _] _ from ⟨rfl, ⟨rfl, ⟨rfl, ⟨rfl, ⟨rfl, ⟨rfl, ⟨rfl, ⟨rfl, ⟨rfl, ⟨rfl, trivial⟩⟩⟩⟩⟩⟩⟩⟩⟩⟩) H
        · exact ⟨H.1, g_weak (show gm_Lle [some _] _ from ⟨rfl, trivial⟩) H.2⟩
    · exact ⟨H.1, g_weak (show gm_Lle [some _] _ from ⟨rfl, trivial⟩) H.2⟩
  · exact ⟨H.1, g_weak (show gm_Lle [some _] _ from ⟨rfl, trivial⟩) H.2⟩
set_option maxRecDepth 20000 in
theorem w_612_301 {a0 : Nat} {x1 : Int32} {r_3 : Option Nat} {x4 : Int32} {r_5 : Option Nat} {j6 : Int64} {x8 : Int32} {x9 : Int32} {r_10 : Option Nat} {j11 : Int64} {h : hh_T} {Q : Option Value ⊕ Nat → hh_T → Prop} (H : gm_G 612 302 [some (.ref a0), some (.int x1), none, some (va_rf r_3), some (.int x4), some (va_rf r_5), some (.long j6), none, some (.int x8), some (.int x9), some (va_rf r_10), some (.long j11)] [.int (Int32.ofNat 0)] h Q) : gm_G 612 301 [some (.ref a0), some (.int x1), none, some (va_rf r_3), some (.int x4), some (va_rf r_5), some (.long j6), none, some (.int x8), some (.int x9), some (va_rf r_10), some (.long j11)] [] h Q := by
  refine g_iconst rfl rfl rfl (pc' := 302) ?_
  exact g_weak (show gm_Lle [some _, some _, none, some _, some _, some _, some _, none, some _, some _, some _, some _] _ from ⟨rfl, ⟨rfl, ⟨rfl, ⟨rfl, ⟨rfl, ⟨rfl, ⟨rfl, ⟨rfl, ⟨rfl, ⟨rfl, trivial⟩⟩⟩⟩⟩⟩⟩⟩⟩⟩) H
set_option maxRecDepth 20000 in
theorem w_612_302 {a0 : Nat} {x1 : Int32} {r_3 : Option Nat} {x4 : Int32} {r_5 : Option Nat} {j6 : Int64} {x8 : Int32} {x9 : Int32} {r_10 : Option Nat} {j11 : Int64} {y0 : Int32} {h : hh_T} {Q : Option Value ⊕ Nat → hh_T → Prop} (H : gm_G 431 0 [some (.int y0), some (.int (Int32.ofInt (-6)))] [] h (pV (fun h1 => ∃ a2, r_5 = some a2 ∧ (gm_sub (hh_tg h1 a2) 27 = true ∧ (∀ r4, r4 = hh_r h1 a2 13 → (∃ a5, r4 = some a5 ∧ ((hh_tg h1 a5 = 100 ∨ hh_tg h1 a5 = 105) ∧ (∃ n6, gm_ix x8 n6 (hh_ln h1 a5) ∧ (gm_G 612 321 [some (.ref a0), some (.int x1), none, some (va_rf r_3), some (.int x4), some (.ref a2), some (.long j6), none, none, some (.int x9), some (va_rf r_10), some (.long j11), none, some (.int (hh_i h1 a5 n6)), some (.int x9)] [] h1 Q))))))) (fun e8 h9 => hh_tg h9 e8 = 21 ∧ gm_G 612 448 [some (.ref a0)] [.ref e8] h9 Q))) : gm_G 612 302 [some (.ref a0), some (.int x1), none, some (va_rf r_3), some (.int x4), some (va_rf r_5), some (.long j6), none, some (.int x8), some (.int x9), some (va_rf r_10), some (.long j11)] [.int y0] h Q := by
  refine g_iconst rfl rfl rfl (pc' := 304) ?_
  refine g_call rfl (y := 431) (n := 2) (pc' := 307) (fun _ => rfl) rfl rfl ⟨(Nat.le_of_ble_eq_true rfl), (Nat.le_of_ble_eq_true rfl), (Nat.le_of_ble_eq_true rfl)⟩ rfl (gm_G.mono H (pV_elim (fun h1 H' => ?_) (fun e8 h9 H => ?_)))
  · show gm_G _ 307 _ _ _ _
    replace H := H'
    clear H'
    refine g_aload (r := _) rfl rfl rfl (pc' := 309) ?_
    obtain ⟨a2, rfl, H⟩ := H
    obtain ⟨ht3, H⟩ := H
    refine g_getRv rfl rfl rfl rfl ht3 (pc' := 312) rfl (fun r4 hr4 => ?_)
    replace H := H r4 hr4
    refine g_iload rfl rfl rfl (pc' := 314) ?_
    obtain ⟨a5, rfl, H⟩ := H
    obtain ⟨ht7, H⟩ := H
    obtain ⟨n6, hn6, H⟩ := H
    refine g_iaload rfl ht7 hn6 (pc' := 315) rfl ?_
    refine g_istore rfl rfl rfl (pc' := 317) ?_
    refine g_iload rfl rfl rfl (pc' := 319) ?_
    refine g_istore rfl rfl rfl (pc' := 321) ?_
    exact g_weak (show gm_Lle [some _, some _, none, some _, some _, some _, some _, none, none, some _, some _, some _, none, some _, some _] _ from ⟨rfl, ⟨rfl, ⟨rfl, ⟨rfl, ⟨rfl, ⟨rfl, ⟨rfl, ⟨rfl, ⟨rfl, ⟨rfl, ⟨rfl, trivial⟩⟩⟩⟩⟩⟩⟩⟩⟩⟩⟩) H
  · exact ⟨H.1, g_weak (show gm_Lle [some _] _ from ⟨rfl, trivial⟩) H.2⟩
set_option maxRecDepth 20000 in
theorem w_612_321 {a0 : Nat} {x1 : Int32} {r_3 : Option Nat} {x4 : Int32} {r_5 : Option Nat} {j6 : Int64} {x9 : Int32} {r_10 : Option Nat} {j11 : Int64} {x13 : Int32} {x14 : Int32} {h : hh_T} {Q : Option Value ⊕ Nat → hh_T → Prop} (H : (x14 = x13 → (gm_G 612 333 [some (.ref a0), some (.int x1), none, some (va_rf r_3), some (.int x4), some (va_rf r_5), some (.long j6), none, none, some (.int x9), some (va_rf r_10), some (.long j11), none, some (.int x13), some (.int x14)] [.int (Int32.ofNat 0)] h Q)) ∧ (¬ x14 = x13 → (gm_G 612 333 [some (.ref a0), some (.int x1), none, some (va_rf r_3), some (.int x4), some (va_rf r_5), some (.long j6), none, none, some (.int x9), some (va_rf r_10), some (.long j11), none, some (.int x13), some (.int x14)] [.int (Int32.ofNat 1)] h Q))) : gm_G 612 321 [some (.ref a0), some (.int x1), none, some (va_rf r_3), some (.int x4), some (va_rf r_5), some (.long j6), none, none, some (.int x9), some (va_rf r_10), some (.long j11), none, some (.int x13), some (.int x14)] [] h Q := by
  refine g_iload rfl rfl rfl (pc' := 323) ?_
  refine g_iload rfl rfl rfl (pc' := 325) ?_
  refine g_ic_eq rfl (pc' := 328) (pt := 332) rfl rfl ⟨fun hc => ?_, fun hc => ?_⟩
  · replace H := H.1 hc
    refine g_iconst rfl rfl rfl (pc' := 333) ?_
    exact g_weak (show gm_Lle [some _, some _, none, some _, some _, some _, some _, none, none, some _, some _, some _, none, some _, some _] _ from ⟨rfl, ⟨rfl, ⟨rfl, ⟨rfl, ⟨rfl, ⟨rfl, ⟨rfl, ⟨rfl, ⟨rfl, ⟨rfl, ⟨rfl, trivial⟩⟩⟩⟩⟩⟩⟩⟩⟩⟩⟩) H
  · replace H := H.2 hc
    refine g_iconst rfl rfl rfl (pc' := 329) ?_
    refine g_goto rfl (pc' := 333) rfl ?_
    exact g_weak (show gm_Lle [some _, some _, none, some _, some _, some _, some _, none, none, some _, some _, some _, none, some _, some _] _ from ⟨rfl, ⟨rfl, ⟨rfl, ⟨rfl, ⟨rfl, ⟨rfl, ⟨rfl, ⟨rfl, ⟨rfl, ⟨rfl, ⟨rfl, trivial⟩⟩⟩⟩⟩⟩⟩⟩⟩⟩⟩) H
set_option maxRecDepth 20000 in
theorem w_612_333 {a0 : Nat} {x1 : Int32} {r_3 : Option Nat} {x4 : Int32} {r_5 : Option Nat} {j6 : Int64} {x9 : Int32} {r_10 : Option Nat} {j11 : Int64} {x13 : Int32} {x14 : Int32} {y0 : Int32} {h : hh_T} {Q : Option Value ⊕ Nat → hh_T → Prop} (H : gm_G 431 0 [some (.int y0), some (.int (Int32.ofInt (-5)))] [] h (pV (fun h1 => (¬ x14 = Int32.ofNat 0 → (∃ a2, r_3 = some a2 ∧ (gm_sub (hh_tg h1 a2) 23 = true ∧ (∀ r4, r4 = hh_r h1 a2 9 → (∃ a5, r4 = some a5 ∧ (gm_sub (hh_tg h1 a5) 24 = true ∧ (∀ r7, r7 = hh_r h1 a5 2 → (∃ a8, r7 = some a8 ∧ ((hh_tg h1 a8 = 104 ∨ 200 ≤ hh_tg h1 a8) ∧ (∃ n9, gm_ix x14 n9 (hh_ln h1 a8) ∧ (∀ r11, r11 = hh_r h1 a8 n9 → ((∀ b, r11 = some b → gm_sub (hh_tg h1 b) 27 = true) ∧ (∃ a12, r11 = some a12 ∧ (gm_sub (hh_tg h1 a12) 27 = true ∧ (gm_G 612 321 [some (.ref a0), some (.int x1), none, some (.ref a2), some (.int x4), some (va_rf r_5), some (.long j6), none, none, some (.int x9), some (va_rf r_10), some (.long j11), none, some (.int x13), some (.int (hh_i h1 a12 14))] [] h1 Q))))))))))))))) ∧ (x14 = Int32.ofNat 0 → ((r_5 = r_10 → (gm_G 612 384 [some (.ref a0), some (.int x1), none, some (va_rf r_3), some (.int x4), none, some (.long j6), none, none, some (.int x9), none, some (.long j11), none, some (.int x13)] [] h1 Q)) ∧ (¬ r_5 = r_10 → (∃ a14, r_10 = some a14 ∧ (gm_sub (hh_tg h1 a14) 25 = true ∧ ((¬ (hh_i h1 a14 6) < (Int32.ofNat 8) → (gm_G 612 389 [some (.ref a0), some (.int x1), none, some (va_rf r_3), some (.int x4), none, some (.long j6), none, none, some (.int x9), none, some (.long j11), none, some (.int x13)] [.int (Int32.ofNat 0)] h1 Q)) ∧ ((hh_i h1 a14 6) < (Int32.ofNat 8) → (gm_G 612 384 [some (.ref a0), some (.int x1), none, some (va_rf r_3), some (.int x4), none, some (.long j6), none, none, some (.int x9), none, some (.long j11), none, some (.int x13)] [] h1 Q))))))))) (fun e16 h17 => hh_tg h17 e16 = 21 ∧ gm_G 612 448 [some (.ref a0)] [.ref e16] h17 Q))) : gm_G 612 333 [some (.ref a0), some (.int x1), none, some (va_rf r_3), some (.int x4), some (va_rf r_5), some (.long j6), none, none, some (.int x9), some (va_rf r_10), some (.long j11), none, some (.int x13), some (.int x14)] [.int y0] h Q := by
  refine g_iconst rfl rfl rfl (pc' := 335) ?_
  refine g_call rfl (y := 431) (n := 2) (pc' := 338) (fun _ => rfl) rfl rfl ⟨(Nat.le_of_ble_eq_true rfl), (Nat.le_of_ble_eq_true rfl), (Nat.le_of_ble_eq_true rfl)⟩ rfl (gm_G.mono H (pV_elim (fun h1 H' => ?_) (fun e16 h17 H => ?_)))
  · show gm_G _ 338 _ _ _ _
    replace H := H'
    clear H'
    refine g_iload rfl rfl rfl (pc' := 340) ?_
    refine g_if_ne rfl (pc' := 343) (pt := 346) rfl rfl ⟨fun hc => ?_, fun hc => ?_⟩
    · replace H := H.1 hc
      refine g_aload (r := _) rfl rfl rfl (pc' := 347) ?_
      obtain ⟨a2, rfl, H⟩ := H
      obtain ⟨ht3, H⟩ := H
      refine g_getRv rfl rfl rfl rfl ht3 (pc' := 350) rfl (fun r4 hr4 => ?_)
      replace H := H r4 hr4
      obtain ⟨a5, rfl, H⟩ := H
      obtain ⟨ht6, H⟩ := H
      refine g_getRv rfl rfl rfl rfl ht6 (pc' := 353) rfl (fun r7 hr7 => ?_)
      replace H := H r7 hr7
      refine g_iload rfl rfl rfl (pc' := 355) ?_
      obtain ⟨a8, rfl, H⟩ := H
      obtain ⟨ht10, H⟩ := H
      obtain ⟨n9, hn9, H⟩ := H
      refine g_aaloadv rfl ht10 hn9 (pc' := 356) rfl (fun r11 hr11 => ?_)
      replace H := H r11 hr11
      obtain ⟨Hc, H⟩ := H
      refine g_cast rfl Hc (pc' := 359) rfl ?_
      obtain ⟨a12, rfl, H⟩ := H
      obtain ⟨ht13, H⟩ := H
      refine g_getI rfl rfl rfl rfl ht13 (pc' := 362) rfl ?_
      refine g_istore rfl rfl rfl (pc' := 364) ?_
      refine g_goto rfl (pc' := 321) rfl ?_
      exact g_weak (show gm_Lle [some _, some _, none, some _, some _, some _, some _, none, none, some _, some _, some _, none, some _, some _] _ from ⟨rfl, ⟨rfl, ⟨rfl, ⟨rfl, ⟨rfl, ⟨rfl, ⟨rfl, ⟨rfl, ⟨rfl, ⟨rfl, ⟨rfl, trivial⟩⟩⟩⟩⟩⟩⟩⟩⟩⟩⟩) H
    · replace H := H.2 hc
      refine g_goto rfl (pc' := 367) rfl ?_
      refine g_aload (r := _) rfl rfl rfl (pc' := 369) ?_
      refine g_aload (r := _) rfl rfl rfl (pc' := 371) ?_
      refine g_ac_eq (r1 := _) (r2 := _) rfl (pc' := 374) (pt := 384) rfl rfl ⟨fun hc => ?_, fun hc => ?_⟩
      · replace H := H.1 hc
        exact g_weak (show gm_Lle [some _, some _, none, some _, some _, none, some _, none, none, some _, none, some _, none, some _] _ from ⟨rfl, ⟨rfl, ⟨rfl, ⟨rfl, ⟨rfl, ⟨rfl, ⟨rfl, ⟨rfl, trivial⟩⟩⟩⟩⟩⟩⟩⟩) H
      · replace H := H.2 hc
        refine g_aload (r := _) rfl rfl rfl (pc' := 376) ?_
        obtain ⟨a14, rfl, H⟩ := H
        obtain ⟨ht15, H⟩ := H
        refine g_getI rfl rfl rfl rfl ht15 (pc' := 379) rfl ?_
        refine g_iconst rfl rfl rfl (pc' := 381) ?_
        refine g_ic_ge rfl (pc' := 384) (pt := 388) rfl rfl ⟨fun hc => ?_, fun hc => ?_⟩
        · replace H := H.1 hc
          refine g_iconst rfl rfl rfl (pc' := 389) ?_
          exact g_weak (show gm_Lle [some _, some _, none, some _, some _, none, some _, none, none, some _, none, some _, none, some _] _ from ⟨rfl, ⟨rfl, ⟨rfl, ⟨rfl, ⟨rfl, ⟨rfl, ⟨rfl, ⟨rfl, trivial⟩⟩⟩⟩⟩⟩⟩⟩) H
        · replace H := H.2 hc
          exact g_weak (show gm_Lle [some _, some _, none, some _, some _, none, some _, none, none, some _, none, some _, none, some _] _ from ⟨rfl, ⟨rfl, ⟨rfl, ⟨rfl, ⟨rfl, ⟨rfl, ⟨rfl, ⟨rfl, trivial⟩⟩⟩⟩⟩⟩⟩⟩) H
  · exact ⟨H.1, g_weak (show gm_Lle [some _] _ from ⟨rfl, trivial⟩) H.2⟩
set_option maxRecDepth 20000 in
theorem w_612_384 {a0 : Nat} {x1 : Int32} {r_3 : Option Nat} {x4 : Int32} {j6 : Int64} {x9 : Int32} {j11 : Int64} {x13 : Int32} {h : hh_T} {Q : Option Value ⊕ Nat → hh_T → Prop} (H : gm_G 612 389 [some (.ref a0), some (.int x1), none, some (va_rf r_3), some (.int x4), none, some (.long j6), none, none, some (.int x9), none, some (.long j11), none, some (.int x13)] [.int (Int32.ofNat 1)] h Q) : gm_G 612 384 [some (.ref a0), some (.int x1), none, some (va_rf r_3), some (.int x4), none, some (.long j6), none, none, some (.int x9), none, some (.long j11), none, some (.int x13)] [] h Q := by
  refine g_iconst rfl rfl rfl (pc' := 385) ?_
  refine g_goto rfl (pc' := 389) rfl ?_
  exact g_weak (show gm_Lle [some _, some _, none, some _, some _, none, some _, none, none, some _, none, some _, none, some _] _ from ⟨rfl, ⟨rfl, ⟨rfl, ⟨rfl, ⟨rfl, ⟨rfl, ⟨rfl, ⟨rfl, trivial⟩⟩⟩⟩⟩⟩⟩⟩) H
set_option maxRecDepth 20000 in
theorem w_612_389 {a0 : Nat} {x1 : Int32} {r_3 : Option Nat} {x4 : Int32} {j6 : Int64} {x9 : Int32} {j11 : Int64} {x13 : Int32} {y0 : Int32} {h : hh_T} {Q : Option Value ⊕ Nat → hh_T → Prop} (H : gm_G 431 0 [some (.int y0), some (.int (Int32.ofInt (-3)))] [] h (pV (fun h1 => ∀ a2 h3, a2 = hh_sz h1 → h3 = hh_al h1 38 0 8 → (gm_G 326 0 [some (.ref a2), some (.ref a0), some (.int x4), some (.long j6), none, some (.int x9), some (.long j11), none] [] h3 (pV (fun h4 => hh_tg h4 a0 = 1 ∧ (gm_G 605 0 [some (.ref a0), some (va_rf r_3), some (.ref a2)] [] h4 (pV (fun h6 => gm_sub (hh_tg h6 a0) 0 = true ∧ (∀ r8, r8 = hh_r h6 a0 52 → (∃ a9, r8 = some a9 ∧ (hh_tg h6 a9 = 16 ∧ (gm_G 261 0 [some (.ref a9), some (.int x1), some (.int x4), some (.int (Int32.ofNat 3)), some (.int x13)] [] h6 (pV (fun h11 => gm_G 612 428 [some (.ref a0), some (.int x1), none, none, none, none, none, none, none, some (.int x9), none, none, none, some (.int x13)] [] h11 Q) (fun e12 h13 => hh_tg h13 e12 = 21 ∧ gm_G 612 448 [some (.ref a0)] [.ref e12] h13 Q))))))) (fun e14 h15 => hh_tg h15 e14 = 21 ∧ gm_G 612 448 [some (.ref a0)] [.ref e14] h15 Q)))) (fun e16 h17 => hh_tg h17 e16 = 21 ∧ gm_G 612 448 [some (.ref a0)] [.ref e16] h17 Q)))) (fun e18 h19 => hh_tg h19 e18 = 21 ∧ gm_G 612 448 [some (.ref a0)] [.ref e18] h19 Q))) : gm_G 612 389 [some (.ref a0), some (.int x1), none, some (va_rf r_3), some (.int x4), none, some (.long j6), none, none, some (.int x9), none, some (.long j11), none, some (.int x13)] [.int y0] h Q := by
  refine g_iconst rfl rfl rfl (pc' := 391) ?_
  refine g_call rfl (y := 431) (n := 2) (pc' := 394) (fun _ => rfl) rfl rfl ⟨(Nat.le_of_ble_eq_true rfl), (Nat.le_of_ble_eq_true rfl), (Nat.le_of_ble_eq_true rfl)⟩ rfl (gm_G.mono H (pV_elim (fun h1 H' => ?_) (fun e18 h19 H => ?_)))
  · show gm_G _ 394 _ _ _ _
    replace H := H'
    clear H'
    refine g_aload (r := some _) rfl rfl rfl (pc' := 395) ?_
    refine g_aload (r := _) rfl rfl rfl (pc' := 396) ?_
    refine g_new rfl (t := 38) (s := 8) rfl rfl (pc' := 399) rfl ?_
    replace H := H _ _ rfl rfl
    refine g_dup_a (r := some _) rfl rfl (pc' := 400) ?_
    refine g_aload (r := some _) rfl rfl rfl (pc' := 401) ?_
    refine g_iload rfl rfl rfl (pc' := 403) ?_
    refine g_lload rfl rfl rfl (pc' := 405) ?_
    refine g_iload rfl rfl rfl (pc' := 407) ?_
    refine g_lload rfl rfl rfl (pc' := 409) ?_
    refine g_call rfl (y := 326) (n := 6) (pc' := 412) (fun _ => rfl) rfl rfl ⟨(Nat.le_of_ble_eq_true rfl), (Nat.le_of_ble_eq_true rfl), (Nat.le_of_ble_eq_true rfl)⟩ rfl (gm_G.mono H (pV_elim (fun h4 H' => ?_) (fun e16 h17 H => ?_)))
    · show gm_G _ 412 _ _ _ _
      replace H := H'
      clear H'
      obtain ⟨ht5, H⟩ := H
      refine g_call rfl (y := 605) (n := 3) (pc' := 415) (g_vt ht5 rfl rfl) (by cases r_3 <;> rfl) rfl ⟨(Nat.le_of_ble_eq_true rfl), (Nat.le_of_ble_eq_true rfl), (Nat.le_of_ble_eq_true rfl)⟩ rfl (gm_G.mono H (pV_elim (fun h6 H' => ?_) (fun e14 h15 H => ?_)))
      · show gm_G _ 415 _ _ _ _
        replace H := H'
        clear H'
        refine g_aload (r := some _) rfl rfl rfl (pc' := 416) ?_
        obtain ⟨ht7, H⟩ := H
        refine g_getRv rfl rfl rfl rfl ht7 (pc' := 419) rfl (fun r8 hr8 => ?_)
        replace H := H r8 hr8
        refine g_iload rfl rfl rfl (pc' := 420) ?_
        refine g_iload rfl rfl rfl (pc' := 422) ?_
        refine g_iconst rfl rfl rfl (pc' := 423) ?_
        refine g_iload rfl rfl rfl (pc' := 425) ?_
        obtain ⟨a9, rfl, H⟩ := H
        obtain ⟨ht10, H⟩ := H
        refine g_call rfl (y := 261) (n := 5) (pc' := 428) (g_vt ht10 rfl rfl) rfl rfl ⟨(Nat.le_of_ble_eq_true rfl), (Nat.le_of_ble_eq_true rfl), (Nat.le_of_ble_eq_true rfl)⟩ rfl (gm_G.mono H (pV_elim (fun h11 H' => ?_) (fun e12 h13 H => ?_)))
        · show gm_G _ 428 _ _ _ _
          replace H := H'
          clear H'
          exact g_weak (show gm_Lle [some _, some _, none, none, none, none, none, none, none, some _, none, none, none, some _] _ from ⟨rfl, ⟨rfl, ⟨rfl, ⟨rfl, trivial⟩⟩⟩⟩) H
        · exact ⟨H.1, g_weak (show gm_Lle [some _] _ from ⟨rfl, trivial⟩) H.2⟩
      · exact ⟨H.1, g_weak (show gm_Lle [some _] _ from ⟨rfl, trivial⟩) H.2⟩
    · exact ⟨H.1, g_weak (show gm_Lle [some _] _ from ⟨rfl, trivial⟩) H.2⟩
  · exact ⟨H.1, g_weak (show gm_Lle [some _] _ from ⟨rfl, trivial⟩) H.2⟩
set_option maxRecDepth 20000 in
theorem w_612_428 {a0 : Nat} {x1 : Int32} {x9 : Int32} {x13 : Int32} {h : hh_T} {Q : Option Value ⊕ Nat → hh_T → Prop} (H : gm_sub (hh_tg h a0) 0 = true ∧ (∀ r2, r2 = hh_r h a0 52 → (∃ a3, r2 = some a3 ∧ (hh_tg h a3 = 16 ∧ (gm_G 261 0 [some (.ref a3), some (.int x1), some (.int x9), some (.int (Int32.ofNat 4)), some (.int x13)] [] h (pV (fun h5 => hh_tg h5 a0 = 1 ∧ (gm_G 4 0 [some (.ref a0), some (.int x13)] [] h5 (pI (fun v8 h7 => Q (.inl (some (.int v8))) h7) (fun e9 h10 => hh_tg h10 e9 = 21 ∧ gm_G 612 448 [some (.ref a0)] [.ref e9] h10 Q)))) (fun e11 h12 => hh_tg h12 e11 = 21 ∧ gm_G 612 448 [some (.ref a0)] [.ref e11] h12 Q))))))) : gm_G 612 428 [some (.ref a0), some (.int x1), none, none, none, none, none, none, none, some (.int x9), none, none, none, some (.int x13)] [] h Q := by
  refine g_aload (r := some _) rfl rfl rfl (pc' := 429) ?_
  obtain ⟨ht1, H⟩ := H
  refine g_getRv rfl rfl rfl rfl ht1 (pc' := 432) rfl (fun r2 hr2 => ?_)
  replace H := H r2 hr2
  refine g_iload rfl rfl rfl (pc' := 433) ?_
  refine g_iload rfl rfl rfl (pc' := 435) ?_
  refine g_iconst rfl rfl rfl (pc' := 436) ?_
  refine g_iload rfl rfl rfl (pc' := 438) ?_
  obtain ⟨a3, rfl, H⟩ := H
  obtain ⟨ht4, H⟩ := H
  refine g_call rfl (y := 261) (n := 5) (pc' := 441) (g_vt ht4 rfl rfl) rfl rfl ⟨(Nat.le_of_ble_eq_true rfl), (Nat.le_of_ble_eq_true rfl), (Nat.le_of_ble_eq_true rfl)⟩ rfl (gm_G.mono H (pV_elim (fun h5 H' => ?_) (fun e11 h12 H => ?_)))
  · show gm_G _ 441 _ _ _ _
    replace H := H'
    clear H'
    refine g_aload (r := some _) rfl rfl rfl (pc' := 442) ?_
    refine g_iload rfl rfl rfl (pc' := 444) ?_
    obtain ⟨ht6, H⟩ := H
    refine g_call rfl (y := 4) (n := 2) (pc' := 447) (g_vt ht6 rfl rfl) rfl rfl ⟨(Nat.le_of_ble_eq_true rfl), (Nat.le_of_ble_eq_true rfl), (Nat.le_of_ble_eq_true rfl)⟩ rfl (gm_G.mono H (pI_elim (fun v8 h7 H' => ?_) (fun e9 h10 H => ?_)))
    · show gm_G _ 447 _ _ _ _
      replace H := H'
      clear H'
      exact g_ireturn rfl (Or.inl rfl) H
    · exact ⟨H.1, g_weak (show gm_Lle [some _] _ from ⟨rfl, trivial⟩) H.2⟩
  · exact ⟨H.1, g_weak (show gm_Lle [some _] _ from ⟨rfl, trivial⟩) H.2⟩
set_option maxRecDepth 20000 in
theorem w_612_448 {a0 : Nat} {ex : Nat} {h : hh_T} {Q : Option Value ⊕ Nat → hh_T → Prop} (H : hh_tg h a0 = 1 ∧ (gm_G 1 0 [some (.ref a0), some (.ref ex)] [] h (pI (fun v3 h2 => Q (.inl (some (.int v3))) h2) (fun e4 h5 => hh_tg h5 e4 = 21 ∧ Q (.inr e4) h5)))) : gm_G 612 448 [some (.ref a0)] [.ref ex] h Q := by
  refine g_astore (r := some _) rfl rfl rfl (pc' := 449) ?_
  refine g_aload (r := some _) rfl rfl rfl (pc' := 450) ?_
  refine g_aload (r := some _) rfl rfl rfl (pc' := 451) ?_
  obtain ⟨ht1, H⟩ := H
  refine g_call rfl (y := 1) (n := 2) (pc' := 454) (g_vt ht1 rfl rfl) rfl rfl ⟨(Nat.le_of_ble_eq_true rfl), (Nat.le_of_ble_eq_true rfl), (Nat.le_of_ble_eq_true rfl)⟩ rfl (gm_G.mono H (pI_elim (fun v3 h2 H' => ?_) (fun e4 h5 H => ?_)))
  · show gm_G _ 454 _ _ _ _
    replace H := H'
    clear H'
    exact g_ireturn rfl (Or.inl rfl) H
  · exact H
set_option maxRecDepth 20000 in
theorem w_613_0 {a0 : Nat} {r_1 : Option Nat} {x2 : Int32} {x3 : Int32} {h : hh_T} {Q : Option Value ⊕ Nat → hh_T → Prop} (H : ∀ a1 h2, a1 = hh_sz h → h2 = hh_al h 101 32 32 → (gm_G 613 9 [some (.ref a0), some (va_rf r_1), some (.int x2), some (.int x3), some (.ref a1), some (.int (Int32.ofNat 0))] [] h2 Q)) : gm_G 613 0 [some (.ref a0), some (va_rf r_1), some (.int x2), some (.int x3)] [] h Q := by
  refine g_iconst rfl rfl rfl (pc' := 2) ?_
  refine g_newarray rfl (u := 101) (n := 32) rfl (by decide) rfl (by decide) (pc' := 4) rfl ?_
  replace H := H _ _ rfl rfl
  refine g_astore (r := some _) rfl rfl rfl (pc' := 6) ?_
  refine g_iconst rfl rfl rfl (pc' := 7) ?_
  refine g_istore rfl rfl rfl (pc' := 9) ?_
  exact g_weak (show gm_Lle [some _, some _, some _, some _, some _, some _] _ from ⟨rfl, ⟨rfl, ⟨rfl, ⟨rfl, ⟨rfl, ⟨rfl, trivial⟩⟩⟩⟩⟩⟩) H
set_option maxRecDepth 20000 in
theorem w_613_9 {a0 : Nat} {r_1 : Option Nat} {x2 : Int32} {x3 : Int32} {r_4 : Option Nat} {x5 : Int32} {h : hh_T} {Q : Option Value ⊕ Nat → hh_T → Prop} (H : (¬ x5 < (Int32.ofNat 32) → (∀ a1 h2, a1 = hh_sz h → h2 = hh_al h 45 0 8 → (gm_sub (hh_tg h2 a0) 0 = true ∧ (gm_G 388 0 [some (.ref a1), some (.ref a0), some (.int (hh_i h2 a0 41)), some (.int (Int32.ofNat 0)), some (.int x2), some (va_rf r_4)] [] h2 (pV (fun h4 => hh_tg h4 a0 = 1 ∧ (gm_G 605 0 [some (.ref a0), some (va_rf r_1), some (.ref a1)] [] h4 (pV (fun h6 => Q (.inl none) h6) (fun e7 h8 => hh_tg h8 e7 = 21 ∧ Q (.inr e7) h8)))) (fun e9 h10 => hh_tg h10 e9 = 21 ∧ Q (.inr e9) h10)))))) ∧ (x5 < (Int32.ofNat 32) → (gm_sub (hh_tg h a0) 0 = true ∧ (∀ r12, r12 = hh_r h a0 58 → (∃ a13, r12 = some a13 ∧ (gm_sub (hh_tg h a13) 12 = true ∧ (∀ r15, r15 = hh_r h a13 0 → (∃ a16, r15 = some a16 ∧ ((hh_tg h a16 = 101 ∨ hh_tg h a16 = 102) ∧ (∃ n17, gm_ix (x3 + x5) n17 (hh_ln h a16) ∧ (∃ a19, r_4 = some a19 ∧ (hh_tg h a19 = 101 ∧ (∃ n20, gm_ix x5 n20 (hh_ln h a19) ∧ (∀ h21, h21 = hh_wi h a19 n20 ((hh_i h a16 n17).toInt8.toInt32) → (gm_G 613 9 [some (.ref a0), some (va_rf r_1), some (.int x2), some (.int x3), some (.ref a19), some (.int (x5 + (Int32.ofNat 1)))] [] h21 Q))))))))))))))) : gm_G 613 9 [some (.ref a0), some (va_rf r_1), some (.int x2), some (.int x3), some (va_rf r_4), some (.int x5)] [] h Q := by
  refine g_iload rfl rfl rfl (pc' := 11) ?_
  refine g_iconst rfl rfl rfl (pc' := 13) ?_
  refine g_ic_ge rfl (pc' := 16) (pt := 39) rfl rfl ⟨fun hc => ?_, fun hc => ?_⟩
  · replace H := H.1 hc
    refine g_aload (r := some _) rfl rfl rfl (pc' := 40) ?_
    refine g_aload (r := _) rfl rfl rfl (pc' := 41) ?_
    refine g_new rfl (t := 45) (s := 8) rfl rfl (pc' := 44) rfl ?_
    replace H := H _ _ rfl rfl
    refine g_dup_a (r := some _) rfl rfl (pc' := 45) ?_
    refine g_aload (r := some _) rfl rfl rfl (pc' := 46) ?_
    refine g_aload (r := some _) rfl rfl rfl (pc' := 47) ?_
    obtain ⟨ht3, H⟩ := H
    refine g_getI rfl rfl rfl rfl ht3 (pc' := 50) rfl ?_
    refine g_iconst rfl rfl rfl (pc' := 51) ?_
    refine g_iload rfl rfl rfl (pc' := 52) ?_
    refine g_aload (r := _) rfl rfl rfl (pc' := 54) ?_
    refine g_call rfl (y := 388) (n := 6) (pc' := 57) (fun _ => rfl) (by cases r_4 <;> rfl) rfl ⟨(Nat.le_of_ble_eq_true rfl), (Nat.le_of_ble_eq_true rfl), (Nat.le_of_ble_eq_true rfl)⟩ rfl (gm_G.mono H (pV_elim (fun h4 H' => ?_) (fun e9 h10 H => ?_)))
    · show gm_G _ 57 _ _ _ _
      replace H := H'
      clear H'
      obtain ⟨ht5, H⟩ := H
      refine g_call rfl (y := 605) (n := 3) (pc' := 60) (g_vt ht5 rfl rfl) (by cases r_1 <;> rfl) rfl ⟨(Nat.le_of_ble_eq_true rfl), (Nat.le_of_ble_eq_true rfl), (Nat.le_of_ble_eq_true rfl)⟩ rfl (gm_G.mono H (pV_elim (fun h6 H' => ?_) (fun e7 h8 H => ?_)))
      · show gm_G _ 60 _ _ _ _
        replace H := H'
        clear H'
        exact g_return rfl H
      · exact H
    · exact H
  · replace H := H.2 hc
    refine g_aload (r := _) rfl rfl rfl (pc' := 18) ?_
    refine g_iload rfl rfl rfl (pc' := 20) ?_
    refine g_aload (r := some _) rfl rfl rfl (pc' := 21) ?_
    obtain ⟨ht11, H⟩ := H
    refine g_getRv rfl rfl rfl rfl ht11 (pc' := 24) rfl (fun r12 hr12 => ?_)
    replace H := H r12 hr12
    obtain ⟨a13, rfl, H⟩ := H
    obtain ⟨ht14, H⟩ := H
    refine g_getRv rfl rfl rfl rfl ht14 (pc' := 27) rfl (fun r15 hr15 => ?_)
    replace H := H r15 hr15
    refine g_iload rfl rfl rfl (pc' := 28) ?_
    refine g_iload rfl rfl rfl (pc' := 30) ?_
    refine g_iadd rfl rfl (pc' := 31) ?_
    obtain ⟨a16, rfl, H⟩ := H
    obtain ⟨ht18, H⟩ := H
    obtain ⟨n17, hn17, H⟩ := H
    refine g_baload rfl ht18 hn17 (pc' := 32) rfl ?_
    obtain ⟨a19, rfl, H⟩ := H
    obtain ⟨ht22, H⟩ := H
    obtain ⟨n20, hn20, H⟩ := H
    refine g_bastore rfl ht22 hn20  (pc' := 33) rfl ?_
    replace H := H _ rfl
    refine g_iinc (c := (Int32.ofNat 1)) rfl rfl rfl rfl rfl (pc' := 36) ?_
    refine g_goto rfl (pc' := 9) rfl ?_
    exact g_weak (show gm_Lle [some _, some _, some _, some _, some _, some _] _ from ⟨rfl, ⟨rfl, ⟨rfl, ⟨rfl, ⟨rfl, ⟨rfl, trivial⟩⟩⟩⟩⟩⟩) H
set_option maxRecDepth 20000 in
theorem w_614_0 {a0 : Nat} {x1 : Int32} {x2 : Int32} {x3 : Int32} {x4 : Int32} {x5 : Int32} {h : hh_T} {Q : Option Value ⊕ Nat → hh_T → Prop} (H : hh_tg h a0 = 1 ∧ (gm_G 456 0 [some (.ref a0)] [] h (pV (fun h2 => gm_G 493 0 [some (.int x1)] [] h2 (pV (fun h3 => gm_G 493 0 [some (.int x2)] [] h3 (pV (fun h4 => gm_G 5 0 [some (.int x5), some (.int (Int32.ofNat 1)), some (.int (Int32.ofNat 8))] [] h4 (pI (fun v6 h5 => (v6 = Int32.ofNat 0 → (gm_G 614 54 [some (.ref a0), some (.int x1), some (.int x2), some (.int x3), some (.int x4), some (.int x5)] [] h5 Q)) ∧ (¬ v6 = Int32.ofNat 0 → (gm_G 5 0 [some (.int x3), some (.int (Int32.ofNat 0)), some (.int ((Int32.ofNat 8) - x5))] [] h5 (pI (fun v8 h7 => (v8 = Int32.ofNat 0 → (gm_G 614 54 [some (.ref a0), some (.int x1), some (.int x2), some (.int x3), some (.int x4), some (.int x5)] [] h7 Q)) ∧ (¬ v8 = Int32.ofNat 0 → (gm_G 614 36 [some (.ref a0), some (.int x1), some (.int x2), some (.int x3), some (.int x4), some (.int x5)] [] h7 Q))) (fun e9 h10 => hh_tg h10 e9 = 21 ∧ gm_G 614 222 [some (.ref a0)] [.ref e9] h10 Q))))) (fun e11 h12 => hh_tg h12 e11 = 21 ∧ gm_G 614 222 [some (.ref a0)] [.ref e11] h12 Q))) (fun e13 h14 => hh_tg h14 e13 = 21 ∧ gm_G 614 222 [some (.ref a0)] [.ref e13] h14 Q))) (fun e15 h16 => hh_tg h16 e15 = 21 ∧ gm_G 614 222 [some (.ref a0)] [.ref e15] h16 Q))) (fun e17 h18 => hh_tg h18 e17 = 21 ∧ gm_G 614 222 [some (.ref a0)] [.ref e17] h18 Q)))) : gm_G 614 0 [some (.ref a0), some (.int x1), some (.int x2), some (.int x3), some (.int x4), some (.int x5)] [] h Q := by
  refine g_aload (r := some _) rfl rfl rfl (pc' := 1) ?_
  obtain ⟨ht1, H⟩ := H
  refine g_call rfl (y := 456) (n := 1) (pc' := 4) (g_vt ht1 rfl rfl) rfl rfl ⟨(Nat.le_of_ble_eq_true rfl), (Nat.le_of_ble_eq_true rfl), (Nat.le_of_ble_eq_true rfl)⟩ rfl (gm_G.mono H (pV_elim (fun h2 H' => ?_) (fun e17 h18 H => ?_)))
  · show gm_G _ 4 _ _ _ _
    replace H := H'
    clear H'
    refine g_iload rfl rfl rfl (pc' := 5) ?_
    refine g_call rfl (y := 493) (n := 1) (pc' := 8) (fun _ => rfl) rfl rfl ⟨(Nat.le_of_ble_eq_true rfl), (Nat.le_of_ble_eq_true rfl), (Nat.le_of_ble_eq_true rfl)⟩ rfl (gm_G.mono H (pV_elim (fun h3 H' => ?_) (fun e15 h16 H => ?_)))
    · show gm_G _ 8 _ _ _ _
      replace H := H'
      clear H'
      refine g_iload rfl rfl rfl (pc' := 9) ?_
      refine g_call rfl (y := 493) (n := 1) (pc' := 12) (fun _ => rfl) rfl rfl ⟨(Nat.le_of_ble_eq_true rfl), (Nat.le_of_ble_eq_true rfl), (Nat.le_of_ble_eq_true rfl)⟩ rfl (gm_G.mono H (pV_elim (fun h4 H' => ?_) (fun e13 h14 H => ?_)))
      · show gm_G _ 12 _ _ _ _
        replace H := H'
        clear H'
        refine g_iload rfl rfl rfl (pc' := 14) ?_
        refine g_iconst rfl rfl rfl (pc' := 15) ?_
        refine g_iconst rfl rfl rfl (pc' := 17) ?_
        refine g_call rfl (y := 5) (n := 3) (pc' := 20) (fun _ => rfl) rfl rfl ⟨(Nat.le_of_ble_eq_true rfl), (Nat.le_of_ble_eq_true rfl), (Nat.le_of_ble_eq_true rfl)⟩ rfl (gm_G.mono H (pI_elim (fun v6 h5 H' => ?_) (fun e11 h12 H => ?_)))
        · show gm_G _ 20 _ _ _ _
          replace H := H'
          clear H'
          refine g_if_eq rfl (pc' := 23) (pt := 54) rfl rfl ⟨fun hc => ?_, fun hc => ?_⟩
          · replace H := H.1 hc
            exact g_weak (show gm_Lle [some _, some _, some _, some _, some _, some _] _ from ⟨rfl, ⟨rfl, ⟨rfl, ⟨rfl, ⟨rfl, ⟨rfl, trivial⟩⟩⟩⟩⟩⟩) H
          · replace H := H.2 hc
            refine g_iload rfl rfl rfl (pc' := 24) ?_
            refine g_iconst rfl rfl rfl (pc' := 25) ?_
            refine g_iconst rfl rfl rfl (pc' := 27) ?_
            refine g_iload rfl rfl rfl (pc' := 29) ?_
            refine g_isub rfl rfl (pc' := 30) ?_
            refine g_call rfl (y := 5) (n := 3) (pc' := 33) (fun _ => rfl) rfl rfl ⟨(Nat.le_of_ble_eq_true rfl), (Nat.le_of_ble_eq_true rfl), (Nat.le_of_ble_eq_true rfl)⟩ rfl (gm_G.mono H (pI_elim (fun v8 h7 H' => ?_) (fun e9 h10 H => ?_)))
            · show gm_G _ 33 _ _ _ _
              replace H := H'
              clear H'
              refine g_if_eq rfl (pc' := 36) (pt := 54) rfl rfl ⟨fun hc => ?_, fun hc => ?_⟩
              · replace H := H.1 hc
                exact g_weak (show gm_Lle [some _, some _, some _, some _, some _, some _] _ from ⟨rfl, ⟨rfl, ⟨rfl, ⟨rfl, ⟨rfl, ⟨rfl, trivial⟩⟩⟩⟩⟩⟩) H
              · replace H := H.2 hc
                exact g_weak (show gm_Lle [some _, some _, some _, some _, some _, some _] _ from ⟨rfl, ⟨rfl, ⟨rfl, ⟨rfl, ⟨rfl, ⟨rfl, trivial⟩⟩⟩⟩⟩⟩) H
            · exact ⟨H.1, g_weak (show gm_Lle [some _] _ from ⟨rfl, trivial⟩) H.2⟩
        · exact ⟨H.1, g_weak (show gm_Lle [some _] _ from ⟨rfl, trivial⟩) H.2⟩
      · exact ⟨H.1, g_weak (show gm_Lle [some _] _ from ⟨rfl, trivial⟩) H.2⟩
    · exact ⟨H.1, g_weak (show gm_Lle [some _] _ from ⟨rfl, trivial⟩) H.2⟩
  · exact ⟨H.1, g_weak (show gm_Lle [some _] _ from ⟨rfl, trivial⟩) H.2⟩
set_option maxRecDepth 20000 in
theorem w_614_36 {a0 : Nat} {x1 : Int32} {x2 : Int32} {x3 : Int32} {x4 : Int32} {x5 : Int32} {h : hh_T} {Q : Option Value ⊕ Nat → hh_T → Prop} (H : gm_G 5 0 [some (.int x4), some (.int (Int32.ofNat 0)), some (.int ((Int32.ofNat 8) - x5))] [] h (pI (fun v2 h1 => (v2 = Int32.ofNat 0 → (gm_G 614 54 [some (.ref a0), some (.int x1), some (.int x2), some (.int x3), some (.int x4), some (.int x5)] [] h1 Q)) ∧ (¬ v2 = Int32.ofNat 0 → (gm_G 614 55 [some (.ref a0), some (.int x1), some (.int x2), some (.int x3), some (.int x4), some (.int x5)] [.int (Int32.ofNat 1)] h1 Q))) (fun e3 h4 => hh_tg h4 e3 = 21 ∧ gm_G 614 222 [some (.ref a0)] [.ref e3] h4 Q))) : gm_G 614 36 [some (.ref a0), some (.int x1), some (.int x2), some (.int x3), some (.int x4), some (.int x5)] [] h Q := by
  refine g_iload rfl rfl rfl (pc' := 38) ?_
  refine g_iconst rfl rfl rfl (pc' := 39) ?_
  refine g_iconst rfl rfl rfl (pc' := 41) ?_
  refine g_iload rfl rfl rfl (pc' := 43) ?_
  refine g_isub rfl rfl (pc' := 44) ?_
  refine g_call rfl (y := 5) (n := 3) (pc' := 47) (fun _ => rfl) rfl rfl ⟨(Nat.le_of_ble_eq_true rfl), (Nat.le_of_ble_eq_true rfl), (Nat.le_of_ble_eq_true rfl)⟩ rfl (gm_G.mono H (pI_elim (fun v2 h1 H' => ?_) (fun e3 h4 H => ?_)))
  · show gm_G _ 47 _ _ _ _
    replace H := H'
    clear H'
    refine g_if_eq rfl (pc' := 50) (pt := 54) rfl rfl ⟨fun hc => ?_, fun hc => ?_⟩
    · replace H := H.1 hc
      exact g_weak (show gm_Lle [some _, some _, some _, some _, some _, some _] _ from ⟨rfl, ⟨rfl, ⟨rfl, ⟨rfl, ⟨rfl, ⟨rfl, trivial⟩⟩⟩⟩⟩⟩) H
    · replace H := H.2 hc
      refine g_iconst rfl rfl rfl (pc' := 51) ?_
      refine g_goto rfl (pc' := 55) rfl ?_
      exact g_weak (show gm_Lle [some _, some _, some _, some _, some _, some _] _ from ⟨rfl, ⟨rfl, ⟨rfl, ⟨rfl, ⟨rfl, ⟨rfl, trivial⟩⟩⟩⟩⟩⟩) H
  · exact ⟨H.1, g_weak (show gm_Lle [some _] _ from ⟨rfl, trivial⟩) H.2⟩
set_option maxRecDepth 20000 in
theorem w_614_54 {a0 : Nat} {x1 : Int32} {x2 : Int32} {x3 : Int32} {x4 : Int32} {x5 : Int32} {h : hh_T} {Q : Option Value ⊕ Nat → hh_T → Prop} (H : gm_G 614 55 [some (.ref a0), some (.int x1), some (.int x2), some (.int x3), some (.int x4), some (.int x5)] [.int (Int32.ofNat 0)] h Q) : gm_G 614 54 [some (.ref a0), some (.int x1), some (.int x2), some (.int x3), some (.int x4), some (.int x5)] [] h Q := by
  refine g_iconst rfl rfl rfl (pc' := 55) ?_
  exact g_weak (show gm_Lle [some _, some _, some _, some _, some _, some _] _ from ⟨rfl, ⟨rfl, ⟨rfl, ⟨rfl, ⟨rfl, ⟨rfl, trivial⟩⟩⟩⟩⟩⟩) H
set_option maxRecDepth 20000 in
theorem w_614_55 {a0 : Nat} {x1 : Int32} {x2 : Int32} {x3 : Int32} {x4 : Int32} {x5 : Int32} {y0 : Int32} {h : hh_T} {Q : Option Value ⊕ Nat → hh_T → Prop} (H : gm_G 452 0 [some (.int y0)] [] h (pV (fun h1 => hh_tg h1 a0 = 1 ∧ (gm_G 447 0 [some (.ref a0), some (.int x1)] [] h1 (pR (fun r4 h3 => hh_tg h3 a0 = 1 ∧ (gm_G 447 0 [some (.ref a0), some (.int x2)] [] h3 (pR (fun r7 h6 => ∃ a8, r4 = some a8 ∧ (hh_tg h6 a8 = 43 ∧ (gm_G 208 0 [some (.ref a8)] [] h6 (pI (fun v11 h10 => gm_G 431 0 [some (.int v11), some (.int (Int32.ofInt (-6)))] [] h10 (pV (fun h12 => gm_G 614 82 [some (.ref a0), none, none, some (.int x3), some (.int x4), some (.int x5), some (.ref a8), some (va_rf r7)] [] h12 Q) (fun e13 h14 => hh_tg h14 e13 = 21 ∧ gm_G 614 222 [some (.ref a0)] [.ref e13] h14 Q))) (fun e15 h16 => hh_tg h16 e15 = 21 ∧ gm_G 614 222 [some (.ref a0)] [.ref e15] h16 Q))))) (fun e17 h18 => hh_tg h18 e17 = 21 ∧ gm_G 614 222 [some (.ref a0)] [.ref e17] h18 Q)))) (fun e19 h20 => hh_tg h20 e19 = 21 ∧ gm_G 614 222 [some (.ref a0)] [.ref e19] h20 Q)))) (fun e21 h22 => hh_tg h22 e21 = 21 ∧ gm_G 614 222 [some (.ref a0)] [.ref e21] h22 Q))) : gm_G 614 55 [some (.ref a0), some (.int x1), some (.int x2), some (.int x3), some (.int x4), some (.int x5)] [.int y0] h Q := by
  refine g_call rfl (y := 452) (n := 1) (pc' := 58) (fun _ => rfl) rfl rfl ⟨(Nat.le_of_ble_eq_true rfl), (Nat.le_of_ble_eq_true rfl), (Nat.le_of_ble_eq_true rfl)⟩ rfl (gm_G.mono H (pV_elim (fun h1 H' => ?_) (fun e21 h22 H => ?_)))
  · show gm_G _ 58 _ _ _ _
    replace H := H'
    clear H'
    refine g_aload (r := some _) rfl rfl rfl (pc' := 59) ?_
    refine g_iload rfl rfl rfl (pc' := 60) ?_
    obtain ⟨ht2, H⟩ := H
    refine g_call rfl (y := 447) (n := 2) (pc' := 63) (g_vt ht2 rfl rfl) rfl rfl ⟨(Nat.le_of_ble_eq_true rfl), (Nat.le_of_ble_eq_true rfl), (Nat.le_of_ble_eq_true rfl)⟩ rfl (gm_G.mono H (pR_elim (fun r4 h3 H' => ?_) (fun e19 h20 H => ?_)))
    · show gm_G _ 63 _ _ _ _
      replace H := H'
      clear H'
      refine g_astore (r := _) rfl rfl rfl (pc' := 65) ?_
      refine g_aload (r := some _) rfl rfl rfl (pc' := 66) ?_
      refine g_iload rfl rfl rfl (pc' := 67) ?_
      obtain ⟨ht5, H⟩ := H
      refine g_call rfl (y := 447) (n := 2) (pc' := 70) (g_vt ht5 rfl rfl) rfl rfl ⟨(Nat.le_of_ble_eq_true rfl), (Nat.le_of_ble_eq_true rfl), (Nat.le_of_ble_eq_true rfl)⟩ rfl (gm_G.mono H (pR_elim (fun r7 h6 H' => ?_) (fun e17 h18 H => ?_)))
      · show gm_G _ 70 _ _ _ _
        replace H := H'
        clear H'
        refine g_astore (r := _) rfl gm_sto_rf6 rfl (pc' := 72) ?_
        refine g_aload (r := _) rfl rfl rfl (pc' := 74) ?_
        obtain ⟨a8, rfl, H⟩ := H
        obtain ⟨ht9, H⟩ := H
        refine g_call rfl (y := 208) (n := 1) (pc' := 77) (g_vt ht9 rfl rfl) rfl rfl ⟨(Nat.le_of_ble_eq_true rfl), (Nat.le_of_ble_eq_true rfl), (Nat.le_of_ble_eq_true rfl)⟩ rfl (gm_G.mono H (pI_elim (fun v11 h10 H' => ?_) (fun e15 h16 H => ?_)))
        · show gm_G _ 77 _ _ _ _
          replace H := H'
          clear H'
          refine g_iconst rfl rfl rfl (pc' := 79) ?_
          refine g_call rfl (y := 431) (n := 2) (pc' := 82) (fun _ => rfl) rfl rfl ⟨(Nat.le_of_ble_eq_true rfl), (Nat.le_of_ble_eq_true rfl), (Nat.le_of_ble_eq_true rfl)⟩ rfl (gm_G.mono H (pV_elim (fun h12 H' => ?_) (fun e13 h14 H => ?_)))
          · show gm_G _ 82 _ _ _ _
            replace H := H'
            clear H'
            exact g_weak (show gm_Lle [some _, none, none, some _, some _, some _, some _, some _] _ from ⟨rfl, ⟨rfl, ⟨rfl, ⟨rfl, ⟨rfl, ⟨rfl, trivial⟩⟩⟩⟩⟩⟩) H
          · exact ⟨H.1, g_weak (show gm_Lle [some _] _ from ⟨rfl, trivial⟩) H.2⟩
        · exact ⟨H.1, g_weak (show gm_Lle [some _] _ from ⟨rfl, trivial⟩) H.2⟩
      · exact ⟨H.1, g_weak (show gm_Lle [some _] _ from ⟨rfl, trivial⟩) H.2⟩
    · exact ⟨H.1, g_weak (show gm_Lle [some _] _ from ⟨rfl, trivial⟩) H.2⟩
  · exact ⟨H.1, g_weak (show gm_Lle [some _] _ from ⟨rfl, trivial⟩) H.2⟩
set_option maxRecDepth 20000 in
theorem w_614_82 {a0 : Nat} {x3 : Int32} {x4 : Int32} {x5 : Int32} {r_6 : Option Nat} {r_7 : Option Nat} {h : hh_T} {Q : Option Value ⊕ Nat → hh_T → Prop} (H : hh_tg h a0 = 1 ∧ (gm_G 458 0 [some (.ref a0), some (va_rf r_7)] [] h (pR (fun r3 h2 => ∃ a4, r_6 = some a4 ∧ (gm_sub (hh_tg h2 a4) 42 = true ∧ (∃ a6, r_7 = some a6 ∧ (gm_sub (hh_tg h2 a6) 42 = true ∧ ((¬ (hh_i h2 a4 0) = (hh_i h2 a6 0) → (gm_G 614 108 [some (.ref a0), none, none, some (.int x3), some (.int x4), some (.int x5), some (.ref a4), some (.ref a6), some (va_rf r3)] [.int (Int32.ofNat 0)] h2 Q)) ∧ ((hh_i h2 a4 0) = (hh_i h2 a6 0) → (gm_G 614 108 [some (.ref a0), none, none, some (.int x3), some (.int x4), some (.int x5), some (.ref a4), some (.ref a6), some (va_rf r3)] [.int (Int32.ofNat 1)] h2 Q))))))) (fun e8 h9 => hh_tg h9 e8 = 21 ∧ gm_G 614 222 [some (.ref a0)] [.ref e8] h9 Q)))) : gm_G 614 82 [some (.ref a0), none, none, some (.int x3), some (.int x4), some (.int x5), some (va_rf r_6), some (va_rf r_7)] [] h Q := by
  refine g_aload (r := some _) rfl rfl rfl (pc' := 83) ?_
  refine g_aload (r := _) rfl rfl rfl (pc' := 85) ?_
  obtain ⟨ht1, H⟩ := H
  refine g_call rfl (y := 458) (n := 2) (pc' := 88) (g_vt ht1 rfl rfl) (by cases r_7 <;> rfl) rfl ⟨(Nat.le_of_ble_eq_true rfl), (Nat.le_of_ble_eq_true rfl), (Nat.le_of_ble_eq_true rfl)⟩ rfl (gm_G.mono H (pR_elim (fun r3 h2 H' => ?_) (fun e8 h9 H => ?_)))
  · show gm_G _ 88 _ _ _ _
    replace H := H'
    clear H'
    refine g_astore (r := _) rfl gm_sto_rf7 rfl (pc' := 90) ?_
    refine g_aload (r := _) rfl rfl rfl (pc' := 92) ?_
    obtain ⟨a4, rfl, H⟩ := H
    obtain ⟨ht5, H⟩ := H
    refine g_getI rfl rfl rfl rfl ht5 (pc' := 95) rfl ?_
    refine g_aload (r := _) rfl rfl rfl (pc' := 97) ?_
    obtain ⟨a6, rfl, H⟩ := H
    obtain ⟨ht7, H⟩ := H
    refine g_getI rfl rfl rfl rfl ht7 (pc' := 100) rfl ?_
    refine g_ic_ne rfl (pc' := 103) (pt := 107) rfl rfl ⟨fun hc => ?_, fun hc => ?_⟩
    · replace H := H.1 hc
      refine g_iconst rfl rfl rfl (pc' := 108) ?_
      exact g_weak (show gm_Lle [some _, none, none, some _, some _, some _, some _, some _, some _] _ from ⟨rfl, ⟨rfl, ⟨rfl, ⟨rfl, ⟨rfl, ⟨rfl, ⟨rfl, trivial⟩⟩⟩⟩⟩⟩⟩) H
    · replace H := H.2 hc
      refine g_iconst rfl rfl rfl (pc' := 104) ?_
      refine g_goto rfl (pc' := 108) rfl ?_
      exact g_weak (show gm_Lle [some _, none, none, some _, some _, some _, some _, some _, some _] _ from ⟨rfl, ⟨rfl, ⟨rfl, ⟨rfl, ⟨rfl, ⟨rfl, ⟨rfl, trivial⟩⟩⟩⟩⟩⟩⟩) H
  · exact ⟨H.1, g_weak (show gm_Lle [some _] _ from ⟨rfl, trivial⟩) H.2⟩
set_option maxRecDepth 20000 in
theorem w_614_108 {a0 : Nat} {x3 : Int32} {x4 : Int32} {x5 : Int32} {r_6 : Option Nat} {r_7 : Option Nat} {r_8 : Option Nat} {y0 : Int32} {h : hh_T} {Q : Option Value ⊕ Nat → hh_T → Prop} (H : gm_G 431 0 [some (.int y0), some (.int (Int32.ofInt (-10)))] [] h (pV (fun h1 => hh_tg h1 a0 = 1 ∧ (gm_G 346 0 [some (.ref a0), some (va_rf r_6)] [] h1 (pR (fun r4 h3 => hh_tg h3 a0 = 1 ∧ (gm_G 346 0 [some (.ref a0), some (va_rf r_7)] [] h3 (pR (fun r7 h6 => gm_G 16 0 [some (va_rf r4), some (va_rf r7), some (.int x3), some (.int x4), some (.int x5)] [] h6 (pI (fun v9 h8 => gm_G 452 0 [some (.int v9)] [] h8 (pV (fun h10 => gm_G 614 136 [some (.ref a0), none, none, some (.int x3), some (.int x4), some (.int x5), some (va_rf r_6), some (va_rf r_7), some (va_rf r_8)] [] h10 Q) (fun e11 h12 => hh_tg h12 e11 = 21 ∧ gm_G 614 222 [some (.ref a0)] [.ref e11] h12 Q))) (fun e13 h14 => hh_tg h14 e13 = 21 ∧ gm_G 614 222 [some (.ref a0)] [.ref e13] h14 Q))) (fun e15 h16 => hh_tg h16 e15 = 21 ∧ gm_G 614 222 [some (.ref a0)] [.ref e15] h16 Q)))) (fun e17 h18 => hh_tg h18 e17 = 21 ∧ gm_G 614 222 [some (.ref a0)] [.ref e17] h18 Q)))) (fun e19 h20 => hh_tg h20 e19 = 21 ∧ gm_G 614 222 [some (.ref a0)] [.ref e19] h20 Q))) : gm_G 614 108 [some (.ref a0), none, none, some (.int x3), some (.int x4), some (.int x5), some (va_rf r_6), some (va_rf r_7), some (va_rf r_8)] [.int y0] h Q := by
  refine g_iconst rfl rfl rfl (pc' := 110) ?_
  refine g_call rfl (y := 431) (n := 2) (pc' := 113) (fun _ => rfl) rfl rfl ⟨(Nat.le_of_ble_eq_true rfl), (Nat.le_of_ble_eq_true rfl), (Nat.le_of_ble_eq_true rfl)⟩ rfl (gm_G.mono H (pV_elim (fun h1 H' => ?_) (fun e19 h20 H => ?_)))
  · show gm_G _ 113 _ _ _ _
    replace H := H'
    clear H'
    refine g_aload (r := some _) rfl rfl rfl (pc' := 114) ?_
    refine g_aload (r := _) rfl rfl rfl (pc' := 116) ?_
    obtain ⟨ht2, H⟩ := H
    refine g_call rfl (y := 346) (n := 2) (pc' := 119) (g_vt ht2 rfl rfl) (by cases r_6 <;> rfl) rfl ⟨(Nat.le_of_ble_eq_true rfl), (Nat.le_of_ble_eq_true rfl), (Nat.le_of_ble_eq_true rfl)⟩ rfl (gm_G.mono H (pR_elim (fun r4 h3 H' => ?_) (fun e17 h18 H => ?_)))
    · show gm_G _ 119 _ _ _ _
      replace H := H'
      clear H'
      refine g_aload (r := some _) rfl rfl rfl (pc' := 120) ?_
      refine g_aload (r := _) rfl rfl rfl (pc' := 122) ?_
      obtain ⟨ht5, H⟩ := H
      refine g_call rfl (y := 346) (n := 2) (pc' := 125) (g_vt ht5 rfl rfl) (by cases r_7 <;> rfl) rfl ⟨(Nat.le_of_ble_eq_true rfl), (Nat.le_of_ble_eq_true rfl), (Nat.le_of_ble_eq_true rfl)⟩ rfl (gm_G.mono H (pR_elim (fun r7 h6 H' => ?_) (fun e15 h16 H => ?_)))
      · show gm_G _ 125 _ _ _ _
        replace H := H'
        clear H'
        refine g_iload rfl rfl rfl (pc' := 126) ?_
        refine g_iload rfl rfl rfl (pc' := 128) ?_
        refine g_iload rfl rfl rfl (pc' := 130) ?_
        refine g_call rfl (y := 16) (n := 5) (pc' := 133) (fun _ => rfl) (by cases r4 <;> cases r7 <;> rfl) rfl ⟨(Nat.le_of_ble_eq_true rfl), (Nat.le_of_ble_eq_true rfl), (Nat.le_of_ble_eq_true rfl)⟩ rfl (gm_G.mono H (pI_elim (fun v9 h8 H' => ?_) (fun e13 h14 H => ?_)))
        · show gm_G _ 133 _ _ _ _
          replace H := H'
          clear H'
          refine g_call rfl (y := 452) (n := 1) (pc' := 136) (fun _ => rfl) rfl rfl ⟨(Nat.le_of_ble_eq_true rfl), (Nat.le_of_ble_eq_true rfl), (Nat.le_of_ble_eq_true rfl)⟩ rfl (gm_G.mono H (pV_elim (fun h10 H' => ?_) (fun e11 h12 H => ?_)))
          · show gm_G _ 136 _ _ _ _
            replace H := H'
            clear H'
            exact g_weak (show gm_Lle [some _, none, none, some _, some _, some _, some _, some _, some _] _ from ⟨rfl, ⟨rfl, ⟨rfl, ⟨rfl, ⟨rfl, ⟨rfl, ⟨rfl, trivial⟩⟩⟩⟩⟩⟩⟩) H
          · exact ⟨H.1, g_weak (show gm_Lle [some _] _ from ⟨rfl, trivial⟩) H.2⟩
        · exact ⟨H.1, g_weak (show gm_Lle [some _] _ from ⟨rfl, trivial⟩) H.2⟩
      · exact ⟨H.1, g_weak (show gm_Lle [some _] _ from ⟨rfl, trivial⟩) H.2⟩
    · exact ⟨H.1, g_weak (show gm_Lle [some _] _ from ⟨rfl, trivial⟩) H.2⟩
  · exact ⟨H.1, g_weak (show gm_Lle [some _] _ from ⟨rfl, trivial⟩) H.2⟩
set_option maxRecDepth 20000 in
theorem w_614_136 {a0 : Nat} {x3 : Int32} {x4 : Int32} {x5 : Int32} {r_6 : Option Nat} {r_7 : Option Nat} {r_8 : Option Nat} {h : hh_T} {Q : Option Value ⊕ Nat → hh_T → Prop} (H : gm_sub (hh_tg h a0) 0 = true ∧ (∀ r2, r2 = hh_r h a0 51 → (∃ a3, r2 = some a3 ∧ (hh_tg h a3 = 15 ∧ (gm_G 259 0 [some (.ref a3), some (va_rf r_7), some (.int ((Int32.ofNat 32) * x4)), some (.int ((Int32.ofNat 32) * (x4 + x5))), some (.int (Int32.ofNat 1))] [] h (pI (fun v6 h5 => (¬ v6 = Int32.ofNat 0 → (gm_G 614 167 [some (.ref a0), none, none, some (.int x3), some (.int x4), some (.int x5), some (va_rf r_6), some (va_rf r_7), some (va_rf r_8)] [.int (Int32.ofNat 0)] h5 Q)) ∧ (v6 = Int32.ofNat 0 → (gm_G 614 167 [some (.ref a0), none, none, some (.int x3), some (.int x4), some (.int x5), some (va_rf r_6), some (va_rf r_7), some (va_rf r_8)] [.int (Int32.ofNat 1)] h5 Q))) (fun e7 h8 => hh_tg h8 e7 = 21 ∧ gm_G 614 222 [some (.ref a0)] [.ref e7] h8 Q))))))) : gm_G 614 136 [some (.ref a0), none, none, some (.int x3), some (.int x4), some (.int x5), some (va_rf r_6), some (va_rf r_7), some (va_rf r_8)] [] h Q := by
  refine g_aload (r := some _) rfl rfl rfl (pc' := 137) ?_
  obtain ⟨ht1, H⟩ := H
  refine g_getRv rfl rfl rfl rfl ht1 (pc' := 140) rfl (fun r2 hr2 => ?_)
  replace H := H r2 hr2
  refine g_aload (r := _) rfl rfl rfl (pc' := 142) ?_
  refine g_iconst rfl rfl rfl (pc' := 144) ?_
  refine g_iload rfl rfl rfl (pc' := 146) ?_
  refine g_imul rfl rfl (pc' := 147) ?_
  refine g_iconst rfl rfl rfl (pc' := 149) ?_
  refine g_iload rfl rfl rfl (pc' := 151) ?_
  refine g_iload rfl rfl rfl (pc' := 153) ?_
  refine g_iadd rfl rfl (pc' := 154) ?_
  refine g_imul rfl rfl (pc' := 155) ?_
  refine g_iconst rfl rfl rfl (pc' := 156) ?_
  obtain ⟨a3, rfl, H⟩ := H
  obtain ⟨ht4, H⟩ := H
  refine g_call rfl (y := 259) (n := 5) (pc' := 159) (g_vt ht4 rfl rfl) (by cases r_7 <;> rfl) rfl ⟨(Nat.le_of_ble_eq_true rfl), (Nat.le_of_ble_eq_true rfl), (Nat.le_of_ble_eq_true rfl)⟩ rfl (gm_G.mono H (pI_elim (fun v6 h5 H' => ?_) (fun e7 h8 H => ?_)))
  · show gm_G _ 159 _ _ _ _
    replace H := H'
    clear H'
    refine g_if_ne rfl (pc' := 162) (pt := 166) rfl rfl ⟨fun hc => ?_, fun hc => ?_⟩
    · replace H := H.1 hc
      refine g_iconst rfl rfl rfl (pc' := 167) ?_
      exact g_weak (show gm_Lle [some _, none, none, some _, some _, some _, some _, some _, some _] _ from ⟨rfl, ⟨rfl, ⟨rfl, ⟨rfl, ⟨rfl, ⟨rfl, ⟨rfl, trivial⟩⟩⟩⟩⟩⟩⟩) H
    · replace H := H.2 hc
      refine g_iconst rfl rfl rfl (pc' := 163) ?_
      refine g_goto rfl (pc' := 167) rfl ?_
      exact g_weak (show gm_Lle [some _, none, none, some _, some _, some _, some _, some _, some _] _ from ⟨rfl, ⟨rfl, ⟨rfl, ⟨rfl, ⟨rfl, ⟨rfl, ⟨rfl, trivial⟩⟩⟩⟩⟩⟩⟩) H
  · exact ⟨H.1, g_weak (show gm_Lle [some _] _ from ⟨rfl, trivial⟩) H.2⟩
set_option maxRecDepth 20000 in
theorem w_614_167 {a0 : Nat} {x3 : Int32} {x4 : Int32} {x5 : Int32} {r_6 : Option Nat} {r_7 : Option Nat} {r_8 : Option Nat} {y0 : Int32} {h : hh_T} {Q : Option Value ⊕ Nat → hh_T → Prop} (H : gm_G 431 0 [some (.int y0), some (.int (Int32.ofInt (-5)))] [] h (pV (fun h1 => ∀ a2 h3, a2 = hh_sz h1 → h3 = hh_al h1 47 0 10 → (∃ a4, r_7 = some a4 ∧ (gm_sub (hh_tg h3 a4) 42 = true ∧ (∃ a6, r_6 = some a6 ∧ (gm_sub (hh_tg h3 a6) 42 = true ∧ (gm_G 390 0 [some (.ref a2), some (.ref a0), some (.int (hh_i h3 a4 1)), some (.int (hh_i h3 a6 1)), some (.int x3), some (.int x4), some (.int x5)] [] h3 (pV (fun h8 => hh_tg h8 a0 = 1 ∧ (gm_G 605 0 [some (.ref a0), some (va_rf r_8), some (.ref a2)] [] h8 (pV (fun h10 => gm_sub (hh_tg h10 a0) 0 = true ∧ (∀ r12, r12 = hh_r h10 a0 52 → (gm_sub (hh_tg h10 a4) 42 = true ∧ (∃ a14, r12 = some a14 ∧ (hh_tg h10 a14 = 16 ∧ (gm_G 262 0 [some (.ref a14), some (va_rf r_8), some (.int (Int32.ofNat 5)), some (.int (hh_i h10 a4 1))] [] h10 (pV (fun h16 => gm_G 614 216 [some (.ref a0)] [] h16 Q) (fun e17 h18 => hh_tg h18 e17 = 21 ∧ gm_G 614 222 [some (.ref a0)] [.ref e17] h18 Q)))))))) (fun e19 h20 => hh_tg h20 e19 = 21 ∧ gm_G 614 222 [some (.ref a0)] [.ref e19] h20 Q)))) (fun e21 h22 => hh_tg h22 e21 = 21 ∧ gm_G 614 222 [some (.ref a0)] [.ref e21] h22 Q)))))))) (fun e23 h24 => hh_tg h24 e23 = 21 ∧ gm_G 614 222 [some (.ref a0)] [.ref e23] h24 Q))) : gm_G 614 167 [some (.ref a0), none, none, some (.int x3), some (.int x4), some (.int x5), some (va_rf r_6), some (va_rf r_7), some (va_rf r_8)] [.int y0] h Q := by
  refine g_iconst rfl rfl rfl (pc' := 169) ?_
  refine g_call rfl (y := 431) (n := 2) (pc' := 172) (fun _ => rfl) rfl rfl ⟨(Nat.le_of_ble_eq_true rfl), (Nat.le_of_ble_eq_true rfl), (Nat.le_of_ble_eq_true rfl)⟩ rfl (gm_G.mono H (pV_elim (fun h1 H' => ?_) (fun e23 h24 H => ?_)))
  · show gm_G _ 172 _ _ _ _
    replace H := H'
    clear H'
    refine g_aload (r := some _) rfl rfl rfl (pc' := 173) ?_
    refine g_aload (r := _) rfl rfl rfl (pc' := 175) ?_
    refine g_new rfl (t := 47) (s := 10) rfl rfl (pc' := 178) rfl ?_
    replace H := H _ _ rfl rfl
    refine g_dup_a (r := some _) rfl rfl (pc' := 179) ?_
    refine g_aload (r := some _) rfl rfl rfl (pc' := 180) ?_
    refine g_aload (r := _) rfl rfl rfl (pc' := 182) ?_
    obtain ⟨a4, rfl, H⟩ := H
    obtain ⟨ht5, H⟩ := H
    refine g_getI rfl rfl rfl rfl ht5 (pc' := 185) rfl ?_
    refine g_aload (r := _) rfl rfl rfl (pc' := 187) ?_
    obtain ⟨a6, rfl, H⟩ := H
    obtain ⟨ht7, H⟩ := H
    refine g_getI rfl rfl rfl rfl ht7 (pc' := 190) rfl ?_
    refine g_iload rfl rfl rfl (pc' := 191) ?_
    refine g_iload rfl rfl rfl (pc' := 193) ?_
    refine g_iload rfl rfl rfl (pc' := 195) ?_
    refine g_call rfl (y := 390) (n := 7) (pc' := 198) (fun _ => rfl) rfl rfl ⟨(Nat.le_of_ble_eq_true rfl), (Nat.le_of_ble_eq_true rfl), (Nat.le_of_ble_eq_true rfl)⟩ rfl (gm_G.mono H (pV_elim (fun h8 H' => ?_) (fun e21 h22 H => ?_)))
    · show gm_G _ 198 _ _ _ _
      replace H := H'
      clear H'
      obtain ⟨ht9, H⟩ := H
      refine g_call rfl (y := 605) (n := 3) (pc' := 201) (g_vt ht9 rfl rfl) (by cases r_8 <;> rfl) rfl ⟨(Nat.le_of_ble_eq_true rfl), (Nat.le_of_ble_eq_true rfl), (Nat.le_of_ble_eq_true rfl)⟩ rfl (gm_G.mono H (pV_elim (fun h10 H' => ?_) (fun e19 h20 H => ?_)))
      · show gm_G _ 201 _ _ _ _
        replace H := H'
        clear H'
        refine g_aload (r := some _) rfl rfl rfl (pc' := 202) ?_
        obtain ⟨ht11, H⟩ := H
        refine g_getRv rfl rfl rfl rfl ht11 (pc' := 205) rfl (fun r12 hr12 => ?_)
        replace H := H r12 hr12
        refine g_aload (r := _) rfl rfl rfl (pc' := 207) ?_
        refine g_iconst rfl rfl rfl (pc' := 208) ?_
        refine g_aload (r := some _) rfl rfl rfl (pc' := 210) ?_
        obtain ⟨ht13, H⟩ := H
        refine g_getI rfl rfl rfl rfl ht13 (pc' := 213) rfl ?_
        obtain ⟨a14, rfl, H⟩ := H
        obtain ⟨ht15, H⟩ := H
        refine g_call rfl (y := 262) (n := 4) (pc' := 216) (g_vt ht15 rfl rfl) (by cases r_8 <;> rfl) rfl ⟨(Nat.le_of_ble_eq_true rfl), (Nat.le_of_ble_eq_true rfl), (Nat.le_of_ble_eq_true rfl)⟩ rfl (gm_G.mono H (pV_elim (fun h16 H' => ?_) (fun e17 h18 H => ?_)))
        · show gm_G _ 216 _ _ _ _
          replace H := H'
          clear H'
          exact g_weak (show gm_Lle [some _] _ from ⟨rfl, trivial⟩) H
        · exact ⟨H.1, g_weak (show gm_Lle [some _] _ from ⟨rfl, trivial⟩) H.2⟩
      · exact ⟨H.1, g_weak (show gm_Lle [some _] _ from ⟨rfl, trivial⟩) H.2⟩
    · exact ⟨H.1, g_weak (show gm_Lle [some _] _ from ⟨rfl, trivial⟩) H.2⟩
  · exact ⟨H.1, g_weak (show gm_Lle [some _] _ from ⟨rfl, trivial⟩) H.2⟩
set_option maxRecDepth 20000 in
theorem w_614_216 {a0 : Nat}  {h : hh_T} {Q : Option Value ⊕ Nat → hh_T → Prop} (H : hh_tg h a0 = 1 ∧ (gm_G 4 0 [some (.ref a0), some (.int (Int32.ofNat 0))] [] h (pI (fun v3 h2 => Q (.inl (some (.int v3))) h2) (fun e4 h5 => hh_tg h5 e4 = 21 ∧ gm_G 614 222 [some (.ref a0)] [.ref e4] h5 Q)))) : gm_G 614 216 [some (.ref a0)] [] h Q := by
  refine g_aload (r := some _) rfl rfl rfl (pc' := 217) ?_
  refine g_iconst rfl rfl rfl (pc' := 218) ?_
  obtain ⟨ht1, H⟩ := H
  refine g_call rfl (y := 4) (n := 2) (pc' := 221) (g_vt ht1 rfl rfl) rfl rfl ⟨(Nat.le_of_ble_eq_true rfl), (Nat.le_of_ble_eq_true rfl), (Nat.le_of_ble_eq_true rfl)⟩ rfl (gm_G.mono H (pI_elim (fun v3 h2 H' => ?_) (fun e4 h5 H => ?_)))
  · show gm_G _ 221 _ _ _ _
    replace H := H'
    clear H'
    exact g_ireturn rfl (Or.inl rfl) H
  · exact ⟨H.1, g_weak (show gm_Lle [some _] _ from ⟨rfl, trivial⟩) H.2⟩
set_option maxRecDepth 20000 in
theorem w_614_222 {a0 : Nat} {ex : Nat} {h : hh_T} {Q : Option Value ⊕ Nat → hh_T → Prop} (H : hh_tg h a0 = 1 ∧ (gm_G 1 0 [some (.ref a0), some (.ref ex)] [] h (pI (fun v3 h2 => Q (.inl (some (.int v3))) h2) (fun e4 h5 => hh_tg h5 e4 = 21 ∧ Q (.inr e4) h5)))) : gm_G 614 222 [some (.ref a0)] [.ref ex] h Q := by
  refine g_astore (r := some _) rfl rfl rfl (pc' := 224) ?_
  refine g_aload (r := some _) rfl rfl rfl (pc' := 225) ?_
  refine g_aload (r := some _) rfl rfl rfl (pc' := 227) ?_
  obtain ⟨ht1, H⟩ := H
  refine g_call rfl (y := 1) (n := 2) (pc' := 230) (g_vt ht1 rfl rfl) rfl rfl ⟨(Nat.le_of_ble_eq_true rfl), (Nat.le_of_ble_eq_true rfl), (Nat.le_of_ble_eq_true rfl)⟩ rfl (gm_G.mono H (pI_elim (fun v3 h2 H' => ?_) (fun e4 h5 H => ?_)))
  · show gm_G _ 230 _ _ _ _
    replace H := H'
    clear H'
    exact g_ireturn rfl (Or.inl rfl) H
  · exact H
set_option maxRecDepth 20000 in
theorem w_615_0 {a0 : Nat}  {h : hh_T} {Q : Option Value ⊕ Nat → hh_T → Prop} (H : gm_G 615 4 [some (.ref a0), some (.int (Int32.ofNat 0)), some (.int (Int32.ofNat 0))] [] h Q) : gm_G 615 0 [some (.ref a0)] [] h Q := by
  refine g_iconst rfl rfl rfl (pc' := 1) ?_
  refine g_istore rfl rfl rfl (pc' := 2) ?_
  refine g_iconst rfl rfl rfl (pc' := 3) ?_
  refine g_istore rfl rfl rfl (pc' := 4) ?_
  exact g_weak (show gm_Lle [some _, some _, some _] _ from ⟨rfl, ⟨rfl, ⟨rfl, trivial⟩⟩⟩) H
set_option maxRecDepth 20000 in
theorem w_615_4 {a0 : Nat} {x1 : Int32} {x2 : Int32} {h : hh_T} {Q : Option Value ⊕ Nat → hh_T → Prop} (H : gm_sub (hh_tg h a0) 0 = true ∧ (∀ r2, r2 = hh_r h a0 33 → (∃ a3, r2 = some a3 ∧ (gm_sub (hh_tg h a3) 22 = true ∧ ((¬ x2 < (hh_i h a3 2) → (gm_G 615 92 [some (.ref a0), some (.int (Int32.ofNat 0)), some (.int (Int32.ofNat 0))] [] h Q)) ∧ (x2 < (hh_i h a3 2) → (∀ r5, r5 = hh_r h a0 49 → (∀ r6, r6 = hh_r h a0 33 → (∃ a7, r6 = some a7 ∧ (gm_sub (hh_tg h a7) 22 = true ∧ (∀ r9, r9 = hh_r h a7 0 → (∃ a10, r9 = some a10 ∧ ((hh_tg h a10 = 104 ∨ 200 ≤ hh_tg h a10) ∧ (∃ n11, gm_ix x2 n11 (hh_ln h a10) ∧ (∀ r13, r13 = hh_r h a10 n11 → (∃ a14, r13 = some a14 ∧ (gm_sub (hh_tg h a14) 23 = true ∧ (∃ a16, r5 = some a16 ∧ (hh_tg h a16 = 14 ∧ (gm_G 258 0 [some (.ref a16), some (.int (hh_i h a14 0))] [] h (pR (fun r19 h18 => gm_G 615 38 [some (.ref a0), some (.int x1), some (.int x2), some (va_rf r19), some (.int (Int32.ofNat 0))] [] h18 Q) (fun e20 h21 => hh_tg h21 e20 = 21 ∧ Q (.inr e20) h21)))))))))))))))))))))) : gm_G 615 4 [some (.ref a0), some (.int x1), some (.int x2)] [] h Q := by
  refine g_iload rfl rfl rfl (pc' := 5) ?_
  refine g_aload (r := some _) rfl rfl rfl (pc' := 6) ?_
  obtain ⟨ht1, H⟩ := H
  refine g_getRv rfl rfl rfl rfl ht1 (pc' := 9) rfl (fun r2 hr2 => ?_)
  replace H := H r2 hr2
  obtain ⟨a3, rfl, H⟩ := H
  obtain ⟨ht4, H⟩ := H
  refine g_getI rfl rfl rfl rfl ht4 (pc' := 12) rfl ?_
  refine g_ic_ge rfl (pc' := 15) (pt := 88) rfl rfl ⟨fun hc => ?_, fun hc => ?_⟩
  · replace H := H.1 hc
    refine g_iconst rfl rfl rfl (pc' := 89) ?_
    refine g_istore rfl rfl rfl (pc' := 90) ?_
    refine g_iconst rfl rfl rfl (pc' := 91) ?_
    refine g_istore rfl rfl rfl (pc' := 92) ?_
    exact g_weak (show gm_Lle [some _, some _, some _] _ from ⟨rfl, ⟨rfl, ⟨rfl, trivial⟩⟩⟩) H
  · replace H := H.2 hc
    refine g_aload (r := some _) rfl rfl rfl (pc' := 16) ?_
    refine g_getRv rfl rfl rfl rfl ht1 (pc' := 19) rfl (fun r5 hr5 => ?_)
    replace H := H r5 hr5
    refine g_aload (r := some _) rfl rfl rfl (pc' := 20) ?_
    refine g_getRv rfl rfl rfl rfl ht1 (pc' := 23) rfl (fun r6 hr6 => ?_)
    replace H := H r6 hr6
    obtain ⟨a7, rfl, H⟩ := H
    obtain ⟨ht8, H⟩ := H
    refine g_getRv rfl rfl rfl rfl ht8 (pc' := 26) rfl (fun r9 hr9 => ?_)
    replace H := H r9 hr9
    refine g_iload rfl rfl rfl (pc' := 27) ?_
    obtain ⟨a10, rfl, H⟩ := H
    obtain ⟨ht12, H⟩ := H
    obtain ⟨n11, hn11, H⟩ := H
    refine g_aaloadv rfl ht12 hn11 (pc' := 28) rfl (fun r13 hr13 => ?_)
    replace H := H r13 hr13
    obtain ⟨a14, rfl, H⟩ := H
    obtain ⟨ht15, H⟩ := H
    refine g_getI rfl rfl rfl rfl ht15 (pc' := 31) rfl ?_
    obtain ⟨a16, rfl, H⟩ := H
    obtain ⟨ht17, H⟩ := H
    refine g_call rfl (y := 258) (n := 2) (pc' := 34) (g_vt ht17 rfl rfl) rfl rfl ⟨(Nat.le_of_ble_eq_true rfl), (Nat.le_of_ble_eq_true rfl), (Nat.le_of_ble_eq_true rfl)⟩ rfl (gm_G.mono H (pR_elim (fun r19 h18 H' => ?_) (fun e20 h21 H => ?_)))
    · show gm_G _ 34 _ _ _ _
      replace H := H'
      clear H'
      refine g_astore (r := _) rfl rfl rfl (pc' := 35) ?_
      refine g_iconst rfl rfl rfl (pc' := 36) ?_
      refine g_istore rfl gm_sto_rf3 rfl (pc' := 38) ?_
      exact g_weak (show gm_Lle [some _, some _, some _, some _, some _] _ from ⟨rfl, ⟨rfl, ⟨rfl, ⟨rfl, ⟨rfl, trivial⟩⟩⟩⟩⟩) H
    · exact H
set_option maxRecDepth 20000 in
theorem w_615_38 {a0 : Nat} {x1 : Int32} {x2 : Int32} {r_3 : Option Nat} {x4 : Int32} {h : hh_T} {Q : Option Value ⊕ Nat → hh_T → Prop} (H : ∃ a1, r_3 = some a1 ∧ (gm_sub (hh_tg h a1) 30 = true ∧ ((¬ x4 < (hh_i h a1 2) → (gm_G 615 4 [some (.ref a0), some (.int x1), some (.int (x2 + (Int32.ofNat 1)))] [] h Q)) ∧ (x4 < (hh_i h a1 2) → (gm_sub (hh_tg h a0) 0 = true ∧ (∀ r4, r4 = hh_r h a0 50 → (∀ r5, r5 = hh_r h a0 33 → (∃ a6, r5 = some a6 ∧ (gm_sub (hh_tg h a6) 22 = true ∧ (∀ r8, r8 = hh_r h a6 0 → (∃ a9, r8 = some a9 ∧ ((hh_tg h a9 = 104 ∨ 200 ≤ hh_tg h a9) ∧ (∃ n10, gm_ix x2 n10 (hh_ln h a9) ∧ (∀ r12, r12 = hh_r h a9 n10 → (∀ r13, r13 = hh_r h a1 3 → (∃ a14, r13 = some a14 ∧ ((hh_tg h a14 = 104 ∨ 200 ≤ hh_tg h a14) ∧ (∃ n15, gm_ix x4 n15 (hh_ln h a14) ∧ (∀ r17, r17 = hh_r h a14 n15 → (hh_tg h a0 = 1 ∧ (gm_G 604 0 [some (.ref a0), some (va_rf r12), some (va_rf r17)] [] h (pI (fun v20 h19 => ∃ a21, r4 = some a21 ∧ (hh_tg h19 a21 = 102 ∧ (∃ n22, gm_ix x1 n22 (hh_ln h19 a21) ∧ ((v20 = 0 ∨ v20 = 1) ∧ (∀ h23, h23 = hh_wi h19 a21 n22 v20 → (gm_G 615 38 [some (.ref a0), some (.int (x1 + (Int32.ofNat 1))), some (.int x2), some (.ref a1), some (.int (x4 + (Int32.ofNat 1)))] [] h23 Q)))))) (fun e25 h26 => hh_tg h26 e25 = 21 ∧ Q (.inr e25) h26))))))))))))))))))))))) : gm_G 615 38 [some (.ref a0), some (.int x1), some (.int x2), some (va_rf r_3), some (.int x4)] [] h Q := by
  refine g_iload rfl rfl rfl (pc' := 40) ?_
  refine g_aload (r := _) rfl rfl rfl (pc' := 41) ?_
  obtain ⟨a1, rfl, H⟩ := H
  obtain ⟨ht2, H⟩ := H
  refine g_getI rfl rfl rfl rfl ht2 (pc' := 44) rfl ?_
  refine g_ic_ge rfl (pc' := 47) (pt := 82) rfl rfl ⟨fun hc => ?_, fun hc => ?_⟩
  · replace H := H.1 hc
    refine g_iinc (c := (Int32.ofNat 1)) rfl rfl rfl rfl rfl (pc' := 85) ?_
    refine g_goto rfl (pc' := 4) rfl ?_
    exact g_weak (show gm_Lle [some _, some _, some _] _ from ⟨rfl, ⟨rfl, ⟨rfl, trivial⟩⟩⟩) H
  · replace H := H.2 hc
    refine g_aload (r := some _) rfl rfl rfl (pc' := 48) ?_
    obtain ⟨ht3, H⟩ := H
    refine g_getRv rfl rfl rfl rfl ht3 (pc' := 51) rfl (fun r4 hr4 => ?_)
    replace H := H r4 hr4
    refine g_iload rfl rfl rfl (pc' := 52) ?_
    refine g_aload (r := some _) rfl rfl rfl (pc' := 53) ?_
    refine g_aload (r := some _) rfl rfl rfl (pc' := 54) ?_
    refine g_getRv rfl rfl rfl rfl ht3 (pc' := 57) rfl (fun r5 hr5 => ?_)
    replace H := H r5 hr5
    obtain ⟨a6, rfl, H⟩ := H
    obtain ⟨ht7, H⟩ := H
    refine g_getRv rfl rfl rfl rfl ht7 (pc' := 60) rfl (fun r8 hr8 => ?_)
    replace H := H r8 hr8
    refine g_iload rfl rfl rfl (pc' := 61) ?_
    obtain ⟨a9, rfl, H⟩ := H
    obtain ⟨ht11, H⟩ := H
    obtain ⟨n10, hn10, H⟩ := H
    refine g_aaloadv rfl ht11 hn10 (pc' := 62) rfl (fun r12 hr12 => ?_)
    replace H := H r12 hr12
    refine g_aload (r := some _) rfl rfl rfl (pc' := 63) ?_
    refine g_getRv rfl rfl rfl rfl ht2 (pc' := 66) rfl (fun r13 hr13 => ?_)
    replace H := H r13 hr13
    refine g_iload rfl rfl rfl (pc' := 68) ?_
    obtain ⟨a14, rfl, H⟩ := H
    obtain ⟨ht16, H⟩ := H
    obtain ⟨n15, hn15, H⟩ := H
    refine g_aaloadv rfl ht16 hn15 (pc' := 69) rfl (fun r17 hr17 => ?_)
    replace H := H r17 hr17
    obtain ⟨ht18, H⟩ := H
    refine g_call rfl (y := 604) (n := 3) (pc' := 72) (g_vt ht18 rfl rfl) (by cases r12 <;> cases r17 <;> rfl) rfl ⟨(Nat.le_of_ble_eq_true rfl), (Nat.le_of_ble_eq_true rfl), (Nat.le_of_ble_eq_true rfl)⟩ rfl (gm_G.mono H (pI_elim (fun v20 h19 H' => ?_) (fun e25 h26 H => ?_)))
    · show gm_G _ 72 _ _ _ _
      replace H := H'
      clear H'
      obtain ⟨a21, rfl, H⟩ := H
      obtain ⟨ht24, H⟩ := H
      obtain ⟨n22, hn22, H⟩ := H
      obtain ⟨Hz, H⟩ := H
      refine g_zastore rfl ht24 hn22 Hz (pc' := 73) rfl ?_
      replace H := H _ rfl
      refine g_iinc (c := (Int32.ofNat 1)) rfl rfl rfl rfl rfl (pc' := 76) ?_
      refine g_iinc (c := (Int32.ofNat 1)) rfl rfl rfl rfl rfl (pc' := 79) ?_
      refine g_goto rfl (pc' := 38) rfl ?_
      exact g_weak (show gm_Lle [some _, some _, some _, some _, some _] _ from ⟨rfl, ⟨rfl, ⟨rfl, ⟨rfl, ⟨rfl, trivial⟩⟩⟩⟩⟩) H
    · exact H
set_option maxRecDepth 20000 in
theorem w_615_92 {a0 : Nat} {x1 : Int32} {x2 : Int32} {h : hh_T} {Q : Option Value ⊕ Nat → hh_T → Prop} (H : gm_sub (hh_tg h a0) 0 = true ∧ (∀ r2, r2 = hh_r h a0 33 → (∃ a3, r2 = some a3 ∧ (gm_sub (hh_tg h a3) 22 = true ∧ ((¬ x2 < (hh_i h a3 2) → (Q (.inl none) h)) ∧ (x2 < (hh_i h a3 2) → (∀ r5, r5 = hh_r h a0 49 → (∀ r6, r6 = hh_r h a0 33 → (∃ a7, r6 = some a7 ∧ (gm_sub (hh_tg h a7) 22 = true ∧ (∀ r9, r9 = hh_r h a7 0 → (∃ a10, r9 = some a10 ∧ ((hh_tg h a10 = 104 ∨ 200 ≤ hh_tg h a10) ∧ (∃ n11, gm_ix x2 n11 (hh_ln h a10) ∧ (∀ r13, r13 = hh_r h a10 n11 → (∃ a14, r13 = some a14 ∧ (gm_sub (hh_tg h a14) 23 = true ∧ (∃ a16, r5 = some a16 ∧ (hh_tg h a16 = 14 ∧ (gm_G 258 0 [some (.ref a16), some (.int (hh_i h a14 0))] [] h (pR (fun r19 h18 => ∃ a20, r19 = some a20 ∧ (gm_sub (hh_tg h18 a20) 30 = true ∧ (∀ h22, h22 = hh_wi h18 a20 1 (Int32.ofNat 0) → (gm_G 615 137 [some (.ref a0), some (.int x1), some (.int x2), some (.ref a20), some (.int (hh_i h18 a20 2)), some (.int (Int32.ofNat 0))] [] h22 Q)))) (fun e23 h24 => hh_tg h24 e23 = 21 ∧ Q (.inr e23) h24)))))))))))))))))))))) : gm_G 615 92 [some (.ref a0), some (.int x1), some (.int x2)] [] h Q := by
  refine g_iload rfl rfl rfl (pc' := 93) ?_
  refine g_aload (r := some _) rfl rfl rfl (pc' := 94) ?_
  obtain ⟨ht1, H⟩ := H
  refine g_getRv rfl rfl rfl rfl ht1 (pc' := 97) rfl (fun r2 hr2 => ?_)
  replace H := H r2 hr2
  obtain ⟨a3, rfl, H⟩ := H
  obtain ⟨ht4, H⟩ := H
  refine g_getI rfl rfl rfl rfl ht4 (pc' := 100) rfl ?_
  refine g_ic_ge rfl (pc' := 103) (pt := 202) rfl rfl ⟨fun hc => ?_, fun hc => ?_⟩
  · replace H := H.1 hc
    exact g_return rfl H
  · replace H := H.2 hc
    refine g_aload (r := some _) rfl rfl rfl (pc' := 104) ?_
    refine g_getRv rfl rfl rfl rfl ht1 (pc' := 107) rfl (fun r5 hr5 => ?_)
    replace H := H r5 hr5
    refine g_aload (r := some _) rfl rfl rfl (pc' := 108) ?_
    refine g_getRv rfl rfl rfl rfl ht1 (pc' := 111) rfl (fun r6 hr6 => ?_)
    replace H := H r6 hr6
    obtain ⟨a7, rfl, H⟩ := H
    obtain ⟨ht8, H⟩ := H
    refine g_getRv rfl rfl rfl rfl ht8 (pc' := 114) rfl (fun r9 hr9 => ?_)
    replace H := H r9 hr9
    refine g_iload rfl rfl rfl (pc' := 115) ?_
    obtain ⟨a10, rfl, H⟩ := H
    obtain ⟨ht12, H⟩ := H
    obtain ⟨n11, hn11, H⟩ := H
    refine g_aaloadv rfl ht12 hn11 (pc' := 116) rfl (fun r13 hr13 => ?_)
    replace H := H r13 hr13
    obtain ⟨a14, rfl, H⟩ := H
    obtain ⟨ht15, H⟩ := H
    refine g_getI rfl rfl rfl rfl ht15 (pc' := 119) rfl ?_
    obtain ⟨a16, rfl, H⟩ := H
    obtain ⟨ht17, H⟩ := H
    refine g_call rfl (y := 258) (n := 2) (pc' := 122) (g_vt ht17 rfl rfl) rfl rfl ⟨(Nat.le_of_ble_eq_true rfl), (Nat.le_of_ble_eq_true rfl), (Nat.le_of_ble_eq_true rfl)⟩ rfl (gm_G.mono H (pR_elim (fun r19 h18 H' => ?_) (fun e23 h24 H => ?_)))
    · show gm_G _ 122 _ _ _ _
      replace H := H'
      clear H'
      refine g_astore (r := _) rfl rfl rfl (pc' := 123) ?_
      refine g_aload (r := _) rfl rfl rfl (pc' := 124) ?_
      obtain ⟨a20, rfl, H⟩ := H
      obtain ⟨ht21, H⟩ := H
      refine g_getI rfl rfl rfl rfl ht21 (pc' := 127) rfl ?_
      refine g_istore rfl rfl rfl (pc' := 129) ?_
      refine g_aload (r := some _) rfl rfl rfl (pc' := 130) ?_
      refine g_iconst rfl rfl rfl (pc' := 131) ?_
      refine g_putI rfl rfl rfl rfl ht21  (pc' := 134) rfl ?_
      replace H := H _ rfl
      refine g_iconst rfl rfl rfl (pc' := 135) ?_
      refine g_istore rfl rfl rfl (pc' := 137) ?_
      exact g_weak (show gm_Lle [some _, some _, some _, some _, some _, some _] _ from ⟨rfl, ⟨rfl, ⟨rfl, ⟨rfl, ⟨rfl, ⟨rfl, trivial⟩⟩⟩⟩⟩⟩) H
    · exact H
set_option maxRecDepth 20000 in
theorem w_615_137 {a0 : Nat} {x1 : Int32} {x2 : Int32} {r_3 : Option Nat} {x4 : Int32} {x5 : Int32} {h : hh_T} {Q : Option Value ⊕ Nat → hh_T → Prop} (H : (¬ x5 < x4 → (∃ a1, r_3 = some a1 ∧ (gm_sub (hh_tg h a1) 30 = true ∧ (∀ h3, h3 = hh_wi h a1 2 (hh_i h a1 1) → (gm_G 615 92 [some (.ref a0), some (.int x1), some (.int (x2 + (Int32.ofNat 1)))] [] h3 Q))))) ∧ (x5 < x4 → (gm_sub (hh_tg h a0) 0 = true ∧ (∀ r5, r5 = hh_r h a0 50 → (∃ a6, r5 = some a6 ∧ ((hh_tg h a6 = 101 ∨ hh_tg h a6 = 102) ∧ (∃ n7, gm_ix x1 n7 (hh_ln h a6) ∧ (((hh_i h a6 n7) = Int32.ofNat 0 → (gm_G 615 179 [some (.ref a0), some (.int x1), some (.int x2), some (va_rf r_3), some (.int x4), some (.int x5)] [] h Q)) ∧ (¬ (hh_i h a6 n7) = Int32.ofNat 0 → (∃ a9, r_3 = some a9 ∧ (gm_sub (hh_tg h a9) 30 = true ∧ (∀ r11, r11 = hh_r h a9 3 → (∀ r12, r12 = hh_r h a9 3 → (∃ a13, r12 = some a13 ∧ ((hh_tg h a13 = 104 ∨ 200 ≤ hh_tg h a13) ∧ (∃ n14, gm_ix x5 n14 (hh_ln h a13) ∧ (∀ r16, r16 = hh_r h a13 n14 → (∃ a17, r11 = some a17 ∧ (200 ≤ hh_tg h a17 ∧ (∀ b, r16 = some b → gm_as (hh_tg h a17) (hh_tg h b) = true) ∧ (∃ n18, gm_ix (hh_i h a9 1) n18 (hh_ln h a17) ∧ (∀ h19, h19 = hh_wr h a17 n18 r16 → (∀ h20, h20 = hh_wi h19 a9 1 ((hh_i h19 a9 1) + (Int32.ofNat 1)) → (gm_G 615 179 [some (.ref a0), some (.int x1), some (.int x2), some (.ref a9), some (.int x4), some (.int x5)] [] h20 Q))))))))))))))))))))))) : gm_G 615 137 [some (.ref a0), some (.int x1), some (.int x2), some (va_rf r_3), some (.int x4), some (.int x5)] [] h Q := by
  refine g_iload rfl rfl rfl (pc' := 139) ?_
  refine g_iload rfl rfl rfl (pc' := 141) ?_
  refine g_ic_ge rfl (pc' := 144) (pt := 188) rfl rfl ⟨fun hc => ?_, fun hc => ?_⟩
  · replace H := H.1 hc
    refine g_aload (r := _) rfl rfl rfl (pc' := 189) ?_
    refine g_aload (r := _) rfl rfl rfl (pc' := 190) ?_
    obtain ⟨a1, rfl, H⟩ := H
    obtain ⟨ht2, H⟩ := H
    refine g_getI rfl rfl rfl rfl ht2 (pc' := 193) rfl ?_
    refine g_putI rfl rfl rfl rfl ht2  (pc' := 196) rfl ?_
    replace H := H _ rfl
    refine g_iinc (c := (Int32.ofNat 1)) rfl rfl rfl rfl rfl (pc' := 199) ?_
    refine g_goto rfl (pc' := 92) rfl ?_
    exact g_weak (show gm_Lle [some _, some _, some _] _ from ⟨rfl, ⟨rfl, ⟨rfl, trivial⟩⟩⟩) H
  · replace H := H.2 hc
    refine g_aload (r := some _) rfl rfl rfl (pc' := 145) ?_
    obtain ⟨ht4, H⟩ := H
    refine g_getRv rfl rfl rfl rfl ht4 (pc' := 148) rfl (fun r5 hr5 => ?_)
    replace H := H r5 hr5
    refine g_iload rfl rfl rfl (pc' := 149) ?_
    obtain ⟨a6, rfl, H⟩ := H
    obtain ⟨ht8, H⟩ := H
    obtain ⟨n7, hn7, H⟩ := H
    refine g_baload rfl ht8 hn7 (pc' := 150) rfl ?_
    refine g_if_eq rfl (pc' := 153) (pt := 179) rfl rfl ⟨fun hc => ?_, fun hc => ?_⟩
    · replace H := H.1 hc
      exact g_weak (show gm_Lle [some _, some _, some _, some _, some _, some _] _ from ⟨rfl, ⟨rfl, ⟨rfl, ⟨rfl, ⟨rfl, ⟨rfl, trivial⟩⟩⟩⟩⟩⟩) H
    · replace H := H.2 hc
      refine g_aload (r := _) rfl rfl rfl (pc' := 154) ?_
      obtain ⟨a9, rfl, H⟩ := H
      obtain ⟨ht10, H⟩ := H
      refine g_getRv rfl rfl rfl rfl ht10 (pc' := 157) rfl (fun r11 hr11 => ?_)
      replace H := H r11 hr11
      refine g_aload (r := some _) rfl rfl rfl (pc' := 158) ?_
      refine g_getI rfl rfl rfl rfl ht10 (pc' := 161) rfl ?_
      refine g_aload (r := some _) rfl rfl rfl (pc' := 162) ?_
      refine g_getRv rfl rfl rfl rfl ht10 (pc' := 165) rfl (fun r12 hr12 => ?_)
      replace H := H r12 hr12
      refine g_iload rfl rfl rfl (pc' := 167) ?_
      obtain ⟨a13, rfl, H⟩ := H
      obtain ⟨ht15, H⟩ := H
      obtain ⟨n14, hn14, H⟩ := H
      refine g_aaloadv rfl ht15 hn14 (pc' := 168) rfl (fun r16 hr16 => ?_)
      replace H := H r16 hr16
      obtain ⟨a17, rfl, H⟩ := H
      obtain ⟨Ha, Hb, H⟩ := H
      obtain ⟨n18, hn18, H⟩ := H
      refine g_aastore (r := _) rfl Ha Hb hn18 (pc' := 169) rfl ?_
      replace H := H _ rfl
      refine g_aload (r := some _) rfl rfl rfl (pc' := 170) ?_
      refine g_dup_a (r := some _) rfl rfl (pc' := 171) ?_
      refine g_getI rfl rfl rfl rfl ht10 (pc' := 174) rfl ?_
      refine g_iconst rfl rfl rfl (pc' := 175) ?_
      refine g_iadd rfl rfl (pc' := 176) ?_
      refine g_putI rfl rfl rfl rfl ht10  (pc' := 179) rfl ?_
      replace H := H _ rfl
      exact g_weak (show gm_Lle [some _, some _, some _, some _, some _, some _] _ from ⟨rfl, ⟨rfl, ⟨rfl, ⟨rfl, ⟨rfl, ⟨rfl, trivial⟩⟩⟩⟩⟩⟩) H
set_option maxRecDepth 20000 in
theorem w_615_179 {a0 : Nat} {x1 : Int32} {x2 : Int32} {r_3 : Option Nat} {x4 : Int32} {x5 : Int32} {h : hh_T} {Q : Option Value ⊕ Nat → hh_T → Prop} (H : gm_G 615 137 [some (.ref a0), some (.int (x1 + (Int32.ofNat 1))), some (.int x2), some (va_rf r_3), some (.int x4), some (.int (x5 + (Int32.ofNat 1)))] [] h Q) : gm_G 615 179 [some (.ref a0), some (.int x1), some (.int x2), some (va_rf r_3), some (.int x4), some (.int x5)] [] h Q := by
  refine g_iinc (c := (Int32.ofNat 1)) rfl rfl rfl rfl rfl (pc' := 182) ?_
  refine g_iinc (c := (Int32.ofNat 1)) rfl rfl rfl rfl rfl (pc' := 185) ?_
  refine g_goto rfl (pc' := 137) rfl ?_
  exact g_weak (show gm_Lle [some _, some _, some _, some _, some _, some _] _ from ⟨rfl, ⟨rfl, ⟨rfl, ⟨rfl, ⟨rfl, ⟨rfl, trivial⟩⟩⟩⟩⟩⟩) H
set_option maxRecDepth 20000 in
theorem w_616_0 {a0 : Nat} {r_1 : Option Nat} {x2 : Int32} {j3 : Int64} {x5 : Int32} {h : hh_T} {Q : Option Value ⊕ Nat → hh_T → Prop} (H : ∃ a1, r_1 = some a1 ∧ (gm_sub (hh_tg h a1) 23 = true ∧ (∀ r3, r3 = hh_r h a1 9 → (∃ a4, r3 = some a4 ∧ (gm_sub (hh_tg h a4) 24 = true ∧ (∀ r6, r6 = hh_r h a4 2 → (∃ a7, r6 = some a7 ∧ ((hh_tg h a7 = 104 ∨ 200 ≤ hh_tg h a7) ∧ (∃ n8, gm_ix x5 n8 (hh_ln h a7) ∧ (∀ r10, r10 = hh_r h a7 n8 → (∃ a11, r10 = some a11 ∧ (gm_sub (hh_tg h a11) 25 = true ∧ ((¬ (hh_i h a11 1) = (Int32.ofNat 2) → (gm_G 616 29 [some (.ref a0), some (.ref a1), some (.int x2), some (.long j3), none, some (.int x5), some (.ref a11)] [] h Q)) ∧ ((hh_i h a11 1) = (Int32.ofNat 2) → ((¬ (hh_i h a11 6) = Int32.ofNat 0 → (gm_G 616 34 [some (.ref a0), some (.ref a1), some (.int x2), some (.long j3), none, some (.int x5), some (.ref a11)] [.int (Int32.ofNat 0)] h Q)) ∧ ((hh_i h a11 6) = Int32.ofNat 0 → (gm_G 616 29 [some (.ref a0), some (.ref a1), some (.int x2), some (.long j3), none, some (.int x5), some (.ref a11)] [] h Q))))))))))))))))) : gm_G 616 0 [some (.ref a0), some (va_rf r_1), some (.int x2), some (.long j3), none, some (.int x5)] [] h Q := by
  refine g_aload (r := _) rfl rfl rfl (pc' := 1) ?_
  obtain ⟨a1, rfl, H⟩ := H
  obtain ⟨ht2, H⟩ := H
  refine g_getRv rfl rfl rfl rfl ht2 (pc' := 4) rfl (fun r3 hr3 => ?_)
  replace H := H r3 hr3
  obtain ⟨a4, rfl, H⟩ := H
  obtain ⟨ht5, H⟩ := H
  refine g_getRv rfl rfl rfl rfl ht5 (pc' := 7) rfl (fun r6 hr6 => ?_)
  replace H := H r6 hr6
  refine g_iload rfl rfl rfl (pc' := 9) ?_
  obtain ⟨a7, rfl, H⟩ := H
  obtain ⟨ht9, H⟩ := H
  obtain ⟨n8, hn8, H⟩ := H
  refine g_aaloadv rfl ht9 hn8 (pc' := 10) rfl (fun r10 hr10 => ?_)
  replace H := H r10 hr10
  refine g_astore (r := _) rfl rfl rfl (pc' := 12) ?_
  refine g_aload (r := _) rfl rfl rfl (pc' := 14) ?_
  obtain ⟨a11, rfl, H⟩ := H
  obtain ⟨ht12, H⟩ := H
  refine g_getI rfl rfl rfl rfl ht12 (pc' := 17) rfl ?_
  refine g_iconst rfl rfl rfl (pc' := 18) ?_
  refine g_ic_ne rfl (pc' := 21) (pt := 29) rfl rfl ⟨fun hc => ?_, fun hc => ?_⟩
  · replace H := H.1 hc
    exact g_weak (show gm_Lle [some _, some _, some _, some _, none, some _, some _] _ from ⟨rfl, ⟨rfl, ⟨rfl, ⟨rfl, ⟨rfl, ⟨rfl, trivial⟩⟩⟩⟩⟩⟩) H
  · replace H := H.2 hc
    refine g_aload (r := some _) rfl rfl rfl (pc' := 23) ?_
    refine g_getI rfl rfl rfl rfl ht12 (pc' := 26) rfl ?_
    refine g_if_ne rfl (pc' := 29) (pt := 33) rfl rfl ⟨fun hc => ?_, fun hc => ?_⟩
    · replace H := H.1 hc
      refine g_iconst rfl rfl rfl (pc' := 34) ?_
      exact g_weak (show gm_Lle [some _, some _, some _, some _, none, some _, some _] _ from ⟨rfl, ⟨rfl, ⟨rfl, ⟨rfl, ⟨rfl, ⟨rfl, trivial⟩⟩⟩⟩⟩⟩) H
    · replace H := H.2 hc
      exact g_weak (show gm_Lle [some _, some _, some _, some _, none, some _, some _] _ from ⟨rfl, ⟨rfl, ⟨rfl, ⟨rfl, ⟨rfl, ⟨rfl, trivial⟩⟩⟩⟩⟩⟩) H
set_option maxRecDepth 20000 in
theorem w_616_29 {a0 : Nat} {r_1 : Option Nat} {x2 : Int32} {j3 : Int64} {x5 : Int32} {r_6 : Option Nat} {h : hh_T} {Q : Option Value ⊕ Nat → hh_T → Prop} (H : gm_G 616 34 [some (.ref a0), some (va_rf r_1), some (.int x2), some (.long j3), none, some (.int x5), some (va_rf r_6)] [.int (Int32.ofNat 1)] h Q) : gm_G 616 29 [some (.ref a0), some (va_rf r_1), some (.int x2), some (.long j3), none, some (.int x5), some (va_rf r_6)] [] h Q := by
  refine g_iconst rfl rfl rfl (pc' := 30) ?_
  refine g_goto rfl (pc' := 34) rfl ?_
  exact g_weak (show gm_Lle [some _, some _, some _, some _, none, some _, some _] _ from ⟨rfl, ⟨rfl, ⟨rfl, ⟨rfl, ⟨rfl, ⟨rfl, trivial⟩⟩⟩⟩⟩⟩) H
set_option maxRecDepth 20000 in
theorem w_616_34 {a0 : Nat} {r_1 : Option Nat} {x2 : Int32} {j3 : Int64} {x5 : Int32} {r_6 : Option Nat} {y0 : Int32} {h : hh_T} {Q : Option Value ⊕ Nat → hh_T → Prop} (H : gm_G 431 0 [some (.int y0), some (.int (Int32.ofInt (-5)))] [] h (pV (fun h1 => ∃ a2, r_6 = some a2 ∧ (gm_sub (hh_tg h1 a2) 25 = true ∧ (((Int32.ofNat 1) < (hh_i h1 a2 5) → (gm_G 616 66 [some (.ref a0), some (va_rf r_1), some (.int x2), some (.long j3), none, some (.int x5), some (.ref a2)] [] h1 Q)) ∧ (¬ (Int32.ofNat 1) < (hh_i h1 a2 5) → (gm_sub (hh_tg h1 a0) 0 = true ∧ (∀ r5, r5 = hh_r h1 a0 51 → (∃ a6, r_1 = some a6 ∧ (gm_sub (hh_tg h1 a6) 23 = true ∧ (∃ a8, r5 = some a8 ∧ (hh_tg h1 a8 = 15 ∧ (gm_G 77 0 [some (.ref a8), some (.int ((Int32.ofNat 2) * (hh_i h1 a6 0))), some (.int x5)] [] h1 (pI (fun v11 h10 => (¬ v11 = Int32.ofNat 0 → (gm_G 616 71 [some (.ref a0), some (.ref a6), some (.int x2), some (.long j3), none, some (.int x5), some (.ref a2)] [.int (Int32.ofNat 0)] h10 Q)) ∧ (v11 = Int32.ofNat 0 → (gm_G 616 66 [some (.ref a0), some (.ref a6), some (.int x2), some (.long j3), none, some (.int x5), some (.ref a2)] [] h10 Q))) (fun e12 h13 => hh_tg h13 e12 = 21 ∧ Q (.inr e12) h13))))))))))))) (fun e14 h15 => hh_tg h15 e14 = 21 ∧ Q (.inr e14) h15))) : gm_G 616 34 [some (.ref a0), some (va_rf r_1), some (.int x2), some (.long j3), none, some (.int x5), some (va_rf r_6)] [.int y0] h Q := by
  refine g_iconst rfl rfl rfl (pc' := 36) ?_
  refine g_call rfl (y := 431) (n := 2) (pc' := 39) (fun _ => rfl) rfl rfl ⟨(Nat.le_of_ble_eq_true rfl), (Nat.le_of_ble_eq_true rfl), (Nat.le_of_ble_eq_true rfl)⟩ rfl (gm_G.mono H (pV_elim (fun h1 H' => ?_) (fun e14 h15 H => ?_)))
  · show gm_G _ 39 _ _ _ _
    replace H := H'
    clear H'
    refine g_aload (r := _) rfl rfl rfl (pc' := 41) ?_
    obtain ⟨a2, rfl, H⟩ := H
    obtain ⟨ht3, H⟩ := H
    refine g_getI rfl rfl rfl rfl ht3 (pc' := 44) rfl ?_
    refine g_iconst rfl rfl rfl (pc' := 45) ?_
    refine g_ic_gt rfl (pc' := 48) (pt := 66) rfl rfl ⟨fun hc => ?_, fun hc => ?_⟩
    · replace H := H.1 hc
      exact g_weak (show gm_Lle [some _, some _, some _, some _, none, some _, some _] _ from ⟨rfl, ⟨rfl, ⟨rfl, ⟨rfl, ⟨rfl, ⟨rfl, trivial⟩⟩⟩⟩⟩⟩) H
    · replace H := H.2 hc
      refine g_aload (r := some _) rfl rfl rfl (pc' := 49) ?_
      obtain ⟨ht4, H⟩ := H
      refine g_getRv rfl rfl rfl rfl ht4 (pc' := 52) rfl (fun r5 hr5 => ?_)
      replace H := H r5 hr5
      refine g_iconst rfl rfl rfl (pc' := 53) ?_
      refine g_aload (r := _) rfl rfl rfl (pc' := 54) ?_
      obtain ⟨a6, rfl, H⟩ := H
      obtain ⟨ht7, H⟩ := H
      refine g_getI rfl rfl rfl rfl ht7 (pc' := 57) rfl ?_
      refine g_imul rfl rfl (pc' := 58) ?_
      refine g_iload rfl rfl rfl (pc' := 60) ?_
      obtain ⟨a8, rfl, H⟩ := H
      obtain ⟨ht9, H⟩ := H
      refine g_call rfl (y := 77) (n := 3) (pc' := 63) (g_vt ht9 rfl rfl) rfl rfl ⟨(Nat.le_of_ble_eq_true rfl), (Nat.le_of_ble_eq_true rfl), (Nat.le_of_ble_eq_true rfl)⟩ rfl (gm_G.mono H (pI_elim (fun v11 h10 H' => ?_) (fun e12 h13 H => ?_)))
      · show gm_G _ 63 _ _ _ _
        replace H := H'
        clear H'
        refine g_if_ne rfl (pc' := 66) (pt := 70) rfl rfl ⟨fun hc => ?_, fun hc => ?_⟩
        · replace H := H.1 hc
          refine g_iconst rfl rfl rfl (pc' := 71) ?_
          exact g_weak (show gm_Lle [some _, some _, some _, some _, none, some _, some _] _ from ⟨rfl, ⟨rfl, ⟨rfl, ⟨rfl, ⟨rfl, ⟨rfl, trivial⟩⟩⟩⟩⟩⟩) H
        · replace H := H.2 hc
          exact g_weak (show gm_Lle [some _, some _, some _, some _, none, some _, some _] _ from ⟨rfl, ⟨rfl, ⟨rfl, ⟨rfl, ⟨rfl, ⟨rfl, trivial⟩⟩⟩⟩⟩⟩) H
      · exact H
  · exact H
set_option maxRecDepth 20000 in
theorem w_616_66 {a0 : Nat} {r_1 : Option Nat} {x2 : Int32} {j3 : Int64} {x5 : Int32} {r_6 : Option Nat} {h : hh_T} {Q : Option Value ⊕ Nat → hh_T → Prop} (H : gm_G 616 71 [some (.ref a0), some (va_rf r_1), some (.int x2), some (.long j3), none, some (.int x5), some (va_rf r_6)] [.int (Int32.ofNat 1)] h Q) : gm_G 616 66 [some (.ref a0), some (va_rf r_1), some (.int x2), some (.long j3), none, some (.int x5), some (va_rf r_6)] [] h Q := by
  refine g_iconst rfl rfl rfl (pc' := 67) ?_
  refine g_goto rfl (pc' := 71) rfl ?_
  exact g_weak (show gm_Lle [some _, some _, some _, some _, none, some _, some _] _ from ⟨rfl, ⟨rfl, ⟨rfl, ⟨rfl, ⟨rfl, ⟨rfl, trivial⟩⟩⟩⟩⟩⟩) H
set_option maxRecDepth 20000 in
theorem w_616_71 {a0 : Nat} {r_1 : Option Nat} {x2 : Int32} {j3 : Int64} {x5 : Int32} {r_6 : Option Nat} {y0 : Int32} {h : hh_T} {Q : Option Value ⊕ Nat → hh_T → Prop} (H : gm_G 431 0 [some (.int y0), some (.int (Int32.ofInt (-5)))] [] h (pV (fun h1 => ∀ a2 h3, a2 = hh_sz h1 → h3 = hh_al h1 37 0 6 → (gm_G 325 0 [some (.ref a2), some (.ref a0), some (.int x2), some (.long j3), none] [] h3 (pV (fun h4 => hh_tg h4 a0 = 1 ∧ (gm_G 605 0 [some (.ref a0), some (va_rf r_1), some (.ref a2)] [] h4 (pV (fun h6 => gm_sub (hh_tg h6 a0) 0 = true ∧ (∀ r8, r8 = hh_r h6 a0 52 → (∃ a9, r_1 = some a9 ∧ (gm_sub (hh_tg h6 a9) 23 = true ∧ (∃ a11, r8 = some a11 ∧ (hh_tg h6 a11 = 16 ∧ (gm_G 261 0 [some (.ref a11), some (.int (hh_i h6 a9 0)), some (.int x2), some (.int (Int32.ofNat 2)), some (.int x5)] [] h6 (pV (fun h13 => gm_G 616 106 [some (.ref a0), some (.ref a9), none, none, none, some (.int x5), some (va_rf r_6)] [] h13 Q) (fun e14 h15 => hh_tg h15 e14 = 21 ∧ Q (.inr e14) h15))))))))) (fun e16 h17 => hh_tg h17 e16 = 21 ∧ Q (.inr e16) h17)))) (fun e18 h19 => hh_tg h19 e18 = 21 ∧ Q (.inr e18) h19)))) (fun e20 h21 => hh_tg h21 e20 = 21 ∧ Q (.inr e20) h21))) : gm_G 616 71 [some (.ref a0), some (va_rf r_1), some (.int x2), some (.long j3), none, some (.int x5), some (va_rf r_6)] [.int y0] h Q := by
  refine g_iconst rfl rfl rfl (pc' := 73) ?_
  refine g_call rfl (y := 431) (n := 2) (pc' := 76) (fun _ => rfl) rfl rfl ⟨(Nat.le_of_ble_eq_true rfl), (Nat.le_of_ble_eq_true rfl), (Nat.le_of_ble_eq_true rfl)⟩ rfl (gm_G.mono H (pV_elim (fun h1 H' => ?_) (fun e20 h21 H => ?_)))
  · show gm_G _ 76 _ _ _ _
    replace H := H'
    clear H'
    refine g_aload (r := some _) rfl rfl rfl (pc' := 77) ?_
    refine g_aload (r := _) rfl rfl rfl (pc' := 78) ?_
    refine g_new rfl (t := 37) (s := 6) rfl rfl (pc' := 81) rfl ?_
    replace H := H _ _ rfl rfl
    refine g_dup_a (r := some _) rfl rfl (pc' := 82) ?_
    refine g_aload (r := some _) rfl rfl rfl (pc' := 83) ?_
    refine g_iload rfl rfl rfl (pc' := 84) ?_
    refine g_lload rfl rfl rfl (pc' := 85) ?_
    refine g_call rfl (y := 325) (n := 4) (pc' := 88) (fun _ => rfl) rfl rfl ⟨(Nat.le_of_ble_eq_true rfl), (Nat.le_of_ble_eq_true rfl), (Nat.le_of_ble_eq_true rfl)⟩ rfl (gm_G.mono H (pV_elim (fun h4 H' => ?_) (fun e18 h19 H => ?_)))
    · show gm_G _ 88 _ _ _ _
      replace H := H'
      clear H'
      obtain ⟨ht5, H⟩ := H
      refine g_call rfl (y := 605) (n := 3) (pc' := 91) (g_vt ht5 rfl rfl) (by cases r_1 <;> rfl) rfl ⟨(Nat.le_of_ble_eq_true rfl), (Nat.le_of_ble_eq_true rfl), (Nat.le_of_ble_eq_true rfl)⟩ rfl (gm_G.mono H (pV_elim (fun h6 H' => ?_) (fun e16 h17 H => ?_)))
      · show gm_G _ 91 _ _ _ _
        replace H := H'
        clear H'
        refine g_aload (r := some _) rfl rfl rfl (pc' := 92) ?_
        obtain ⟨ht7, H⟩ := H
        refine g_getRv rfl rfl rfl rfl ht7 (pc' := 95) rfl (fun r8 hr8 => ?_)
        replace H := H r8 hr8
        refine g_aload (r := _) rfl rfl rfl (pc' := 96) ?_
        obtain ⟨a9, rfl, H⟩ := H
        obtain ⟨ht10, H⟩ := H
        refine g_getI rfl rfl rfl rfl ht10 (pc' := 99) rfl ?_
        refine g_iload rfl rfl rfl (pc' := 100) ?_
        refine g_iconst rfl rfl rfl (pc' := 101) ?_
        refine g_iload rfl rfl rfl (pc' := 103) ?_
        obtain ⟨a11, rfl, H⟩ := H
        obtain ⟨ht12, H⟩ := H
        refine g_call rfl (y := 261) (n := 5) (pc' := 106) (g_vt ht12 rfl rfl) rfl rfl ⟨(Nat.le_of_ble_eq_true rfl), (Nat.le_of_ble_eq_true rfl), (Nat.le_of_ble_eq_true rfl)⟩ rfl (gm_G.mono H (pV_elim (fun h13 H' => ?_) (fun e14 h15 H => ?_)))
        · show gm_G _ 106 _ _ _ _
          replace H := H'
          clear H'
          exact g_weak (show gm_Lle [some _, some _, none, none, none, some _, some _] _ from ⟨rfl, ⟨rfl, ⟨rfl, ⟨rfl, trivial⟩⟩⟩⟩) H
        · exact H
      · exact H
    · exact H
  · exact H
set_option maxRecDepth 20000 in
theorem w_616_106 {a0 : Nat} {r_1 : Option Nat} {x5 : Int32} {r_6 : Option Nat} {h : hh_T} {Q : Option Value ⊕ Nat → hh_T → Prop} (H : ∃ a1, r_6 = some a1 ∧ (gm_sub (hh_tg h a1) 25 = true ∧ ((¬ (hh_i h a1 1) = (Int32.ofNat 2) → (Q (.inl none) h)) ∧ ((hh_i h a1 1) = (Int32.ofNat 2) → (gm_sub (hh_tg h a0) 0 = true ∧ (∀ r4, r4 = hh_r h a0 52 → (∃ a5, r_1 = some a5 ∧ (gm_sub (hh_tg h a5) 23 = true ∧ (∃ a7, r4 = some a7 ∧ (hh_tg h a7 = 16 ∧ (gm_G 82 0 [some (.ref a7), some (.int (hh_i h a5 0)), some (.int x5)] [] h (pV (fun h9 => Q (.inl none) h9) (fun e10 h11 => hh_tg h11 e10 = 21 ∧ Q (.inr e10) h11))))))))))))) : gm_G 616 106 [some (.ref a0), some (va_rf r_1), none, none, none, some (.int x5), some (va_rf r_6)] [] h Q := by
  refine g_aload (r := _) rfl rfl rfl (pc' := 108) ?_
  obtain ⟨a1, rfl, H⟩ := H
  obtain ⟨ht2, H⟩ := H
  refine g_getI rfl rfl rfl rfl ht2 (pc' := 111) rfl ?_
  refine g_iconst rfl rfl rfl (pc' := 112) ?_
  refine g_ic_ne rfl (pc' := 115) (pt := 128) rfl rfl ⟨fun hc => ?_, fun hc => ?_⟩
  · replace H := H.1 hc
    exact g_return rfl H
  · replace H := H.2 hc
    refine g_aload (r := some _) rfl rfl rfl (pc' := 116) ?_
    obtain ⟨ht3, H⟩ := H
    refine g_getRv rfl rfl rfl rfl ht3 (pc' := 119) rfl (fun r4 hr4 => ?_)
    replace H := H r4 hr4
    refine g_aload (r := _) rfl rfl rfl (pc' := 120) ?_
    obtain ⟨a5, rfl, H⟩ := H
    obtain ⟨ht6, H⟩ := H
    refine g_getI rfl rfl rfl rfl ht6 (pc' := 123) rfl ?_
    refine g_iload rfl rfl rfl (pc' := 125) ?_
    obtain ⟨a7, rfl, H⟩ := H
    obtain ⟨ht8, H⟩ := H
    refine g_call rfl (y := 82) (n := 3) (pc' := 128) (g_vt ht8 rfl rfl) rfl rfl ⟨(Nat.le_of_ble_eq_true rfl), (Nat.le_of_ble_eq_true rfl), (Nat.le_of_ble_eq_true rfl)⟩ rfl (gm_G.mono H (pV_elim (fun h9 H' => ?_) (fun e10 h11 H => ?_)))
    · show gm_G _ 128 _ _ _ _
      replace H := H'
      clear H'
      exact g_return rfl H
    · exact H
set_option maxRecDepth 20000 in
theorem w_617_0 {a0 : Nat} {x1 : Int32} {h : hh_T} {Q : Option Value ⊕ Nat → hh_T → Prop} (H : hh_tg h a0 = 1 ∧ (gm_G 243 0 [some (.ref a0)] [] h (pV (fun h2 => hh_tg h2 a0 = 1 ∧ (gm_G 456 0 [some (.ref a0)] [] h2 (pV (fun h4 => gm_G 493 0 [some (.int x1)] [] h4 (pV (fun h5 => gm_sub (hh_tg h5 a0) 0 = true ∧ (∀ r7, r7 = hh_r h5 a0 58 → (∃ a8, r7 = some a8 ∧ (gm_sub (hh_tg h5 a8) 12 = true ∧ (gm_G 5 0 [some (.int (hh_i h5 a8 1)), some (.int (Int32.ofNat 1)), some (.int (Int32.ofNat 256))] [] h5 (pI (fun v11 h10 => gm_G 457 0 [some (.int v11)] [] h10 (pV (fun h12 => gm_G 617 29 [some (.ref a0), some (.int x1)] [] h12 Q) (fun e13 h14 => hh_tg h14 e13 = 21 ∧ gm_G 617 227 [some (.ref a0)] [.ref e13] h14 Q))) (fun e15 h16 => hh_tg h16 e15 = 21 ∧ gm_G 617 227 [some (.ref a0)] [.ref e15] h16 Q))))))) (fun e17 h18 => hh_tg h18 e17 = 21 ∧ gm_G 617 227 [some (.ref a0)] [.ref e17] h18 Q))) (fun e19 h20 => hh_tg h20 e19 = 21 ∧ gm_G 617 227 [some (.ref a0)] [.ref e19] h20 Q)))) (fun e21 h22 => hh_tg h22 e21 = 21 ∧ Q (.inr e21) h22)))) : gm_G 617 0 [some (.ref a0), some (.int x1)] [] h Q := by
  refine g_aload (r := some _) rfl rfl rfl (pc' := 1) ?_
  obtain ⟨ht1, H⟩ := H
  refine g_call rfl (y := 243) (n := 1) (pc' := 4) (g_vt ht1 rfl rfl) rfl rfl ⟨(Nat.le_of_ble_eq_true rfl), (Nat.le_of_ble_eq_true rfl), (Nat.le_of_ble_eq_true rfl)⟩ rfl (gm_G.mono H (pV_elim (fun h2 H' => ?_) (fun e21 h22 H => ?_)))
  · show gm_G _ 4 _ _ _ _
    replace H := H'
    clear H'
    refine g_aload (r := some _) rfl rfl rfl (pc' := 5) ?_
    obtain ⟨ht3, H⟩ := H
    refine g_call rfl (y := 456) (n := 1) (pc' := 8) (g_vt ht3 rfl rfl) rfl rfl ⟨(Nat.le_of_ble_eq_true rfl), (Nat.le_of_ble_eq_true rfl), (Nat.le_of_ble_eq_true rfl)⟩ rfl (gm_G.mono H (pV_elim (fun h4 H' => ?_) (fun e19 h20 H => ?_)))
    · show gm_G _ 8 _ _ _ _
      replace H := H'
      clear H'
      refine g_iload rfl rfl rfl (pc' := 9) ?_
      refine g_call rfl (y := 493) (n := 1) (pc' := 12) (fun _ => rfl) rfl rfl ⟨(Nat.le_of_ble_eq_true rfl), (Nat.le_of_ble_eq_true rfl), (Nat.le_of_ble_eq_true rfl)⟩ rfl (gm_G.mono H (pV_elim (fun h5 H' => ?_) (fun e17 h18 H => ?_)))
      · show gm_G _ 12 _ _ _ _
        replace H := H'
        clear H'
        refine g_aload (r := some _) rfl rfl rfl (pc' := 13) ?_
        obtain ⟨ht6, H⟩ := H
        refine g_getRv rfl rfl rfl rfl ht6 (pc' := 16) rfl (fun r7 hr7 => ?_)
        replace H := H r7 hr7
        obtain ⟨a8, rfl, H⟩ := H
        obtain ⟨ht9, H⟩ := H
        refine g_getI rfl rfl rfl rfl ht9 (pc' := 19) rfl ?_
        refine g_iconst rfl rfl rfl (pc' := 20) ?_
        refine g_iconst rfl rfl rfl (pc' := 23) ?_
        refine g_call rfl (y := 5) (n := 3) (pc' := 26) (fun _ => rfl) rfl rfl ⟨(Nat.le_of_ble_eq_true rfl), (Nat.le_of_ble_eq_true rfl), (Nat.le_of_ble_eq_true rfl)⟩ rfl (gm_G.mono H (pI_elim (fun v11 h10 H' => ?_) (fun e15 h16 H => ?_)))
        · show gm_G _ 26 _ _ _ _
          replace H := H'
          clear H'
          refine g_call rfl (y := 457) (n := 1) (pc' := 29) (fun _ => rfl) rfl rfl ⟨(Nat.le_of_ble_eq_true rfl), (Nat.le_of_ble_eq_true rfl), (Nat.le_of_ble_eq_true rfl)⟩ rfl (gm_G.mono H (pV_elim (fun h12 H' => ?_) (fun e13 h14 H => ?_)))
          · show gm_G _ 29 _ _ _ _
            replace H := H'
            clear H'
            exact g_weak (show gm_Lle [some _, some _] _ from ⟨rfl, ⟨rfl, trivial⟩⟩) H
          · exact ⟨H.1, g_weak (show gm_Lle [some _] _ from ⟨rfl, trivial⟩) H.2⟩
        · exact ⟨H.1, g_weak (show gm_Lle [some _] _ from ⟨rfl, trivial⟩) H.2⟩
      · exact ⟨H.1, g_weak (show gm_Lle [some _] _ from ⟨rfl, trivial⟩) H.2⟩
    · exact ⟨H.1, g_weak (show gm_Lle [some _] _ from ⟨rfl, trivial⟩) H.2⟩
  · exact H
set_option maxRecDepth 20000 in
theorem w_617_29 {a0 : Nat} {x1 : Int32} {h : hh_T} {Q : Option Value ⊕ Nat → hh_T → Prop} (H : hh_tg h a0 = 1 ∧ (gm_G 447 0 [some (.ref a0), some (.int x1)] [] h (pR (fun r3 h2 => hh_tg h2 a0 = 1 ∧ (gm_G 458 0 [some (.ref a0), some (va_rf r3)] [] h2 (pR (fun r6 h5 => ∃ a7, r3 = some a7 ∧ (gm_sub (hh_tg h5 a7) 42 = true ∧ ((((hh_i h5 a7 2) &&& (Int32.ofNat 32)) = Int32.ofNat 0 → (gm_G 617 66 [some (.ref a0), none, some (.ref a7), some (va_rf r6)] [.int (hh_i h5 a7 3)] h5 Q)) ∧ (¬ ((hh_i h5 a7 2) &&& (Int32.ofNat 32)) = Int32.ofNat 0 → (hh_tg h5 a0 = 1 ∧ (gm_G 346 0 [some (.ref a0), some (.ref a7)] [] h5 (pR (fun r11 h10 => ∃ a12, r11 = some a12 ∧ (gm_sub (hh_tg h10 a12) 25 = true ∧ (gm_G 617 66 [some (.ref a0), none, some (.ref a7), some (va_rf r6)] [.int (hh_i h10 a12 6)] h10 Q))) (fun e14 h15 => hh_tg h15 e14 = 21 ∧ gm_G 617 227 [some (.ref a0)] [.ref e14] h15 Q)))))))) (fun e16 h17 => hh_tg h17 e16 = 21 ∧ gm_G 617 227 [some (.ref a0)] [.ref e16] h17 Q)))) (fun e18 h19 => hh_tg h19 e18 = 21 ∧ gm_G 617 227 [some (.ref a0)] [.ref e18] h19 Q)))) : gm_G 617 29 [some (.ref a0), some (.int x1)] [] h Q := by
  refine g_aload (r := some _) rfl rfl rfl (pc' := 30) ?_
  refine g_iload rfl rfl rfl (pc' := 31) ?_
  obtain ⟨ht1, H⟩ := H
  refine g_call rfl (y := 447) (n := 2) (pc' := 34) (g_vt ht1 rfl rfl) rfl rfl ⟨(Nat.le_of_ble_eq_true rfl), (Nat.le_of_ble_eq_true rfl), (Nat.le_of_ble_eq_true rfl)⟩ rfl (gm_G.mono H (pR_elim (fun r3 h2 H' => ?_) (fun e18 h19 H => ?_)))
  · show gm_G _ 34 _ _ _ _
    replace H := H'
    clear H'
    refine g_astore (r := _) rfl rfl rfl (pc' := 35) ?_
    refine g_aload (r := some _) rfl rfl rfl (pc' := 36) ?_
    refine g_aload (r := _) rfl rfl rfl (pc' := 37) ?_
    obtain ⟨ht4, H⟩ := H
    refine g_call rfl (y := 458) (n := 2) (pc' := 40) (g_vt ht4 rfl rfl) (by cases r3 <;> rfl) rfl ⟨(Nat.le_of_ble_eq_true rfl), (Nat.le_of_ble_eq_true rfl), (Nat.le_of_ble_eq_true rfl)⟩ rfl (gm_G.mono H (pR_elim (fun r6 h5 H' => ?_) (fun e16 h17 H => ?_)))
    · show gm_G _ 40 _ _ _ _
      replace H := H'
      clear H'
      refine g_astore (r := _) rfl gm_sto_rf2 rfl (pc' := 41) ?_
      refine g_aload (r := _) rfl rfl rfl (pc' := 42) ?_
      obtain ⟨a7, rfl, H⟩ := H
      obtain ⟨ht8, H⟩ := H
      refine g_getI rfl rfl rfl rfl ht8 (pc' := 45) rfl ?_
      refine g_iconst rfl rfl rfl (pc' := 47) ?_
      refine g_iand rfl rfl (pc' := 48) ?_
      refine g_if_eq rfl (pc' := 51) (pt := 62) rfl rfl ⟨fun hc => ?_, fun hc => ?_⟩
      · replace H := H.1 hc
        refine g_aload (r := some _) rfl rfl rfl (pc' := 63) ?_
        refine g_getI rfl rfl rfl rfl ht8 (pc' := 66) rfl ?_
        exact g_weak (show gm_Lle [some _, none, some _, some _] _ from ⟨rfl, ⟨rfl, ⟨rfl, trivial⟩⟩⟩) H
      · replace H := H.2 hc
        refine g_aload (r := some _) rfl rfl rfl (pc' := 52) ?_
        refine g_aload (r := some _) rfl rfl rfl (pc' := 53) ?_
        obtain ⟨ht9, H⟩ := H
        refine g_call rfl (y := 346) (n := 2) (pc' := 56) (g_vt ht9 rfl rfl) rfl rfl ⟨(Nat.le_of_ble_eq_true rfl), (Nat.le_of_ble_eq_true rfl), (Nat.le_of_ble_eq_true rfl)⟩ rfl (gm_G.mono H (pR_elim (fun r11 h10 H' => ?_) (fun e14 h15 H => ?_)))
        · show gm_G _ 56 _ _ _ _
          replace H := H'
          clear H'
          obtain ⟨a12, rfl, H⟩ := H
          obtain ⟨ht13, H⟩ := H
          refine g_getI rfl rfl rfl rfl ht13 (pc' := 59) rfl ?_
          refine g_goto rfl (pc' := 66) rfl ?_
          exact g_weak (show gm_Lle [some _, none, some _, some _] _ from ⟨rfl, ⟨rfl, ⟨rfl, trivial⟩⟩⟩) H
        · exact ⟨H.1, g_weak (show gm_Lle [some _] _ from ⟨rfl, trivial⟩) H.2⟩
    · exact ⟨H.1, g_weak (show gm_Lle [some _] _ from ⟨rfl, trivial⟩) H.2⟩
  · exact ⟨H.1, g_weak (show gm_Lle [some _] _ from ⟨rfl, trivial⟩) H.2⟩
set_option maxRecDepth 20000 in
theorem w_617_66 {a0 : Nat} {r_2 : Option Nat} {r_3 : Option Nat} {y0 : Int32} {h : hh_T} {Q : Option Value ⊕ Nat → hh_T → Prop} (H : gm_sub (hh_tg h a0) 0 = true ∧ (∀ r2, r2 = hh_r h a0 58 → (∃ a3, r2 = some a3 ∧ (gm_sub (hh_tg h a3) 12 = true ∧ (((Int32.ofNat 256) < (y0 + (hh_i h a3 1)) → (gm_G 617 93 [some (.ref a0), none, some (va_rf r_2), some (va_rf r_3), some (.int y0), some (.int (y0 + (hh_i h a3 1)))] [.int (Int32.ofNat 0)] h Q)) ∧ (¬ (Int32.ofNat 256) < (y0 + (hh_i h a3 1)) → (gm_G 617 93 [some (.ref a0), none, some (va_rf r_2), some (va_rf r_3), some (.int y0), some (.int (y0 + (hh_i h a3 1)))] [.int (Int32.ofNat 1)] h Q))))))) : gm_G 617 66 [some (.ref a0), none, some (va_rf r_2), some (va_rf r_3)] [.int y0] h Q := by
  refine g_istore rfl gm_sto_rf3 rfl (pc' := 68) ?_
  refine g_iload rfl rfl rfl (pc' := 70) ?_
  refine g_aload (r := some _) rfl rfl rfl (pc' := 71) ?_
  obtain ⟨ht1, H⟩ := H
  refine g_getRv rfl rfl rfl rfl ht1 (pc' := 74) rfl (fun r2 hr2 => ?_)
  replace H := H r2 hr2
  obtain ⟨a3, rfl, H⟩ := H
  obtain ⟨ht4, H⟩ := H
  refine g_getI rfl rfl rfl rfl ht4 (pc' := 77) rfl ?_
  refine g_iadd rfl rfl (pc' := 78) ?_
  refine g_istore rfl rfl rfl (pc' := 80) ?_
  refine g_iload rfl rfl rfl (pc' := 82) ?_
  refine g_iconst rfl rfl rfl (pc' := 85) ?_
  refine g_ic_gt rfl (pc' := 88) (pt := 92) rfl rfl ⟨fun hc => ?_, fun hc => ?_⟩
  · replace H := H.1 hc
    refine g_iconst rfl rfl rfl (pc' := 93) ?_
    exact g_weak (show gm_Lle [some _, none, some _, some _, some _, some _] _ from ⟨rfl, ⟨rfl, ⟨rfl, ⟨rfl, ⟨rfl, trivial⟩⟩⟩⟩⟩) H
  · replace H := H.2 hc
    refine g_iconst rfl rfl rfl (pc' := 89) ?_
    refine g_goto rfl (pc' := 93) rfl ?_
    exact g_weak (show gm_Lle [some _, none, some _, some _, some _, some _] _ from ⟨rfl, ⟨rfl, ⟨rfl, ⟨rfl, ⟨rfl, trivial⟩⟩⟩⟩⟩) H
set_option maxRecDepth 20000 in
theorem w_617_93 {a0 : Nat} {r_2 : Option Nat} {r_3 : Option Nat} {x4 : Int32} {x5 : Int32} {y0 : Int32} {h : hh_T} {Q : Option Value ⊕ Nat → hh_T → Prop} (H : gm_G 431 0 [some (.int y0), some (.int (Int32.ofInt (-3)))] [] h (pV (fun h1 => gm_sub (hh_tg h1 a0) 0 = true ∧ (∀ r3, r3 = hh_r h1 a0 51 → (∃ a4, r3 = some a4 ∧ (hh_tg h1 a4 = 15 ∧ (gm_G 259 0 [some (.ref a4), some (va_rf r_2), some (.int x4), some (.int x5), some (.int (Int32.ofNat 1))] [] h1 (pI (fun v7 h6 => (¬ v7 = Int32.ofNat 0 → (gm_G 617 119 [some (.ref a0), none, some (va_rf r_2), some (va_rf r_3), some (.int x4), some (.int x5)] [.int (Int32.ofNat 0)] h6 Q)) ∧ (v7 = Int32.ofNat 0 → (gm_G 617 119 [some (.ref a0), none, some (va_rf r_2), some (va_rf r_3), some (.int x4), some (.int x5)] [.int (Int32.ofNat 1)] h6 Q))) (fun e8 h9 => hh_tg h9 e8 = 21 ∧ gm_G 617 227 [some (.ref a0)] [.ref e8] h9 Q))))))) (fun e10 h11 => hh_tg h11 e10 = 21 ∧ gm_G 617 227 [some (.ref a0)] [.ref e10] h11 Q))) : gm_G 617 93 [some (.ref a0), none, some (va_rf r_2), some (va_rf r_3), some (.int x4), some (.int x5)] [.int y0] h Q := by
  refine g_iconst rfl rfl rfl (pc' := 95) ?_
  refine g_call rfl (y := 431) (n := 2) (pc' := 98) (fun _ => rfl) rfl rfl ⟨(Nat.le_of_ble_eq_true rfl), (Nat.le_of_ble_eq_true rfl), (Nat.le_of_ble_eq_true rfl)⟩ rfl (gm_G.mono H (pV_elim (fun h1 H' => ?_) (fun e10 h11 H => ?_)))
  · show gm_G _ 98 _ _ _ _
    replace H := H'
    clear H'
    refine g_aload (r := some _) rfl rfl rfl (pc' := 99) ?_
    obtain ⟨ht2, H⟩ := H
    refine g_getRv rfl rfl rfl rfl ht2 (pc' := 102) rfl (fun r3 hr3 => ?_)
    replace H := H r3 hr3
    refine g_aload (r := _) rfl rfl rfl (pc' := 103) ?_
    refine g_iload rfl rfl rfl (pc' := 105) ?_
    refine g_iload rfl rfl rfl (pc' := 107) ?_
    refine g_iconst rfl rfl rfl (pc' := 108) ?_
    obtain ⟨a4, rfl, H⟩ := H
    obtain ⟨ht5, H⟩ := H
    refine g_call rfl (y := 259) (n := 5) (pc' := 111) (g_vt ht5 rfl rfl) (by cases r_2 <;> rfl) rfl ⟨(Nat.le_of_ble_eq_true rfl), (Nat.le_of_ble_eq_true rfl), (Nat.le_of_ble_eq_true rfl)⟩ rfl (gm_G.mono H (pI_elim (fun v7 h6 H' => ?_) (fun e8 h9 H => ?_)))
    · show gm_G _ 111 _ _ _ _
      replace H := H'
      clear H'
      refine g_if_ne rfl (pc' := 114) (pt := 118) rfl rfl ⟨fun hc => ?_, fun hc => ?_⟩
      · replace H := H.1 hc
        refine g_iconst rfl rfl rfl (pc' := 119) ?_
        exact g_weak (show gm_Lle [some _, none, some _, some _, some _, some _] _ from ⟨rfl, ⟨rfl, ⟨rfl, ⟨rfl, ⟨rfl, trivial⟩⟩⟩⟩⟩) H
      · replace H := H.2 hc
        refine g_iconst rfl rfl rfl (pc' := 115) ?_
        refine g_goto rfl (pc' := 119) rfl ?_
        exact g_weak (show gm_Lle [some _, none, some _, some _, some _, some _] _ from ⟨rfl, ⟨rfl, ⟨rfl, ⟨rfl, ⟨rfl, trivial⟩⟩⟩⟩⟩) H
    · exact ⟨H.1, g_weak (show gm_Lle [some _] _ from ⟨rfl, trivial⟩) H.2⟩
  · exact ⟨H.1, g_weak (show gm_Lle [some _] _ from ⟨rfl, trivial⟩) H.2⟩
set_option maxRecDepth 20000 in
theorem w_617_119 {a0 : Nat} {r_2 : Option Nat} {r_3 : Option Nat} {x4 : Int32} {x5 : Int32} {y0 : Int32} {h : hh_T} {Q : Option Value ⊕ Nat → hh_T → Prop} (H : gm_G 431 0 [some (.int y0), some (.int (Int32.ofInt (-5)))] [] h (pV (fun h1 => gm_sub (hh_tg h1 a0) 0 = true ∧ (∀ r3, r3 = hh_r h1 a0 58 → (∃ a4, r3 = some a4 ∧ (gm_sub (hh_tg h1 a4) 12 = true ∧ (∃ n8, (hh_i h1 a4 1).toNatClampNeg = n8 ∧ (0 ≤ (hh_i h1 a4 1) ∧ (hh_i h1 a4 1) ≤ 100000) ∧ (∀ a6 h7, a6 = hh_sz h1 → h7 = hh_al h1 101 n8 n8 → (gm_G 617 138 [some (.ref a0), none, some (va_rf r_2), some (va_rf r_3), some (.int x4), some (.int x5), some (.ref a6), some (.int (Int32.ofNat 0))] [] h7 Q))))))) (fun e9 h10 => hh_tg h10 e9 = 21 ∧ gm_G 617 227 [some (.ref a0)] [.ref e9] h10 Q))) : gm_G 617 119 [some (.ref a0), none, some (va_rf r_2), some (va_rf r_3), some (.int x4), some (.int x5)] [.int y0] h Q := by
  refine g_iconst rfl rfl rfl (pc' := 121) ?_
  refine g_call rfl (y := 431) (n := 2) (pc' := 124) (fun _ => rfl) rfl rfl ⟨(Nat.le_of_ble_eq_true rfl), (Nat.le_of_ble_eq_true rfl), (Nat.le_of_ble_eq_true rfl)⟩ rfl (gm_G.mono H (pV_elim (fun h1 H' => ?_) (fun e9 h10 H => ?_)))
  · show gm_G _ 124 _ _ _ _
    replace H := H'
    clear H'
    refine g_aload (r := some _) rfl rfl rfl (pc' := 125) ?_
    obtain ⟨ht2, H⟩ := H
    refine g_getRv rfl rfl rfl rfl ht2 (pc' := 128) rfl (fun r3 hr3 => ?_)
    replace H := H r3 hr3
    obtain ⟨a4, rfl, H⟩ := H
    obtain ⟨ht5, H⟩ := H
    refine g_getI rfl rfl rfl rfl ht5 (pc' := 131) rfl ?_
    obtain ⟨n8, Hn, Hr, H⟩ := H
    refine g_newarray rfl (u := 101) (n := n8) rfl (by decide) Hn Hr (pc' := 133) rfl ?_
    replace H := H _ _ rfl rfl
    refine g_astore (r := some _) rfl rfl rfl (pc' := 135) ?_
    refine g_iconst rfl rfl rfl (pc' := 136) ?_
    refine g_istore rfl rfl rfl (pc' := 138) ?_
    exact g_weak (show gm_Lle [some _, none, some _, some _, some _, some _, some _, some _] _ from ⟨rfl, ⟨rfl, ⟨rfl, ⟨rfl, ⟨rfl, ⟨rfl, ⟨rfl, trivial⟩⟩⟩⟩⟩⟩⟩) H
  · exact ⟨H.1, g_weak (show gm_Lle [some _] _ from ⟨rfl, trivial⟩) H.2⟩
set_option maxRecDepth 20000 in
theorem w_617_138 {a0 : Nat} {r_2 : Option Nat} {r_3 : Option Nat} {x4 : Int32} {x5 : Int32} {r_6 : Option Nat} {x7 : Int32} {h : hh_T} {Q : Option Value ⊕ Nat → hh_T → Prop} (H : gm_sub (hh_tg h a0) 0 = true ∧ (∀ r2, r2 = hh_r h a0 58 → (∃ a3, r2 = some a3 ∧ (gm_sub (hh_tg h a3) 12 = true ∧ ((¬ x7 < (hh_i h a3 1) → (∀ a5 h6, a5 = hh_sz h → h6 = hh_al h 45 0 8 → (gm_sub (hh_tg h6 a0) 0 = true ∧ (∃ a8, r_2 = some a8 ∧ (gm_sub (hh_tg h6 a8) 42 = true ∧ (gm_G 388 0 [some (.ref a5), some (.ref a0), some (.int (hh_i h6 a0 41)), some (.int (hh_i h6 a8 1)), some (.int x4), some (va_rf r_6)] [] h6 (pV (fun h10 => hh_tg h10 a0 = 1 ∧ (gm_G 605 0 [some (.ref a0), some (va_rf r_3), some (.ref a5)] [] h10 (pV (fun h12 => gm_sub (hh_tg h12 a0) 0 = true ∧ (∀ r14, r14 = hh_r h12 a0 52 → (gm_sub (hh_tg h12 a8) 42 = true ∧ (∃ a16, r14 = some a16 ∧ (hh_tg h12 a16 = 16 ∧ (gm_G 262 0 [some (.ref a16), some (va_rf r_3), some (.int (Int32.ofNat 5)), some (.int (hh_i h12 a8 1))] [] h12 (pV (fun h18 => gm_G 617 209 [some (.ref a0), none, some (.ref a8), none, none, some (.int x5)] [] h18 Q) (fun e19 h20 => hh_tg h20 e19 = 21 ∧ gm_G 617 227 [some (.ref a0)] [.ref e19] h20 Q)))))))) (fun e21 h22 => hh_tg h22 e21 = 21 ∧ gm_G 617 227 [some (.ref a0)] [.ref e21] h22 Q)))) (fun e23 h24 => hh_tg h24 e23 = 21 ∧ gm_G 617 227 [some (.ref a0)] [.ref e23] h24 Q)))))))) ∧ (x7 < (hh_i h a3 1) → (∀ r25, r25 = hh_r h a0 58 → (∃ a26, r25 = some a26 ∧ (gm_sub (hh_tg h a26) 12 = true ∧ (∀ r28, r28 = hh_r h a26 0 → (∃ a29, r28 = some a29 ∧ ((hh_tg h a29 = 101 ∨ hh_tg h a29 = 102) ∧ (∃ n30, gm_ix x7 n30 (hh_ln h a29) ∧ (∃ a32, r_6 = some a32 ∧ (hh_tg h a32 = 101 ∧ (∃ n33, gm_ix x7 n33 (hh_ln h a32) ∧ (∀ h34, h34 = hh_wi h a32 n33 ((hh_i h a29 n30).toInt8.toInt32) → (gm_G 617 138 [some (.ref a0), none, some (va_rf r_2), some (va_rf r_3), some (.int x4), some (.int x5), some (.ref a32), some (.int (x7 + (Int32.ofNat 1)))] [] h34 Q)))))))))))))))))) : gm_G 617 138 [some (.ref a0), none, some (va_rf r_2), some (va_rf r_3), some (.int x4), some (.int x5), some (va_rf r_6), some (.int x7)] [] h Q := by
  refine g_iload rfl rfl rfl (pc' := 140) ?_
  refine g_aload (r := some _) rfl rfl rfl (pc' := 141) ?_
  obtain ⟨ht1, H⟩ := H
  refine g_getRv rfl rfl rfl rfl ht1 (pc' := 144) rfl (fun r2 hr2 => ?_)
  replace H := H r2 hr2
  obtain ⟨a3, rfl, H⟩ := H
  obtain ⟨ht4, H⟩ := H
  refine g_getI rfl rfl rfl rfl ht4 (pc' := 147) rfl ?_
  refine g_ic_ge rfl (pc' := 150) (pt := 171) rfl rfl ⟨fun hc => ?_, fun hc => ?_⟩
  · replace H := H.1 hc
    refine g_aload (r := some _) rfl rfl rfl (pc' := 172) ?_
    refine g_aload (r := _) rfl rfl rfl (pc' := 173) ?_
    refine g_new rfl (t := 45) (s := 8) rfl rfl (pc' := 176) rfl ?_
    replace H := H _ _ rfl rfl
    refine g_dup_a (r := some _) rfl rfl (pc' := 177) ?_
    refine g_aload (r := some _) rfl rfl rfl (pc' := 178) ?_
    refine g_aload (r := some _) rfl rfl rfl (pc' := 179) ?_
    obtain ⟨ht7, H⟩ := H
    refine g_getI rfl rfl rfl rfl ht7 (pc' := 182) rfl ?_
    refine g_aload (r := _) rfl rfl rfl (pc' := 183) ?_
    obtain ⟨a8, rfl, H⟩ := H
    obtain ⟨ht9, H⟩ := H
    refine g_getI rfl rfl rfl rfl ht9 (pc' := 186) rfl ?_
    refine g_iload rfl rfl rfl (pc' := 188) ?_
    refine g_aload (r := _) rfl rfl rfl (pc' := 190) ?_
    refine g_call rfl (y := 388) (n := 6) (pc' := 193) (fun _ => rfl) (by cases r_6 <;> rfl) rfl ⟨(Nat.le_of_ble_eq_true rfl), (Nat.le_of_ble_eq_true rfl), (Nat.le_of_ble_eq_true rfl)⟩ rfl (gm_G.mono H (pV_elim (fun h10 H' => ?_) (fun e23 h24 H => ?_)))
    · show gm_G _ 193 _ _ _ _
      replace H := H'
      clear H'
      obtain ⟨ht11, H⟩ := H
      refine g_call rfl (y := 605) (n := 3) (pc' := 196) (g_vt ht11 rfl rfl) (by cases r_3 <;> rfl) rfl ⟨(Nat.le_of_ble_eq_true rfl), (Nat.le_of_ble_eq_true rfl), (Nat.le_of_ble_eq_true rfl)⟩ rfl (gm_G.mono H (pV_elim (fun h12 H' => ?_) (fun e21 h22 H => ?_)))
      · show gm_G _ 196 _ _ _ _
        replace H := H'
        clear H'
        refine g_aload (r := some _) rfl rfl rfl (pc' := 197) ?_
        obtain ⟨ht13, H⟩ := H
        refine g_getRv rfl rfl rfl rfl ht13 (pc' := 200) rfl (fun r14 hr14 => ?_)
        replace H := H r14 hr14
        refine g_aload (r := _) rfl rfl rfl (pc' := 201) ?_
        refine g_iconst rfl rfl rfl (pc' := 202) ?_
        refine g_aload (r := some _) rfl rfl rfl (pc' := 203) ?_
        obtain ⟨ht15, H⟩ := H
        refine g_getI rfl rfl rfl rfl ht15 (pc' := 206) rfl ?_
        obtain ⟨a16, rfl, H⟩ := H
        obtain ⟨ht17, H⟩ := H
        refine g_call rfl (y := 262) (n := 4) (pc' := 209) (g_vt ht17 rfl rfl) (by cases r_3 <;> rfl) rfl ⟨(Nat.le_of_ble_eq_true rfl), (Nat.le_of_ble_eq_true rfl), (Nat.le_of_ble_eq_true rfl)⟩ rfl (gm_G.mono H (pV_elim (fun h18 H' => ?_) (fun e19 h20 H => ?_)))
        · show gm_G _ 209 _ _ _ _
          replace H := H'
          clear H'
          exact g_weak (show gm_Lle [some _, none, some _, none, none, some _] _ from ⟨rfl, ⟨rfl, ⟨rfl, trivial⟩⟩⟩) H
        · exact ⟨H.1, g_weak (show gm_Lle [some _] _ from ⟨rfl, trivial⟩) H.2⟩
      · exact ⟨H.1, g_weak (show gm_Lle [some _] _ from ⟨rfl, trivial⟩) H.2⟩
    · exact ⟨H.1, g_weak (show gm_Lle [some _] _ from ⟨rfl, trivial⟩) H.2⟩
  · replace H := H.2 hc
    refine g_aload (r := _) rfl rfl rfl (pc' := 152) ?_
    refine g_iload rfl rfl rfl (pc' := 154) ?_
    refine g_aload (r := some _) rfl rfl rfl (pc' := 155) ?_
    refine g_getRv rfl rfl rfl rfl ht1 (pc' := 158) rfl (fun r25 hr25 => ?_)
    replace H := H r25 hr25
    obtain ⟨a26, rfl, H⟩ := H
    obtain ⟨ht27, H⟩ := H
    refine g_getRv rfl rfl rfl rfl ht27 (pc' := 161) rfl (fun r28 hr28 => ?_)
    replace H := H r28 hr28
    refine g_iload rfl rfl rfl (pc' := 163) ?_
    obtain ⟨a29, rfl, H⟩ := H
    obtain ⟨ht31, H⟩ := H
    obtain ⟨n30, hn30, H⟩ := H
    refine g_baload rfl ht31 hn30 (pc' := 164) rfl ?_
    obtain ⟨a32, rfl, H⟩ := H
    obtain ⟨ht35, H⟩ := H
    obtain ⟨n33, hn33, H⟩ := H
    refine g_bastore rfl ht35 hn33  (pc' := 165) rfl ?_
    replace H := H _ rfl
    refine g_iinc (c := (Int32.ofNat 1)) rfl rfl rfl rfl rfl (pc' := 168) ?_
    refine g_goto rfl (pc' := 138) rfl ?_
    exact g_weak (show gm_Lle [some _, none, some _, some _, some _, some _, some _, some _] _ from ⟨rfl, ⟨rfl, ⟨rfl, ⟨rfl, ⟨rfl, ⟨rfl, ⟨rfl, trivial⟩⟩⟩⟩⟩⟩⟩) H
set_option maxRecDepth 20000 in
theorem w_617_209 {a0 : Nat} {r_2 : Option Nat} {x5 : Int32} {h : hh_T} {Q : Option Value ⊕ Nat → hh_T → Prop} (H : ∃ a1, r_2 = some a1 ∧ (gm_sub (hh_tg h a1) 42 = true ∧ (∀ h3, h3 = hh_wi h a1 3 x5 → (gm_sub (hh_tg h3 a0) 0 = true ∧ (∀ r5, r5 = hh_r h3 a0 58 → (∃ a6, r5 = some a6 ∧ (gm_sub (hh_tg h3 a6) 12 = true ∧ (hh_tg h3 a0 = 1 ∧ (gm_G 4 0 [some (.ref a0), some (.int (hh_i h3 a6 1))] [] h3 (pI (fun v10 h9 => Q (.inl (some (.int v10))) h9) (fun e11 h12 => hh_tg h12 e11 = 21 ∧ gm_G 617 227 [some (.ref a0)] [.ref e11] h12 Q))))))))))) : gm_G 617 209 [some (.ref a0), none, some (va_rf r_2), none, none, some (.int x5)] [] h Q := by
  refine g_aload (r := _) rfl rfl rfl (pc' := 210) ?_
  refine g_iload rfl rfl rfl (pc' := 212) ?_
  obtain ⟨a1, rfl, H⟩ := H
  obtain ⟨ht2, H⟩ := H
  refine g_putI rfl rfl rfl rfl ht2  (pc' := 215) rfl ?_
  replace H := H _ rfl
  refine g_aload (r := some _) rfl rfl rfl (pc' := 216) ?_
  refine g_aload (r := some _) rfl rfl rfl (pc' := 217) ?_
  obtain ⟨ht4, H⟩ := H
  refine g_getRv rfl rfl rfl rfl ht4 (pc' := 220) rfl (fun r5 hr5 => ?_)
  replace H := H r5 hr5
  obtain ⟨a6, rfl, H⟩ := H
  obtain ⟨ht7, H⟩ := H
  refine g_getI rfl rfl rfl rfl ht7 (pc' := 223) rfl ?_
  obtain ⟨ht8, H⟩ := H
  refine g_call rfl (y := 4) (n := 2) (pc' := 226) (g_vt ht8 rfl rfl) rfl rfl ⟨(Nat.le_of_ble_eq_true rfl), (Nat.le_of_ble_eq_true rfl), (Nat.le_of_ble_eq_true rfl)⟩ rfl (gm_G.mono H (pI_elim (fun v10 h9 H' => ?_) (fun e11 h12 H => ?_)))
  · show gm_G _ 226 _ _ _ _
    replace H := H'
    clear H'
    exact g_ireturn rfl (Or.inl rfl) H
  · exact ⟨H.1, g_weak (show gm_Lle [some _] _ from ⟨rfl, trivial⟩) H.2⟩
set_option maxRecDepth 20000 in
theorem w_617_227 {a0 : Nat} {ex : Nat} {h : hh_T} {Q : Option Value ⊕ Nat → hh_T → Prop} (H : hh_tg h a0 = 1 ∧ (gm_G 1 0 [some (.ref a0), some (.ref ex)] [] h (pI (fun v3 h2 => Q (.inl (some (.int v3))) h2) (fun e4 h5 => hh_tg h5 e4 = 21 ∧ Q (.inr e4) h5)))) : gm_G 617 227 [some (.ref a0)] [.ref ex] h Q := by
  refine g_astore (r := some _) rfl rfl rfl (pc' := 228) ?_
  refine g_aload (r := some _) rfl rfl rfl (pc' := 229) ?_
  refine g_aload (r := some _) rfl rfl rfl (pc' := 230) ?_
  obtain ⟨ht1, H⟩ := H
  refine g_call rfl (y := 1) (n := 2) (pc' := 233) (g_vt ht1 rfl rfl) rfl rfl ⟨(Nat.le_of_ble_eq_true rfl), (Nat.le_of_ble_eq_true rfl), (Nat.le_of_ble_eq_true rfl)⟩ rfl (gm_G.mono H (pI_elim (fun v3 h2 H' => ?_) (fun e4 h5 H => ?_)))
  · show gm_G _ 233 _ _ _ _
    replace H := H'
    clear H'
    exact g_ireturn rfl (Or.inl rfl) H
  · exact H
set_option maxRecDepth 20000 in
theorem w_618_0 {a0 : Nat} {r_1 : Option Nat} {h : hh_T} {Q : Option Value ⊕ Nat → hh_T → Prop} (H : gm_sub (hh_tg h a0) 17 = true ∧ (∀ r2, r2 = hh_r h a0 6 → (∃ a3, r2 = some a3 ∧ (gm_sub (hh_tg h a3) 12 = true ∧ ((¬ (Int32.ofNat 7) < (hh_i h a3 1) → (gm_G 618 52 [some (.ref a0), some (va_rf r_1)] [.ref a0] h Q)) ∧ ((Int32.ofNat 7) < (hh_i h a3 1) → (∀ r5, r5 = hh_r h a0 6 → (∃ a6, r5 = some a6 ∧ (hh_tg h a6 = 13 ∧ (gm_G 63 0 [some (.ref a6), some (.int (Int32.ofNat 6))] [] h (pI (fun v9 h8 => (v9 = (Int32.ofNat 1) → (gm_G 618 39 [some (.ref a0), some (va_rf r_1)] [.ref a0] h8 Q)) ∧ (¬ v9 = (Int32.ofNat 1) → (gm_sub (hh_tg h8 a0) 17 = true ∧ (∀ r11, r11 = hh_r h8 a0 6 → (∃ a12, r11 = some a12 ∧ (hh_tg h8 a12 = 13 ∧ (gm_G 63 0 [some (.ref a12), some (.int (Int32.ofNat 6))] [] h8 (pI (fun v15 h14 => (¬ v15 = (Int32.ofNat 2) → (gm_G 618 52 [some (.ref a0), some (va_rf r_1)] [.ref a0] h14 Q)) ∧ (v15 = (Int32.ofNat 2) → (gm_G 618 39 [some (.ref a0), some (va_rf r_1)] [.ref a0] h14 Q))) (fun e16 h17 => hh_tg h17 e16 = 21 ∧ Q (.inr e16) h17))))))))) (fun e18 h19 => hh_tg h19 e18 = 21 ∧ Q (.inr e18) h19)))))))))))) : gm_G 618 0 [some (.ref a0), some (va_rf r_1)] [] h Q := by
  refine g_aload (r := some _) rfl rfl rfl (pc' := 1) ?_
  refine g_aload (r := some _) rfl rfl rfl (pc' := 2) ?_
  obtain ⟨ht1, H⟩ := H
  refine g_getRv rfl rfl rfl rfl ht1 (pc' := 5) rfl (fun r2 hr2 => ?_)
  replace H := H r2 hr2
  obtain ⟨a3, rfl, H⟩ := H
  obtain ⟨ht4, H⟩ := H
  refine g_getI rfl rfl rfl rfl ht4 (pc' := 8) rfl ?_
  refine g_iconst rfl rfl rfl (pc' := 10) ?_
  refine g_ic_le rfl (pc' := 13) (pt := 52) rfl rfl ⟨fun hc => ?_, fun hc => ?_⟩
  · replace H := H.1 hc
    exact g_weak (show gm_Lle [some _, some _] _ from ⟨rfl, ⟨rfl, trivial⟩⟩) H
  · replace H := H.2 hc
    refine g_aload (r := some _) rfl rfl rfl (pc' := 14) ?_
    refine g_getRv rfl rfl rfl rfl ht1 (pc' := 17) rfl (fun r5 hr5 => ?_)
    replace H := H r5 hr5
    refine g_iconst rfl rfl rfl (pc' := 19) ?_
    obtain ⟨a6, rfl, H⟩ := H
    obtain ⟨ht7, H⟩ := H
    refine g_call rfl (y := 63) (n := 2) (pc' := 22) (g_vt ht7 rfl rfl) rfl rfl ⟨(Nat.le_of_ble_eq_true rfl), (Nat.le_of_ble_eq_true rfl), (Nat.le_of_ble_eq_true rfl)⟩ rfl (gm_G.mono H (pI_elim (fun v9 h8 H' => ?_) (fun e18 h19 H => ?_)))
    · show gm_G _ 22 _ _ _ _
      replace H := H'
      clear H'
      refine g_iconst rfl rfl rfl (pc' := 23) ?_
      refine g_ic_eq rfl (pc' := 26) (pt := 39) rfl rfl ⟨fun hc => ?_, fun hc => ?_⟩
      · replace H := H.1 hc
        exact g_weak (show gm_Lle [some _, some _] _ from ⟨rfl, ⟨rfl, trivial⟩⟩) H
      · replace H := H.2 hc
        refine g_aload (r := some _) rfl rfl rfl (pc' := 27) ?_
        obtain ⟨ht10, H⟩ := H
        refine g_getRv rfl rfl rfl rfl ht10 (pc' := 30) rfl (fun r11 hr11 => ?_)
        replace H := H r11 hr11
        refine g_iconst rfl rfl rfl (pc' := 32) ?_
        obtain ⟨a12, rfl, H⟩ := H
        obtain ⟨ht13, H⟩ := H
        refine g_call rfl (y := 63) (n := 2) (pc' := 35) (g_vt ht13 rfl rfl) rfl rfl ⟨(Nat.le_of_ble_eq_true rfl), (Nat.le_of_ble_eq_true rfl), (Nat.le_of_ble_eq_true rfl)⟩ rfl (gm_G.mono H (pI_elim (fun v15 h14 H' => ?_) (fun e16 h17 H => ?_)))
        · show gm_G _ 35 _ _ _ _
          replace H := H'
          clear H'
          refine g_iconst rfl rfl rfl (pc' := 36) ?_
          refine g_ic_ne rfl (pc' := 39) (pt := 52) rfl rfl ⟨fun hc => ?_, fun hc => ?_⟩
          · replace H := H.1 hc
            exact g_weak (show gm_Lle [some _, some _] _ from ⟨rfl, ⟨rfl, trivial⟩⟩) H
          · replace H := H.2 hc
            exact g_weak (show gm_Lle [some _, some _] _ from ⟨rfl, ⟨rfl, trivial⟩⟩) H
        · exact H
    · exact H
set_option maxRecDepth 20000 in
theorem w_618_39 {a0 : Nat} {r_1 : Option Nat} {q0 : Option Nat} {h : hh_T} {Q : Option Value ⊕ Nat → hh_T → Prop} (H : hh_tg h a0 = 18 ∧ (gm_G 361 0 [some (.ref a0), some (.int (Int32.ofNat 7))] [] h (pI (fun v3 h2 => (v3 = Int32.ofNat 0 → (gm_G 618 52 [some (.ref a0), some (va_rf r_1)] [va_rf q0] h2 Q)) ∧ (¬ v3 = Int32.ofNat 0 → (gm_G 618 53 [some (.ref a0), some (va_rf r_1)] [.int (Int32.ofNat 1), va_rf q0] h2 Q))) (fun e4 h5 => hh_tg h5 e4 = 21 ∧ Q (.inr e4) h5)))) : gm_G 618 39 [some (.ref a0), some (va_rf r_1)] [va_rf q0] h Q := by
  refine g_aload (r := some _) rfl rfl rfl (pc' := 40) ?_
  refine g_iconst rfl rfl rfl (pc' := 42) ?_
  obtain ⟨ht1, H⟩ := H
  refine g_call rfl (y := 361) (n := 2) (pc' := 45) (g_vt ht1 rfl rfl) rfl rfl ⟨(Nat.le_of_ble_eq_true rfl), (Nat.le_of_ble_eq_true rfl), (Nat.le_of_ble_eq_true rfl)⟩ rfl (gm_G.mono H (pI_elim (fun v3 h2 H' => ?_) (fun e4 h5 H => ?_)))
  · show gm_G _ 45 _ _ _ _
    replace H := H'
    clear H'
    refine g_if_eq rfl (pc' := 48) (pt := 52) rfl rfl ⟨fun hc => ?_, fun hc => ?_⟩
    · replace H := H.1 hc
      exact g_weak (show gm_Lle [some _, some _] _ from ⟨rfl, ⟨rfl, trivial⟩⟩) H
    · replace H := H.2 hc
      refine g_iconst rfl rfl rfl (pc' := 49) ?_
      refine g_goto rfl (pc' := 53) rfl ?_
      exact g_weak (show gm_Lle [some _, some _] _ from ⟨rfl, ⟨rfl, trivial⟩⟩) H
  · exact H
set_option maxRecDepth 20000 in
theorem w_618_52 {a0 : Nat} {r_1 : Option Nat} {q0 : Option Nat} {h : hh_T} {Q : Option Value ⊕ Nat → hh_T → Prop} (H : gm_G 618 53 [some (.ref a0), some (va_rf r_1)] [.int (Int32.ofNat 0), va_rf q0] h Q) : gm_G 618 52 [some (.ref a0), some (va_rf r_1)] [va_rf q0] h Q := by
  refine g_iconst rfl rfl rfl (pc' := 53) ?_
  exact g_weak (show gm_Lle [some _, some _] _ from ⟨rfl, ⟨rfl, trivial⟩⟩) H
set_option maxRecDepth 20000 in
theorem w_618_53 {a0 : Nat} {r_1 : Option Nat} {y0 : Int32} {q1 : Option Nat} {h : hh_T} {Q : Option Value ⊕ Nat → hh_T → Prop} (H : ∃ a1, q1 = some a1 ∧ (hh_tg h a1 = 18 ∧ (gm_G 461 0 [some (.ref a1), some (.int y0)] [] h (pR (fun r4 h3 => hh_tg h3 a0 = 18 ∧ (gm_G 462 0 [some (.ref a0)] [] h3 (pR (fun r7 h6 => hh_tg h6 a0 = 18 ∧ (gm_G 460 0 [some (.ref a0), some (va_rf r4)] [] h6 (pR (fun r10 h9 => gm_sub (hh_tg h9 a0) 17 = true ∧ (∀ r12, r12 = hh_r h9 a0 11 → (∃ a13, r12 = some a13 ∧ (hh_tg h9 a13 = 1 ∧ (gm_G 393 0 [some (.ref a13), some (va_rf r10), some (.int (hh_i h9 a0 7)), some (.int (Int32.ofNat 3))] [] h9 (pI (fun v16 h15 => gm_G 431 0 [some (.int v16), some (.int (Int32.ofInt (-6)))] [] h15 (pV (fun h17 => gm_G 618 88 [some (.ref a0), some (va_rf r_1), none, some (va_rf r7), some (va_rf r10)] [] h17 Q) (fun e18 h19 => hh_tg h19 e18 = 21 ∧ Q (.inr e18) h19))) (fun e20 h21 => hh_tg h21 e20 = 21 ∧ Q (.inr e20) h21))))))) (fun e22 h23 => hh_tg h23 e22 = 21 ∧ Q (.inr e22) h23)))) (fun e24 h25 => hh_tg h25 e24 = 21 ∧ Q (.inr e24) h25)))) (fun e26 h27 => hh_tg h27 e26 = 21 ∧ Q (.inr e26) h27))))) : gm_G 618 53 [some (.ref a0), some (va_rf r_1)] [.int y0, va_rf q1] h Q := by
  obtain ⟨a1, rfl, H⟩ := H
  obtain ⟨ht2, H⟩ := H
  refine g_call rfl (y := 461) (n := 2) (pc' := 56) (g_vt ht2 rfl rfl) rfl rfl ⟨(Nat.le_of_ble_eq_true rfl), (Nat.le_of_ble_eq_true rfl), (Nat.le_of_ble_eq_true rfl)⟩ rfl (gm_G.mono H (pR_elim (fun r4 h3 H' => ?_) (fun e26 h27 H => ?_)))
  · show gm_G _ 56 _ _ _ _
    replace H := H'
    clear H'
    refine g_astore (r := _) rfl gm_sto_rf1 rfl (pc' := 57) ?_
    refine g_aload (r := some _) rfl rfl rfl (pc' := 58) ?_
    obtain ⟨ht5, H⟩ := H
    refine g_call rfl (y := 462) (n := 1) (pc' := 61) (g_vt ht5 rfl rfl) rfl rfl ⟨(Nat.le_of_ble_eq_true rfl), (Nat.le_of_ble_eq_true rfl), (Nat.le_of_ble_eq_true rfl)⟩ rfl (gm_G.mono H (pR_elim (fun r7 h6 H' => ?_) (fun e24 h25 H => ?_)))
    · show gm_G _ 61 _ _ _ _
      replace H := H'
      clear H'
      refine g_astore (r := _) rfl gm_sto_rf2 rfl (pc' := 62) ?_
      refine g_aload (r := some _) rfl rfl rfl (pc' := 63) ?_
      refine g_aload (r := _) rfl rfl rfl (pc' := 64) ?_
      obtain ⟨ht8, H⟩ := H
      refine g_call rfl (y := 460) (n := 2) (pc' := 67) (g_vt ht8 rfl rfl) (by cases r4 <;> rfl) rfl ⟨(Nat.le_of_ble_eq_true rfl), (Nat.le_of_ble_eq_true rfl), (Nat.le_of_ble_eq_true rfl)⟩ rfl (gm_G.mono H (pR_elim (fun r10 h9 H' => ?_) (fun e22 h23 H => ?_)))
      · show gm_G _ 67 _ _ _ _
        replace H := H'
        clear H'
        refine g_astore (r := _) rfl gm_sto_rf3 rfl (pc' := 69) ?_
        refine g_aload (r := some _) rfl rfl rfl (pc' := 70) ?_
        obtain ⟨ht11, H⟩ := H
        refine g_getRv rfl rfl rfl rfl ht11 (pc' := 73) rfl (fun r12 hr12 => ?_)
        replace H := H r12 hr12
        refine g_aload (r := _) rfl rfl rfl (pc' := 75) ?_
        refine g_aload (r := some _) rfl rfl rfl (pc' := 76) ?_
        refine g_getI rfl rfl rfl rfl ht11 (pc' := 79) rfl ?_
        refine g_iconst rfl rfl rfl (pc' := 80) ?_
        obtain ⟨a13, rfl, H⟩ := H
        obtain ⟨ht14, H⟩ := H
        refine g_call rfl (y := 393) (n := 4) (pc' := 83) (g_vt ht14 rfl rfl) (by cases r10 <;> rfl) rfl ⟨(Nat.le_of_ble_eq_true rfl), (Nat.le_of_ble_eq_true rfl), (Nat.le_of_ble_eq_true rfl)⟩ rfl (gm_G.mono H (pI_elim (fun v16 h15 H' => ?_) (fun e20 h21 H => ?_)))
        · show gm_G _ 83 _ _ _ _
          replace H := H'
          clear H'
          refine g_iconst rfl rfl rfl (pc' := 85) ?_
          refine g_call rfl (y := 431) (n := 2) (pc' := 88) (fun _ => rfl) rfl rfl ⟨(Nat.le_of_ble_eq_true rfl), (Nat.le_of_ble_eq_true rfl), (Nat.le_of_ble_eq_true rfl)⟩ rfl (gm_G.mono H (pV_elim (fun h17 H' => ?_) (fun e18 h19 H => ?_)))
          · show gm_G _ 88 _ _ _ _
            replace H := H'
            clear H'
            exact g_weak (show gm_Lle [some _, some _, none, some _, some _] _ from ⟨rfl, ⟨rfl, ⟨rfl, ⟨rfl, trivial⟩⟩⟩⟩) H
          · exact H
        · exact H
      · exact H
    · exact H
  · exact H
set_option maxRecDepth 20000 in
theorem w_618_88 {a0 : Nat} {r_1 : Option Nat} {r_3 : Option Nat} {r_4 : Option Nat} {h : hh_T} {Q : Option Value ⊕ Nat → hh_T → Prop} (H : gm_sub (hh_tg h a0) 17 = true ∧ (∀ r2, r2 = hh_r h a0 6 → (∀ r3, r3 = hh_r h a0 6 → (∃ a4, r3 = some a4 ∧ (gm_sub (hh_tg h a4) 12 = true ∧ (gm_G 233 0 [some (va_rf r2), some (.int (Int32.ofNat 7)), some (.int (hh_i h a4 1))] [] h (pL (fun v7 h6 => ∃ a8, r_4 = some a8 ∧ (hh_tg h6 a8 = 28 ∧ (gm_G 196 0 [some (.ref a8), some (.long v7), none] [] h6 (pI (fun v11 h10 => (¬ v11 < Int32.ofNat 0 → (gm_G 618 121 [some (.ref a0), some (va_rf r_1), none, some (va_rf r_3), some (.ref a8), some (.long v7)] [.int (Int32.ofNat 0)] h10 Q)) ∧ (v11 < Int32.ofNat 0 → (gm_G 618 121 [some (.ref a0), some (va_rf r_1), none, some (va_rf r_3), some (.ref a8), some (.long v7)] [.int (Int32.ofNat 1)] h10 Q))) (fun e12 h13 => hh_tg h13 e12 = 21 ∧ Q (.inr e12) h13))))) (fun e14 h15 => hh_tg h15 e14 = 21 ∧ Q (.inr e14) h15)))))))) : gm_G 618 88 [some (.ref a0), some (va_rf r_1), none, some (va_rf r_3), some (va_rf r_4)] [] h Q := by
  refine g_aload (r := some _) rfl rfl rfl (pc' := 89) ?_
  obtain ⟨ht1, H⟩ := H
  refine g_getRv rfl rfl rfl rfl ht1 (pc' := 92) rfl (fun r2 hr2 => ?_)
  replace H := H r2 hr2
  refine g_iconst rfl rfl rfl (pc' := 94) ?_
  refine g_aload (r := some _) rfl rfl rfl (pc' := 95) ?_
  refine g_getRv rfl rfl rfl rfl ht1 (pc' := 98) rfl (fun r3 hr3 => ?_)
  replace H := H r3 hr3
  obtain ⟨a4, rfl, H⟩ := H
  obtain ⟨ht5, H⟩ := H
  refine g_getI rfl rfl rfl rfl ht5 (pc' := 101) rfl ?_
  refine g_call rfl (y := 233) (n := 3) (pc' := 104) (fun _ => rfl) (by cases r2 <;> rfl) rfl ⟨(Nat.le_of_ble_eq_true rfl), (Nat.le_of_ble_eq_true rfl), (Nat.le_of_ble_eq_true rfl)⟩ rfl (gm_G.mono H (pL_elim (fun v7 h6 H' => ?_) (fun e14 h15 H => ?_)))
  · show gm_G _ 104 _ _ _ _
    replace H := H'
    clear H'
    refine g_lstore rfl gm_sto2_rf4 rfl (pc' := 106) ?_
    refine g_aload (r := _) rfl rfl rfl (pc' := 108) ?_
    refine g_lload rfl rfl rfl (pc' := 110) ?_
    obtain ⟨a8, rfl, H⟩ := H
    obtain ⟨ht9, H⟩ := H
    refine g_call rfl (y := 196) (n := 2) (pc' := 113) (g_vt ht9 rfl rfl) rfl rfl ⟨(Nat.le_of_ble_eq_true rfl), (Nat.le_of_ble_eq_true rfl), (Nat.le_of_ble_eq_true rfl)⟩ rfl (gm_G.mono H (pI_elim (fun v11 h10 H' => ?_) (fun e12 h13 H => ?_)))
    · show gm_G _ 113 _ _ _ _
      replace H := H'
      clear H'
      refine g_if_ge rfl (pc' := 116) (pt := 120) rfl rfl ⟨fun hc => ?_, fun hc => ?_⟩
      · replace H := H.1 hc
        refine g_iconst rfl rfl rfl (pc' := 121) ?_
        exact g_weak (show gm_Lle [some _, some _, none, some _, some _, some _] _ from ⟨rfl, ⟨rfl, ⟨rfl, ⟨rfl, ⟨rfl, trivial⟩⟩⟩⟩⟩) H
      · replace H := H.2 hc
        refine g_iconst rfl rfl rfl (pc' := 117) ?_
        refine g_goto rfl (pc' := 121) rfl ?_
        exact g_weak (show gm_Lle [some _, some _, none, some _, some _, some _] _ from ⟨rfl, ⟨rfl, ⟨rfl, ⟨rfl, ⟨rfl, trivial⟩⟩⟩⟩⟩) H
    · exact H
  · exact H
set_option maxRecDepth 20000 in
theorem w_618_121 {a0 : Nat} {r_1 : Option Nat} {r_3 : Option Nat} {r_4 : Option Nat} {j5 : Int64} {y0 : Int32} {h : hh_T} {Q : Option Value ⊕ Nat → hh_T → Prop} (H : gm_G 431 0 [some (.int y0), some (.int (Int32.ofInt (-4)))] [] h (pV (fun h1 => ∃ a2, r_4 = some a2 ∧ (gm_sub (hh_tg h1 a2) 25 = true ∧ ((¬ (hh_i h1 a2 6) < (Int32.ofNat 8) → (gm_G 618 150 [some (.ref a0), some (va_rf r_1), none, some (va_rf r_3), none, some (.long j5)] [] h1 Q)) ∧ ((hh_i h1 a2 6) < (Int32.ofNat 8) → (gm_sub (hh_tg h1 a0) 17 = true ∧ (∀ r5, r5 = hh_r h1 a0 8 → (∃ a6, r5 = some a6 ∧ (hh_tg h1 a6 = 25 ∧ (gm_G 188 0 [some (.ref a6)] [] h1 (pI (fun v9 h8 => (v9 < Int32.ofNat 0 → (gm_G 618 150 [some (.ref a0), some (va_rf r_1), none, some (va_rf r_3), none, some (.long j5)] [] h8 Q)) ∧ (¬ v9 < Int32.ofNat 0 → (gm_G 618 151 [some (.ref a0), some (va_rf r_1), none, some (va_rf r_3), none, some (.long j5)] [.int (Int32.ofNat 1)] h8 Q))) (fun e10 h11 => hh_tg h11 e10 = 21 ∧ Q (.inr e10) h11))))))))))) (fun e12 h13 => hh_tg h13 e12 = 21 ∧ Q (.inr e12) h13))) : gm_G 618 121 [some (.ref a0), some (va_rf r_1), none, some (va_rf r_3), some (va_rf r_4), some (.long j5)] [.int y0] h Q := by
  refine g_iconst rfl rfl rfl (pc' := 123) ?_
  refine g_call rfl (y := 431) (n := 2) (pc' := 126) (fun _ => rfl) rfl rfl ⟨(Nat.le_of_ble_eq_true rfl), (Nat.le_of_ble_eq_true rfl), (Nat.le_of_ble_eq_true rfl)⟩ rfl (gm_G.mono H (pV_elim (fun h1 H' => ?_) (fun e12 h13 H => ?_)))
  · show gm_G _ 126 _ _ _ _
    replace H := H'
    clear H'
    refine g_aload (r := _) rfl rfl rfl (pc' := 128) ?_
    obtain ⟨a2, rfl, H⟩ := H
    obtain ⟨ht3, H⟩ := H
    refine g_getI rfl rfl rfl rfl ht3 (pc' := 131) rfl ?_
    refine g_iconst rfl rfl rfl (pc' := 133) ?_
    refine g_ic_ge rfl (pc' := 136) (pt := 150) rfl rfl ⟨fun hc => ?_, fun hc => ?_⟩
    · replace H := H.1 hc
      exact g_weak (show gm_Lle [some _, some _, none, some _, none, some _] _ from ⟨rfl, ⟨rfl, ⟨rfl, ⟨rfl, trivial⟩⟩⟩⟩) H
    · replace H := H.2 hc
      refine g_aload (r := some _) rfl rfl rfl (pc' := 137) ?_
      obtain ⟨ht4, H⟩ := H
      refine g_getRv rfl rfl rfl rfl ht4 (pc' := 140) rfl (fun r5 hr5 => ?_)
      replace H := H r5 hr5
      obtain ⟨a6, rfl, H⟩ := H
      obtain ⟨ht7, H⟩ := H
      refine g_call rfl (y := 188) (n := 1) (pc' := 143) (g_vt ht7 rfl rfl) rfl rfl ⟨(Nat.le_of_ble_eq_true rfl), (Nat.le_of_ble_eq_true rfl), (Nat.le_of_ble_eq_true rfl)⟩ rfl (gm_G.mono H (pI_elim (fun v9 h8 H' => ?_) (fun e10 h11 H => ?_)))
      · show gm_G _ 143 _ _ _ _
        replace H := H'
        clear H'
        refine g_if_lt rfl (pc' := 146) (pt := 150) rfl rfl ⟨fun hc => ?_, fun hc => ?_⟩
        · replace H := H.1 hc
          exact g_weak (show gm_Lle [some _, some _, none, some _, none, some _] _ from ⟨rfl, ⟨rfl, ⟨rfl, ⟨rfl, trivial⟩⟩⟩⟩) H
        · replace H := H.2 hc
          refine g_iconst rfl rfl rfl (pc' := 147) ?_
          refine g_goto rfl (pc' := 151) rfl ?_
          exact g_weak (show gm_Lle [some _, some _, none, some _, none, some _] _ from ⟨rfl, ⟨rfl, ⟨rfl, ⟨rfl, trivial⟩⟩⟩⟩) H
      · exact H
  · exact H
set_option maxRecDepth 20000 in
theorem w_618_150 {a0 : Nat} {r_1 : Option Nat} {r_3 : Option Nat} {j5 : Int64} {h : hh_T} {Q : Option Value ⊕ Nat → hh_T → Prop} (H : gm_G 618 151 [some (.ref a0), some (va_rf r_1), none, some (va_rf r_3), none, some (.long j5)] [.int (Int32.ofNat 0)] h Q) : gm_G 618 150 [some (.ref a0), some (va_rf r_1), none, some (va_rf r_3), none, some (.long j5)] [] h Q := by
  refine g_iconst rfl rfl rfl (pc' := 151) ?_
  exact g_weak (show gm_Lle [some _, some _, none, some _, none, some _] _ from ⟨rfl, ⟨rfl, ⟨rfl, ⟨rfl, trivial⟩⟩⟩⟩) H
set_option maxRecDepth 20000 in
theorem w_618_151 {a0 : Nat} {r_1 : Option Nat} {r_3 : Option Nat} {j5 : Int64} {y0 : Int32} {h : hh_T} {Q : Option Value ⊕ Nat → hh_T → Prop} (H : gm_G 431 0 [some (.int y0), some (.int (Int32.ofInt (-3)))] [] h (pV (fun h1 => gm_sub (hh_tg h1 a0) 17 = true ∧ (∀ r3, r3 = hh_r h1 a0 6 → (∃ a4, r3 = some a4 ∧ (hh_tg h1 a4 = 13 ∧ (gm_G 63 0 [some (.ref a4), some (.int (Int32.ofNat 6))] [] h1 (pI (fun v7 h6 => ∀ a8 h9, a8 = hh_sz h6 → h9 = hh_al h6 35 0 10 → (gm_sub (hh_tg h9 a0) 17 = true ∧ (∀ r11, r11 = hh_r h9 a0 11 → ((¬ v7 = (Int32.ofNat 1) → (gm_G 618 200 [some (.ref a0), some (va_rf r_1), none, some (va_rf r_3), none, some (.long j5)] [.int (Int32.ofNat 493), .int v7, .int (hh_i h9 a0 10), .int (hh_i h9 a0 7), va_rf r11, .ref a8, .ref a8] h9 Q)) ∧ (v7 = (Int32.ofNat 1) → (gm_G 618 200 [some (.ref a0), some (va_rf r_1), none, some (va_rf r_3), none, some (.long j5)] [.int (Int32.ofNat 420), .int v7, .int (hh_i h9 a0 10), .int (hh_i h9 a0 7), va_rf r11, .ref a8, .ref a8] h9 Q)))))) (fun e12 h13 => hh_tg h13 e12 = 21 ∧ Q (.inr e12) h13))))))) (fun e14 h15 => hh_tg h15 e14 = 21 ∧ Q (.inr e14) h15))) : gm_G 618 151 [some (.ref a0), some (va_rf r_1), none, some (va_rf r_3), none, some (.long j5)] [.int y0] h Q := by
  refine g_iconst rfl rfl rfl (pc' := 153) ?_
  refine g_call rfl (y := 431) (n := 2) (pc' := 156) (fun _ => rfl) rfl rfl ⟨(Nat.le_of_ble_eq_true rfl), (Nat.le_of_ble_eq_true rfl), (Nat.le_of_ble_eq_true rfl)⟩ rfl (gm_G.mono H (pV_elim (fun h1 H' => ?_) (fun e14 h15 H => ?_)))
  · show gm_G _ 156 _ _ _ _
    replace H := H'
    clear H'
    refine g_aload (r := some _) rfl rfl rfl (pc' := 157) ?_
    obtain ⟨ht2, H⟩ := H
    refine g_getRv rfl rfl rfl rfl ht2 (pc' := 160) rfl (fun r3 hr3 => ?_)
    replace H := H r3 hr3
    refine g_iconst rfl rfl rfl (pc' := 162) ?_
    obtain ⟨a4, rfl, H⟩ := H
    obtain ⟨ht5, H⟩ := H
    refine g_call rfl (y := 63) (n := 2) (pc' := 165) (g_vt ht5 rfl rfl) rfl rfl ⟨(Nat.le_of_ble_eq_true rfl), (Nat.le_of_ble_eq_true rfl), (Nat.le_of_ble_eq_true rfl)⟩ rfl (gm_G.mono H (pI_elim (fun v7 h6 H' => ?_) (fun e12 h13 H => ?_)))
    · show gm_G _ 165 _ _ _ _
      replace H := H'
      clear H'
      refine g_istore rfl rfl rfl (pc' := 167) ?_
      refine g_new rfl (t := 35) (s := 10) rfl rfl (pc' := 170) rfl ?_
      replace H := H _ _ rfl rfl
      refine g_dup_a (r := some _) rfl rfl (pc' := 171) ?_
      refine g_aload (r := some _) rfl rfl rfl (pc' := 172) ?_
      obtain ⟨ht10, H⟩ := H
      refine g_getRv rfl rfl rfl rfl ht10 (pc' := 175) rfl (fun r11 hr11 => ?_)
      replace H := H r11 hr11
      refine g_aload (r := some _) rfl rfl rfl (pc' := 176) ?_
      refine g_getI rfl rfl rfl rfl ht10 (pc' := 179) rfl ?_
      refine g_aload (r := some _) rfl rfl rfl (pc' := 180) ?_
      refine g_getI rfl rfl rfl rfl ht10 (pc' := 183) rfl ?_
      refine g_iload rfl rfl rfl (pc' := 185) ?_
      refine g_iload rfl rfl rfl (pc' := 187) ?_
      refine g_iconst rfl rfl rfl (pc' := 188) ?_
      refine g_ic_ne rfl (pc' := 191) (pt := 197) rfl rfl ⟨fun hc => ?_, fun hc => ?_⟩
      · replace H := H.1 hc
        refine g_iconst rfl rfl rfl (pc' := 200) ?_
        exact g_weak (show gm_Lle [some _, some _, none, some _, none, some _] _ from ⟨rfl, ⟨rfl, ⟨rfl, ⟨rfl, trivial⟩⟩⟩⟩) H
      · replace H := H.2 hc
        refine g_iconst rfl rfl rfl (pc' := 194) ?_
        refine g_goto rfl (pc' := 200) rfl ?_
        exact g_weak (show gm_Lle [some _, some _, none, some _, none, some _] _ from ⟨rfl, ⟨rfl, ⟨rfl, ⟨rfl, trivial⟩⟩⟩⟩) H
    · exact H
  · exact H
set_option maxRecDepth 20000 in
theorem w_618_200 {a0 : Nat} {r_1 : Option Nat} {r_3 : Option Nat} {j5 : Int64} {y0 : Int32} {y1 : Int32} {y2 : Int32} {y3 : Int32} {q4 : Option Nat} {q5 : Option Nat} {q6 : Option Nat} {h : hh_T} {Q : Option Value ⊕ Nat → hh_T → Prop} (H : ∃ a1, q5 = some a1 ∧ (gm_G 323 0 [some (.ref a1), some (va_rf q4), some (.int y3), some (.int y2), some (.int y1), some (.int y0), some (.long j5), none, some (va_rf none)] [] h (pV (fun h2 => gm_sub (hh_tg h2 a0) 17 = true ∧ (∀ r4, r4 = hh_r h2 a0 11 → (∃ a5, r4 = some a5 ∧ (hh_tg h2 a5 = 1 ∧ (gm_G 605 0 [some (.ref a5), some (va_rf r_3), some (va_rf q6)] [] h2 (pV (fun h7 => gm_sub (hh_tg h7 a0) 17 = true ∧ (∀ r9, r9 = hh_r h7 a0 11 → (∃ a10, r9 = some a10 ∧ (gm_sub (hh_tg h7 a10) 0 = true ∧ (∀ r12, r12 = hh_r h7 a10 52 → (∃ a13, r_3 = some a13 ∧ (gm_sub (hh_tg h7 a13) 23 = true ∧ (∃ a15, q6 = some a15 ∧ (gm_sub (hh_tg h7 a15) 34 = true ∧ (∃ a17, r12 = some a17 ∧ (hh_tg h7 a17 = 16 ∧ (gm_G 261 0 [some (.ref a17), some (.int (hh_i h7 a13 0)), some (.int (hh_i h7 a0 10)), some (.int (Int32.ofNat 1)), some (.int (hh_i h7 a15 8))] [] h7 (pV (fun h19 => gm_sub (hh_tg h19 a0) 17 = true ∧ (gm_sub (hh_tg h19 a15) 34 = true ∧ (gm_sub (hh_tg h19 a13) 23 = true ∧ (∀ r23, r23 = hh_r h19 a13 9 → (∃ a24, r23 = some a24 ∧ (gm_sub (hh_tg h19 a24) 24 = true ∧ (∀ r26, r26 = hh_r h19 a24 2 → (∃ a27, r26 = some a27 ∧ ((hh_tg h19 a27 = 104 ∨ 200 ≤ hh_tg h19 a27) ∧ (∃ n28, gm_ix (hh_i h19 a15 8) n28 (hh_ln h19 a27) ∧ (∀ r30, r30 = hh_r h19 a27 n28 → (∃ a31, r30 = some a31 ∧ (gm_sub (hh_tg h19 a31) 25 = true ∧ (hh_tg h19 a0 = 18 ∧ (gm_G 508 0 [some (.ref a0), some (.int (hh_i h19 a0 9)), some (.int (hh_i h19 a15 8)), some (.int (hh_i h19 a31 8)), some (va_rf r_1)] [] h19 (pV (fun h34 => Q (.inl none) h34) (fun e35 h36 => hh_tg h36 e35 = 21 ∧ Q (.inr e35) h36))))))))))))))))) (fun e37 h38 => hh_tg h38 e37 = 21 ∧ Q (.inr e37) h38)))))))))))))) (fun e39 h40 => hh_tg h40 e39 = 21 ∧ Q (.inr e39) h40))))))) (fun e41 h42 => hh_tg h42 e41 = 21 ∧ Q (.inr e41) h42)))) : gm_G 618 200 [some (.ref a0), some (va_rf r_1), none, some (va_rf r_3), none, some (.long j5)] [.int y0, .int y1, .int y2, .int y3, va_rf q4, va_rf q5, va_rf q6] h Q := by
  refine g_lload rfl rfl rfl (pc' := 202) ?_
  refine g_null rfl rfl (pc' := 203) ?_
  obtain ⟨a1, rfl, H⟩ := H
  refine g_call rfl (y := 323) (n := 8) (pc' := 206) (fun _ => rfl) (by cases q4 <;> rfl) rfl ⟨(Nat.le_of_ble_eq_true rfl), (Nat.le_of_ble_eq_true rfl), (Nat.le_of_ble_eq_true rfl)⟩ rfl (gm_G.mono H (pV_elim (fun h2 H' => ?_) (fun e41 h42 H => ?_)))
  · show gm_G _ 206 _ _ _ _
    replace H := H'
    clear H'
    refine g_astore (r := _) rfl rfl rfl (pc' := 208) ?_
    refine g_aload (r := some _) rfl rfl rfl (pc' := 209) ?_
    obtain ⟨ht3, H⟩ := H
    refine g_getRv rfl rfl rfl rfl ht3 (pc' := 212) rfl (fun r4 hr4 => ?_)
    replace H := H r4 hr4
    refine g_aload (r := _) rfl rfl rfl (pc' := 213) ?_
    refine g_aload (r := _) rfl rfl rfl (pc' := 215) ?_
    obtain ⟨a5, rfl, H⟩ := H
    obtain ⟨ht6, H⟩ := H
    refine g_call rfl (y := 605) (n := 3) (pc' := 218) (g_vt ht6 rfl rfl) (by cases q6 <;> cases r_3 <;> rfl) rfl ⟨(Nat.le_of_ble_eq_true rfl), (Nat.le_of_ble_eq_true rfl), (Nat.le_of_ble_eq_true rfl)⟩ rfl (gm_G.mono H (pV_elim (fun h7 H' => ?_) (fun e39 h40 H => ?_)))
    · show gm_G _ 218 _ _ _ _
      replace H := H'
      clear H'
      refine g_aload (r := some _) rfl rfl rfl (pc' := 219) ?_
      obtain ⟨ht8, H⟩ := H
      refine g_getRv rfl rfl rfl rfl ht8 (pc' := 222) rfl (fun r9 hr9 => ?_)
      replace H := H r9 hr9
      obtain ⟨a10, rfl, H⟩ := H
      obtain ⟨ht11, H⟩ := H
      refine g_getRv rfl rfl rfl rfl ht11 (pc' := 225) rfl (fun r12 hr12 => ?_)
      replace H := H r12 hr12
      refine g_aload (r := _) rfl rfl rfl (pc' := 226) ?_
      obtain ⟨a13, rfl, H⟩ := H
      obtain ⟨ht14, H⟩ := H
      refine g_getI rfl rfl rfl rfl ht14 (pc' := 229) rfl ?_
      refine g_aload (r := some _) rfl rfl rfl (pc' := 230) ?_
      refine g_getI rfl rfl rfl rfl ht8 (pc' := 233) rfl ?_
      refine g_iconst rfl rfl rfl (pc' := 234) ?_
      refine g_aload (r := _) rfl rfl rfl (pc' := 236) ?_
      obtain ⟨a15, rfl, H⟩ := H
      obtain ⟨ht16, H⟩ := H
      refine g_getI rfl rfl rfl rfl ht16 (pc' := 239) rfl ?_
      obtain ⟨a17, rfl, H⟩ := H
      obtain ⟨ht18, H⟩ := H
      refine g_call rfl (y := 261) (n := 5) (pc' := 242) (g_vt ht18 rfl rfl) rfl rfl ⟨(Nat.le_of_ble_eq_true rfl), (Nat.le_of_ble_eq_true rfl), (Nat.le_of_ble_eq_true rfl)⟩ rfl (gm_G.mono H (pV_elim (fun h19 H' => ?_) (fun e37 h38 H => ?_)))
      · show gm_G _ 242 _ _ _ _
        replace H := H'
        clear H'
        refine g_aload (r := some _) rfl rfl rfl (pc' := 243) ?_
        refine g_aload (r := some _) rfl rfl rfl (pc' := 244) ?_
        obtain ⟨ht20, H⟩ := H
        refine g_getI rfl rfl rfl rfl ht20 (pc' := 247) rfl ?_
        refine g_aload (r := some _) rfl rfl rfl (pc' := 249) ?_
        obtain ⟨ht21, H⟩ := H
        refine g_getI rfl rfl rfl rfl ht21 (pc' := 252) rfl ?_
        refine g_aload (r := some _) rfl rfl rfl (pc' := 253) ?_
        obtain ⟨ht22, H⟩ := H
        refine g_getRv rfl rfl rfl rfl ht22 (pc' := 256) rfl (fun r23 hr23 => ?_)
        replace H := H r23 hr23
        obtain ⟨a24, rfl, H⟩ := H
        obtain ⟨ht25, H⟩ := H
        refine g_getRv rfl rfl rfl rfl ht25 (pc' := 259) rfl (fun r26 hr26 => ?_)
        replace H := H r26 hr26
        refine g_aload (r := some _) rfl rfl rfl (pc' := 261) ?_
        refine g_getI rfl rfl rfl rfl ht21 (pc' := 264) rfl ?_
        obtain ⟨a27, rfl, H⟩ := H
        obtain ⟨ht29, H⟩ := H
        obtain ⟨n28, hn28, H⟩ := H
        refine g_aaloadv rfl ht29 hn28 (pc' := 265) rfl (fun r30 hr30 => ?_)
        replace H := H r30 hr30
        obtain ⟨a31, rfl, H⟩ := H
        obtain ⟨ht32, H⟩ := H
        refine g_getI rfl rfl rfl rfl ht32 (pc' := 268) rfl ?_
        refine g_aload (r := _) rfl rfl rfl (pc' := 269) ?_
        obtain ⟨ht33, H⟩ := H
        refine g_call rfl (y := 508) (n := 5) (pc' := 272) (g_vt ht33 rfl rfl) (by cases r_1 <;> rfl) rfl ⟨(Nat.le_of_ble_eq_true rfl), (Nat.le_of_ble_eq_true rfl), (Nat.le_of_ble_eq_true rfl)⟩ rfl (gm_G.mono H (pV_elim (fun h34 H' => ?_) (fun e35 h36 H => ?_)))
        · show gm_G _ 272 _ _ _ _
          replace H := H'
          clear H'
          exact g_return rfl H
        · exact H
      · exact H
    · exact H
  · exact H
set_option maxRecDepth 20000 in
theorem w_619_0 {a0 : Nat} {r_1 : Option Nat} {h : hh_T} {Q : Option Value ⊕ Nat → hh_T → Prop} (H : gm_sub (hh_tg h a0) 17 = true ∧ (∀ r2, r2 = hh_r h a0 6 → (∃ a3, r2 = some a3 ∧ (gm_sub (hh_tg h a3) 12 = true ∧ (((hh_i h a3 1) < (Int32.ofNat 9) → (gm_G 619 18 [some (.ref a0), some (va_rf r_1)] [.int (Int32.ofNat 0), .ref a0] h Q)) ∧ (¬ (hh_i h a3 1) < (Int32.ofNat 9) → (gm_G 619 18 [some (.ref a0), some (va_rf r_1)] [.int (Int32.ofNat 1), .ref a0] h Q))))))) : gm_G 619 0 [some (.ref a0), some (va_rf r_1)] [] h Q := by
  refine g_aload (r := some _) rfl rfl rfl (pc' := 1) ?_
  refine g_aload (r := some _) rfl rfl rfl (pc' := 2) ?_
  obtain ⟨ht1, H⟩ := H
  refine g_getRv rfl rfl rfl rfl ht1 (pc' := 5) rfl (fun r2 hr2 => ?_)
  replace H := H r2 hr2
  obtain ⟨a3, rfl, H⟩ := H
  obtain ⟨ht4, H⟩ := H
  refine g_getI rfl rfl rfl rfl ht4 (pc' := 8) rfl ?_
  refine g_iconst rfl rfl rfl (pc' := 10) ?_
  refine g_ic_lt rfl (pc' := 13) (pt := 17) rfl rfl ⟨fun hc => ?_, fun hc => ?_⟩
  · replace H := H.1 hc
    refine g_iconst rfl rfl rfl (pc' := 18) ?_
    exact g_weak (show gm_Lle [some _, some _] _ from ⟨rfl, ⟨rfl, trivial⟩⟩) H
  · replace H := H.2 hc
    refine g_iconst rfl rfl rfl (pc' := 14) ?_
    refine g_goto rfl (pc' := 18) rfl ?_
    exact g_weak (show gm_Lle [some _, some _] _ from ⟨rfl, ⟨rfl, trivial⟩⟩) H
set_option maxRecDepth 20000 in
theorem w_619_18 {a0 : Nat} {r_1 : Option Nat} {y0 : Int32} {q1 : Option Nat} {h : hh_T} {Q : Option Value ⊕ Nat → hh_T → Prop} (H : ∃ a1, q1 = some a1 ∧ (hh_tg h a1 = 18 ∧ (gm_G 461 0 [some (.ref a1), some (.int y0)] [] h (pR (fun r4 h3 => ∃ a5, r4 = some a5 ∧ (gm_sub (hh_tg h3 a5) 25 = true ∧ ((¬ (hh_i h3 a5 1) = (Int32.ofNat 1) → (gm_G 619 35 [some (.ref a0), some (va_rf r_1), some (.ref a5)] [.int (Int32.ofNat 0)] h3 Q)) ∧ ((hh_i h3 a5 1) = (Int32.ofNat 1) → (gm_G 619 35 [some (.ref a0), some (va_rf r_1), some (.ref a5)] [.int (Int32.ofNat 1)] h3 Q))))) (fun e7 h8 => hh_tg h8 e7 = 21 ∧ Q (.inr e7) h8))))) : gm_G 619 18 [some (.ref a0), some (va_rf r_1)] [.int y0, va_rf q1] h Q := by
  obtain ⟨a1, rfl, H⟩ := H
  obtain ⟨ht2, H⟩ := H
  refine g_call rfl (y := 461) (n := 2) (pc' := 21) (g_vt ht2 rfl rfl) rfl rfl ⟨(Nat.le_of_ble_eq_true rfl), (Nat.le_of_ble_eq_true rfl), (Nat.le_of_ble_eq_true rfl)⟩ rfl (gm_G.mono H (pR_elim (fun r4 h3 H' => ?_) (fun e7 h8 H => ?_)))
  · show gm_G _ 21 _ _ _ _
    replace H := H'
    clear H'
    refine g_astore (r := _) rfl gm_sto_rf1 rfl (pc' := 22) ?_
    refine g_aload (r := _) rfl rfl rfl (pc' := 23) ?_
    obtain ⟨a5, rfl, H⟩ := H
    obtain ⟨ht6, H⟩ := H
    refine g_getI rfl rfl rfl rfl ht6 (pc' := 26) rfl ?_
    refine g_iconst rfl rfl rfl (pc' := 27) ?_
    refine g_ic_ne rfl (pc' := 30) (pt := 34) rfl rfl ⟨fun hc => ?_, fun hc => ?_⟩
    · replace H := H.1 hc
      refine g_iconst rfl rfl rfl (pc' := 35) ?_
      exact g_weak (show gm_Lle [some _, some _, some _] _ from ⟨rfl, ⟨rfl, ⟨rfl, trivial⟩⟩⟩) H
    · replace H := H.2 hc
      refine g_iconst rfl rfl rfl (pc' := 31) ?_
      refine g_goto rfl (pc' := 35) rfl ?_
      exact g_weak (show gm_Lle [some _, some _, some _] _ from ⟨rfl, ⟨rfl, ⟨rfl, trivial⟩⟩⟩) H
  · exact H
set_option maxRecDepth 20000 in
theorem w_619_35 {a0 : Nat} {r_1 : Option Nat} {r_2 : Option Nat} {y0 : Int32} {h : hh_T} {Q : Option Value ⊕ Nat → hh_T → Prop} (H : gm_G 431 0 [some (.int y0), some (.int (Int32.ofInt (-10)))] [] h (pV (fun h1 => hh_tg h1 a0 = 18 ∧ (gm_G 462 0 [some (.ref a0)] [] h1 (pR (fun r4 h3 => gm_sub (hh_tg h3 a0) 17 = true ∧ (∀ r6, r6 = hh_r h3 a0 11 → (∃ a7, r6 = some a7 ∧ (hh_tg h3 a7 = 1 ∧ (gm_G 393 0 [some (.ref a7), some (va_rf r_2), some (.int (hh_i h3 a0 7)), some (.int (Int32.ofNat 2))] [] h3 (pI (fun v10 h9 => gm_G 431 0 [some (.int v10), some (.int (Int32.ofInt (-6)))] [] h9 (pV (fun h11 => gm_sub (hh_tg h11 a0) 17 = true ∧ (∀ r13, r13 = hh_r h11 a0 6 → (∃ a14, r13 = some a14 ∧ (hh_tg h11 a14 = 13 ∧ (gm_G 257 0 [some (.ref a14), some (.int (Int32.ofNat 6))] [] h11 (pI (fun v17 h16 => gm_G 619 74 [some (.ref a0), some (va_rf r_1), none, some (va_rf r4), some (.int v17)] [] h16 Q) (fun e18 h19 => hh_tg h19 e18 = 21 ∧ Q (.inr e18) h19))))))) (fun e20 h21 => hh_tg h21 e20 = 21 ∧ Q (.inr e20) h21))) (fun e22 h23 => hh_tg h23 e22 = 21 ∧ Q (.inr e22) h23))))))) (fun e24 h25 => hh_tg h25 e24 = 21 ∧ Q (.inr e24) h25)))) (fun e26 h27 => hh_tg h27 e26 = 21 ∧ Q (.inr e26) h27))) : gm_G 619 35 [some (.ref a0), some (va_rf r_1), some (va_rf r_2)] [.int y0] h Q := by
  refine g_iconst rfl rfl rfl (pc' := 37) ?_
  refine g_call rfl (y := 431) (n := 2) (pc' := 40) (fun _ => rfl) rfl rfl ⟨(Nat.le_of_ble_eq_true rfl), (Nat.le_of_ble_eq_true rfl), (Nat.le_of_ble_eq_true rfl)⟩ rfl (gm_G.mono H (pV_elim (fun h1 H' => ?_) (fun e26 h27 H => ?_)))
  · show gm_G _ 40 _ _ _ _
    replace H := H'
    clear H'
    refine g_aload (r := some _) rfl rfl rfl (pc' := 41) ?_
    obtain ⟨ht2, H⟩ := H
    refine g_call rfl (y := 462) (n := 1) (pc' := 44) (g_vt ht2 rfl rfl) rfl rfl ⟨(Nat.le_of_ble_eq_true rfl), (Nat.le_of_ble_eq_true rfl), (Nat.le_of_ble_eq_true rfl)⟩ rfl (gm_G.mono H (pR_elim (fun r4 h3 H' => ?_) (fun e24 h25 H => ?_)))
    · show gm_G _ 44 _ _ _ _
      replace H := H'
      clear H'
      refine g_astore (r := _) rfl gm_sto_rf2 rfl (pc' := 45) ?_
      refine g_aload (r := some _) rfl rfl rfl (pc' := 46) ?_
      obtain ⟨ht5, H⟩ := H
      refine g_getRv rfl rfl rfl rfl ht5 (pc' := 49) rfl (fun r6 hr6 => ?_)
      replace H := H r6 hr6
      refine g_aload (r := _) rfl rfl rfl (pc' := 50) ?_
      refine g_aload (r := some _) rfl rfl rfl (pc' := 51) ?_
      refine g_getI rfl rfl rfl rfl ht5 (pc' := 54) rfl ?_
      refine g_iconst rfl rfl rfl (pc' := 55) ?_
      obtain ⟨a7, rfl, H⟩ := H
      obtain ⟨ht8, H⟩ := H
      refine g_call rfl (y := 393) (n := 4) (pc' := 58) (g_vt ht8 rfl rfl) (by cases r_2 <;> rfl) rfl ⟨(Nat.le_of_ble_eq_true rfl), (Nat.le_of_ble_eq_true rfl), (Nat.le_of_ble_eq_true rfl)⟩ rfl (gm_G.mono H (pI_elim (fun v10 h9 H' => ?_) (fun e22 h23 H => ?_)))
      · show gm_G _ 58 _ _ _ _
        replace H := H'
        clear H'
        refine g_iconst rfl rfl rfl (pc' := 60) ?_
        refine g_call rfl (y := 431) (n := 2) (pc' := 63) (fun _ => rfl) rfl rfl ⟨(Nat.le_of_ble_eq_true rfl), (Nat.le_of_ble_eq_true rfl), (Nat.le_of_ble_eq_true rfl)⟩ rfl (gm_G.mono H (pV_elim (fun h11 H' => ?_) (fun e20 h21 H => ?_)))
        · show gm_G _ 63 _ _ _ _
          replace H := H'
          clear H'
          refine g_aload (r := some _) rfl rfl rfl (pc' := 64) ?_
          obtain ⟨ht12, H⟩ := H
          refine g_getRv rfl rfl rfl rfl ht12 (pc' := 67) rfl (fun r13 hr13 => ?_)
          replace H := H r13 hr13
          refine g_iconst rfl rfl rfl (pc' := 69) ?_
          obtain ⟨a14, rfl, H⟩ := H
          obtain ⟨ht15, H⟩ := H
          refine g_call rfl (y := 257) (n := 2) (pc' := 72) (g_vt ht15 rfl rfl) rfl rfl ⟨(Nat.le_of_ble_eq_true rfl), (Nat.le_of_ble_eq_true rfl), (Nat.le_of_ble_eq_true rfl)⟩ rfl (gm_G.mono H (pI_elim (fun v17 h16 H' => ?_) (fun e18 h19 H => ?_)))
          · show gm_G _ 72 _ _ _ _
            replace H := H'
            clear H'
            refine g_istore rfl gm_sto_rf3 rfl (pc' := 74) ?_
            exact g_weak (show gm_Lle [some _, some _, none, some _, some _] _ from ⟨rfl, ⟨rfl, ⟨rfl, ⟨rfl, trivial⟩⟩⟩⟩) H
          · exact H
        · exact H
      · exact H
    · exact H
  · exact H
set_option maxRecDepth 20000 in
theorem w_619_74 {a0 : Nat} {r_1 : Option Nat} {r_3 : Option Nat} {x4 : Int32} {h : hh_T} {Q : Option Value ⊕ Nat → hh_T → Prop} (H : gm_sub (hh_tg h a0) 17 = true ∧ (∀ r2, r2 = hh_r h a0 6 → (∃ a3, r2 = some a3 ∧ (gm_sub (hh_tg h a3) 12 = true ∧ (((Int32.ofNat 256) < (x4 + ((hh_i h a3 1) - (Int32.ofNat 8))) → (gm_G 619 102 [some (.ref a0), some (va_rf r_1), none, some (va_rf r_3), some (.int x4), some (.int ((hh_i h a3 1) - (Int32.ofNat 8)))] [.int (Int32.ofNat 0)] h Q)) ∧ (¬ (Int32.ofNat 256) < (x4 + ((hh_i h a3 1) - (Int32.ofNat 8))) → (gm_G 619 102 [some (.ref a0), some (va_rf r_1), none, some (va_rf r_3), some (.int x4), some (.int ((hh_i h a3 1) - (Int32.ofNat 8)))] [.int (Int32.ofNat 1)] h Q))))))) : gm_G 619 74 [some (.ref a0), some (va_rf r_1), none, some (va_rf r_3), some (.int x4)] [] h Q := by
  refine g_aload (r := some _) rfl rfl rfl (pc' := 75) ?_
  obtain ⟨ht1, H⟩ := H
  refine g_getRv rfl rfl rfl rfl ht1 (pc' := 78) rfl (fun r2 hr2 => ?_)
  replace H := H r2 hr2
  obtain ⟨a3, rfl, H⟩ := H
  obtain ⟨ht4, H⟩ := H
  refine g_getI rfl rfl rfl rfl ht4 (pc' := 81) rfl ?_
  refine g_iconst rfl rfl rfl (pc' := 83) ?_
  refine g_isub rfl rfl (pc' := 84) ?_
  refine g_istore rfl rfl rfl (pc' := 86) ?_
  refine g_iload rfl rfl rfl (pc' := 88) ?_
  refine g_iload rfl rfl rfl (pc' := 90) ?_
  refine g_iadd rfl rfl (pc' := 91) ?_
  refine g_iconst rfl rfl rfl (pc' := 94) ?_
  refine g_ic_gt rfl (pc' := 97) (pt := 101) rfl rfl ⟨fun hc => ?_, fun hc => ?_⟩
  · replace H := H.1 hc
    refine g_iconst rfl rfl rfl (pc' := 102) ?_
    exact g_weak (show gm_Lle [some _, some _, none, some _, some _, some _] _ from ⟨rfl, ⟨rfl, ⟨rfl, ⟨rfl, ⟨rfl, trivial⟩⟩⟩⟩⟩) H
  · replace H := H.2 hc
    refine g_iconst rfl rfl rfl (pc' := 98) ?_
    refine g_goto rfl (pc' := 102) rfl ?_
    exact g_weak (show gm_Lle [some _, some _, none, some _, some _, some _] _ from ⟨rfl, ⟨rfl, ⟨rfl, ⟨rfl, ⟨rfl, trivial⟩⟩⟩⟩⟩) H
