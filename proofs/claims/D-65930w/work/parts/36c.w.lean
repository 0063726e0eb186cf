/-! STAGE 2, 7: the component, label by label (printed) -/
set_option maxRecDepth 20000 in
theorem w_227_13  {r_1 : Option Nat} {r_2 : Option Nat} {x3 : Int32} {h : hh_T} {Q : Option Value ⊕ Nat → hh_T → Prop} (H : (¬ x3 < (Int32.ofNat 8) → (Q (.inl (some (.int (Int32.ofNat 1)))) h)) ∧ (x3 < (Int32.ofNat 8) → (∃ a1, r_2 = some a1 ∧ ((hh_tg h a1 = 104 ∨ 200 ≤ hh_tg h a1) ∧ (∃ n2, gm_ix x3 n2 (hh_ln h a1) ∧ (∀ r4, r4 = hh_r h a1 n2 → (∃ a5, r_1 = some a5 ∧ ((hh_tg h a5 = 27 ∧ (gm_G 194 0 [some (.ref a5)] [] h (pR (fun r7 h6 => ∃ a8, r7 = some a8 ∧ ((hh_tg h6 a8 = 104 ∨ 200 ≤ hh_tg h6 a8) ∧ (∃ n9, gm_ix x3 n9 (hh_ln h6 a8) ∧ (∀ r11, r11 = hh_r h6 a8 n9 → ((r4 = r11 → (gm_G 227 13 [none, some (.ref a5), some (.ref a1), some (.int (x3 + (Int32.ofNat 1)))] [] h6 Q)) ∧ (¬ r4 = r11 → (Q (.inl (some (.int (Int32.ofNat 0)))) h6))))))) (fun e12 h13 => hh_tg h13 e12 = 21 ∧ Q (.inr e12) h13)))) ∨ (hh_tg h a5 = 28 ∧ (gm_G 191 0 [some (.ref a5)] [] h (pR (fun r15 h14 => ∃ a16, r15 = some a16 ∧ ((hh_tg h14 a16 = 104 ∨ 200 ≤ hh_tg h14 a16) ∧ (∃ n17, gm_ix x3 n17 (hh_ln h14 a16) ∧ (∀ r19, r19 = hh_r h14 a16 n17 → ((r4 = r19 → (gm_G 227 13 [none, some (.ref a5), some (.ref a1), some (.int (x3 + (Int32.ofNat 1)))] [] h14 Q)) ∧ (¬ r4 = r19 → (Q (.inl (some (.int (Int32.ofNat 0)))) h14))))))) (fun e20 h21 => hh_tg h21 e20 = 21 ∧ Q (.inr e20) h21)))) ∨ (hh_tg h a5 = 29 ∧ (gm_G 191 0 [some (.ref a5)] [] h (pR (fun r23 h22 => ∃ a24, r23 = some a24 ∧ ((hh_tg h22 a24 = 104 ∨ 200 ≤ hh_tg h22 a24) ∧ (∃ n25, gm_ix x3 n25 (hh_ln h22 a24) ∧ (∀ r27, r27 = hh_r h22 a24 n25 → ((r4 = r27 → (gm_G 227 13 [none, some (.ref a5), some (.ref a1), some (.int (x3 + (Int32.ofNat 1)))] [] h22 Q)) ∧ (¬ r4 = r27 → (Q (.inl (some (.int (Int32.ofNat 0)))) h22))))))) (fun e28 h29 => hh_tg h29 e28 = 21 ∧ Q (.inr e28) h29)))))))))))) : gm_G 227 13 [none, some (va_rf r_1), some (va_rf r_2), some (.int x3)] [] h Q := by
  refine g_iload rfl rfl rfl (pc' := 14) ?_
  refine g_iconst rfl rfl rfl (pc' := 16) ?_
  refine g_ic_ge rfl (pc' := 19) (pt := 39) rfl rfl ⟨fun hc => ?_, fun hc => ?_⟩
  · replace H := H.1 hc
    refine g_iconst rfl rfl rfl (pc' := 40) ?_
    exact g_ireturn rfl (Or.inr (by decide)) H
  · replace H := H.2 hc
    refine g_aload (r := _) rfl rfl rfl (pc' := 20) ?_
    refine g_iload rfl rfl rfl (pc' := 21) ?_
    obtain ⟨a1, rfl, H⟩ := H
    obtain ⟨ht3, H⟩ := H
    obtain ⟨n2, hn2, H⟩ := H
    refine g_aaloadv rfl ht3 hn2 (pc' := 22) rfl (fun r4 hr4 => ?_)
    replace H := H r4 hr4
    refine g_aload (r := _) rfl rfl rfl (pc' := 23) ?_
    obtain ⟨a5, rfl, H⟩ := H
    rcases H with ⟨ht, H⟩ | ⟨ht, H⟩ | ⟨ht, H⟩
    · refine g_call rfl (y := 194) (n := 1) (pc' := 26) (g_vt ht rfl rfl) rfl rfl ⟨(Nat.le_of_ble_eq_true rfl), (Nat.le_of_ble_eq_true rfl), (Nat.le_of_ble_eq_true rfl)⟩ rfl (gm_G.mono H (pR_elim (fun r7 h6 H' => ?_) (fun e12 h13 H => ?_)))
      · show gm_G _ 26 _ _ _ _
        replace H := H'
        clear H'
        refine g_iload rfl rfl rfl (pc' := 27) ?_
        obtain ⟨a8, rfl, H⟩ := H
        obtain ⟨ht10, H⟩ := H
        obtain ⟨n9, hn9, H⟩ := H
        refine g_aaloadv rfl ht10 hn9 (pc' := 28) rfl (fun r11 hr11 => ?_)
        replace H := H r11 hr11
        refine g_ac_eq (r1 := _) (r2 := _) rfl (pc' := 31) (pt := 33) rfl rfl ⟨fun hc => ?_, fun hc => ?_⟩
        · replace H := H.1 hc
          refine g_iinc (c := (Int32.ofNat 1)) rfl rfl rfl rfl rfl (pc' := 36) ?_
          refine g_goto rfl (pc' := 13) rfl ?_
          exact g_weak (show gm_Lle [none, some _, some _, some _] _ from ⟨rfl, ⟨rfl, ⟨rfl, trivial⟩⟩⟩) H
        · replace H := H.2 hc
          refine g_iconst rfl rfl rfl (pc' := 32) ?_
          exact g_ireturn rfl (Or.inr (by decide)) H
      · exact H
    · refine g_call rfl (y := 191) (n := 1) (pc' := 26) (g_vt ht rfl rfl) rfl rfl ⟨(Nat.le_of_ble_eq_true rfl), (Nat.le_of_ble_eq_true rfl), (Nat.le_of_ble_eq_true rfl)⟩ rfl (gm_G.mono H (pR_elim (fun r15 h14 H' => ?_) (fun e20 h21 H => ?_)))
      · show gm_G _ 26 _ _ _ _
        replace H := H'
        clear H'
        refine g_iload rfl rfl rfl (pc' := 27) ?_
        obtain ⟨a16, rfl, H⟩ := H
        obtain ⟨ht18, H⟩ := H
        obtain ⟨n17, hn17, H⟩ := H
        refine g_aaloadv rfl ht18 hn17 (pc' := 28) rfl (fun r19 hr19 => ?_)
        replace H := H r19 hr19
        refine g_ac_eq (r1 := _) (r2 := _) rfl (pc' := 31) (pt := 33) rfl rfl ⟨fun hc => ?_, fun hc => ?_⟩
        · replace H := H.1 hc
          refine g_iinc (c := (Int32.ofNat 1)) rfl rfl rfl rfl rfl (pc' := 36) ?_
          refine g_goto rfl (pc' := 13) rfl ?_
          exact g_weak (show gm_Lle [none, some _, some _, some _] _ from ⟨rfl, ⟨rfl, ⟨rfl, trivial⟩⟩⟩) H
        · replace H := H.2 hc
          refine g_iconst rfl rfl rfl (pc' := 32) ?_
          exact g_ireturn rfl (Or.inr (by decide)) H
      · exact H
    · refine g_call rfl (y := 191) (n := 1) (pc' := 26) (g_vt ht rfl rfl) rfl rfl ⟨(Nat.le_of_ble_eq_true rfl), (Nat.le_of_ble_eq_true rfl), (Nat.le_of_ble_eq_true rfl)⟩ rfl (gm_G.mono H (pR_elim (fun r23 h22 H' => ?_) (fun e28 h29 H => ?_)))
      · show gm_G _ 26 _ _ _ _
        replace H := H'
        clear H'
        refine g_iload rfl rfl rfl (pc' := 27) ?_
        obtain ⟨a24, rfl, H⟩ := H
        obtain ⟨ht26, H⟩ := H
        obtain ⟨n25, hn25, H⟩ := H
        refine g_aaloadv rfl ht26 hn25 (pc' := 28) rfl (fun r27 hr27 => ?_)
        replace H := H r27 hr27
        refine g_ac_eq (r1 := _) (r2 := _) rfl (pc' := 31) (pt := 33) rfl rfl ⟨fun hc => ?_, fun hc => ?_⟩
        · replace H := H.1 hc
          refine g_iinc (c := (Int32.ofNat 1)) rfl rfl rfl rfl rfl (pc' := 36) ?_
          refine g_goto rfl (pc' := 13) rfl ?_
          exact g_weak (show gm_Lle [none, some _, some _, some _] _ from ⟨rfl, ⟨rfl, ⟨rfl, trivial⟩⟩⟩) H
        · replace H := H.2 hc
          refine g_iconst rfl rfl rfl (pc' := 32) ?_
          exact g_ireturn rfl (Or.inr (by decide)) H
      · exact H
set_option maxRecDepth 20000 in
theorem w_228_0 {a0 : Nat} {x1 : Int32} {h : hh_T} {Q : Option Value ⊕ Nat → hh_T → Prop} (H : gm_sub (hh_tg h a0) 0 = true ∧ (gm_G 5 0 [some (.int x1), some (.int (Int32.ofNat 0)), some (.int ((hh_i h a0 1) - (Int32.ofNat 1)))] [] h (pI (fun v3 h2 => (v3 = 0 ∨ v3 = 1) ∧ Q (.inl (some (.int v3))) h2) (fun e4 h5 => hh_tg h5 e4 = 21 ∧ Q (.inr e4) h5)))) : gm_G 228 0 [some (.ref a0), some (.int x1)] [] h Q := by
  refine g_iload rfl rfl rfl (pc' := 1) ?_
  refine g_iconst rfl rfl rfl (pc' := 2) ?_
  refine g_aload (r := some _) rfl rfl rfl (pc' := 3) ?_
  obtain ⟨ht1, H⟩ := H
  refine g_getI rfl rfl rfl rfl ht1 (pc' := 6) rfl ?_
  refine g_iconst rfl rfl rfl (pc' := 7) ?_
  refine g_isub rfl rfl (pc' := 8) ?_
  refine g_call rfl (y := 5) (n := 3) (pc' := 11) (fun _ => rfl) rfl rfl ⟨(Nat.le_of_ble_eq_true rfl), (Nat.le_of_ble_eq_true rfl), (Nat.le_of_ble_eq_true rfl)⟩ rfl (gm_G.mono H (pI_elim (fun v3 h2 H' => ?_) (fun e4 h5 H => ?_)))
  · show gm_G _ 11 _ _ _ _
    replace H := H'
    clear H'
    exact g_ireturn rfl (Or.inr H.1) H.2
  · exact H
set_option maxRecDepth 20000 in
theorem w_229_0 {a0 : Nat} {r_1 : Option Nat} {x2 : Int32} {x3 : Int32} {h : hh_T} {Q : Option Value ⊕ Nat → hh_T → Prop} (H : (¬ x3 = Int32.ofNat 0 → ((¬ x3 = (Int32.ofNat 1) → ((¬ x3 = (Int32.ofNat 2) → ((¬ x3 < (Int32.ofNat 16) → (hh_tg h a0 = 1 ∧ (gm_G 8 0 [some (.ref a0), some (.int x2), some (.int (x3 - (Int32.ofNat 16)))] [] h (pI (fun v3 h2 => (v3 = 0 ∨ v3 = 1) ∧ Q (.inl (some (.int v3))) h2) (fun e4 h5 => hh_tg h5 e4 = 21 ∧ Q (.inr e4) h5))))) ∧ (x3 < (Int32.ofNat 16) → ((¬ x2 = (x3 - (Int32.ofNat 8)) → (Q (.inl (some (.int (Int32.ofNat 0)))) h)) ∧ (x2 = (x3 - (Int32.ofNat 8)) → (Q (.inl (some (.int (Int32.ofNat 1)))) h)))))) ∧ (x3 = (Int32.ofNat 2) → (Q (.inl (some (.int (Int32.ofNat 1)))) h)))) ∧ (x3 = (Int32.ofNat 1) → (∃ a6, r_1 = some a6 ∧ (gm_sub (hh_tg h a6) 25 = true ∧ (hh_tg h a0 = 1 ∧ (gm_G 8 0 [some (.ref a0), some (.int x2), some (.int (hh_i h a6 4))] [] h (pI (fun v10 h9 => (v10 = 0 ∨ v10 = 1) ∧ Q (.inl (some (.int v10))) h9) (fun e11 h12 => hh_tg h12 e11 = 21 ∧ Q (.inr e11) h12))))))))) ∧ (x3 = Int32.ofNat 0 → (∃ a13, r_1 = some a13 ∧ (gm_sub (hh_tg h a13) 25 = true ∧ ((¬ x2 = (hh_i h a13 3) → (Q (.inl (some (.int (Int32.ofNat 0)))) h)) ∧ (x2 = (hh_i h a13 3) → (Q (.inl (some (.int (Int32.ofNat 1)))) h))))))) : gm_G 229 0 [some (.ref a0), some (va_rf r_1), some (.int x2), some (.int x3)] [] h Q := by
  refine g_iload rfl rfl rfl (pc' := 1) ?_
  refine g_if_ne rfl (pc' := 4) (pt := 18) rfl rfl ⟨fun hc => ?_, fun hc => ?_⟩
  · replace H := H.1 hc
    refine g_iload rfl rfl rfl (pc' := 19) ?_
    refine g_iconst rfl rfl rfl (pc' := 20) ?_
    refine g_ic_ne rfl (pc' := 23) (pt := 33) rfl rfl ⟨fun hc => ?_, fun hc => ?_⟩
    · replace H := H.1 hc
      refine g_iload rfl rfl rfl (pc' := 34) ?_
      refine g_iconst rfl rfl rfl (pc' := 35) ?_
      refine g_ic_ne rfl (pc' := 38) (pt := 40) rfl rfl ⟨fun hc => ?_, fun hc => ?_⟩
      · replace H := H.1 hc
        refine g_iload rfl rfl rfl (pc' := 41) ?_
        refine g_iconst rfl rfl rfl (pc' := 43) ?_
        refine g_ic_ge rfl (pc' := 46) (pt := 62) rfl rfl ⟨fun hc => ?_, fun hc => ?_⟩
        · replace H := H.1 hc
          refine g_aload (r := some _) rfl rfl rfl (pc' := 63) ?_
          refine g_iload rfl rfl rfl (pc' := 64) ?_
          refine g_iload rfl rfl rfl (pc' := 65) ?_
          refine g_iconst rfl rfl rfl (pc' := 67) ?_
          refine g_isub rfl rfl (pc' := 68) ?_
          obtain ⟨ht1, H⟩ := H
          refine g_call rfl (y := 8) (n := 3) (pc' := 71) (g_vt ht1 rfl rfl) rfl rfl ⟨(Nat.le_of_ble_eq_true rfl), (Nat.le_of_ble_eq_true rfl), (Nat.le_of_ble_eq_true rfl)⟩ rfl (gm_G.mono H (pI_elim (fun v3 h2 H' => ?_) (fun e4 h5 H => ?_)))
          · show gm_G _ 71 _ _ _ _
            replace H := H'
            clear H'
            exact g_ireturn rfl (Or.inr H.1) H.2
          · exact H
        · replace H := H.2 hc
          refine g_iload rfl rfl rfl (pc' := 47) ?_
          refine g_iload rfl rfl rfl (pc' := 48) ?_
          refine g_iconst rfl rfl rfl (pc' := 50) ?_
          refine g_isub rfl rfl (pc' := 51) ?_
          refine g_ic_ne rfl (pc' := 54) (pt := 58) rfl rfl ⟨fun hc => ?_, fun hc => ?_⟩
          · replace H := H.1 hc
            refine g_iconst rfl rfl rfl (pc' := 59) ?_
            refine g_goto rfl (pc' := 71) rfl ?_
            exact g_ireturn rfl (Or.inr (by decide)) H
          · replace H := H.2 hc
            refine g_iconst rfl rfl rfl (pc' := 55) ?_
            refine g_goto rfl (pc' := 71) rfl ?_
            exact g_ireturn rfl (Or.inr (by decide)) H
      · replace H := H.2 hc
        refine g_iconst rfl rfl rfl (pc' := 39) ?_
        exact g_ireturn rfl (Or.inr (by decide)) H
    · replace H := H.2 hc
      refine g_aload (r := some _) rfl rfl rfl (pc' := 24) ?_
      refine g_iload rfl rfl rfl (pc' := 25) ?_
      refine g_aload (r := _) rfl rfl rfl (pc' := 26) ?_
      obtain ⟨a6, rfl, H⟩ := H
      obtain ⟨ht7, H⟩ := H
      refine g_getI rfl rfl rfl rfl ht7 (pc' := 29) rfl ?_
      obtain ⟨ht8, H⟩ := H
      refine g_call rfl (y := 8) (n := 3) (pc' := 32) (g_vt ht8 rfl rfl) rfl rfl ⟨(Nat.le_of_ble_eq_true rfl), (Nat.le_of_ble_eq_true rfl), (Nat.le_of_ble_eq_true rfl)⟩ rfl (gm_G.mono H (pI_elim (fun v10 h9 H' => ?_) (fun e11 h12 H => ?_)))
      · show gm_G _ 32 _ _ _ _
        replace H := H'
        clear H'
        exact g_ireturn rfl (Or.inr H.1) H.2
      · exact H
  · replace H := H.2 hc
    refine g_iload rfl rfl rfl (pc' := 5) ?_
    refine g_aload (r := _) rfl rfl rfl (pc' := 6) ?_
    obtain ⟨a13, rfl, H⟩ := H
    obtain ⟨ht14, H⟩ := H
    refine g_getI rfl rfl rfl rfl ht14 (pc' := 9) rfl ?_
    refine g_ic_ne rfl (pc' := 12) (pt := 16) rfl rfl ⟨fun hc => ?_, fun hc => ?_⟩
    · replace H := H.1 hc
      refine g_iconst rfl rfl rfl (pc' := 17) ?_
      exact g_ireturn rfl (Or.inr (by decide)) H
    · replace H := H.2 hc
      refine g_iconst rfl rfl rfl (pc' := 13) ?_
      refine g_goto rfl (pc' := 17) rfl ?_
      exact g_ireturn rfl (Or.inr (by decide)) H
set_option maxRecDepth 20000 in
theorem w_230_0  {r_0 : Option Nat} {h : hh_T} {Q : Option Value ⊕ Nat → hh_T → Prop} (H : ∃ a1, r_0 = some a1 ∧ (gm_sub (hh_tg h a1) 25 = true ∧ ((¬ (hh_i h a1 1) = (Int32.ofNat 2) → ((hh_tg h a1 = 27 ∧ (gm_G 194 0 [some (.ref a1)] [] h (pR (fun r4 h3 => (r4 = none → (gm_G 230 50 [none, none, some (.int (Int32.ofNat 0))] [] h3 Q)) ∧ (∀ a5, r4 = some a5 → (gm_G 230 29 [none, some (.ref a5), some (.int (Int32.ofNat 0)), some (.int (Int32.ofNat 0))] [] h3 Q))) (fun e6 h7 => hh_tg h7 e6 = 21 ∧ Q (.inr e6) h7)))) ∨ (hh_tg h a1 = 28 ∧ (gm_G 191 0 [some (.ref a1)] [] h (pR (fun r9 h8 => (r9 = none → (gm_G 230 50 [none, none, some (.int (Int32.ofNat 0))] [] h8 Q)) ∧ (∀ a10, r9 = some a10 → (gm_G 230 29 [none, some (.ref a10), some (.int (Int32.ofNat 0)), some (.int (Int32.ofNat 0))] [] h8 Q))) (fun e11 h12 => hh_tg h12 e11 = 21 ∧ Q (.inr e11) h12)))) ∨ (hh_tg h a1 = 29 ∧ (gm_G 191 0 [some (.ref a1)] [] h (pR (fun r14 h13 => (r14 = none → (gm_G 230 50 [none, none, some (.int (Int32.ofNat 0))] [] h13 Q)) ∧ (∀ a15, r14 = some a15 → (gm_G 230 29 [none, some (.ref a15), some (.int (Int32.ofNat 0)), some (.int (Int32.ofNat 0))] [] h13 Q))) (fun e16 h17 => hh_tg h17 e16 = 21 ∧ Q (.inr e16) h17)))))) ∧ ((hh_i h a1 1) = (Int32.ofNat 2) → (gm_sub (hh_tg h a1) 27 = true ∧ (Q (.inl (some (.int (hh_i h a1 14)))) h)))))) : gm_G 230 0 [some (va_rf r_0)] [] h Q := by
  refine g_aload (r := _) rfl rfl rfl (pc' := 1) ?_
  obtain ⟨a1, rfl, H⟩ := H
  obtain ⟨ht2, H⟩ := H
  refine g_getI rfl rfl rfl rfl ht2 (pc' := 4) rfl ?_
  refine g_iconst rfl rfl rfl (pc' := 5) ?_
  refine g_ic_ne rfl (pc' := 8) (pt := 16) rfl rfl ⟨fun hc => ?_, fun hc => ?_⟩
  · replace H := H.1 hc
    refine g_aload (r := some _) rfl rfl rfl (pc' := 17) ?_
    rcases H with ⟨ht, H⟩ | ⟨ht, H⟩ | ⟨ht, H⟩
    · refine g_call rfl (y := 194) (n := 1) (pc' := 20) (g_vt ht rfl rfl) rfl rfl ⟨(Nat.le_of_ble_eq_true rfl), (Nat.le_of_ble_eq_true rfl), (Nat.le_of_ble_eq_true rfl)⟩ rfl (gm_G.mono H (pR_elim (fun r4 h3 H' => ?_) (fun e6 h7 H => ?_)))
      · show gm_G _ 20 _ _ _ _
        replace H := H'
        clear H'
        refine g_astore (r := _) rfl rfl rfl (pc' := 21) ?_
        refine g_iconst rfl rfl rfl (pc' := 22) ?_
        refine g_istore rfl gm_sto_rf1 rfl (pc' := 23) ?_
        refine g_aload (r := _) rfl rfl rfl (pc' := 24) ?_
        refine g_ifnull rfl (pc' := 27) (pt := 50) rfl rfl ⟨fun hc => ?_, fun a5 hc => ?_⟩
        · replace H := H.1 hc
          subst hc
          exact g_weak (show gm_Lle [none, none, some _] _ from ⟨rfl, trivial⟩) H
        · replace H := H.2 a5 hc
          subst hc
          refine g_iconst rfl rfl rfl (pc' := 28) ?_
          refine g_istore rfl rfl rfl (pc' := 29) ?_
          exact g_weak (show gm_Lle [none, some _, some _, some _] _ from ⟨rfl, ⟨rfl, ⟨rfl, trivial⟩⟩⟩) H
      · exact H
    · refine g_call rfl (y := 191) (n := 1) (pc' := 20) (g_vt ht rfl rfl) rfl rfl ⟨(Nat.le_of_ble_eq_true rfl), (Nat.le_of_ble_eq_true rfl), (Nat.le_of_ble_eq_true rfl)⟩ rfl (gm_G.mono H (pR_elim (fun r9 h8 H' => ?_) (fun e11 h12 H => ?_)))
      · show gm_G _ 20 _ _ _ _
        replace H := H'
        clear H'
        refine g_astore (r := _) rfl rfl rfl (pc' := 21) ?_
        refine g_iconst rfl rfl rfl (pc' := 22) ?_
        refine g_istore rfl gm_sto_rf1 rfl (pc' := 23) ?_
        refine g_aload (r := _) rfl rfl rfl (pc' := 24) ?_
        refine g_ifnull rfl (pc' := 27) (pt := 50) rfl rfl ⟨fun hc => ?_, fun a10 hc => ?_⟩
        · replace H := H.1 hc
          subst hc
          exact g_weak (show gm_Lle [none, none, some _] _ from ⟨rfl, trivial⟩) H
        · replace H := H.2 a10 hc
          subst hc
          refine g_iconst rfl rfl rfl (pc' := 28) ?_
          refine g_istore rfl rfl rfl (pc' := 29) ?_
          exact g_weak (show gm_Lle [none, some _, some _, some _] _ from ⟨rfl, ⟨rfl, ⟨rfl, trivial⟩⟩⟩) H
      · exact H
    · refine g_call rfl (y := 191) (n := 1) (pc' := 20) (g_vt ht rfl rfl) rfl rfl ⟨(Nat.le_of_ble_eq_true rfl), (Nat.le_of_ble_eq_true rfl), (Nat.le_of_ble_eq_true rfl)⟩ rfl (gm_G.mono H (pR_elim (fun r14 h13 H' => ?_) (fun e16 h17 H => ?_)))
      · show gm_G _ 20 _ _ _ _
        replace H := H'
        clear H'
        refine g_astore (r := _) rfl rfl rfl (pc' := 21) ?_
        refine g_iconst rfl rfl rfl (pc' := 22) ?_
        refine g_istore rfl gm_sto_rf1 rfl (pc' := 23) ?_
        refine g_aload (r := _) rfl rfl rfl (pc' := 24) ?_
        refine g_ifnull rfl (pc' := 27) (pt := 50) rfl rfl ⟨fun hc => ?_, fun a15 hc => ?_⟩
        · replace H := H.1 hc
          subst hc
          exact g_weak (show gm_Lle [none, none, some _] _ from ⟨rfl, trivial⟩) H
        · replace H := H.2 a15 hc
          subst hc
          refine g_iconst rfl rfl rfl (pc' := 28) ?_
          refine g_istore rfl rfl rfl (pc' := 29) ?_
          exact g_weak (show gm_Lle [none, some _, some _, some _] _ from ⟨rfl, ⟨rfl, ⟨rfl, trivial⟩⟩⟩) H
      · exact H
  · replace H := H.2 hc
    refine g_aload (r := some _) rfl rfl rfl (pc' := 9) ?_
    obtain ⟨ht18, H⟩ := H
    refine g_cast (r := some _) rfl (fun b hb => by cases hb; exact ht18) (pc' := 12) rfl ?_
    refine g_getI rfl rfl rfl rfl ht18 (pc' := 15) rfl ?_
    exact g_ireturn rfl (Or.inl rfl) H
set_option maxRecDepth 20000 in
theorem w_230_29  {r_1 : Option Nat} {x2 : Int32} {x3 : Int32} {h : hh_T} {Q : Option Value ⊕ Nat → hh_T → Prop} (H : (¬ x3 < (Int32.ofNat 8) → (gm_G 230 50 [none, none, some (.int x2)] [] h Q)) ∧ (x3 < (Int32.ofNat 8) → (∃ a1, r_1 = some a1 ∧ ((hh_tg h a1 = 104 ∨ 200 ≤ hh_tg h a1) ∧ (∃ n2, gm_ix x3 n2 (hh_ln h a1) ∧ (∀ r4, r4 = hh_r h a1 n2 → ((r4 = none → (gm_G 230 44 [none, some (.ref a1), some (.int x2), some (.int x3)] [] h Q)) ∧ (∀ a5, r4 = some a5 → (gm_G 230 44 [none, some (.ref a1), some (.int (x2 + (Int32.ofNat 1))), some (.int x3)] [] h Q))))))))) : gm_G 230 29 [none, some (va_rf r_1), some (.int x2), some (.int x3)] [] h Q := by
  refine g_iload rfl rfl rfl (pc' := 30) ?_
  refine g_iconst rfl rfl rfl (pc' := 32) ?_
  refine g_ic_ge rfl (pc' := 35) (pt := 50) rfl rfl ⟨fun hc => ?_, fun hc => ?_⟩
  · replace H := H.1 hc
    exact g_weak (show gm_Lle [none, none, some _] _ from ⟨rfl, trivial⟩) H
  · replace H := H.2 hc
    refine g_aload (r := _) rfl rfl rfl (pc' := 36) ?_
    refine g_iload rfl rfl rfl (pc' := 37) ?_
    obtain ⟨a1, rfl, H⟩ := H
    obtain ⟨ht3, H⟩ := H
    obtain ⟨n2, hn2, H⟩ := H
    refine g_aaloadv rfl ht3 hn2 (pc' := 38) rfl (fun r4 hr4 => ?_)
    replace H := H r4 hr4
    refine g_ifnull rfl (pc' := 41) (pt := 44) rfl rfl ⟨fun hc => ?_, fun a5 hc => ?_⟩
    · replace H := H.1 hc
      subst hc
      exact g_weak (show gm_Lle [none, some _, some _, some _] _ from ⟨rfl, ⟨rfl, ⟨rfl, trivial⟩⟩⟩) H
    · replace H := H.2 a5 hc
      subst hc
      refine g_iinc (c := (Int32.ofNat 1)) rfl rfl rfl rfl rfl (pc' := 44) ?_
      exact g_weak (show gm_Lle [none, some _, some _, some _] _ from ⟨rfl, ⟨rfl, ⟨rfl, trivial⟩⟩⟩) H
set_option maxRecDepth 20000 in
theorem w_230_44  {r_1 : Option Nat} {x2 : Int32} {x3 : Int32} {h : hh_T} {Q : Option Value ⊕ Nat → hh_T → Prop} (H : gm_G 230 29 [none, some (va_rf r_1), some (.int x2), some (.int (x3 + (Int32.ofNat 1)))] [] h Q) : gm_G 230 44 [none, some (va_rf r_1), some (.int x2), some (.int x3)] [] h Q := by
  refine g_iinc (c := (Int32.ofNat 1)) rfl rfl rfl rfl rfl (pc' := 47) ?_
  refine g_goto rfl (pc' := 29) rfl ?_
  exact g_weak (show gm_Lle [none, some _, some _, some _] _ from ⟨rfl, ⟨rfl, ⟨rfl, trivial⟩⟩⟩) H
set_option maxRecDepth 20000 in
theorem w_230_50  {x2 : Int32} {h : hh_T} {Q : Option Value ⊕ Nat → hh_T → Prop} (H : Q (.inl (some (.int x2))) h) : gm_G 230 50 [none, none, some (.int x2)] [] h Q := by
  refine g_iload rfl rfl rfl (pc' := 51) ?_
  exact g_ireturn rfl (Or.inl rfl) H
set_option maxRecDepth 20000 in
theorem w_231_0  {r_0 : Option Nat} {r_1 : Option Nat} {h : hh_T} {Q : Option Value ⊕ Nat → hh_T → Prop} (H : gm_G 231 2 [some (va_rf r_0), some (va_rf r_1), some (.int (Int32.ofNat 0))] [] h Q) : gm_G 231 0 [some (va_rf r_0), some (va_rf r_1)] [] h Q := by
  refine g_iconst rfl rfl rfl (pc' := 1) ?_
  refine g_istore rfl gm_sto_rf1 rfl (pc' := 2) ?_
  exact g_weak (show gm_Lle [some _, some _, some _] _ from ⟨rfl, ⟨rfl, ⟨rfl, trivial⟩⟩⟩) H
set_option maxRecDepth 20000 in
theorem w_231_2  {r_0 : Option Nat} {r_1 : Option Nat} {x2 : Int32} {h : hh_T} {Q : Option Value ⊕ Nat → hh_T → Prop} (H : (¬ x2 < (Int32.ofNat 16) → (Q (.inl (some (.int (Int32.ofNat 0)))) h)) ∧ (x2 < (Int32.ofNat 16) → (∃ a1, r_0 = some a1 ∧ (gm_sub (hh_tg h a1) 24 = true ∧ (∀ r3, r3 = hh_r h a1 2 → (∃ a4, r3 = some a4 ∧ ((hh_tg h a4 = 104 ∨ 200 ≤ hh_tg h a4) ∧ (∃ n5, gm_ix x2 n5 (hh_ln h a4) ∧ (∀ r7, r7 = hh_r h a4 n5 → ((∀ a8, r7 = some a8 → (∀ r9, r9 = hh_r h a1 2 → (∃ a10, r9 = some a10 ∧ ((hh_tg h a10 = 104 ∨ 200 ≤ hh_tg h a10) ∧ (∃ n11, gm_ix x2 n11 (hh_ln h a10) ∧ (∀ r13, r13 = hh_r h a10 n11 → (∃ a14, r13 = some a14 ∧ ((hh_tg h a14 = 27 ∧ (gm_G 194 0 [some (.ref a14)] [] h (pR (fun r16 h15 => gm_G 231 30 [some (.ref a1), some (va_rf r_1), some (.int x2)] [va_rf r16] h15 Q) (fun e17 h18 => hh_tg h18 e17 = 21 ∧ Q (.inr e17) h18)))) ∨ (hh_tg h a14 = 28 ∧ (gm_G 191 0 [some (.ref a14)] [] h (pR (fun r20 h19 => gm_G 231 30 [some (.ref a1), some (va_rf r_1), some (.int x2)] [va_rf r20] h19 Q) (fun e21 h22 => hh_tg h22 e21 = 21 ∧ Q (.inr e21) h22)))) ∨ (hh_tg h a14 = 29 ∧ (gm_G 191 0 [some (.ref a14)] [] h (pR (fun r24 h23 => gm_G 231 30 [some (.ref a1), some (va_rf r_1), some (.int x2)] [va_rf r24] h23 Q) (fun e25 h26 => hh_tg h26 e25 = 21 ∧ Q (.inr e25) h26)))))))))))) ∧ (r7 = none → (gm_G 231 30 [some (.ref a1), some (va_rf r_1), some (.int x2)] [va_rf none] h Q)))))))))))) : gm_G 231 2 [some (va_rf r_0), some (va_rf r_1), some (.int x2)] [] h Q := by
  refine g_iload rfl rfl rfl (pc' := 3) ?_
  refine g_iconst rfl rfl rfl (pc' := 5) ?_
  refine g_ic_ge rfl (pc' := 8) (pt := 53) rfl rfl ⟨fun hc => ?_, fun hc => ?_⟩
  · replace H := H.1 hc
    refine g_iconst rfl rfl rfl (pc' := 54) ?_
    exact g_ireturn rfl (Or.inr (by decide)) H
  · replace H := H.2 hc
    refine g_aload (r := _) rfl rfl rfl (pc' := 9) ?_
    obtain ⟨a1, rfl, H⟩ := H
    obtain ⟨ht2, H⟩ := H
    refine g_getRv rfl rfl rfl rfl ht2 (pc' := 12) rfl (fun r3 hr3 => ?_)
    replace H := H r3 hr3
    refine g_iload rfl rfl rfl (pc' := 13) ?_
    obtain ⟨a4, rfl, H⟩ := H
    obtain ⟨ht6, H⟩ := H
    obtain ⟨n5, hn5, H⟩ := H
    refine g_aaloadv rfl ht6 hn5 (pc' := 14) rfl (fun r7 hr7 => ?_)
    replace H := H r7 hr7
    refine g_ifnonnull rfl (pc' := 17) (pt := 21) rfl rfl ⟨fun a8 hc => ?_, fun hc => ?_⟩
    · replace H := H.1 a8 hc
      subst hc
      refine g_aload (r := some _) rfl rfl rfl (pc' := 22) ?_
      refine g_getRv rfl rfl rfl rfl ht2 (pc' := 25) rfl (fun r9 hr9 => ?_)
      replace H := H r9 hr9
      refine g_iload rfl rfl rfl (pc' := 26) ?_
      obtain ⟨a10, rfl, H⟩ := H
      obtain ⟨ht12, H⟩ := H
      obtain ⟨n11, hn11, H⟩ := H
      refine g_aaloadv rfl ht12 hn11 (pc' := 27) rfl (fun r13 hr13 => ?_)
      replace H := H r13 hr13
      obtain ⟨a14, rfl, H⟩ := H
      rcases H with ⟨ht, H⟩ | ⟨ht, H⟩ | ⟨ht, H⟩
      · refine g_call rfl (y := 194) (n := 1) (pc' := 30) (g_vt ht rfl rfl) rfl rfl ⟨(Nat.le_of_ble_eq_true rfl), (Nat.le_of_ble_eq_true rfl), (Nat.le_of_ble_eq_true rfl)⟩ rfl (gm_G.mono H (pR_elim (fun r16 h15 H' => ?_) (fun e17 h18 H => ?_)))
        · show gm_G _ 30 _ _ _ _
          replace H := H'
          clear H'
          exact g_weak (show gm_Lle [some _, some _, some _] _ from ⟨rfl, ⟨rfl, ⟨rfl, trivial⟩⟩⟩) H
        · exact H
      · refine g_call rfl (y := 191) (n := 1) (pc' := 30) (g_vt ht rfl rfl) rfl rfl ⟨(Nat.le_of_ble_eq_true rfl), (Nat.le_of_ble_eq_true rfl), (Nat.le_of_ble_eq_true rfl)⟩ rfl (gm_G.mono H (pR_elim (fun r20 h19 H' => ?_) (fun e21 h22 H => ?_)))
        · show gm_G _ 30 _ _ _ _
          replace H := H'
          clear H'
          exact g_weak (show gm_Lle [some _, some _, some _] _ from ⟨rfl, ⟨rfl, ⟨rfl, trivial⟩⟩⟩) H
        · exact H
      · refine g_call rfl (y := 191) (n := 1) (pc' := 30) (g_vt ht rfl rfl) rfl rfl ⟨(Nat.le_of_ble_eq_true rfl), (Nat.le_of_ble_eq_true rfl), (Nat.le_of_ble_eq_true rfl)⟩ rfl (gm_G.mono H (pR_elim (fun r24 h23 H' => ?_) (fun e25 h26 H => ?_)))
        · show gm_G _ 30 _ _ _ _
          replace H := H'
          clear H'
          exact g_weak (show gm_Lle [some _, some _, some _] _ from ⟨rfl, ⟨rfl, ⟨rfl, trivial⟩⟩⟩) H
        · exact H
    · replace H := H.2 hc
      subst hc
      refine g_null rfl rfl (pc' := 18) ?_
      refine g_goto rfl (pc' := 30) rfl ?_
      exact g_weak (show gm_Lle [some _, some _, some _] _ from ⟨rfl, ⟨rfl, ⟨rfl, trivial⟩⟩⟩) H
set_option maxRecDepth 20000 in
theorem w_231_30  {r_0 : Option Nat} {r_1 : Option Nat} {x2 : Int32} {q0 : Option Nat} {h : hh_T} {Q : Option Value ⊕ Nat → hh_T → Prop} (H : (q0 = none → (gm_G 231 47 [some (va_rf r_0), some (va_rf r_1), some (.int x2)] [] h Q)) ∧ (∀ a1, q0 = some a1 → (gm_G 6 0 [some (va_rf r_1), some (.ref a1), some (.int (Int32.ofNat 8))] [] h (pI (fun v3 h2 => (v3 = Int32.ofNat 0 → (gm_G 231 47 [some (va_rf r_0), some (va_rf r_1), some (.int x2)] [] h2 Q)) ∧ (¬ v3 = Int32.ofNat 0 → (Q (.inl (some (.int (Int32.ofNat 1)))) h2))) (fun e4 h5 => hh_tg h5 e4 = 21 ∧ Q (.inr e4) h5))))) : gm_G 231 30 [some (va_rf r_0), some (va_rf r_1), some (.int x2)] [va_rf q0] h Q := by
  refine g_astore (r := _) rfl rfl rfl (pc' := 31) ?_
  refine g_aload (r := _) rfl rfl rfl (pc' := 32) ?_
  refine g_ifnull rfl (pc' := 35) (pt := 47) rfl rfl ⟨fun hc => ?_, fun a1 hc => ?_⟩
  · replace H := H.1 hc
    subst hc
    exact g_weak (show gm_Lle [some _, some _, some _] _ from ⟨rfl, ⟨rfl, ⟨rfl, trivial⟩⟩⟩) H
  · replace H := H.2 a1 hc
    subst hc
    refine g_aload (r := _) rfl rfl rfl (pc' := 36) ?_
    refine g_aload (r := some _) rfl rfl rfl (pc' := 37) ?_
    refine g_iconst rfl rfl rfl (pc' := 39) ?_
    refine g_call rfl (y := 6) (n := 3) (pc' := 42) (fun _ => rfl) (by cases r_1 <;> rfl) rfl ⟨(Nat.le_of_ble_eq_true rfl), (Nat.le_of_ble_eq_true rfl), (Nat.le_of_ble_eq_true rfl)⟩ rfl (gm_G.mono H (pI_elim (fun v3 h2 H' => ?_) (fun e4 h5 H => ?_)))
    · show gm_G _ 42 _ _ _ _
      replace H := H'
      clear H'
      refine g_if_eq rfl (pc' := 45) (pt := 47) rfl rfl ⟨fun hc => ?_, fun hc => ?_⟩
      · replace H := H.1 hc
        exact g_weak (show gm_Lle [some _, some _, some _] _ from ⟨rfl, ⟨rfl, ⟨rfl, trivial⟩⟩⟩) H
      · replace H := H.2 hc
        refine g_iconst rfl rfl rfl (pc' := 46) ?_
        exact g_ireturn rfl (Or.inr (by decide)) H
    · exact H
set_option maxRecDepth 20000 in
theorem w_231_47  {r_0 : Option Nat} {r_1 : Option Nat} {x2 : Int32} {h : hh_T} {Q : Option Value ⊕ Nat → hh_T → Prop} (H : gm_G 231 2 [some (va_rf r_0), some (va_rf r_1), some (.int (x2 + (Int32.ofNat 1)))] [] h Q) : gm_G 231 47 [some (va_rf r_0), some (va_rf r_1), some (.int x2)] [] h Q := by
  refine g_iinc (c := (Int32.ofNat 1)) rfl rfl rfl gm_sto_rf1 rfl (pc' := 50) ?_
  refine g_goto rfl (pc' := 2) rfl ?_
  exact g_weak (show gm_Lle [some _, some _, some _] _ from ⟨rfl, ⟨rfl, ⟨rfl, trivial⟩⟩⟩) H
set_option maxRecDepth 20000 in
theorem w_232_0 {a0 : Nat} {x1 : Int32} {x2 : Int32} {x3 : Int32} {h : hh_T} {Q : Option Value ⊕ Nat → hh_T → Prop} (H : gm_G 5 0 [some (.int x1), some (.int (Int32.ofNat 0)), some (.int (Int32.ofNat 7))] [] h (pI (fun v2 h1 => (v2 = Int32.ofNat 0 → (Q (.inl (some (.int (Int32.ofInt (-1))))) h1)) ∧ (¬ v2 = Int32.ofNat 0 → (gm_G 5 0 [some (.int x2), some (.int (Int32.ofNat 0)), some (.int (Int32.ofNat 7))] [] h1 (pI (fun v4 h3 => (¬ v4 = Int32.ofNat 0 → (gm_sub (hh_tg h3 a0) 0 = true ∧ (∀ r6, r6 = hh_r h3 a0 43 → (∃ a7, r6 = some a7 ∧ ((hh_tg h3 a7 = 101 ∨ hh_tg h3 a7 = 102) ∧ (∃ n8, gm_ix (((Int32.ofNat 8) * x1) + x2) n8 (hh_ln h3 a7) ∧ (∀ r10, r10 = hh_r h3 a0 43 → (∃ a11, r10 = some a11 ∧ (hh_tg h3 a11 = 102 ∧ (∃ n12, gm_ix (((Int32.ofNat 8) * x1) + x2) n12 (hh_ln h3 a11) ∧ ((x3 = 0 ∨ x3 = 1) ∧ (∀ h13, h13 = hh_wi h3 a11 n12 x3 → ((¬ (hh_i h3 a7 n8) = x3 → (Q (.inl (some (.int (Int32.ofNat 1)))) h13)) ∧ ((hh_i h3 a7 n8) = x3 → (Q (.inl (some (.int (Int32.ofNat 0)))) h13))))))))))))))) ∧ (v4 = Int32.ofNat 0 → (Q (.inl (some (.int (Int32.ofInt (-1))))) h3))) (fun e15 h16 => hh_tg h16 e15 = 21 ∧ Q (.inr e15) h16))))) (fun e17 h18 => hh_tg h18 e17 = 21 ∧ Q (.inr e17) h18))) : gm_G 232 0 [some (.ref a0), some (.int x1), some (.int x2), some (.int x3)] [] h Q := by
  refine g_iload rfl rfl rfl (pc' := 1) ?_
  refine g_iconst rfl rfl rfl (pc' := 2) ?_
  refine g_iconst rfl rfl rfl (pc' := 4) ?_
  refine g_call rfl (y := 5) (n := 3) (pc' := 7) (fun _ => rfl) rfl rfl ⟨(Nat.le_of_ble_eq_true rfl), (Nat.le_of_ble_eq_true rfl), (Nat.le_of_ble_eq_true rfl)⟩ rfl (gm_G.mono H (pI_elim (fun v2 h1 H' => ?_) (fun e17 h18 H => ?_)))
  · show gm_G _ 7 _ _ _ _
    replace H := H'
    clear H'
    refine g_if_eq rfl (pc' := 10) (pt := 20) rfl rfl ⟨fun hc => ?_, fun hc => ?_⟩
    · replace H := H.1 hc
      refine g_iconst rfl rfl rfl (pc' := 21) ?_
      exact g_ireturn rfl (Or.inl rfl) H
    · replace H := H.2 hc
      refine g_iload rfl rfl rfl (pc' := 11) ?_
      refine g_iconst rfl rfl rfl (pc' := 12) ?_
      refine g_iconst rfl rfl rfl (pc' := 14) ?_
      refine g_call rfl (y := 5) (n := 3) (pc' := 17) (fun _ => rfl) rfl rfl ⟨(Nat.le_of_ble_eq_true rfl), (Nat.le_of_ble_eq_true rfl), (Nat.le_of_ble_eq_true rfl)⟩ rfl (gm_G.mono H (pI_elim (fun v4 h3 H' => ?_) (fun e15 h16 H => ?_)))
      · show gm_G _ 17 _ _ _ _
        replace H := H'
        clear H'
        refine g_if_ne rfl (pc' := 20) (pt := 22) rfl rfl ⟨fun hc => ?_, fun hc => ?_⟩
        · replace H := H.1 hc
          refine g_aload (r := some _) rfl rfl rfl (pc' := 23) ?_
          obtain ⟨ht5, H⟩ := H
          refine g_getRv rfl rfl rfl rfl ht5 (pc' := 26) rfl (fun r6 hr6 => ?_)
          replace H := H r6 hr6
          refine g_iconst rfl rfl rfl (pc' := 28) ?_
          refine g_iload rfl rfl rfl (pc' := 29) ?_
          refine g_imul rfl rfl (pc' := 30) ?_
          refine g_iload rfl rfl rfl (pc' := 31) ?_
          refine g_iadd rfl rfl (pc' := 32) ?_
          obtain ⟨a7, rfl, H⟩ := H
          obtain ⟨ht9, H⟩ := H
          obtain ⟨n8, hn8, H⟩ := H
          refine g_baload rfl ht9 hn8 (pc' := 33) rfl ?_
          refine g_istore rfl rfl rfl (pc' := 35) ?_
          refine g_aload (r := some _) rfl rfl rfl (pc' := 36) ?_
          refine g_getRv rfl rfl rfl rfl ht5 (pc' := 39) rfl (fun r10 hr10 => ?_)
          replace H := H r10 hr10
          refine g_iconst rfl rfl rfl (pc' := 41) ?_
          refine g_iload rfl rfl rfl (pc' := 42) ?_
          refine g_imul rfl rfl (pc' := 43) ?_
          refine g_iload rfl rfl rfl (pc' := 44) ?_
          refine g_iadd rfl rfl (pc' := 45) ?_
          refine g_iload rfl rfl rfl (pc' := 46) ?_
          obtain ⟨a11, rfl, H⟩ := H
          obtain ⟨ht14, H⟩ := H
          obtain ⟨n12, hn12, H⟩ := H
          obtain ⟨Hz, H⟩ := H
          refine g_zastore rfl ht14 hn12 Hz (pc' := 47) rfl ?_
          replace H := H _ rfl
          refine g_iload rfl rfl rfl (pc' := 49) ?_
          refine g_iload rfl rfl rfl (pc' := 50) ?_
          refine g_ic_ne rfl (pc' := 53) (pt := 57) rfl rfl ⟨fun hc => ?_, fun hc => ?_⟩
          · replace H := H.1 hc
            refine g_iconst rfl rfl rfl (pc' := 58) ?_
            exact g_ireturn rfl (Or.inl rfl) H
          · replace H := H.2 hc
            refine g_iconst rfl rfl rfl (pc' := 54) ?_
            refine g_goto rfl (pc' := 58) rfl ?_
            exact g_ireturn rfl (Or.inl rfl) H
        · replace H := H.2 hc
          refine g_iconst rfl rfl rfl (pc' := 21) ?_
          exact g_ireturn rfl (Or.inl rfl) H
      · exact H
  · exact H
set_option maxRecDepth 20000 in
theorem w_233_0  {r_0 : Option Nat} {x1 : Int32} {x2 : Int32} {h : hh_T} {Q : Option Value ⊕ Nat → hh_T → Prop} (H : ((x2 - x1) < (Int32.ofNat 1) → (gm_G 233 15 [] [] h Q)) ∧ (¬ (x2 - x1) < (Int32.ofNat 1) → ((¬ (Int32.ofNat 8) < (x2 - x1) → (∃ a1, r_0 = some a1 ∧ (gm_sub (hh_tg h a1) 12 = true ∧ (∀ r3, r3 = hh_r h a1 0 → (∃ a4, r3 = some a4 ∧ ((hh_tg h a4 = 101 ∨ hh_tg h a4 = 102) ∧ (∃ n5, gm_ix x1 n5 (hh_ln h a4) ∧ ((¬ (hh_i h a4 n5) = (Int32.ofNat 46) → (gm_G 233 57 [some (.ref a1), some (.int x1), some (.int x2)] [] h Q)) ∧ ((hh_i h a4 n5) = (Int32.ofNat 46) → (((x2 - x1) = (Int32.ofNat 1) → (gm_G 233 55 [] [] h Q)) ∧ (¬ (x2 - x1) = (Int32.ofNat 1) → ((¬ (x2 - x1) = (Int32.ofNat 2) → (gm_G 233 57 [some (.ref a1), some (.int x1), some (.int x2)] [] h Q)) ∧ ((x2 - x1) = (Int32.ofNat 2) → (∀ r7, r7 = hh_r h a1 0 → (∃ a8, r7 = some a8 ∧ ((hh_tg h a8 = 101 ∨ hh_tg h a8 = 102) ∧ (∃ n9, gm_ix (x1 + (Int32.ofNat 1)) n9 (hh_ln h a8) ∧ ((¬ (hh_i h a8 n9) = (Int32.ofNat 46) → (gm_G 233 57 [some (.ref a1), some (.int x1), some (.int x2)] [] h Q)) ∧ ((hh_i h a8 n9) = (Int32.ofNat 46) → (gm_G 233 55 [] [] h Q)))))))))))))))))))) ∧ ((Int32.ofNat 8) < (x2 - x1) → (gm_G 233 15 [] [] h Q))))) : gm_G 233 0 [some (va_rf r_0), some (.int x1), some (.int x2)] [] h Q := by
  refine g_iload rfl rfl rfl (pc' := 1) ?_
  refine g_iload rfl rfl rfl (pc' := 2) ?_
  refine g_isub rfl rfl (pc' := 3) ?_
  refine g_iconst rfl rfl rfl (pc' := 4) ?_
  refine g_ic_lt rfl (pc' := 7) (pt := 15) rfl rfl ⟨fun hc => ?_, fun hc => ?_⟩
  · replace H := H.1 hc
    exact g_weak (show gm_Lle [] _ from trivial) H
  · replace H := H.2 hc
    refine g_iload rfl rfl rfl (pc' := 8) ?_
    refine g_iload rfl rfl rfl (pc' := 9) ?_
    refine g_isub rfl rfl (pc' := 10) ?_
    refine g_iconst rfl rfl rfl (pc' := 12) ?_
    refine g_ic_le rfl (pc' := 15) (pt := 17) rfl rfl ⟨fun hc => ?_, fun hc => ?_⟩
    · replace H := H.1 hc
      refine g_aload (r := _) rfl rfl rfl (pc' := 18) ?_
      obtain ⟨a1, rfl, H⟩ := H
      obtain ⟨ht2, H⟩ := H
      refine g_getRv rfl rfl rfl rfl ht2 (pc' := 21) rfl (fun r3 hr3 => ?_)
      replace H := H r3 hr3
      refine g_iload rfl rfl rfl (pc' := 22) ?_
      obtain ⟨a4, rfl, H⟩ := H
      obtain ⟨ht6, H⟩ := H
      obtain ⟨n5, hn5, H⟩ := H
      refine g_baload rfl ht6 hn5 (pc' := 23) rfl ?_
      refine g_iconst rfl rfl rfl (pc' := 25) ?_
      refine g_ic_ne rfl (pc' := 28) (pt := 57) rfl rfl ⟨fun hc => ?_, fun hc => ?_⟩
      · replace H := H.1 hc
        exact g_weak (show gm_Lle [some _, some _, some _] _ from ⟨rfl, ⟨rfl, ⟨rfl, trivial⟩⟩⟩) H
      · replace H := H.2 hc
        refine g_iload rfl rfl rfl (pc' := 29) ?_
        refine g_iload rfl rfl rfl (pc' := 30) ?_
        refine g_isub rfl rfl (pc' := 31) ?_
        refine g_iconst rfl rfl rfl (pc' := 32) ?_
        refine g_ic_eq rfl (pc' := 35) (pt := 55) rfl rfl ⟨fun hc => ?_, fun hc => ?_⟩
        · replace H := H.1 hc
          exact g_weak (show gm_Lle [] _ from trivial) H
        · replace H := H.2 hc
          refine g_iload rfl rfl rfl (pc' := 36) ?_
          refine g_iload rfl rfl rfl (pc' := 37) ?_
          refine g_isub rfl rfl (pc' := 38) ?_
          refine g_iconst rfl rfl rfl (pc' := 39) ?_
          refine g_ic_ne rfl (pc' := 42) (pt := 57) rfl rfl ⟨fun hc => ?_, fun hc => ?_⟩
          · replace H := H.1 hc
            exact g_weak (show gm_Lle [some _, some _, some _] _ from ⟨rfl, ⟨rfl, ⟨rfl, trivial⟩⟩⟩) H
          · replace H := H.2 hc
            refine g_aload (r := some _) rfl rfl rfl (pc' := 43) ?_
            refine g_getRv rfl rfl rfl rfl ht2 (pc' := 46) rfl (fun r7 hr7 => ?_)
            replace H := H r7 hr7
            refine g_iload rfl rfl rfl (pc' := 47) ?_
            refine g_iconst rfl rfl rfl (pc' := 48) ?_
            refine g_iadd rfl rfl (pc' := 49) ?_
            obtain ⟨a8, rfl, H⟩ := H
            obtain ⟨ht10, H⟩ := H
            obtain ⟨n9, hn9, H⟩ := H
            refine g_baload rfl ht10 hn9 (pc' := 50) rfl ?_
            refine g_iconst rfl rfl rfl (pc' := 52) ?_
            refine g_ic_ne rfl (pc' := 55) (pt := 57) rfl rfl ⟨fun hc => ?_, fun hc => ?_⟩
            · replace H := H.1 hc
              exact g_weak (show gm_Lle [some _, some _, some _] _ from ⟨rfl, ⟨rfl, ⟨rfl, trivial⟩⟩⟩) H
            · replace H := H.2 hc
              exact g_weak (show gm_Lle [] _ from trivial) H
    · replace H := H.2 hc
      exact g_weak (show gm_Lle [] _ from trivial) H
set_option maxRecDepth 20000 in
theorem w_233_15   {h : hh_T} {Q : Option Value ⊕ Nat → hh_T → Prop} (H : Q (.inl (some (.long (Int64.ofNat 0)))) h) : gm_G 233 15 [] [] h Q := by
  refine g_lconst rfl rfl rfl (pc' := 16) ?_
  exact g_lreturn rfl H
set_option maxRecDepth 20000 in
theorem w_233_55   {h : hh_T} {Q : Option Value ⊕ Nat → hh_T → Prop} (H : Q (.inl (some (.long (Int64.ofNat 0)))) h) : gm_G 233 55 [] [] h Q := by
  refine g_lconst rfl rfl rfl (pc' := 56) ?_
  exact g_lreturn rfl H
set_option maxRecDepth 20000 in
theorem w_233_57  {r_0 : Option Nat} {x1 : Int32} {x2 : Int32} {h : hh_T} {Q : Option Value ⊕ Nat → hh_T → Prop} (H : gm_G 233 62 [some (va_rf r_0), some (.int x1), some (.int x2), some (.long (Int64.ofNat 0)), none, some (.int (Int32.ofNat 0))] [] h Q) : gm_G 233 57 [some (va_rf r_0), some (.int x1), some (.int x2)] [] h Q := by
  refine g_lconst rfl rfl rfl (pc' := 58) ?_
  refine g_lstore rfl rfl rfl (pc' := 59) ?_
  refine g_iconst rfl rfl rfl (pc' := 60) ?_
  refine g_istore rfl rfl rfl (pc' := 62) ?_
  exact g_weak (show gm_Lle [some _, some _, some _, some _, none, some _] _ from ⟨rfl, ⟨rfl, ⟨rfl, ⟨rfl, ⟨rfl, trivial⟩⟩⟩⟩⟩) H
set_option maxRecDepth 20000 in
theorem w_233_62  {r_0 : Option Nat} {x1 : Int32} {x2 : Int32} {j3 : Int64} {x5 : Int32} {h : hh_T} {Q : Option Value ⊕ Nat → hh_T → Prop} (H : (¬ x5 < (Int32.ofNat 8) → (Q (.inl (some (.long j3))) h)) ∧ (x5 < (Int32.ofNat 8) → ((¬ (x1 + x5) < x2 → (gm_G 233 89 [some (va_rf r_0), some (.int x1), some (.int x2), some (.long j3), none, some (.int x5)] [.int (Int32.ofNat 0)] h Q)) ∧ ((x1 + x5) < x2 → (∃ a1, r_0 = some a1 ∧ (hh_tg h a1 = 13 ∧ (gm_G 63 0 [some (.ref a1), some (.int (x1 + x5))] [] h (pI (fun v4 h3 => gm_G 233 89 [some (.ref a1), some (.int x1), some (.int x2), some (.long j3), none, some (.int x5)] [.int v4] h3 Q) (fun e5 h6 => hh_tg h6 e5 = 21 ∧ Q (.inr e5) h6))))))))) : gm_G 233 62 [some (va_rf r_0), some (.int x1), some (.int x2), some (.long j3), none, some (.int x5)] [] h Q := by
  refine g_iload rfl rfl rfl (pc' := 64) ?_
  refine g_iconst rfl rfl rfl (pc' := 66) ?_
  refine g_ic_ge rfl (pc' := 69) (pt := 124) rfl rfl ⟨fun hc => ?_, fun hc => ?_⟩
  · replace H := H.1 hc
    refine g_lload rfl rfl rfl (pc' := 125) ?_
    exact g_lreturn rfl H
  · replace H := H.2 hc
    refine g_iload rfl rfl rfl (pc' := 70) ?_
    refine g_iload rfl rfl rfl (pc' := 72) ?_
    refine g_iadd rfl rfl (pc' := 73) ?_
    refine g_iload rfl rfl rfl (pc' := 74) ?_
    refine g_ic_ge rfl (pc' := 77) (pt := 88) rfl rfl ⟨fun hc => ?_, fun hc => ?_⟩
    · replace H := H.1 hc
      refine g_iconst rfl rfl rfl (pc' := 89) ?_
      exact g_weak (show gm_Lle [some _, some _, some _, some _, none, some _] _ from ⟨rfl, ⟨rfl, ⟨rfl, ⟨rfl, ⟨rfl, trivial⟩⟩⟩⟩⟩) H
    · replace H := H.2 hc
      refine g_aload (r := _) rfl rfl rfl (pc' := 78) ?_
      refine g_iload rfl rfl rfl (pc' := 79) ?_
      refine g_iload rfl rfl rfl (pc' := 81) ?_
      refine g_iadd rfl rfl (pc' := 82) ?_
      obtain ⟨a1, rfl, H⟩ := H
      obtain ⟨ht2, H⟩ := H
      refine g_call rfl (y := 63) (n := 2) (pc' := 85) (g_vt ht2 rfl rfl) rfl rfl ⟨(Nat.le_of_ble_eq_true rfl), (Nat.le_of_ble_eq_true rfl), (Nat.le_of_ble_eq_true rfl)⟩ rfl (gm_G.mono H (pI_elim (fun v4 h3 H' => ?_) (fun e5 h6 H => ?_)))
      · show gm_G _ 85 _ _ _ _
        replace H := H'
        clear H'
        refine g_goto rfl (pc' := 89) rfl ?_
        exact g_weak (show gm_Lle [some _, some _, some _, some _, none, some _] _ from ⟨rfl, ⟨rfl, ⟨rfl, ⟨rfl, ⟨rfl, trivial⟩⟩⟩⟩⟩) H
      · exact H
set_option maxRecDepth 20000 in
theorem w_233_89  {r_0 : Option Nat} {x1 : Int32} {x2 : Int32} {j3 : Int64} {x5 : Int32} {y0 : Int32} {h : hh_T} {Q : Option Value ⊕ Nat → hh_T → Prop} (H : (¬ (x1 + x5) < x2 → (gm_G 233 109 [some (va_rf r_0), some (.int x1), some (.int x2), some (.long j3), none, some (.int x5), some (.int y0)] [] h Q)) ∧ ((x1 + x5) < x2 → (gm_G 10 0 [some (.int y0)] [] h (pI (fun v2 h1 => (¬ v2 = Int32.ofNat 0 → (gm_G 233 109 [some (va_rf r_0), some (.int x1), some (.int x2), some (.long j3), none, some (.int x5), some (.int y0)] [] h1 Q)) ∧ (v2 = Int32.ofNat 0 → (Q (.inl (some (.long (Int64.ofNat 0)))) h1))) (fun e3 h4 => hh_tg h4 e3 = 21 ∧ Q (.inr e3) h4))))) : gm_G 233 89 [some (va_rf r_0), some (.int x1), some (.int x2), some (.long j3), none, some (.int x5)] [.int y0] h Q := by
  refine g_istore rfl rfl rfl (pc' := 91) ?_
  refine g_iload rfl rfl rfl (pc' := 92) ?_
  refine g_iload rfl rfl rfl (pc' := 94) ?_
  refine g_iadd rfl rfl (pc' := 95) ?_
  refine g_iload rfl rfl rfl (pc' := 96) ?_
  refine g_ic_ge rfl (pc' := 99) (pt := 109) rfl rfl ⟨fun hc => ?_, fun hc => ?_⟩
  · replace H := H.1 hc
    exact g_weak (show gm_Lle [some _, some _, some _, some _, none, some _, some _] _ from ⟨rfl, ⟨rfl, ⟨rfl, ⟨rfl, ⟨rfl, ⟨rfl, trivial⟩⟩⟩⟩⟩⟩) H
  · replace H := H.2 hc
    refine g_iload rfl rfl rfl (pc' := 101) ?_
    refine g_call rfl (y := 10) (n := 1) (pc' := 104) (fun _ => rfl) rfl rfl ⟨(Nat.le_of_ble_eq_true rfl), (Nat.le_of_ble_eq_true rfl), (Nat.le_of_ble_eq_true rfl)⟩ rfl (gm_G.mono H (pI_elim (fun v2 h1 H' => ?_) (fun e3 h4 H => ?_)))
    · show gm_G _ 104 _ _ _ _
      replace H := H'
      clear H'
      refine g_if_ne rfl (pc' := 107) (pt := 109) rfl rfl ⟨fun hc => ?_, fun hc => ?_⟩
      · replace H := H.1 hc
        exact g_weak (show gm_Lle [some _, some _, some _, some _, none, some _, some _] _ from ⟨rfl, ⟨rfl, ⟨rfl, ⟨rfl, ⟨rfl, ⟨rfl, trivial⟩⟩⟩⟩⟩⟩) H
      · replace H := H.2 hc
        refine g_lconst rfl rfl rfl (pc' := 108) ?_
        exact g_lreturn rfl H
    · exact H
set_option maxRecDepth 20000 in
theorem w_233_109  {r_0 : Option Nat} {x1 : Int32} {x2 : Int32} {j3 : Int64} {x5 : Int32} {x6 : Int32} {h : hh_T} {Q : Option Value ⊕ Nat → hh_T → Prop} (H : gm_G 233 62 [some (va_rf r_0), some (.int x1), some (.int x2), some (.long ((j3 <<< ((Int32.ofNat 8).toInt64 &&& 63)) ||| (x6.toInt64))), none, some (.int (x5 + (Int32.ofNat 1)))] [] h Q) : gm_G 233 109 [some (va_rf r_0), some (.int x1), some (.int x2), some (.long j3), none, some (.int x5), some (.int x6)] [] h Q := by
  refine g_lload rfl rfl rfl (pc' := 110) ?_
  refine g_iconst rfl rfl rfl (pc' := 112) ?_
  refine g_lshl rfl rfl (pc' := 113) ?_
  refine g_iload rfl rfl rfl (pc' := 115) ?_
  refine g_i2l rfl rfl (pc' := 116) ?_
  refine g_lor rfl rfl (pc' := 117) ?_
  refine g_lstore rfl rfl rfl (pc' := 118) ?_
  refine g_iinc (c := (Int32.ofNat 1)) rfl rfl rfl rfl rfl (pc' := 121) ?_
  refine g_goto rfl (pc' := 62) rfl ?_
  exact g_weak (show gm_Lle [some _, some _, some _, some _, none, some _] _ from ⟨rfl, ⟨rfl, ⟨rfl, ⟨rfl, ⟨rfl, trivial⟩⟩⟩⟩⟩) H
set_option maxRecDepth 20000 in
theorem w_234_0  {j0 : Int64} {x2 : Int32} {h : hh_T} {Q : Option Value ⊕ Nat → hh_T → Prop} (H : gm_G 14 0 [some (.long j0), none] [] h (pI (fun v2 h1 => gm_G 5 0 [some (.int x2), some (.int (Int32.ofNat 3000)), some (.int ((Int32.ofNat 2999) + v2))] [] h1 (pI (fun v4 h3 => (v4 = Int32.ofNat 0 → (Q (.inl (some (.int (Int32.ofInt (-2))))) h3)) ∧ (¬ v4 = Int32.ofNat 0 → (Q (.inl (some (.int (((j0 >>> (((Int32.ofNat 56) - ((Int32.ofNat 8) * (x2 - (Int32.ofNat 3000)))).toInt64 &&& 63)) &&& (Int64.ofNat 255)).toInt32)))) h3))) (fun e5 h6 => hh_tg h6 e5 = 21 ∧ Q (.inr e5) h6))) (fun e7 h8 => hh_tg h8 e7 = 21 ∧ Q (.inr e7) h8))) : gm_G 234 0 [some (.long j0), none, some (.int x2)] [] h Q := by
  refine g_iload rfl rfl rfl (pc' := 1) ?_
  refine g_iconst rfl rfl rfl (pc' := 4) ?_
  refine g_iconst rfl rfl rfl (pc' := 7) ?_
  refine g_lload rfl rfl rfl (pc' := 8) ?_
  refine g_call rfl (y := 14) (n := 1) (pc' := 11) (fun _ => rfl) rfl rfl ⟨(Nat.le_of_ble_eq_true rfl), (Nat.le_of_ble_eq_true rfl), (Nat.le_of_ble_eq_true rfl)⟩ rfl (gm_G.mono H (pI_elim (fun v2 h1 H' => ?_) (fun e7 h8 H => ?_)))
  · show gm_G _ 11 _ _ _ _
    replace H := H'
    clear H'
    refine g_iadd rfl rfl (pc' := 12) ?_
    refine g_call rfl (y := 5) (n := 3) (pc' := 15) (fun _ => rfl) rfl rfl ⟨(Nat.le_of_ble_eq_true rfl), (Nat.le_of_ble_eq_true rfl), (Nat.le_of_ble_eq_true rfl)⟩ rfl (gm_G.mono H (pI_elim (fun v4 h3 H' => ?_) (fun e5 h6 H => ?_)))
    · show gm_G _ 15 _ _ _ _
      replace H := H'
      clear H'
      refine g_if_eq rfl (pc' := 18) (pt := 39) rfl rfl ⟨fun hc => ?_, fun hc => ?_⟩
      · replace H := H.1 hc
        refine g_iconst rfl rfl rfl (pc' := 41) ?_
        exact g_ireturn rfl (Or.inl rfl) H
      · replace H := H.2 hc
        refine g_lload rfl rfl rfl (pc' := 19) ?_
        refine g_iconst rfl rfl rfl (pc' := 21) ?_
        refine g_iconst rfl rfl rfl (pc' := 23) ?_
        refine g_iload rfl rfl rfl (pc' := 24) ?_
        refine g_iconst rfl rfl rfl (pc' := 27) ?_
        refine g_isub rfl rfl (pc' := 28) ?_
        refine g_imul rfl rfl (pc' := 29) ?_
        refine g_isub rfl rfl (pc' := 30) ?_
        refine g_lshr rfl rfl (pc' := 31) ?_
        refine g_lconst rfl rfl rfl (pc' := 34) ?_
        refine g_land rfl rfl (pc' := 35) ?_
        refine g_l2i rfl rfl (pc' := 36) ?_
        refine g_goto rfl (pc' := 41) rfl ?_
        exact g_ireturn rfl (Or.inl rfl) H
    · exact H
  · exact H
set_option maxRecDepth 20000 in
theorem w_235_0 {a0 : Nat}  {h : hh_T} {Q : Option Value ⊕ Nat → hh_T → Prop} (H : gm_sub (hh_tg h a0) 0 = true ∧ (∀ r2, r2 = hh_r h a0 38 → ((∀ a3, r2 = some a3 → (gm_sub (hh_tg h a3) 23 = true ∧ (∀ r5, r5 = hh_r h a3 10 → (∀ h6, h6 = hh_wr h a0 38 r5 → (gm_G 235 28 [none, some (.ref a3)] [] h6 Q))))) ∧ (r2 = none → (∀ a7 h8, a7 = hh_sz h → h8 = hh_al h 24 0 11 → (gm_G 180 0 [some (.ref a7)] [] h8 (pV (fun h9 => gm_G 235 28 [none, some (.ref a7)] [] h9 Q) (fun e10 h11 => hh_tg h11 e10 = 21 ∧ Q (.inr e10) h11)))))))) : gm_G 235 0 [some (.ref a0)] [] h Q := by
  refine g_aload (r := some _) rfl rfl rfl (pc' := 1) ?_
  obtain ⟨ht1, H⟩ := H
  refine g_getRv rfl rfl rfl rfl ht1 (pc' := 4) rfl (fun r2 hr2 => ?_)
  replace H := H r2 hr2
  refine g_astore (r := _) rfl rfl rfl (pc' := 5) ?_
  refine g_aload (r := _) rfl rfl rfl (pc' := 6) ?_
  refine g_ifnonnull rfl (pc' := 9) (pt := 20) rfl rfl ⟨fun a3 hc => ?_, fun hc => ?_⟩
  · replace H := H.1 a3 hc
    subst hc
    refine g_aload (r := some _) rfl rfl rfl (pc' := 21) ?_
    refine g_aload (r := some _) rfl rfl rfl (pc' := 22) ?_
    obtain ⟨ht4, H⟩ := H
    refine g_getRv rfl rfl rfl rfl ht4 (pc' := 25) rfl (fun r5 hr5 => ?_)
    replace H := H r5 hr5
    refine g_putR rfl rfl rfl rfl ht1  (pc' := 28) rfl ?_
    replace H := H _ rfl
    exact g_weak (show gm_Lle [none, some _] _ from ⟨rfl, trivial⟩) H
  · replace H := H.2 hc
    subst hc
    refine g_new rfl (t := 24) (s := 11) rfl rfl (pc' := 12) rfl ?_
    replace H := H _ _ rfl rfl
    refine g_dup_a (r := some _) rfl rfl (pc' := 13) ?_
    refine g_call rfl (y := 180) (n := 1) (pc' := 16) (fun _ => rfl) rfl rfl ⟨(Nat.le_of_ble_eq_true rfl), (Nat.le_of_ble_eq_true rfl), (Nat.le_of_ble_eq_true rfl)⟩ rfl (gm_G.mono H (pV_elim (fun h9 H' => ?_) (fun e10 h11 H => ?_)))
    · show gm_G _ 16 _ _ _ _
      replace H := H'
      clear H'
      refine g_astore (r := some _) rfl rfl rfl (pc' := 17) ?_
      refine g_goto rfl (pc' := 28) rfl ?_
      exact g_weak (show gm_Lle [none, some _] _ from ⟨rfl, trivial⟩) H
    · exact H
set_option maxRecDepth 20000 in
theorem w_235_28 {a0 : Nat} {r_1 : Option Nat} {h : hh_T} {Q : Option Value ⊕ Nat → hh_T → Prop} (H : ∃ a1, r_1 = some a1 ∧ (gm_sub (hh_tg h a1) 23 = true ∧ (∀ h3, h3 = hh_wr h a1 10 none → (hh_tg h3 a1 = 24 ∧ (gm_G 181 0 [some (.ref a1)] [] h3 (pV (fun h5 => Q (.inl (some (.ref a1))) h5) (fun e6 h7 => hh_tg h7 e6 = 21 ∧ Q (.inr e6) h7))))))) : gm_G 235 28 [none, some (va_rf r_1)] [] h Q := by
  refine g_aload (r := _) rfl rfl rfl (pc' := 29) ?_
  refine g_null rfl rfl (pc' := 30) ?_
  obtain ⟨a1, rfl, H⟩ := H
  obtain ⟨ht2, H⟩ := H
  refine g_putR rfl rfl rfl rfl ht2  (pc' := 33) rfl ?_
  replace H := H _ rfl
  refine g_aload (r := some _) rfl rfl rfl (pc' := 34) ?_
  obtain ⟨ht4, H⟩ := H
  refine g_call rfl (y := 181) (n := 1) (pc' := 37) (g_vt ht4 rfl rfl) rfl rfl ⟨(Nat.le_of_ble_eq_true rfl), (Nat.le_of_ble_eq_true rfl), (Nat.le_of_ble_eq_true rfl)⟩ rfl (gm_G.mono H (pV_elim (fun h5 H' => ?_) (fun e6 h7 H => ?_)))
  · show gm_G _ 37 _ _ _ _
    replace H := H'
    clear H'
    refine g_aload (r := some _) rfl rfl rfl (pc' := 38) ?_
    exact g_areturn (r := some _) rfl H
  · exact H
set_option maxRecDepth 20000 in
theorem w_236_0 {a0 : Nat}  {h : hh_T} {Q : Option Value ⊕ Nat → hh_T → Prop} (H : gm_sub (hh_tg h a0) 0 = true ∧ (∀ r2, r2 = hh_r h a0 39 → ((∀ a3, r2 = some a3 → (gm_sub (hh_tg h a3) 29 = true ∧ (∀ r5, r5 = hh_r h a3 6 → (∀ h6, h6 = hh_wr h a0 39 r5 → (gm_G 236 28 [none, some (.ref a3)] [] h6 Q))))) ∧ (r2 = none → (∀ a7 h8, a7 = hh_sz h → h8 = hh_al h 30 0 7 → (gm_G 199 0 [some (.ref a7)] [] h8 (pV (fun h9 => gm_G 236 28 [none, some (.ref a7)] [] h9 Q) (fun e10 h11 => hh_tg h11 e10 = 21 ∧ Q (.inr e10) h11)))))))) : gm_G 236 0 [some (.ref a0)] [] h Q := by
  refine g_aload (r := some _) rfl rfl rfl (pc' := 1) ?_
  obtain ⟨ht1, H⟩ := H
  refine g_getRv rfl rfl rfl rfl ht1 (pc' := 4) rfl (fun r2 hr2 => ?_)
  replace H := H r2 hr2
  refine g_astore (r := _) rfl rfl rfl (pc' := 5) ?_
  refine g_aload (r := _) rfl rfl rfl (pc' := 6) ?_
  refine g_ifnonnull rfl (pc' := 9) (pt := 20) rfl rfl ⟨fun a3 hc => ?_, fun hc => ?_⟩
  · replace H := H.1 a3 hc
    subst hc
    refine g_aload (r := some _) rfl rfl rfl (pc' := 21) ?_
    refine g_aload (r := some _) rfl rfl rfl (pc' := 22) ?_
    obtain ⟨ht4, H⟩ := H
    refine g_getRv rfl rfl rfl rfl ht4 (pc' := 25) rfl (fun r5 hr5 => ?_)
    replace H := H r5 hr5
    refine g_putR rfl rfl rfl rfl ht1  (pc' := 28) rfl ?_
    replace H := H _ rfl
    exact g_weak (show gm_Lle [none, some _] _ from ⟨rfl, trivial⟩) H
  · replace H := H.2 hc
    subst hc
    refine g_new rfl (t := 30) (s := 7) rfl rfl (pc' := 12) rfl ?_
    replace H := H _ _ rfl rfl
    refine g_dup_a (r := some _) rfl rfl (pc' := 13) ?_
    refine g_call rfl (y := 199) (n := 1) (pc' := 16) (fun _ => rfl) rfl rfl ⟨(Nat.le_of_ble_eq_true rfl), (Nat.le_of_ble_eq_true rfl), (Nat.le_of_ble_eq_true rfl)⟩ rfl (gm_G.mono H (pV_elim (fun h9 H' => ?_) (fun e10 h11 H => ?_)))
    · show gm_G _ 16 _ _ _ _
      replace H := H'
      clear H'
      refine g_astore (r := some _) rfl rfl rfl (pc' := 17) ?_
      refine g_goto rfl (pc' := 28) rfl ?_
      exact g_weak (show gm_Lle [none, some _] _ from ⟨rfl, trivial⟩) H
    · exact H
set_option maxRecDepth 20000 in
theorem w_236_28 {a0 : Nat} {r_1 : Option Nat} {h : hh_T} {Q : Option Value ⊕ Nat → hh_T → Prop} (H : ∃ a1, r_1 = some a1 ∧ (gm_sub (hh_tg h a1) 29 = true ∧ (∀ h3, h3 = hh_wr h a1 6 none → (∀ h4, h4 = hh_wi h3 a1 2 (Int32.ofNat 0) → (Q (.inl (some (.ref a1))) h4))))) : gm_G 236 28 [none, some (va_rf r_1)] [] h Q := by
  refine g_aload (r := _) rfl rfl rfl (pc' := 29) ?_
  refine g_null rfl rfl (pc' := 30) ?_
  obtain ⟨a1, rfl, H⟩ := H
  obtain ⟨ht2, H⟩ := H
  refine g_putR rfl rfl rfl rfl ht2  (pc' := 33) rfl ?_
  replace H := H _ rfl
  refine g_aload (r := some _) rfl rfl rfl (pc' := 34) ?_
  refine g_iconst rfl rfl rfl (pc' := 35) ?_
  refine g_putI rfl rfl rfl rfl ht2  (pc' := 38) rfl ?_
  replace H := H _ rfl
  refine g_aload (r := some _) rfl rfl rfl (pc' := 39) ?_
  exact g_areturn (r := some _) rfl H
set_option maxRecDepth 20000 in
theorem w_237_0 {a0 : Nat}  {h : hh_T} {Q : Option Value ⊕ Nat → hh_T → Prop} (H : gm_sub (hh_tg h a0) 0 = true ∧ (∀ r2, r2 = hh_r h a0 40 → ((∀ a3, r2 = some a3 → (gm_sub (hh_tg h a3) 22 = true ∧ (∀ r5, r5 = hh_r h a3 7 → (∀ h6, h6 = hh_wr h a0 40 r5 → (gm_G 237 28 [none, some (.ref a3)] [] h6 Q))))) ∧ (r2 = none → (∀ a7 h8, a7 = hh_sz h → h8 = hh_al h 23 0 8 → (gm_G 171 0 [some (.ref a7)] [] h8 (pV (fun h9 => gm_G 237 28 [none, some (.ref a7)] [] h9 Q) (fun e10 h11 => hh_tg h11 e10 = 21 ∧ Q (.inr e10) h11)))))))) : gm_G 237 0 [some (.ref a0)] [] h Q := by
  refine g_aload (r := some _) rfl rfl rfl (pc' := 1) ?_
  obtain ⟨ht1, H⟩ := H
  refine g_getRv rfl rfl rfl rfl ht1 (pc' := 4) rfl (fun r2 hr2 => ?_)
  replace H := H r2 hr2
  refine g_astore (r := _) rfl rfl rfl (pc' := 5) ?_
  refine g_aload (r := _) rfl rfl rfl (pc' := 6) ?_
  refine g_ifnonnull rfl (pc' := 9) (pt := 20) rfl rfl ⟨fun a3 hc => ?_, fun hc => ?_⟩
  · replace H := H.1 a3 hc
    subst hc
    refine g_aload (r := some _) rfl rfl rfl (pc' := 21) ?_
    refine g_aload (r := some _) rfl rfl rfl (pc' := 22) ?_
    obtain ⟨ht4, H⟩ := H
    refine g_getRv rfl rfl rfl rfl ht4 (pc' := 25) rfl (fun r5 hr5 => ?_)
    replace H := H r5 hr5
    refine g_putR rfl rfl rfl rfl ht1  (pc' := 28) rfl ?_
    replace H := H _ rfl
    exact g_weak (show gm_Lle [none, some _] _ from ⟨rfl, trivial⟩) H
  · replace H := H.2 hc
    subst hc
    refine g_new rfl (t := 23) (s := 8) rfl rfl (pc' := 12) rfl ?_
    replace H := H _ _ rfl rfl
    refine g_dup_a (r := some _) rfl rfl (pc' := 13) ?_
    refine g_call rfl (y := 171) (n := 1) (pc' := 16) (fun _ => rfl) rfl rfl ⟨(Nat.le_of_ble_eq_true rfl), (Nat.le_of_ble_eq_true rfl), (Nat.le_of_ble_eq_true rfl)⟩ rfl (gm_G.mono H (pV_elim (fun h9 H' => ?_) (fun e10 h11 H => ?_)))
    · show gm_G _ 16 _ _ _ _
      replace H := H'
      clear H'
      refine g_astore (r := some _) rfl rfl rfl (pc' := 17) ?_
      refine g_goto rfl (pc' := 28) rfl ?_
      exact g_weak (show gm_Lle [none, some _] _ from ⟨rfl, trivial⟩) H
    · exact H
set_option maxRecDepth 20000 in
theorem w_237_28 {a0 : Nat} {r_1 : Option Nat} {h : hh_T} {Q : Option Value ⊕ Nat → hh_T → Prop} (H : ∃ a1, r_1 = some a1 ∧ (gm_sub (hh_tg h a1) 22 = true ∧ (∀ h3, h3 = hh_wr h a1 7 none → (∀ h4, h4 = hh_wi h3 a1 2 (Int32.ofNat 0) → (∀ h5, h5 = hh_wi h4 a1 3 (Int32.ofNat 0) → (∀ h6, h6 = hh_wi h5 a1 4 (Int32.ofNat 1) → (∀ h7, h7 = hh_wi h6 a1 5 (Int32.ofNat 0) → (gm_G 237 53 [none, some (.ref a1)] [] h7 Q)))))))) : gm_G 237 28 [none, some (va_rf r_1)] [] h Q := by
  refine g_aload (r := _) rfl rfl rfl (pc' := 29) ?_
  refine g_null rfl rfl (pc' := 30) ?_
  obtain ⟨a1, rfl, H⟩ := H
  obtain ⟨ht2, H⟩ := H
  refine g_putR rfl rfl rfl rfl ht2  (pc' := 33) rfl ?_
  replace H := H _ rfl
  refine g_aload (r := some _) rfl rfl rfl (pc' := 34) ?_
  refine g_iconst rfl rfl rfl (pc' := 35) ?_
  refine g_putI rfl rfl rfl rfl ht2  (pc' := 38) rfl ?_
  replace H := H _ rfl
  refine g_aload (r := some _) rfl rfl rfl (pc' := 39) ?_
  refine g_iconst rfl rfl rfl (pc' := 40) ?_
  refine g_putI rfl rfl rfl rfl ht2  (pc' := 43) rfl ?_
  replace H := H _ rfl
  refine g_aload (r := some _) rfl rfl rfl (pc' := 44) ?_
  refine g_iconst rfl rfl rfl (pc' := 45) ?_
  refine g_putI rfl rfl rfl rfl ht2  (pc' := 48) rfl ?_
  replace H := H _ rfl
  refine g_aload (r := some _) rfl rfl rfl (pc' := 49) ?_
  refine g_iconst rfl rfl rfl (pc' := 50) ?_
  refine g_putI rfl rfl rfl rfl ht2  (pc' := 53) rfl ?_
  replace H := H _ rfl
  exact g_weak (show gm_Lle [none, some _] _ from ⟨rfl, trivial⟩) H
set_option maxRecDepth 20000 in
theorem w_237_53 {a0 : Nat} {r_1 : Option Nat} {h : hh_T} {Q : Option Value ⊕ Nat → hh_T → Prop} (H : ∃ a1, r_1 = some a1 ∧ (gm_sub (hh_tg h a1) 22 = true ∧ (∀ h3, h3 = hh_wi h a1 6 (Int32.ofNat 0) → (Q (.inl (some (.ref a1))) h3)))) : gm_G 237 53 [none, some (va_rf r_1)] [] h Q := by
  refine g_aload (r := _) rfl rfl rfl (pc' := 54) ?_
  refine g_iconst rfl rfl rfl (pc' := 55) ?_
  obtain ⟨a1, rfl, H⟩ := H
  obtain ⟨ht2, H⟩ := H
  refine g_putI rfl rfl rfl rfl ht2  (pc' := 58) rfl ?_
  replace H := H _ rfl
  refine g_aload (r := some _) rfl rfl rfl (pc' := 59) ?_
  exact g_areturn (r := some _) rfl H
set_option maxRecDepth 20000 in
theorem w_238_0 {a0 : Nat} {x1 : Int32} {h : hh_T} {Q : Option Value ⊕ Nat → hh_T → Prop} (H : (¬ x1 = (Int32.ofInt (-1)) → (gm_sub (hh_tg h a0) 0 = true ∧ (∀ r2, r2 = hh_r h a0 59 → (∃ a3, r2 = some a3 ∧ (gm_sub (hh_tg h a3) 12 = true ∧ (gm_G 5 0 [some (.int x1), some (.int (Int32.ofNat 0)), some (.int ((hh_i h a3 1) - (Int32.ofNat 1)))] [] h (pI (fun v6 h5 => (v6 = Int32.ofNat 0 → (Q (.inl (some (.int (Int32.ofInt (-2))))) h5)) ∧ (¬ v6 = Int32.ofNat 0 → (gm_sub (hh_tg h5 a0) 0 = true ∧ (∀ r8, r8 = hh_r h5 a0 59 → (∃ a9, r8 = some a9 ∧ (hh_tg h5 a9 = 13 ∧ (gm_G 63 0 [some (.ref a9), some (.int x1)] [] h5 (pI (fun v12 h11 => Q (.inl (some (.int v12))) h11) (fun e13 h14 => hh_tg h14 e13 = 21 ∧ Q (.inr e13) h14))))))))) (fun e15 h16 => hh_tg h16 e15 = 21 ∧ Q (.inr e15) h16)))))))) ∧ (x1 = (Int32.ofInt (-1)) → (gm_sub (hh_tg h a0) 0 = true ∧ (∀ r18, r18 = hh_r h a0 59 → (∃ a19, r18 = some a19 ∧ (gm_sub (hh_tg h a19) 12 = true ∧ (Q (.inl (some (.int (hh_i h a19 1)))) h))))))) : gm_G 238 0 [some (.ref a0), some (.int x1)] [] h Q := by
  refine g_iload rfl rfl rfl (pc' := 1) ?_
  refine g_iconst rfl rfl rfl (pc' := 2) ?_
  refine g_ic_ne rfl (pc' := 5) (pt := 13) rfl rfl ⟨fun hc => ?_, fun hc => ?_⟩
  · replace H := H.1 hc
    refine g_iload rfl rfl rfl (pc' := 14) ?_
    refine g_iconst rfl rfl rfl (pc' := 15) ?_
    refine g_aload (r := some _) rfl rfl rfl (pc' := 16) ?_
    obtain ⟨ht1, H⟩ := H
    refine g_getRv rfl rfl rfl rfl ht1 (pc' := 19) rfl (fun r2 hr2 => ?_)
    replace H := H r2 hr2
    obtain ⟨a3, rfl, H⟩ := H
    obtain ⟨ht4, H⟩ := H
    refine g_getI rfl rfl rfl rfl ht4 (pc' := 22) rfl ?_
    refine g_iconst rfl rfl rfl (pc' := 23) ?_
    refine g_isub rfl rfl (pc' := 24) ?_
    refine g_call rfl (y := 5) (n := 3) (pc' := 27) (fun _ => rfl) rfl rfl ⟨(Nat.le_of_ble_eq_true rfl), (Nat.le_of_ble_eq_true rfl), (Nat.le_of_ble_eq_true rfl)⟩ rfl (gm_G.mono H (pI_elim (fun v6 h5 H' => ?_) (fun e15 h16 H => ?_)))
    · show gm_G _ 27 _ _ _ _
      replace H := H'
      clear H'
      refine g_if_eq rfl (pc' := 30) (pt := 41) rfl rfl ⟨fun hc => ?_, fun hc => ?_⟩
      · replace H := H.1 hc
        refine g_iconst rfl rfl rfl (pc' := 43) ?_
        exact g_ireturn rfl (Or.inl rfl) H
      · replace H := H.2 hc
        refine g_aload (r := some _) rfl rfl rfl (pc' := 31) ?_
        obtain ⟨ht7, H⟩ := H
        refine g_getRv rfl rfl rfl rfl ht7 (pc' := 34) rfl (fun r8 hr8 => ?_)
        replace H := H r8 hr8
        refine g_iload rfl rfl rfl (pc' := 35) ?_
        obtain ⟨a9, rfl, H⟩ := H
        obtain ⟨ht10, H⟩ := H
        refine g_call rfl (y := 63) (n := 2) (pc' := 38) (g_vt ht10 rfl rfl) rfl rfl ⟨(Nat.le_of_ble_eq_true rfl), (Nat.le_of_ble_eq_true rfl), (Nat.le_of_ble_eq_true rfl)⟩ rfl (gm_G.mono H (pI_elim (fun v12 h11 H' => ?_) (fun e13 h14 H => ?_)))
        · show gm_G _ 38 _ _ _ _
          replace H := H'
          clear H'
          refine g_goto rfl (pc' := 43) rfl ?_
          exact g_ireturn rfl (Or.inl rfl) H
        · exact H
    · exact H
  · replace H := H.2 hc
    refine g_aload (r := some _) rfl rfl rfl (pc' := 6) ?_
    obtain ⟨ht17, H⟩ := H
    refine g_getRv rfl rfl rfl rfl ht17 (pc' := 9) rfl (fun r18 hr18 => ?_)
    replace H := H r18 hr18
    obtain ⟨a19, rfl, H⟩ := H
    obtain ⟨ht20, H⟩ := H
    refine g_getI rfl rfl rfl rfl ht20 (pc' := 12) rfl ?_
    exact g_ireturn rfl (Or.inl rfl) H
set_option maxRecDepth 20000 in
theorem w_239_0 {a0 : Nat} {r_1 : Option Nat} {h : hh_T} {Q : Option Value ⊕ Nat → hh_T → Prop} (H : (r_1 = none → (gm_G 239 43 [none, none, some (.int (Int32.ofNat 0))] [] h Q)) ∧ (∀ a1, r_1 = some a1 → (gm_G 239 8 [some (.ref a0), some (.ref a1), some (.int (Int32.ofNat 0)), some (.int (Int32.ofNat 0))] [] h Q))) : gm_G 239 0 [some (.ref a0), some (va_rf r_1)] [] h Q := by
  refine g_iconst rfl rfl rfl (pc' := 1) ?_
  refine g_istore rfl gm_sto_rf1 rfl (pc' := 2) ?_
  refine g_aload (r := _) rfl rfl rfl (pc' := 3) ?_
  refine g_ifnull rfl (pc' := 6) (pt := 43) rfl rfl ⟨fun hc => ?_, fun a1 hc => ?_⟩
  · replace H := H.1 hc
    subst hc
    exact g_weak (show gm_Lle [none, none, some _] _ from ⟨rfl, trivial⟩) H
  · replace H := H.2 a1 hc
    subst hc
    refine g_iconst rfl rfl rfl (pc' := 7) ?_
    refine g_istore rfl rfl rfl (pc' := 8) ?_
    exact g_weak (show gm_Lle [some _, some _, some _, some _] _ from ⟨rfl, ⟨rfl, ⟨rfl, ⟨rfl, trivial⟩⟩⟩⟩) H
set_option maxRecDepth 20000 in
theorem w_239_8 {a0 : Nat} {r_1 : Option Nat} {x2 : Int32} {x3 : Int32} {h : hh_T} {Q : Option Value ⊕ Nat → hh_T → Prop} (H : ∃ a1, r_1 = some a1 ∧ (gm_sub (hh_tg h a1) 31 = true ∧ ((¬ x3 < (hh_i h a1 2) → (gm_G 239 43 [none, none, some (.int x2)] [] h Q)) ∧ (x3 < (hh_i h a1 2) → (gm_sub (hh_tg h a0) 0 = true ∧ (∀ r4, r4 = hh_r h a0 7 → (∀ r5, r5 = hh_r h a1 4 → (∃ a6, r5 = some a6 ∧ ((hh_tg h a6 = 100 ∨ hh_tg h a6 = 105) ∧ (∃ n7, gm_ix x3 n7 (hh_ln h a6) ∧ (∃ a9, r4 = some a9 ∧ ((hh_tg h a9 = 104 ∨ 200 ≤ hh_tg h a9) ∧ (∃ n10, gm_ix (hh_i h a6 n7) n10 (hh_ln h a9) ∧ (∀ r12, r12 = hh_r h a9 n10 → (∃ a13, r12 = some a13 ∧ ((hh_tg h a13 = 5 ∧ (gm_G 34 0 [some (.ref a13), some (.int (hh_i h a1 1))] [] h (pI (fun v15 h14 => gm_G 239 8 [some (.ref a0), some (.ref a1), some (.int (x2 + v15)), some (.int (x3 + (Int32.ofNat 1)))] [] h14 Q) (fun e16 h17 => hh_tg h17 e16 = 21 ∧ Q (.inr e16) h17)))) ∨ (hh_tg h a13 = 7 ∧ (gm_G 45 0 [some (.ref a13), some (.int (hh_i h a1 1))] [] h (pI (fun v19 h18 => gm_G 239 8 [some (.ref a0), some (.ref a1), some (.int (x2 + v19)), some (.int (x3 + (Int32.ofNat 1)))] [] h18 Q) (fun e20 h21 => hh_tg h21 e20 = 21 ∧ Q (.inr e20) h21)))))))))))))))))))) : gm_G 239 8 [some (.ref a0), some (va_rf r_1), some (.int x2), some (.int x3)] [] h Q := by
  refine g_iload rfl rfl rfl (pc' := 9) ?_
  refine g_aload (r := _) rfl rfl rfl (pc' := 10) ?_
  obtain ⟨a1, rfl, H⟩ := H
  obtain ⟨ht2, H⟩ := H
  refine g_getI rfl rfl rfl rfl ht2 (pc' := 13) rfl ?_
  refine g_ic_ge rfl (pc' := 16) (pt := 43) rfl rfl ⟨fun hc => ?_, fun hc => ?_⟩
  · replace H := H.1 hc
    exact g_weak (show gm_Lle [none, none, some _] _ from ⟨rfl, trivial⟩) H
  · replace H := H.2 hc
    refine g_iload rfl rfl rfl (pc' := 17) ?_
    refine g_aload (r := some _) rfl rfl rfl (pc' := 18) ?_
    obtain ⟨ht3, H⟩ := H
    refine g_getRv rfl rfl rfl rfl ht3 (pc' := 21) rfl (fun r4 hr4 => ?_)
    replace H := H r4 hr4
    refine g_aload (r := some _) rfl rfl rfl (pc' := 22) ?_
    refine g_getRv rfl rfl rfl rfl ht2 (pc' := 25) rfl (fun r5 hr5 => ?_)
    replace H := H r5 hr5
    refine g_iload rfl rfl rfl (pc' := 26) ?_
    obtain ⟨a6, rfl, H⟩ := H
    obtain ⟨ht8, H⟩ := H
    obtain ⟨n7, hn7, H⟩ := H
    refine g_iaload rfl ht8 hn7 (pc' := 27) rfl ?_
    obtain ⟨a9, rfl, H⟩ := H
    obtain ⟨ht11, H⟩ := H
    obtain ⟨n10, hn10, H⟩ := H
    refine g_aaloadv rfl ht11 hn10 (pc' := 28) rfl (fun r12 hr12 => ?_)
    replace H := H r12 hr12
    refine g_aload (r := some _) rfl rfl rfl (pc' := 29) ?_
    refine g_getI rfl rfl rfl rfl ht2 (pc' := 32) rfl ?_
    obtain ⟨a13, rfl, H⟩ := H
    rcases H with ⟨ht, H⟩ | ⟨ht, H⟩
    · refine g_call rfl (y := 34) (n := 2) (pc' := 35) (g_vt ht rfl rfl) rfl rfl ⟨(Nat.le_of_ble_eq_true rfl), (Nat.le_of_ble_eq_true rfl), (Nat.le_of_ble_eq_true rfl)⟩ rfl (gm_G.mono H (pI_elim (fun v15 h14 H' => ?_) (fun e16 h17 H => ?_)))
      · show gm_G _ 35 _ _ _ _
        replace H := H'
        clear H'
        refine g_iadd rfl rfl (pc' := 36) ?_
        refine g_istore rfl rfl rfl (pc' := 37) ?_
        refine g_iinc (c := (Int32.ofNat 1)) rfl rfl rfl rfl rfl (pc' := 40) ?_
        refine g_goto rfl (pc' := 8) rfl ?_
        exact g_weak (show gm_Lle [some _, some _, some _, some _] _ from ⟨rfl, ⟨rfl, ⟨rfl, ⟨rfl, trivial⟩⟩⟩⟩) H
      · exact H
    · refine g_call rfl (y := 45) (n := 2) (pc' := 35) (g_vt ht rfl rfl) rfl rfl ⟨(Nat.le_of_ble_eq_true rfl), (Nat.le_of_ble_eq_true rfl), (Nat.le_of_ble_eq_true rfl)⟩ rfl (gm_G.mono H (pI_elim (fun v19 h18 H' => ?_) (fun e20 h21 H => ?_)))
      · show gm_G _ 35 _ _ _ _
        replace H := H'
        clear H'
        refine g_iadd rfl rfl (pc' := 36) ?_
        refine g_istore rfl rfl rfl (pc' := 37) ?_
        refine g_iinc (c := (Int32.ofNat 1)) rfl rfl rfl rfl rfl (pc' := 40) ?_
        refine g_goto rfl (pc' := 8) rfl ?_
        exact g_weak (show gm_Lle [some _, some _, some _, some _] _ from ⟨rfl, ⟨rfl, ⟨rfl, ⟨rfl, trivial⟩⟩⟩⟩) H
      · exact H
set_option maxRecDepth 20000 in
theorem w_239_43 {a0 : Nat} {x2 : Int32} {h : hh_T} {Q : Option Value ⊕ Nat → hh_T → Prop} (H : Q (.inl (some (.int x2))) h) : gm_G 239 43 [none, none, some (.int x2)] [] h Q := by
  refine g_iload rfl rfl rfl (pc' := 44) ?_
  exact g_ireturn rfl (Or.inl rfl) H
set_option maxRecDepth 20000 in
theorem w_240_0 {a0 : Nat} {x1 : Int32} {x2 : Int32} {h : hh_T} {Q : Option Value ⊕ Nat → hh_T → Prop} (H : gm_G 5 0 [some (.int x1), some (.int (Int32.ofInt (-1))), some (.int (Int32.ofNat 4000))] [] h (pI (fun v2 h1 => (v2 = Int32.ofNat 0 → (Q (.inl (some (.int (Int32.ofInt (-1))))) h1)) ∧ (¬ v2 = Int32.ofNat 0 → (gm_G 5 0 [some (.int x2), some (.int (Int32.ofNat 0)), some (.int (Int32.ofNat 7))] [] h1 (pI (fun v4 h3 => (¬ v4 = Int32.ofNat 0 → (gm_sub (hh_tg h3 a0) 0 = true ∧ (∀ r6, r6 = hh_r h3 a0 2 → ((x1 < Int32.ofNat 0 → (gm_G 240 36 [some (.ref a0), some (.int x1), some (.int x2)] [.int (Int32.ofNat 0), va_rf r6] h3 Q)) ∧ (¬ x1 < Int32.ofNat 0 → (gm_G 240 36 [some (.ref a0), some (.int x1), some (.int x2)] [.int (Int32.ofNat 1), va_rf r6] h3 Q)))))) ∧ (v4 = Int32.ofNat 0 → (Q (.inl (some (.int (Int32.ofInt (-1))))) h3))) (fun e7 h8 => hh_tg h8 e7 = 21 ∧ Q (.inr e7) h8))))) (fun e9 h10 => hh_tg h10 e9 = 21 ∧ Q (.inr e9) h10))) : gm_G 240 0 [some (.ref a0), some (.int x1), some (.int x2)] [] h Q := by
  refine g_iload rfl rfl rfl (pc' := 1) ?_
  refine g_iconst rfl rfl rfl (pc' := 2) ?_
  refine g_iconst rfl rfl rfl (pc' := 5) ?_
  refine g_call rfl (y := 5) (n := 3) (pc' := 8) (fun _ => rfl) rfl rfl ⟨(Nat.le_of_ble_eq_true rfl), (Nat.le_of_ble_eq_true rfl), (Nat.le_of_ble_eq_true rfl)⟩ rfl (gm_G.mono H (pI_elim (fun v2 h1 H' => ?_) (fun e9 h10 H => ?_)))
  · show gm_G _ 8 _ _ _ _
    replace H := H'
    clear H'
    refine g_if_eq rfl (pc' := 11) (pt := 21) rfl rfl ⟨fun hc => ?_, fun hc => ?_⟩
    · replace H := H.1 hc
      refine g_iconst rfl rfl rfl (pc' := 22) ?_
      exact g_ireturn rfl (Or.inl rfl) H
    · replace H := H.2 hc
      refine g_iload rfl rfl rfl (pc' := 12) ?_
      refine g_iconst rfl rfl rfl (pc' := 13) ?_
      refine g_iconst rfl rfl rfl (pc' := 15) ?_
      refine g_call rfl (y := 5) (n := 3) (pc' := 18) (fun _ => rfl) rfl rfl ⟨(Nat.le_of_ble_eq_true rfl), (Nat.le_of_ble_eq_true rfl), (Nat.le_of_ble_eq_true rfl)⟩ rfl (gm_G.mono H (pI_elim (fun v4 h3 H' => ?_) (fun e7 h8 H => ?_)))
      · show gm_G _ 18 _ _ _ _
        replace H := H'
        clear H'
        refine g_if_ne rfl (pc' := 21) (pt := 23) rfl rfl ⟨fun hc => ?_, fun hc => ?_⟩
        · replace H := H.1 hc
          refine g_aload (r := some _) rfl rfl rfl (pc' := 24) ?_
          obtain ⟨ht5, H⟩ := H
          refine g_getRv rfl rfl rfl rfl ht5 (pc' := 27) rfl (fun r6 hr6 => ?_)
          replace H := H r6 hr6
          refine g_iload rfl rfl rfl (pc' := 28) ?_
          refine g_if_lt rfl (pc' := 31) (pt := 35) rfl rfl ⟨fun hc => ?_, fun hc => ?_⟩
          · replace H := H.1 hc
            refine g_iconst rfl rfl rfl (pc' := 36) ?_
            exact g_weak (show gm_Lle [some _, some _, some _] _ from ⟨rfl, ⟨rfl, ⟨rfl, trivial⟩⟩⟩) H
          · replace H := H.2 hc
            refine g_iconst rfl rfl rfl (pc' := 32) ?_
            refine g_goto rfl (pc' := 36) rfl ?_
            exact g_weak (show gm_Lle [some _, some _, some _] _ from ⟨rfl, ⟨rfl, ⟨rfl, trivial⟩⟩⟩) H
        · replace H := H.2 hc
          refine g_iconst rfl rfl rfl (pc' := 22) ?_
          exact g_ireturn rfl (Or.inl rfl) H
      · exact H
  · exact H
set_option maxRecDepth 20000 in
theorem w_240_36 {a0 : Nat} {x1 : Int32} {x2 : Int32} {y0 : Int32} {q1 : Option Nat} {h : hh_T} {Q : Option Value ⊕ Nat → hh_T → Prop} (H : ∃ a1, q1 = some a1 ∧ (gm_sub (hh_tg h a1) 1 = true ∧ ((y0 = 0 ∨ y0 = 1) ∧ (∀ h3, h3 = hh_wi h a1 0 y0 → (gm_sub (hh_tg h3 a0) 0 = true ∧ (∀ r5, r5 = hh_r h3 a0 2 → (∃ a6, r5 = some a6 ∧ (gm_sub (hh_tg h3 a6) 1 = true ∧ (∀ h8, h8 = hh_wi h3 a6 1 x1 → (∀ r9, r9 = hh_r h8 a0 2 → (∃ a10, r9 = some a10 ∧ (gm_sub (hh_tg h8 a10) 1 = true ∧ (∀ h12, h12 = hh_wi h8 a10 2 x2 → (Q (.inl (some (.int (Int32.ofNat 0)))) h12)))))))))))))) : gm_G 240 36 [some (.ref a0), some (.int x1), some (.int x2)] [.int y0, va_rf q1] h Q := by
  obtain ⟨a1, rfl, H⟩ := H
  obtain ⟨ht2, H⟩ := H
  obtain ⟨Hz, H⟩ := H
  refine g_putZ rfl rfl rfl rfl ht2 Hz (pc' := 39) rfl ?_
  replace H := H _ rfl
  refine g_aload (r := some _) rfl rfl rfl (pc' := 40) ?_
  obtain ⟨ht4, H⟩ := H
  refine g_getRv rfl rfl rfl rfl ht4 (pc' := 43) rfl (fun r5 hr5 => ?_)
  replace H := H r5 hr5
  refine g_iload rfl rfl rfl (pc' := 44) ?_
  obtain ⟨a6, rfl, H⟩ := H
  obtain ⟨ht7, H⟩ := H
  refine g_putI rfl rfl rfl rfl ht7  (pc' := 47) rfl ?_
  replace H := H _ rfl
  refine g_aload (r := some _) rfl rfl rfl (pc' := 48) ?_
  refine g_getRv rfl rfl rfl rfl ht4 (pc' := 51) rfl (fun r9 hr9 => ?_)
  replace H := H r9 hr9
  refine g_iload rfl rfl rfl (pc' := 52) ?_
  obtain ⟨a10, rfl, H⟩ := H
  obtain ⟨ht11, H⟩ := H
  refine g_putI rfl rfl rfl rfl ht11  (pc' := 55) rfl ?_
  replace H := H _ rfl
  refine g_iconst rfl rfl rfl (pc' := 56) ?_
  exact g_ireturn rfl (Or.inl rfl) H
set_option maxRecDepth 20000 in
theorem w_241_0 {a0 : Nat} {x1 : Int32} {x2 : Int32} {h : hh_T} {Q : Option Value ⊕ Nat → hh_T → Prop} (H : gm_G 5 0 [some (.int x1), some (.int (Int32.ofNat 0)), some (.int (Int32.ofNat 1))] [] h (pI (fun v2 h1 => (¬ v2 = Int32.ofNat 0 → (gm_sub (hh_tg h1 a0) 0 = true ∧ (∀ r4, r4 = hh_r h1 a0 53 → (∃ a5, r4 = some a5 ∧ ((hh_tg h1 a5 = 104 ∨ 200 ≤ hh_tg h1 a5) ∧ (∃ n6, gm_ix x1 n6 (hh_ln h1 a5) ∧ (∀ r8, r8 = hh_r h1 a5 n6 → (∃ a9, r8 = some a9 ∧ (gm_sub (hh_tg h1 a9) 16 = true ∧ (∀ r11, r11 = hh_r h1 a9 0 → (∃ a12, r11 = some a12 ∧ (gm_sub (hh_tg h1 a12) 12 = true ∧ (gm_G 5 0 [some (.int x2), some (.int (Int32.ofNat 0)), some (.int ((hh_i h1 a12 1) - (Int32.ofNat 1)))] [] h1 (pI (fun v15 h14 => (v15 = Int32.ofNat 0 → (Q (.inl (some (.int (Int32.ofInt (-2))))) h14)) ∧ (¬ v15 = Int32.ofNat 0 → (gm_sub (hh_tg h14 a0) 0 = true ∧ (∀ r17, r17 = hh_r h14 a0 53 → (∃ a18, r17 = some a18 ∧ ((hh_tg h14 a18 = 104 ∨ 200 ≤ hh_tg h14 a18) ∧ (∃ n19, gm_ix x1 n19 (hh_ln h14 a18) ∧ (∀ r21, r21 = hh_r h14 a18 n19 → (∃ a22, r21 = some a22 ∧ (gm_sub (hh_tg h14 a22) 16 = true ∧ (∀ r24, r24 = hh_r h14 a22 0 → (∃ a25, r24 = some a25 ∧ (hh_tg h14 a25 = 13 ∧ (gm_G 63 0 [some (.ref a25), some (.int x2)] [] h14 (pI (fun v28 h27 => Q (.inl (some (.int v28))) h27) (fun e29 h30 => hh_tg h30 e29 = 21 ∧ Q (.inr e29) h30)))))))))))))))) (fun e31 h32 => hh_tg h32 e31 = 21 ∧ Q (.inr e31) h32))))))))))))))) ∧ (v2 = Int32.ofNat 0 → (Q (.inl (some (.int (Int32.ofInt (-1))))) h1))) (fun e33 h34 => hh_tg h34 e33 = 21 ∧ Q (.inr e33) h34))) : gm_G 241 0 [some (.ref a0), some (.int x1), some (.int x2)] [] h Q := by
  refine g_iload rfl rfl rfl (pc' := 1) ?_
  refine g_iconst rfl rfl rfl (pc' := 2) ?_
  refine g_iconst rfl rfl rfl (pc' := 3) ?_
  refine g_call rfl (y := 5) (n := 3) (pc' := 6) (fun _ => rfl) rfl rfl ⟨(Nat.le_of_ble_eq_true rfl), (Nat.le_of_ble_eq_true rfl), (Nat.le_of_ble_eq_true rfl)⟩ rfl (gm_G.mono H (pI_elim (fun v2 h1 H' => ?_) (fun e33 h34 H => ?_)))
  · show gm_G _ 6 _ _ _ _
    replace H := H'
    clear H'
    refine g_if_ne rfl (pc' := 9) (pt := 11) rfl rfl ⟨fun hc => ?_, fun hc => ?_⟩
    · replace H := H.1 hc
      refine g_iload rfl rfl rfl (pc' := 12) ?_
      refine g_iconst rfl rfl rfl (pc' := 13) ?_
      refine g_aload (r := some _) rfl rfl rfl (pc' := 14) ?_
      obtain ⟨ht3, H⟩ := H
      refine g_getRv rfl rfl rfl rfl ht3 (pc' := 17) rfl (fun r4 hr4 => ?_)
      replace H := H r4 hr4
      refine g_iload rfl rfl rfl (pc' := 18) ?_
      obtain ⟨a5, rfl, H⟩ := H
      obtain ⟨ht7, H⟩ := H
      obtain ⟨n6, hn6, H⟩ := H
      refine g_aaloadv rfl ht7 hn6 (pc' := 19) rfl (fun r8 hr8 => ?_)
      replace H := H r8 hr8
      obtain ⟨a9, rfl, H⟩ := H
      obtain ⟨ht10, H⟩ := H
      refine g_getRv rfl rfl rfl rfl ht10 (pc' := 22) rfl (fun r11 hr11 => ?_)
      replace H := H r11 hr11
      obtain ⟨a12, rfl, H⟩ := H
      obtain ⟨ht13, H⟩ := H
      refine g_getI rfl rfl rfl rfl ht13 (pc' := 25) rfl ?_
      refine g_iconst rfl rfl rfl (pc' := 26) ?_
      refine g_isub rfl rfl (pc' := 27) ?_
      refine g_call rfl (y := 5) (n := 3) (pc' := 30) (fun _ => rfl) rfl rfl ⟨(Nat.le_of_ble_eq_true rfl), (Nat.le_of_ble_eq_true rfl), (Nat.le_of_ble_eq_true rfl)⟩ rfl (gm_G.mono H (pI_elim (fun v15 h14 H' => ?_) (fun e31 h32 H => ?_)))
      · show gm_G _ 30 _ _ _ _
        replace H := H'
        clear H'
        refine g_if_eq rfl (pc' := 33) (pt := 49) rfl rfl ⟨fun hc => ?_, fun hc => ?_⟩
        · replace H := H.1 hc
          refine g_iconst rfl rfl rfl (pc' := 51) ?_
          exact g_ireturn rfl (Or.inl rfl) H
        · replace H := H.2 hc
          refine g_aload (r := some _) rfl rfl rfl (pc' := 34) ?_
          obtain ⟨ht16, H⟩ := H
          refine g_getRv rfl rfl rfl rfl ht16 (pc' := 37) rfl (fun r17 hr17 => ?_)
          replace H := H r17 hr17
          refine g_iload rfl rfl rfl (pc' := 38) ?_
          obtain ⟨a18, rfl, H⟩ := H
          obtain ⟨ht20, H⟩ := H
          obtain ⟨n19, hn19, H⟩ := H
          refine g_aaloadv rfl ht20 hn19 (pc' := 39) rfl (fun r21 hr21 => ?_)
          replace H := H r21 hr21
          obtain ⟨a22, rfl, H⟩ := H
          obtain ⟨ht23, H⟩ := H
          refine g_getRv rfl rfl rfl rfl ht23 (pc' := 42) rfl (fun r24 hr24 => ?_)
          replace H := H r24 hr24
          refine g_iload rfl rfl rfl (pc' := 43) ?_
          obtain ⟨a25, rfl, H⟩ := H
          obtain ⟨ht26, H⟩ := H
          refine g_call rfl (y := 63) (n := 2) (pc' := 46) (g_vt ht26 rfl rfl) rfl rfl ⟨(Nat.le_of_ble_eq_true rfl), (Nat.le_of_ble_eq_true rfl), (Nat.le_of_ble_eq_true rfl)⟩ rfl (gm_G.mono H (pI_elim (fun v28 h27 H' => ?_) (fun e29 h30 H => ?_)))
          · show gm_G _ 46 _ _ _ _
            replace H := H'
            clear H'
            refine g_goto rfl (pc' := 51) rfl ?_
            exact g_ireturn rfl (Or.inl rfl) H
          · exact H
      · exact H
    · replace H := H.2 hc
      refine g_iconst rfl rfl rfl (pc' := 10) ?_
      exact g_ireturn rfl (Or.inl rfl) H
  · exact H
set_option maxRecDepth 20000 in
theorem w_242_0  {r_0 : Option Nat} {x1 : Int32} {h : hh_T} {Q : Option Value ⊕ Nat → hh_T → Prop} (H : gm_G 242 7 [some (va_rf r_0), some (.int x1), some (.long (Int64.ofNat 7)), none, some (.int (Int32.ofNat 0))] [] h Q) : gm_G 242 0 [some (va_rf r_0), some (.int x1)] [] h Q := by
  refine g_lconst rfl rfl rfl (pc' := 3) ?_
  refine g_lstore rfl rfl rfl (pc' := 4) ?_
  refine g_iconst rfl rfl rfl (pc' := 5) ?_
  refine g_istore rfl rfl rfl (pc' := 7) ?_
  exact g_weak (show gm_Lle [some _, some _, some _, none, some _] _ from ⟨rfl, ⟨rfl, ⟨rfl, ⟨rfl, trivial⟩⟩⟩⟩) H
set_option maxRecDepth 20000 in
theorem w_242_7  {r_0 : Option Nat} {x1 : Int32} {j2 : Int64} {x4 : Int32} {h : hh_T} {Q : Option Value ⊕ Nat → hh_T → Prop} (H : (¬ x4 < x1 → (gm_G 242 33 [some (va_rf r_0), none, some (.long j2), none, some (.int (x1 - (Int32.ofNat 1)))] [] h Q)) ∧ (x4 < x1 → (∃ a1, r_0 = some a1 ∧ ((hh_tg h a1 = 101 ∨ hh_tg h a1 = 102) ∧ (∃ n2, gm_ix x4 n2 (hh_ln h a1) ∧ (gm_G 21 0 [some (.long j2), none, some (.int (hh_i h a1 n2))] [] h (pL (fun v5 h4 => gm_G 242 7 [some (.ref a1), some (.int x1), some (.long v5), none, some (.int (x4 + (Int32.ofNat 1)))] [] h4 Q) (fun e6 h7 => hh_tg h7 e6 = 21 ∧ Q (.inr e6) h7)))))))) : gm_G 242 7 [some (va_rf r_0), some (.int x1), some (.long j2), none, some (.int x4)] [] h Q := by
  refine g_iload rfl rfl rfl (pc' := 9) ?_
  refine g_iload rfl rfl rfl (pc' := 10) ?_
  refine g_ic_ge rfl (pc' := 13) (pt := 28) rfl rfl ⟨fun hc => ?_, fun hc => ?_⟩
  · replace H := H.1 hc
    refine g_iload rfl rfl rfl (pc' := 29) ?_
    refine g_iconst rfl rfl rfl (pc' := 30) ?_
    refine g_isub rfl rfl (pc' := 31) ?_
    refine g_istore rfl rfl rfl (pc' := 33) ?_
    exact g_weak (show gm_Lle [some _, none, some _, none, some _] _ from ⟨rfl, ⟨rfl, ⟨rfl, trivial⟩⟩⟩) H
  · replace H := H.2 hc
    refine g_lload rfl rfl rfl (pc' := 14) ?_
    refine g_aload (r := _) rfl rfl rfl (pc' := 15) ?_
    refine g_iload rfl rfl rfl (pc' := 17) ?_
    obtain ⟨a1, rfl, H⟩ := H
    obtain ⟨ht3, H⟩ := H
    obtain ⟨n2, hn2, H⟩ := H
    refine g_baload rfl ht3 hn2 (pc' := 18) rfl ?_
    refine g_call rfl (y := 21) (n := 2) (pc' := 21) (fun _ => rfl) rfl rfl ⟨(Nat.le_of_ble_eq_true rfl), (Nat.le_of_ble_eq_true rfl), (Nat.le_of_ble_eq_true rfl)⟩ rfl (gm_G.mono H (pL_elim (fun v5 h4 H' => ?_) (fun e6 h7 H => ?_)))
    · show gm_G _ 21 _ _ _ _
      replace H := H'
      clear H'
      refine g_lstore rfl rfl rfl (pc' := 22) ?_
      refine g_iinc (c := (Int32.ofNat 1)) rfl rfl rfl rfl rfl (pc' := 25) ?_
      refine g_goto rfl (pc' := 7) rfl ?_
      exact g_weak (show gm_Lle [some _, some _, some _, none, some _] _ from ⟨rfl, ⟨rfl, ⟨rfl, ⟨rfl, trivial⟩⟩⟩⟩) H
    · exact H
set_option maxRecDepth 20000 in
theorem w_242_33  {r_0 : Option Nat} {j2 : Int64} {x4 : Int32} {h : hh_T} {Q : Option Value ⊕ Nat → hh_T → Prop} (H : (x4 < Int32.ofNat 0 → (Q (.inl (some (.long j2))) h)) ∧ (¬ x4 < Int32.ofNat 0 → (∃ a1, r_0 = some a1 ∧ ((hh_tg h a1 = 101 ∨ hh_tg h a1 = 102) ∧ (∃ n2, gm_ix x4 n2 (hh_ln h a1) ∧ (gm_G 21 0 [some (.long j2), none, some (.int (hh_i h a1 n2))] [] h (pL (fun v5 h4 => gm_G 242 33 [some (.ref a1), none, some (.long v5), none, some (.int (x4 + (Int32.ofInt (-1))))] [] h4 Q) (fun e6 h7 => hh_tg h7 e6 = 21 ∧ Q (.inr e6) h7)))))))) : gm_G 242 33 [some (va_rf r_0), none, some (.long j2), none, some (.int x4)] [] h Q := by
  refine g_iload rfl rfl rfl (pc' := 35) ?_
  refine g_if_lt rfl (pc' := 38) (pt := 53) rfl rfl ⟨fun hc => ?_, fun hc => ?_⟩
  · replace H := H.1 hc
    refine g_lload rfl rfl rfl (pc' := 54) ?_
    exact g_lreturn rfl H
  · replace H := H.2 hc
    refine g_lload rfl rfl rfl (pc' := 39) ?_
    refine g_aload (r := _) rfl rfl rfl (pc' := 40) ?_
    refine g_iload rfl rfl rfl (pc' := 42) ?_
    obtain ⟨a1, rfl, H⟩ := H
    obtain ⟨ht3, H⟩ := H
    obtain ⟨n2, hn2, H⟩ := H
    refine g_baload rfl ht3 hn2 (pc' := 43) rfl ?_
    refine g_call rfl (y := 21) (n := 2) (pc' := 46) (fun _ => rfl) rfl rfl ⟨(Nat.le_of_ble_eq_true rfl), (Nat.le_of_ble_eq_true rfl), (Nat.le_of_ble_eq_true rfl)⟩ rfl (gm_G.mono H (pL_elim (fun v5 h4 H' => ?_) (fun e6 h7 H => ?_)))
    · show gm_G _ 46 _ _ _ _
      replace H := H'
      clear H'
      refine g_lstore rfl rfl rfl (pc' := 47) ?_
      refine g_iinc (c := (Int32.ofInt (-1))) rfl rfl rfl rfl rfl (pc' := 50) ?_
      refine g_goto rfl (pc' := 33) rfl ?_
      exact g_weak (show gm_Lle [some _, none, some _, none, some _] _ from ⟨rfl, ⟨rfl, ⟨rfl, trivial⟩⟩⟩) H
    · exact H
set_option maxRecDepth 20000 in
theorem w_243_0 {a0 : Nat}  {h : hh_T} {Q : Option Value ⊕ Nat → hh_T → Prop} (H : gm_sub (hh_tg h a0) 0 = true ∧ (∀ r2, r2 = hh_r h a0 58 → (∀ r3, r3 = hh_r h a0 57 → (∃ a4, r2 = some a4 ∧ (hh_tg h a4 = 13 ∧ (gm_G 65 0 [some (.ref a4), some (va_rf r3)] [] h (pV (fun h6 => gm_sub (hh_tg h6 a0) 0 = true ∧ (∀ r8, r8 = hh_r h6 a0 57 → (∃ a9, r8 = some a9 ∧ (gm_sub (hh_tg h6 a9) 12 = true ∧ (∀ h11, h11 = hh_wi h6 a9 1 (Int32.ofNat 0) → (Q (.inl none) h11)))))) (fun e12 h13 => hh_tg h13 e12 = 21 ∧ Q (.inr e12) h13)))))))) : gm_G 243 0 [some (.ref a0)] [] h Q := by
  refine g_aload (r := some _) rfl rfl rfl (pc' := 1) ?_
  obtain ⟨ht1, H⟩ := H
  refine g_getRv rfl rfl rfl rfl ht1 (pc' := 4) rfl (fun r2 hr2 => ?_)
  replace H := H r2 hr2
  refine g_aload (r := some _) rfl rfl rfl (pc' := 5) ?_
  refine g_getRv rfl rfl rfl rfl ht1 (pc' := 8) rfl (fun r3 hr3 => ?_)
  replace H := H r3 hr3
  obtain ⟨a4, rfl, H⟩ := H
  obtain ⟨ht5, H⟩ := H
  refine g_call rfl (y := 65) (n := 2) (pc' := 11) (g_vt ht5 rfl rfl) (by cases r3 <;> rfl) rfl ⟨(Nat.le_of_ble_eq_true rfl), (Nat.le_of_ble_eq_true rfl), (Nat.le_of_ble_eq_true rfl)⟩ rfl (gm_G.mono H (pV_elim (fun h6 H' => ?_) (fun e12 h13 H => ?_)))
  · show gm_G _ 11 _ _ _ _
    replace H := H'
    clear H'
    refine g_aload (r := some _) rfl rfl rfl (pc' := 12) ?_
    obtain ⟨ht7, H⟩ := H
    refine g_getRv rfl rfl rfl rfl ht7 (pc' := 15) rfl (fun r8 hr8 => ?_)
    replace H := H r8 hr8
    refine g_iconst rfl rfl rfl (pc' := 16) ?_
    obtain ⟨a9, rfl, H⟩ := H
    obtain ⟨ht10, H⟩ := H
    refine g_putI rfl rfl rfl rfl ht10  (pc' := 19) rfl ?_
    replace H := H _ rfl
    exact g_return rfl H
  · exact H
set_option maxRecDepth 20000 in
theorem w_244_0 {a0 : Nat} {x1 : Int32} {h : hh_T} {Q : Option Value ⊕ Nat → hh_T → Prop} (H : gm_G 5 0 [some (.int x1), some (.int (Int32.ofNat 0)), some (.int (Int32.ofNat 7))] [] h (pI (fun v2 h1 => (¬ v2 = Int32.ofNat 0 → (gm_sub (hh_tg h1 a0) 0 = true ∧ (∀ h4, h4 = hh_wi h1 a0 41 x1 → (Q (.inl (some (.int (hh_i h1 a0 41)))) h4)))) ∧ (v2 = Int32.ofNat 0 → (Q (.inl (some (.int (Int32.ofInt (-1))))) h1))) (fun e5 h6 => hh_tg h6 e5 = 21 ∧ Q (.inr e5) h6))) : gm_G 244 0 [some (.ref a0), some (.int x1)] [] h Q := by
  refine g_iload rfl rfl rfl (pc' := 1) ?_
  refine g_iconst rfl rfl rfl (pc' := 2) ?_
  refine g_iconst rfl rfl rfl (pc' := 4) ?_
  refine g_call rfl (y := 5) (n := 3) (pc' := 7) (fun _ => rfl) rfl rfl ⟨(Nat.le_of_ble_eq_true rfl), (Nat.le_of_ble_eq_true rfl), (Nat.le_of_ble_eq_true rfl)⟩ rfl (gm_G.mono H (pI_elim (fun v2 h1 H' => ?_) (fun e5 h6 H => ?_)))
  · show gm_G _ 7 _ _ _ _
    replace H := H'
    clear H'
    refine g_if_ne rfl (pc' := 10) (pt := 12) rfl rfl ⟨fun hc => ?_, fun hc => ?_⟩
    · replace H := H.1 hc
      refine g_aload (r := some _) rfl rfl rfl (pc' := 13) ?_
      obtain ⟨ht3, H⟩ := H
      refine g_getI rfl rfl rfl rfl ht3 (pc' := 16) rfl ?_
      refine g_istore rfl rfl rfl (pc' := 17) ?_
      refine g_aload (r := some _) rfl rfl rfl (pc' := 18) ?_
      refine g_iload rfl rfl rfl (pc' := 19) ?_
      refine g_putI rfl rfl rfl rfl ht3  (pc' := 22) rfl ?_
      replace H := H _ rfl
      refine g_iload rfl rfl rfl (pc' := 23) ?_
      exact g_ireturn rfl (Or.inl rfl) H
    · replace H := H.2 hc
      refine g_iconst rfl rfl rfl (pc' := 11) ?_
      exact g_ireturn rfl (Or.inl rfl) H
  · exact H
set_option maxRecDepth 20000 in
theorem w_245_0 {a0 : Nat} {r_1 : Option Nat} {x2 : Int32} {h : hh_T} {Q : Option Value ⊕ Nat → hh_T → Prop} (H : gm_sub (hh_tg h a0) 3 = true ∧ (∀ h2, h2 = hh_wr h a0 7 r_1 → (∀ a3 h4, a3 = hh_sz h2 → h4 = hh_al h2 221 6 6 → (gm_sub (hh_tg h4 a0) 3 = true ∧ (∀ h6, h6 = hh_wr h4 a0 1 (some a3) → (∀ a7 h8, a7 = hh_sz h6 → h8 = hh_al h6 6 0 4 → (gm_G 36 0 [some (.ref a7)] [] h8 (pV (fun h9 => gm_sub (hh_tg h9 a0) 3 = true ∧ (∀ h11, h11 = hh_wr h9 a0 5 (some a7) → (gm_G 245 29 [some (.ref a0), none, some (.int x2)] [] h11 Q))) (fun e12 h13 => hh_tg h13 e12 = 21 ∧ Q (.inr e12) h13))))))))) : gm_G 245 0 [some (.ref a0), some (va_rf r_1), some (.int x2)] [] h Q := by
  refine g_aload (r := some _) rfl rfl rfl (pc' := 1) ?_
  refine g_aload (r := _) rfl rfl rfl (pc' := 2) ?_
  obtain ⟨ht1, H⟩ := H
  refine g_putR rfl rfl rfl rfl ht1  (pc' := 5) rfl ?_
  replace H := H _ rfl
  refine g_aload (r := some _) rfl rfl rfl (pc' := 6) ?_
  refine g_objinit rfl (Nat.le_of_ble_eq_true rfl) (pc' := 9) rfl ?_
  refine g_aload (r := some _) rfl rfl rfl (pc' := 10) ?_
  refine g_iconst rfl rfl rfl (pc' := 12) ?_
  refine g_anewarray rfl (n := 6) rfl (by decide) (pc' := 15) rfl ?_
  replace H := H _ _ rfl rfl
  obtain ⟨ht5, H⟩ := H
  refine g_putR (x := some _) rfl rfl rfl rfl ht5  (pc' := 18) rfl ?_
  replace H := H _ rfl
  refine g_aload (r := some _) rfl rfl rfl (pc' := 19) ?_
  refine g_new rfl (t := 6) (s := 4) rfl rfl (pc' := 22) rfl ?_
  replace H := H _ _ rfl rfl
  refine g_dup_a (r := some _) rfl rfl (pc' := 23) ?_
  refine g_call rfl (y := 36) (n := 1) (pc' := 26) (fun _ => rfl) rfl rfl ⟨(Nat.le_of_ble_eq_true rfl), (Nat.le_of_ble_eq_true rfl), (Nat.le_of_ble_eq_true rfl)⟩ rfl (gm_G.mono H (pV_elim (fun h9 H' => ?_) (fun e12 h13 H => ?_)))
  · show gm_G _ 26 _ _ _ _
    replace H := H'
    clear H'
    obtain ⟨ht10, H⟩ := H
    refine g_putR (x := some _) rfl rfl rfl rfl ht10  (pc' := 29) rfl ?_
    replace H := H _ rfl
    exact g_weak (show gm_Lle [some _, none, some _] _ from ⟨rfl, ⟨rfl, trivial⟩⟩) H
  · exact H
set_option maxRecDepth 20000 in
theorem w_245_29 {a0 : Nat} {x2 : Int32} {h : hh_T} {Q : Option Value ⊕ Nat → hh_T → Prop} (H : ∀ a1 h2, a1 = hh_sz h → h2 = hh_al h 231 384 384 → (gm_sub (hh_tg h2 a0) 3 = true ∧ (∀ h4, h4 = hh_wr h2 a0 6 (some a1) → (∀ h5, h5 = hh_wi h4 a0 0 x2 → (Q (.inl none) h5))))) : gm_G 245 29 [some (.ref a0), none, some (.int x2)] [] h Q := by
  refine g_aload (r := some _) rfl rfl rfl (pc' := 30) ?_
  refine g_iconst rfl rfl rfl (pc' := 33) ?_
  refine g_anewarray rfl (n := 384) rfl (by decide) (pc' := 36) rfl ?_
  replace H := H _ _ rfl rfl
  obtain ⟨ht3, H⟩ := H
  refine g_putR (x := some _) rfl rfl rfl rfl ht3  (pc' := 39) rfl ?_
  replace H := H _ rfl
  refine g_aload (r := some _) rfl rfl rfl (pc' := 40) ?_
  refine g_iload rfl rfl rfl (pc' := 41) ?_
  refine g_putI rfl rfl rfl rfl ht3  (pc' := 44) rfl ?_
  replace H := H _ rfl
  exact g_return rfl H
set_option maxRecDepth 20000 in
theorem w_246_0 {a0 : Nat} {x1 : Int32} {x2 : Int32} {x3 : Int32} {r_4 : Option Nat} {h : hh_T} {Q : Option Value ⊕ Nat → hh_T → Prop} (H : gm_sub (hh_tg h a0) 4 = true ∧ (∀ r2, r2 = hh_r h a0 8 → (∃ a3, r2 = some a3 ∧ (gm_sub (hh_tg h a3) 0 = true ∧ (∀ h5, h5 = hh_wi h a3 4 (Int32.ofNat 0) → (gm_G 246 11 [some (.ref a0), some (.int x1), some (.int x2), some (.int x3), some (va_rf r_4), some (.int (Int32.ofNat 0))] [] h5 Q)))))) : gm_G 246 0 [some (.ref a0), some (.int x1), some (.int x2), some (.int x3), some (va_rf r_4)] [] h Q := by
  refine g_aload (r := some _) rfl rfl rfl (pc' := 1) ?_
  obtain ⟨ht1, H⟩ := H
  refine g_getRv rfl rfl rfl rfl ht1 (pc' := 4) rfl (fun r2 hr2 => ?_)
  replace H := H r2 hr2
  refine g_iconst rfl rfl rfl (pc' := 5) ?_
  obtain ⟨a3, rfl, H⟩ := H
  obtain ⟨ht4, H⟩ := H
  refine g_putZ rfl rfl rfl rfl ht4 (by decide) (pc' := 8) rfl ?_
  replace H := H _ rfl
  refine g_iconst rfl rfl rfl (pc' := 9) ?_
  refine g_istore rfl gm_sto_rf4 rfl (pc' := 11) ?_
  exact g_weak (show gm_Lle [some _, some _, some _, some _, some _, some _] _ from ⟨rfl, ⟨rfl, ⟨rfl, ⟨rfl, ⟨rfl, ⟨rfl, trivial⟩⟩⟩⟩⟩⟩) H
set_option maxRecDepth 20000 in
theorem w_246_11 {a0 : Nat} {x1 : Int32} {x2 : Int32} {x3 : Int32} {r_4 : Option Nat} {x5 : Int32} {h : hh_T} {Q : Option Value ⊕ Nat → hh_T → Prop} (H : (¬ x5 < x3 → (Q (.inl (some (.int (Int32.ofNat 1)))) h)) ∧ (x5 < x3 → (gm_sub (hh_tg h a0) 3 = true ∧ (∀ r2, r2 = hh_r h a0 1 → (∃ a3, r2 = some a3 ∧ ((hh_tg h a3 = 104 ∨ 200 ≤ hh_tg h a3) ∧ (∃ n4, gm_ix x1 n4 (hh_ln h a3) ∧ (∀ r6, r6 = hh_r h a3 n4 → (∃ a7, r6 = some a7 ∧ (hh_tg h a7 = 22 ∧ (gm_G 167 0 [some (.ref a7), some (.int (x2 + x5))] [] h (pI (fun v10 h9 => (v10 = Int32.ofNat 0 → (gm_sub (hh_tg h9 a0) 3 = true ∧ (∀ r12, r12 = hh_r h9 a0 1 → (∃ a13, r12 = some a13 ∧ ((hh_tg h9 a13 = 104 ∨ 200 ≤ hh_tg h9 a13) ∧ (∃ n14, gm_ix x1 n14 (hh_ln h9 a13) ∧ (∀ r16, r16 = hh_r h9 a13 n14 → (∃ a17, r16 = some a17 ∧ (hh_tg h9 a17 = 22 ∧ (gm_G 170 0 [some (.ref a17), some (.int (x2 + x5)), some (va_rf r_4), some (.int ((Int32.ofNat 8) * x5))] [] h9 (pV (fun h19 => gm_G 246 11 [some (.ref a0), some (.int x1), some (.int x2), some (.int x3), some (va_rf r_4), some (.int (x5 + (Int32.ofNat 1)))] [] h19 Q) (fun e20 h21 => hh_tg h21 e20 = 21 ∧ Q (.inr e20) h21)))))))))))) ∧ (¬ v10 = Int32.ofNat 0 → (Q (.inl (some (.int (Int32.ofNat 0)))) h9))) (fun e22 h23 => hh_tg h23 e22 = 21 ∧ Q (.inr e22) h23))))))))))))) : gm_G 246 11 [some (.ref a0), some (.int x1), some (.int x2), some (.int x3), some (va_rf r_4), some (.int x5)] [] h Q := by
  refine g_iload rfl rfl rfl (pc' := 13) ?_
  refine g_iload rfl rfl rfl (pc' := 14) ?_
  refine g_ic_ge rfl (pc' := 17) (pt := 61) rfl rfl ⟨fun hc => ?_, fun hc => ?_⟩
  · replace H := H.1 hc
    refine g_iconst rfl rfl rfl (pc' := 62) ?_
    exact g_ireturn rfl (Or.inr (by decide)) H
  · replace H := H.2 hc
    refine g_aload (r := some _) rfl rfl rfl (pc' := 18) ?_
    obtain ⟨ht1, H⟩ := H
    refine g_getRv rfl rfl rfl rfl ht1 (pc' := 21) rfl (fun r2 hr2 => ?_)
    replace H := H r2 hr2
    refine g_iload rfl rfl rfl (pc' := 22) ?_
    obtain ⟨a3, rfl, H⟩ := H
    obtain ⟨ht5, H⟩ := H
    obtain ⟨n4, hn4, H⟩ := H
    refine g_aaloadv rfl ht5 hn4 (pc' := 23) rfl (fun r6 hr6 => ?_)
    replace H := H r6 hr6
    refine g_iload rfl rfl rfl (pc' := 24) ?_
    refine g_iload rfl rfl rfl (pc' := 26) ?_
    refine g_iadd rfl rfl (pc' := 27) ?_
    obtain ⟨a7, rfl, H⟩ := H
    obtain ⟨ht8, H⟩ := H
    refine g_call rfl (y := 167) (n := 2) (pc' := 30) (g_vt ht8 rfl rfl) rfl rfl ⟨(Nat.le_of_ble_eq_true rfl), (Nat.le_of_ble_eq_true rfl), (Nat.le_of_ble_eq_true rfl)⟩ rfl (gm_G.mono H (pI_elim (fun v10 h9 H' => ?_) (fun e22 h23 H => ?_)))
    · show gm_G _ 30 _ _ _ _
      replace H := H'
      clear H'
      refine g_if_eq rfl (pc' := 33) (pt := 35) rfl rfl ⟨fun hc => ?_, fun hc => ?_⟩
      · replace H := H.1 hc
        refine g_aload (r := some _) rfl rfl rfl (pc' := 36) ?_
        obtain ⟨ht11, H⟩ := H
        refine g_getRv rfl rfl rfl rfl ht11 (pc' := 39) rfl (fun r12 hr12 => ?_)
        replace H := H r12 hr12
        refine g_iload rfl rfl rfl (pc' := 40) ?_
        obtain ⟨a13, rfl, H⟩ := H
        obtain ⟨ht15, H⟩ := H
        obtain ⟨n14, hn14, H⟩ := H
        refine g_aaloadv rfl ht15 hn14 (pc' := 41) rfl (fun r16 hr16 => ?_)
        replace H := H r16 hr16
        refine g_iload rfl rfl rfl (pc' := 42) ?_
        refine g_iload rfl rfl rfl (pc' := 44) ?_
        refine g_iadd rfl rfl (pc' := 45) ?_
        refine g_aload (r := _) rfl rfl rfl (pc' := 47) ?_
        refine g_iconst rfl rfl rfl (pc' := 49) ?_
        refine g_iload rfl rfl rfl (pc' := 51) ?_
        refine g_imul rfl rfl (pc' := 52) ?_
        obtain ⟨a17, rfl, H⟩ := H
        obtain ⟨ht18, H⟩ := H
        refine g_call rfl (y := 170) (n := 4) (pc' := 55) (g_vt ht18 rfl rfl) (by cases r_4 <;> rfl) rfl ⟨(Nat.le_of_ble_eq_true rfl), (Nat.le_of_ble_eq_true rfl), (Nat.le_of_ble_eq_true rfl)⟩ rfl (gm_G.mono H (pV_elim (fun h19 H' => ?_) (fun e20 h21 H => ?_)))
        · show gm_G _ 55 _ _ _ _
          replace H := H'
          clear H'
          refine g_iinc (c := (Int32.ofNat 1)) rfl rfl rfl gm_sto_rf4 rfl (pc' := 58) ?_
          refine g_goto rfl (pc' := 11) rfl ?_
          exact g_weak (show gm_Lle [some _, some _, some _, some _, some _, some _] _ from ⟨rfl, ⟨rfl, ⟨rfl, ⟨rfl, ⟨rfl, ⟨rfl, trivial⟩⟩⟩⟩⟩⟩) H
        · exact H
      · replace H := H.2 hc
        refine g_iconst rfl rfl rfl (pc' := 34) ?_
        exact g_ireturn rfl (Or.inr (by decide)) H
    · exact H
set_option maxRecDepth 20000 in
theorem w_247_0 {a0 : Nat}  {h : hh_T} {Q : Option Value ⊕ Nat → hh_T → Prop} (H : hh_tg h a0 = 5 ∧ (gm_G 29 0 [some (.ref a0)] [] h (pI (fun v3 h2 => gm_sub (hh_tg h2 a0) 3 = true ∧ ((¬ v3 < (hh_i h2 a0 2) → (Q (.inl (some (.int (Int32.ofNat 0)))) h2)) ∧ (v3 < (hh_i h2 a0 2) → (Q (.inl (some (.int (Int32.ofNat 1)))) h2)))) (fun e5 h6 => hh_tg h6 e5 = 21 ∧ Q (.inr e5) h6)))) : gm_G 247 0 [some (.ref a0)] [] h Q := by
  refine g_aload (r := some _) rfl rfl rfl (pc' := 1) ?_
  obtain ⟨ht1, H⟩ := H
  refine g_call rfl (y := 29) (n := 1) (pc' := 4) (g_vt ht1 rfl rfl) rfl rfl ⟨(Nat.le_of_ble_eq_true rfl), (Nat.le_of_ble_eq_true rfl), (Nat.le_of_ble_eq_true rfl)⟩ rfl (gm_G.mono H (pI_elim (fun v3 h2 H' => ?_) (fun e5 h6 H => ?_)))
  · show gm_G _ 4 _ _ _ _
    replace H := H'
    clear H'
    refine g_aload (r := some _) rfl rfl rfl (pc' := 5) ?_
    obtain ⟨ht4, H⟩ := H
    refine g_getI rfl rfl rfl rfl ht4 (pc' := 8) rfl ?_
    refine g_ic_ge rfl (pc' := 11) (pt := 15) rfl rfl ⟨fun hc => ?_, fun hc => ?_⟩
    · replace H := H.1 hc
      refine g_iconst rfl rfl rfl (pc' := 16) ?_
      exact g_ireturn rfl (Or.inr (by decide)) H
    · replace H := H.2 hc
      refine g_iconst rfl rfl rfl (pc' := 12) ?_
      refine g_goto rfl (pc' := 16) rfl ?_
      exact g_ireturn rfl (Or.inr (by decide)) H
  · exact H
set_option maxRecDepth 20000 in
theorem w_248_0 {a0 : Nat} {r_1 : Option Nat} {x2 : Int32} {x3 : Int32} {h : hh_T} {Q : Option Value ⊕ Nat → hh_T → Prop} (H : gm_G 248 3 [some (.ref a0), some (va_rf r_1), some (.int x2), some (.int x3), some (.int (Int32.ofNat 0))] [] h Q) : gm_G 248 0 [some (.ref a0), some (va_rf r_1), some (.int x2), some (.int x3)] [] h Q := by
  refine g_iconst rfl rfl rfl (pc' := 1) ?_
  refine g_istore rfl rfl rfl (pc' := 3) ?_
  exact g_weak (show gm_Lle [some _, some _, some _, some _, some _] _ from ⟨rfl, ⟨rfl, ⟨rfl, ⟨rfl, ⟨rfl, trivial⟩⟩⟩⟩⟩) H
set_option maxRecDepth 20000 in
theorem w_248_3 {a0 : Nat} {r_1 : Option Nat} {x2 : Int32} {x3 : Int32} {x4 : Int32} {h : hh_T} {Q : Option Value ⊕ Nat → hh_T → Prop} (H : (¬ x4 < x3 → (Q (.inl (some (.int (Int32.ofNat 1)))) h)) ∧ (x4 < x3 → (gm_G 248 15 [some (.ref a0), some (va_rf r_1), some (.int x2), some (.int x3), some (.int x4), some (.int (Int32.ofNat 0)), some (.int (Int32.ofNat 0))] [] h Q))) : gm_G 248 3 [some (.ref a0), some (va_rf r_1), some (.int x2), some (.int x3), some (.int x4)] [] h Q := by
  refine g_iload rfl rfl rfl (pc' := 5) ?_
  refine g_iload rfl rfl rfl (pc' := 6) ?_
  refine g_ic_ge rfl (pc' := 9) (pt := 83) rfl rfl ⟨fun hc => ?_, fun hc => ?_⟩
  · replace H := H.1 hc
    refine g_iconst rfl rfl rfl (pc' := 84) ?_
    exact g_ireturn rfl (Or.inr (by decide)) H
  · replace H := H.2 hc
    refine g_iconst rfl rfl rfl (pc' := 10) ?_
    refine g_istore rfl rfl rfl (pc' := 12) ?_
    refine g_iconst rfl rfl rfl (pc' := 13) ?_
    refine g_istore rfl rfl rfl (pc' := 15) ?_
    exact g_weak (show gm_Lle [some _, some _, some _, some _, some _, some _, some _] _ from ⟨rfl, ⟨rfl, ⟨rfl, ⟨rfl, ⟨rfl, ⟨rfl, ⟨rfl, trivial⟩⟩⟩⟩⟩⟩⟩) H
set_option maxRecDepth 20000 in
theorem w_248_15 {a0 : Nat} {r_1 : Option Nat} {x2 : Int32} {x3 : Int32} {x4 : Int32} {x5 : Int32} {x6 : Int32} {h : hh_T} {Q : Option Value ⊕ Nat → hh_T → Prop} (H : gm_sub (hh_tg h a0) 3 = true ∧ ((¬ x6 < (hh_i h a0 2) → ((¬ x5 = Int32.ofNat 0 → (gm_G 248 3 [some (.ref a0), some (va_rf r_1), some (.int x2), some (.int x3), some (.int (x4 + (Int32.ofNat 1)))] [] h Q)) ∧ (x5 = Int32.ofNat 0 → (Q (.inl (some (.int (Int32.ofNat 0)))) h)))) ∧ (x6 < (hh_i h a0 2) → ((¬ x5 = Int32.ofNat 0 → (gm_G 248 57 [some (.ref a0), some (va_rf r_1), some (.int x2), some (.int x3), some (.int x4), none, some (.int x6)] [] h Q)) ∧ (x5 = Int32.ofNat 0 → (∀ r2, r2 = hh_r h a0 1 → (∃ a3, r2 = some a3 ∧ ((hh_tg h a3 = 104 ∨ 200 ≤ hh_tg h a3) ∧ (∃ n4, gm_ix x6 n4 (hh_ln h a3) ∧ (∀ r6, r6 = hh_r h a3 n4 → ((r6 = r_1 → (gm_G 248 61 [some (.ref a0), some (va_rf r_1), some (.int x2), some (.int x3), some (.int x4), none, some (.int x6)] [] h Q)) ∧ (¬ r6 = r_1 → (∀ r7, r7 = hh_r h a0 1 → (∃ a8, r7 = some a8 ∧ ((hh_tg h a8 = 104 ∨ 200 ≤ hh_tg h a8) ∧ (∃ n9, gm_ix x6 n9 (hh_ln h a8) ∧ (∀ r11, r11 = hh_r h a8 n9 → (∃ a12, r11 = some a12 ∧ (hh_tg h a12 = 22 ∧ (gm_G 167 0 [some (.ref a12), some (.int (x2 + x4))] [] h (pI (fun v15 h14 => (¬ v15 = Int32.ofNat 0 → (gm_G 248 61 [some (.ref a0), some (va_rf r_1), some (.int x2), some (.int x3), some (.int x4), none, some (.int x6)] [] h14 Q)) ∧ (v15 = Int32.ofNat 0 → (gm_G 248 57 [some (.ref a0), some (va_rf r_1), some (.int x2), some (.int x3), some (.int x4), none, some (.int x6)] [] h14 Q))) (fun e16 h17 => hh_tg h17 e16 = 21 ∧ Q (.inr e16) h17)))))))))))))))))))))) : gm_G 248 15 [some (.ref a0), some (va_rf r_1), some (.int x2), some (.int x3), some (.int x4), some (.int x5), some (.int x6)] [] h Q := by
  refine g_iload rfl rfl rfl (pc' := 17) ?_
  refine g_aload (r := some _) rfl rfl rfl (pc' := 18) ?_
  obtain ⟨ht1, H⟩ := H
  refine g_getI rfl rfl rfl rfl ht1 (pc' := 21) rfl ?_
  refine g_ic_ge rfl (pc' := 24) (pt := 70) rfl rfl ⟨fun hc => ?_, fun hc => ?_⟩
  · replace H := H.1 hc
    refine g_iload rfl rfl rfl (pc' := 72) ?_
    refine g_if_ne rfl (pc' := 75) (pt := 77) rfl rfl ⟨fun hc => ?_, fun hc => ?_⟩
    · replace H := H.1 hc
      refine g_iinc (c := (Int32.ofNat 1)) rfl rfl rfl rfl rfl (pc' := 80) ?_
      refine g_goto rfl (pc' := 3) rfl ?_
      exact g_weak (show gm_Lle [some _, some _, some _, some _, some _] _ from ⟨rfl, ⟨rfl, ⟨rfl, ⟨rfl, ⟨rfl, trivial⟩⟩⟩⟩⟩) H
    · replace H := H.2 hc
      refine g_iconst rfl rfl rfl (pc' := 76) ?_
      exact g_ireturn rfl (Or.inr (by decide)) H
  · replace H := H.2 hc
    refine g_iload rfl rfl rfl (pc' := 26) ?_
    refine g_if_ne rfl (pc' := 29) (pt := 57) rfl rfl ⟨fun hc => ?_, fun hc => ?_⟩
    · replace H := H.1 hc
      exact g_weak (show gm_Lle [some _, some _, some _, some _, some _, none, some _] _ from ⟨rfl, ⟨rfl, ⟨rfl, ⟨rfl, ⟨rfl, ⟨rfl, trivial⟩⟩⟩⟩⟩⟩) H
    · replace H := H.2 hc
      refine g_aload (r := some _) rfl rfl rfl (pc' := 30) ?_
      refine g_getRv rfl rfl rfl rfl ht1 (pc' := 33) rfl (fun r2 hr2 => ?_)
      replace H := H r2 hr2
      refine g_iload rfl rfl rfl (pc' := 35) ?_
      obtain ⟨a3, rfl, H⟩ := H
      obtain ⟨ht5, H⟩ := H
      obtain ⟨n4, hn4, H⟩ := H
      refine g_aaloadv rfl ht5 hn4 (pc' := 36) rfl (fun r6 hr6 => ?_)
      replace H := H r6 hr6
      refine g_aload (r := _) rfl rfl rfl (pc' := 37) ?_
      refine g_ac_eq (r1 := _) (r2 := _) rfl (pc' := 40) (pt := 61) rfl rfl ⟨fun hc => ?_, fun hc => ?_⟩
      · replace H := H.1 hc
        exact g_weak (show gm_Lle [some _, some _, some _, some _, some _, none, some _] _ from ⟨rfl, ⟨rfl, ⟨rfl, ⟨rfl, ⟨rfl, ⟨rfl, trivial⟩⟩⟩⟩⟩⟩) H
      · replace H := H.2 hc
        refine g_aload (r := some _) rfl rfl rfl (pc' := 41) ?_
        refine g_getRv rfl rfl rfl rfl ht1 (pc' := 44) rfl (fun r7 hr7 => ?_)
        replace H := H r7 hr7
        refine g_iload rfl rfl rfl (pc' := 46) ?_
        obtain ⟨a8, rfl, H⟩ := H
        obtain ⟨ht10, H⟩ := H
        obtain ⟨n9, hn9, H⟩ := H
        refine g_aaloadv rfl ht10 hn9 (pc' := 47) rfl (fun r11 hr11 => ?_)
        replace H := H r11 hr11
        refine g_iload rfl rfl rfl (pc' := 48) ?_
        refine g_iload rfl rfl rfl (pc' := 50) ?_
        refine g_iadd rfl rfl (pc' := 51) ?_
        obtain ⟨a12, rfl, H⟩ := H
        obtain ⟨ht13, H⟩ := H
        refine g_call rfl (y := 167) (n := 2) (pc' := 54) (g_vt ht13 rfl rfl) rfl rfl ⟨(Nat.le_of_ble_eq_true rfl), (Nat.le_of_ble_eq_true rfl), (Nat.le_of_ble_eq_true rfl)⟩ rfl (gm_G.mono H (pI_elim (fun v15 h14 H' => ?_) (fun e16 h17 H => ?_)))
        · show gm_G _ 54 _ _ _ _
          replace H := H'
          clear H'
          refine g_if_ne rfl (pc' := 57) (pt := 61) rfl rfl ⟨fun hc => ?_, fun hc => ?_⟩
          · replace H := H.1 hc
            exact g_weak (show gm_Lle [some _, some _, some _, some _, some _, none, some _] _ from ⟨rfl, ⟨rfl, ⟨rfl, ⟨rfl, ⟨rfl, ⟨rfl, trivial⟩⟩⟩⟩⟩⟩) H
          · replace H := H.2 hc
            exact g_weak (show gm_Lle [some _, some _, some _, some _, some _, none, some _] _ from ⟨rfl, ⟨rfl, ⟨rfl, ⟨rfl, ⟨rfl, ⟨rfl, trivial⟩⟩⟩⟩⟩⟩) H
        · exact H
set_option maxRecDepth 20000 in
theorem w_248_57 {a0 : Nat} {r_1 : Option Nat} {x2 : Int32} {x3 : Int32} {x4 : Int32} {x6 : Int32} {h : hh_T} {Q : Option Value ⊕ Nat → hh_T → Prop} (H : gm_G 248 62 [some (.ref a0), some (va_rf r_1), some (.int x2), some (.int x3), some (.int x4), none, some (.int x6)] [.int (Int32.ofNat 1)] h Q) : gm_G 248 57 [some (.ref a0), some (va_rf r_1), some (.int x2), some (.int x3), some (.int x4), none, some (.int x6)] [] h Q := by
  refine g_iconst rfl rfl rfl (pc' := 58) ?_
  refine g_goto rfl (pc' := 62) rfl ?_
  exact g_weak (show gm_Lle [some _, some _, some _, some _, some _, none, some _] _ from ⟨rfl, ⟨rfl, ⟨rfl, ⟨rfl, ⟨rfl, ⟨rfl, trivial⟩⟩⟩⟩⟩⟩) H
set_option maxRecDepth 20000 in
theorem w_248_61 {a0 : Nat} {r_1 : Option Nat} {x2 : Int32} {x3 : Int32} {x4 : Int32} {x6 : Int32} {h : hh_T} {Q : Option Value ⊕ Nat → hh_T → Prop} (H : gm_G 248 62 [some (.ref a0), some (va_rf r_1), some (.int x2), some (.int x3), some (.int x4), none, some (.int x6)] [.int (Int32.ofNat 0)] h Q) : gm_G 248 61 [some (.ref a0), some (va_rf r_1), some (.int x2), some (.int x3), some (.int x4), none, some (.int x6)] [] h Q := by
  refine g_iconst rfl rfl rfl (pc' := 62) ?_
  exact g_weak (show gm_Lle [some _, some _, some _, some _, some _, none, some _] _ from ⟨rfl, ⟨rfl, ⟨rfl, ⟨rfl, ⟨rfl, ⟨rfl, trivial⟩⟩⟩⟩⟩⟩) H
set_option maxRecDepth 20000 in
theorem w_248_62 {a0 : Nat} {r_1 : Option Nat} {x2 : Int32} {x3 : Int32} {x4 : Int32} {x6 : Int32} {y0 : Int32} {h : hh_T} {Q : Option Value ⊕ Nat → hh_T → Prop} (H : gm_G 248 15 [some (.ref a0), some (va_rf r_1), some (.int x2), some (.int x3), some (.int x4), some (.int y0), some (.int (x6 + (Int32.ofNat 1)))] [] h Q) : gm_G 248 62 [some (.ref a0), some (va_rf r_1), some (.int x2), some (.int x3), some (.int x4), none, some (.int x6)] [.int y0] h Q := by
  refine g_istore rfl rfl rfl (pc' := 64) ?_
  refine g_iinc (c := (Int32.ofNat 1)) rfl rfl rfl rfl rfl (pc' := 67) ?_
  refine g_goto rfl (pc' := 15) rfl ?_
  exact g_weak (show gm_Lle [some _, some _, some _, some _, some _, some _, some _] _ from ⟨rfl, ⟨rfl, ⟨rfl, ⟨rfl, ⟨rfl, ⟨rfl, ⟨rfl, trivial⟩⟩⟩⟩⟩⟩⟩) H
set_option maxRecDepth 20000 in
theorem w_249_0 {a0 : Nat} {x1 : Int32} {x2 : Int32} {h : hh_T} {Q : Option Value ⊕ Nat → hh_T → Prop} (H : hh_tg h a0 = 6 ∧ (gm_G 41 0 [some (.ref a0), some (.int x1)] [] h (pI (fun v3 h2 => gm_sub (hh_tg h2 a0) 5 = true ∧ (∀ h5, h5 = hh_wi h2 a0 3 ((hh_i h2 a0 3) + x2) → ((¬ Int32.ofNat 0 < v3 → (gm_G 249 36 [some (.ref a0), some (.int x1), some (.int x2), some (.int v3)] [] h5 Q)) ∧ (Int32.ofNat 0 < v3 → (∀ r6, r6 = hh_r h5 a0 1 → (∃ a7, r6 = some a7 ∧ ((hh_tg h5 a7 = 100 ∨ hh_tg h5 a7 = 105) ∧ (∃ n8, gm_ix (v3 - (Int32.ofNat 1)) n8 (hh_ln h5 a7) ∧ ((¬ (hh_i h5 a7 n8) = x1 → (gm_G 249 36 [some (.ref a0), some (.int x1), some (.int x2), some (.int v3)] [] h5 Q)) ∧ ((hh_i h5 a7 n8) = x1 → (gm_G 249 37 [some (.ref a0), some (.int x1), some (.int x2), some (.int v3)] [.int (Int32.ofNat 1)] h5 Q))))))))))) (fun e10 h11 => hh_tg h11 e10 = 21 ∧ Q (.inr e10) h11)))) : gm_G 249 0 [some (.ref a0), some (.int x1), some (.int x2)] [] h Q := by
  refine g_aload (r := some _) rfl rfl rfl (pc' := 1) ?_
  refine g_iload rfl rfl rfl (pc' := 2) ?_
  obtain ⟨ht1, H⟩ := H
  refine g_call rfl (y := 41) (n := 2) (pc' := 5) (g_vt ht1 rfl rfl) rfl rfl ⟨(Nat.le_of_ble_eq_true rfl), (Nat.le_of_ble_eq_true rfl), (Nat.le_of_ble_eq_true rfl)⟩ rfl (gm_G.mono H (pI_elim (fun v3 h2 H' => ?_) (fun e10 h11 H => ?_)))
  · show gm_G _ 5 _ _ _ _
    replace H := H'
    clear H'
    refine g_istore rfl rfl rfl (pc' := 6) ?_
    refine g_aload (r := some _) rfl rfl rfl (pc' := 7) ?_
    refine g_dup_a (r := some _) rfl rfl (pc' := 8) ?_
    obtain ⟨ht4, H⟩ := H
    refine g_getI rfl rfl rfl rfl ht4 (pc' := 11) rfl ?_
    refine g_iload rfl rfl rfl (pc' := 12) ?_
    refine g_iadd rfl rfl (pc' := 13) ?_
    refine g_putI rfl rfl rfl rfl ht4  (pc' := 16) rfl ?_
    replace H := H _ rfl
    refine g_iload rfl rfl rfl (pc' := 17) ?_
    refine g_if_le rfl (pc' := 20) (pt := 36) rfl rfl ⟨fun hc => ?_, fun hc => ?_⟩
    · replace H := H.1 hc
      exact g_weak (show gm_Lle [some _, some _, some _, some _] _ from ⟨rfl, ⟨rfl, ⟨rfl, ⟨rfl, trivial⟩⟩⟩⟩) H
    · replace H := H.2 hc
      refine g_aload (r := some _) rfl rfl rfl (pc' := 21) ?_
      refine g_getRv rfl rfl rfl rfl ht4 (pc' := 24) rfl (fun r6 hr6 => ?_)
      replace H := H r6 hr6
      refine g_iload rfl rfl rfl (pc' := 25) ?_
      refine g_iconst rfl rfl rfl (pc' := 26) ?_
      refine g_isub rfl rfl (pc' := 27) ?_
      obtain ⟨a7, rfl, H⟩ := H
      obtain ⟨ht9, H⟩ := H
      obtain ⟨n8, hn8, H⟩ := H
      refine g_iaload rfl ht9 hn8 (pc' := 28) rfl ?_
      refine g_iload rfl rfl rfl (pc' := 29) ?_
      refine g_ic_ne rfl (pc' := 32) (pt := 36) rfl rfl ⟨fun hc => ?_, fun hc => ?_⟩
      · replace H := H.1 hc
        exact g_weak (show gm_Lle [some _, some _, some _, some _] _ from ⟨rfl, ⟨rfl, ⟨rfl, ⟨rfl, trivial⟩⟩⟩⟩) H
      · replace H := H.2 hc
        refine g_iconst rfl rfl rfl (pc' := 33) ?_
        refine g_goto rfl (pc' := 37) rfl ?_
        exact g_weak (show gm_Lle [some _, some _, some _, some _] _ from ⟨rfl, ⟨rfl, ⟨rfl, ⟨rfl, trivial⟩⟩⟩⟩) H
  · exact H
set_option maxRecDepth 20000 in
theorem w_249_36 {a0 : Nat} {x1 : Int32} {x2 : Int32} {x3 : Int32} {h : hh_T} {Q : Option Value ⊕ Nat → hh_T → Prop} (H : gm_G 249 37 [some (.ref a0), some (.int x1), some (.int x2), some (.int x3)] [.int (Int32.ofNat 0)] h Q) : gm_G 249 36 [some (.ref a0), some (.int x1), some (.int x2), some (.int x3)] [] h Q := by
  refine g_iconst rfl rfl rfl (pc' := 37) ?_
  exact g_weak (show gm_Lle [some _, some _, some _, some _] _ from ⟨rfl, ⟨rfl, ⟨rfl, ⟨rfl, trivial⟩⟩⟩⟩) H
set_option maxRecDepth 20000 in
theorem w_249_37 {a0 : Nat} {x1 : Int32} {x2 : Int32} {x3 : Int32} {y0 : Int32} {h : hh_T} {Q : Option Value ⊕ Nat → hh_T → Prop} (H : gm_sub (hh_tg h a0) 5 = true ∧ ((¬ x3 < (hh_i h a0 2) → (gm_G 249 63 [some (.ref a0), some (.int x1), some (.int x2), some (.int x3), some (.int y0)] [] h Q)) ∧ (x3 < (hh_i h a0 2) → (∀ r2, r2 = hh_r h a0 0 → (∃ a3, r2 = some a3 ∧ ((hh_tg h a3 = 100 ∨ hh_tg h a3 = 105) ∧ (∃ n4, gm_ix x3 n4 (hh_ln h a3) ∧ ((¬ (hh_i h a3 n4) = (x1 + x2) → (gm_G 249 63 [some (.ref a0), some (.int x1), some (.int x2), some (.int x3), some (.int y0)] [] h Q)) ∧ ((hh_i h a3 n4) = (x1 + x2) → (gm_G 249 64 [some (.ref a0), some (.int x1), some (.int x2), some (.int x3), some (.int y0)] [.int (Int32.ofNat 1)] h Q)))))))))) : gm_G 249 37 [some (.ref a0), some (.int x1), some (.int x2), some (.int x3)] [.int y0] h Q := by
  refine g_istore rfl rfl rfl (pc' := 39) ?_
  refine g_iload rfl rfl rfl (pc' := 40) ?_
  refine g_aload (r := some _) rfl rfl rfl (pc' := 41) ?_
  obtain ⟨ht1, H⟩ := H
  refine g_getI rfl rfl rfl rfl ht1 (pc' := 44) rfl ?_
  refine g_ic_ge rfl (pc' := 47) (pt := 63) rfl rfl ⟨fun hc => ?_, fun hc => ?_⟩
  · replace H := H.1 hc
    exact g_weak (show gm_Lle [some _, some _, some _, some _, some _] _ from ⟨rfl, ⟨rfl, ⟨rfl, ⟨rfl, ⟨rfl, trivial⟩⟩⟩⟩⟩) H
  · replace H := H.2 hc
    refine g_aload (r := some _) rfl rfl rfl (pc' := 48) ?_
    refine g_getRv rfl rfl rfl rfl ht1 (pc' := 51) rfl (fun r2 hr2 => ?_)
    replace H := H r2 hr2
    refine g_iload rfl rfl rfl (pc' := 52) ?_
    obtain ⟨a3, rfl, H⟩ := H
    obtain ⟨ht5, H⟩ := H
    obtain ⟨n4, hn4, H⟩ := H
    refine g_iaload rfl ht5 hn4 (pc' := 53) rfl ?_
    refine g_iload rfl rfl rfl (pc' := 54) ?_
    refine g_iload rfl rfl rfl (pc' := 55) ?_
    refine g_iadd rfl rfl (pc' := 56) ?_
    refine g_ic_ne rfl (pc' := 59) (pt := 63) rfl rfl ⟨fun hc => ?_, fun hc => ?_⟩
    · replace H := H.1 hc
      exact g_weak (show gm_Lle [some _, some _, some _, some _, some _] _ from ⟨rfl, ⟨rfl, ⟨rfl, ⟨rfl, ⟨rfl, trivial⟩⟩⟩⟩⟩) H
    · replace H := H.2 hc
      refine g_iconst rfl rfl rfl (pc' := 60) ?_
      refine g_goto rfl (pc' := 64) rfl ?_
      exact g_weak (show gm_Lle [some _, some _, some _, some _, some _] _ from ⟨rfl, ⟨rfl, ⟨rfl, ⟨rfl, ⟨rfl, trivial⟩⟩⟩⟩⟩) H
set_option maxRecDepth 20000 in
theorem w_249_63 {a0 : Nat} {x1 : Int32} {x2 : Int32} {x3 : Int32} {x4 : Int32} {h : hh_T} {Q : Option Value ⊕ Nat → hh_T → Prop} (H : gm_G 249 64 [some (.ref a0), some (.int x1), some (.int x2), some (.int x3), some (.int x4)] [.int (Int32.ofNat 0)] h Q) : gm_G 249 63 [some (.ref a0), some (.int x1), some (.int x2), some (.int x3), some (.int x4)] [] h Q := by
  refine g_iconst rfl rfl rfl (pc' := 64) ?_
  exact g_weak (show gm_Lle [some _, some _, some _, some _, some _] _ from ⟨rfl, ⟨rfl, ⟨rfl, ⟨rfl, ⟨rfl, trivial⟩⟩⟩⟩⟩) H
set_option maxRecDepth 20000 in
theorem w_249_64 {a0 : Nat} {x1 : Int32} {x2 : Int32} {x3 : Int32} {x4 : Int32} {y0 : Int32} {h : hh_T} {Q : Option Value ⊕ Nat → hh_T → Prop} (H : (x4 = Int32.ofNat 0 → (gm_G 249 98 [some (.ref a0), some (.int x1), some (.int x2), some (.int x3), some (.int x4), some (.int y0)] [] h Q)) ∧ (¬ x4 = Int32.ofNat 0 → ((y0 = Int32.ofNat 0 → (gm_G 249 98 [some (.ref a0), some (.int x1), some (.int x2), some (.int x3), some (.int x4), some (.int y0)] [] h Q)) ∧ (¬ y0 = Int32.ofNat 0 → (gm_sub (hh_tg h a0) 5 = true ∧ (∀ r2, r2 = hh_r h a0 1 → (∀ r3, r3 = hh_r h a0 1 → (∃ a4, r3 = some a4 ∧ ((hh_tg h a4 = 100 ∨ hh_tg h a4 = 105) ∧ (∃ n5, gm_ix x3 n5 (hh_ln h a4) ∧ (∃ a7, r2 = some a7 ∧ (hh_tg h a7 = 100 ∧ (∃ n8, gm_ix (x3 - (Int32.ofNat 1)) n8 (hh_ln h a7) ∧ (∀ h9, h9 = hh_wi h a7 n8 (hh_i h a4 n5) → (hh_tg h9 a0 = 6 ∧ (gm_G 38 0 [some (.ref a0), some (.int x3)] [] h9 (pV (fun h11 => gm_G 249 153 [] [] h11 Q) (fun e12 h13 => hh_tg h13 e12 = 21 ∧ Q (.inr e12) h13)))))))))))))))))) : gm_G 249 64 [some (.ref a0), some (.int x1), some (.int x2), some (.int x3), some (.int x4)] [.int y0] h Q := by
  refine g_istore rfl rfl rfl (pc' := 66) ?_
  refine g_iload rfl rfl rfl (pc' := 68) ?_
  refine g_if_eq rfl (pc' := 71) (pt := 98) rfl rfl ⟨fun hc => ?_, fun hc => ?_⟩
  · replace H := H.1 hc
    exact g_weak (show gm_Lle [some _, some _, some _, some _, some _, some _] _ from ⟨rfl, ⟨rfl, ⟨rfl, ⟨rfl, ⟨rfl, ⟨rfl, trivial⟩⟩⟩⟩⟩⟩) H
  · replace H := H.2 hc
    refine g_iload rfl rfl rfl (pc' := 73) ?_
    refine g_if_eq rfl (pc' := 76) (pt := 98) rfl rfl ⟨fun hc => ?_, fun hc => ?_⟩
    · replace H := H.1 hc
      exact g_weak (show gm_Lle [some _, some _, some _, some _, some _, some _] _ from ⟨rfl, ⟨rfl, ⟨rfl, ⟨rfl, ⟨rfl, ⟨rfl, trivial⟩⟩⟩⟩⟩⟩) H
    · replace H := H.2 hc
      refine g_aload (r := some _) rfl rfl rfl (pc' := 77) ?_
      obtain ⟨ht1, H⟩ := H
      refine g_getRv rfl rfl rfl rfl ht1 (pc' := 80) rfl (fun r2 hr2 => ?_)
      replace H := H r2 hr2
      refine g_iload rfl rfl rfl (pc' := 81) ?_
      refine g_iconst rfl rfl rfl (pc' := 82) ?_
      refine g_isub rfl rfl (pc' := 83) ?_
      refine g_aload (r := some _) rfl rfl rfl (pc' := 84) ?_
      refine g_getRv rfl rfl rfl rfl ht1 (pc' := 87) rfl (fun r3 hr3 => ?_)
      replace H := H r3 hr3
      refine g_iload rfl rfl rfl (pc' := 88) ?_
      obtain ⟨a4, rfl, H⟩ := H
      obtain ⟨ht6, H⟩ := H
      obtain ⟨n5, hn5, H⟩ := H
      refine g_iaload rfl ht6 hn5 (pc' := 89) rfl ?_
      obtain ⟨a7, rfl, H⟩ := H
      obtain ⟨ht14, H⟩ := H
      obtain ⟨n8, hn8, H⟩ := H
      refine g_iastore rfl ht14 hn8  (pc' := 90) rfl ?_
      replace H := H _ rfl
      refine g_aload (r := some _) rfl rfl rfl (pc' := 91) ?_
      refine g_iload rfl rfl rfl (pc' := 92) ?_
      obtain ⟨ht10, H⟩ := H
      refine g_call rfl (y := 38) (n := 2) (pc' := 95) (g_vt ht10 rfl rfl) rfl rfl ⟨(Nat.le_of_ble_eq_true rfl), (Nat.le_of_ble_eq_true rfl), (Nat.le_of_ble_eq_true rfl)⟩ rfl (gm_G.mono H (pV_elim (fun h11 H' => ?_) (fun e12 h13 H => ?_)))
      · show gm_G _ 95 _ _ _ _
        replace H := H'
        clear H'
        refine g_goto rfl (pc' := 153) rfl ?_
        exact g_weak (show gm_Lle [] _ from trivial) H
      · exact H
set_option maxRecDepth 20000 in
theorem w_249_98 {a0 : Nat} {x1 : Int32} {x2 : Int32} {x3 : Int32} {x4 : Int32} {x5 : Int32} {h : hh_T} {Q : Option Value ⊕ Nat → hh_T → Prop} (H : (x4 = Int32.ofNat 0 → ((x5 = Int32.ofNat 0 → (hh_tg h a0 = 6 ∧ (gm_G 40 0 [some (.ref a0), some (.int x3)] [] h (pV (fun h2 => gm_sub (hh_tg h2 a0) 5 = true ∧ (∀ r4, r4 = hh_r h2 a0 0 → (∃ a5, r4 = some a5 ∧ (hh_tg h2 a5 = 100 ∧ (∃ n6, gm_ix x3 n6 (hh_ln h2 a5) ∧ (∀ h7, h7 = hh_wi h2 a5 n6 x1 → (∀ r8, r8 = hh_r h7 a0 1 → (∃ a9, r8 = some a9 ∧ (hh_tg h7 a9 = 100 ∧ (∃ n10, gm_ix x3 n10 (hh_ln h7 a9) ∧ (∀ h11, h11 = hh_wi h7 a9 n10 (x1 + x2) → (gm_G 249 153 [] [] h11 Q)))))))))))) (fun e14 h15 => hh_tg h15 e14 = 21 ∧ Q (.inr e14) h15))))) ∧ (¬ x5 = Int32.ofNat 0 → (gm_sub (hh_tg h a0) 5 = true ∧ (∀ r17, r17 = hh_r h a0 0 → (∃ a18, r17 = some a18 ∧ (hh_tg h a18 = 100 ∧ (∃ n19, gm_ix x3 n19 (hh_ln h a18) ∧ (∀ h20, h20 = hh_wi h a18 n19 x1 → (gm_G 249 153 [] [] h20 Q)))))))))) ∧ (¬ x4 = Int32.ofNat 0 → (gm_sub (hh_tg h a0) 5 = true ∧ (∀ r23, r23 = hh_r h a0 1 → (∃ a24, r23 = some a24 ∧ (hh_tg h a24 = 100 ∧ (∃ n25, gm_ix (x3 - (Int32.ofNat 1)) n25 (hh_ln h a24) ∧ (∀ h26, h26 = hh_wi h a24 n25 (x1 + x2) → (gm_G 249 153 [] [] h26 Q))))))))) : gm_G 249 98 [some (.ref a0), some (.int x1), some (.int x2), some (.int x3), some (.int x4), some (.int x5)] [] h Q := by
  refine g_iload rfl rfl rfl (pc' := 100) ?_
  refine g_if_eq rfl (pc' := 103) (pt := 117) rfl rfl ⟨fun hc => ?_, fun hc => ?_⟩
  · replace H := H.1 hc
    refine g_iload rfl rfl rfl (pc' := 119) ?_
    refine g_if_eq rfl (pc' := 122) (pt := 132) rfl rfl ⟨fun hc => ?_, fun hc => ?_⟩
    · replace H := H.1 hc
      refine g_aload (r := some _) rfl rfl rfl (pc' := 133) ?_
      refine g_iload rfl rfl rfl (pc' := 134) ?_
      obtain ⟨ht1, H⟩ := H
      refine g_call rfl (y := 40) (n := 2) (pc' := 137) (g_vt ht1 rfl rfl) rfl rfl ⟨(Nat.le_of_ble_eq_true rfl), (Nat.le_of_ble_eq_true rfl), (Nat.le_of_ble_eq_true rfl)⟩ rfl (gm_G.mono H (pV_elim (fun h2 H' => ?_) (fun e14 h15 H => ?_)))
      · show gm_G _ 137 _ _ _ _
        replace H := H'
        clear H'
        refine g_aload (r := some _) rfl rfl rfl (pc' := 138) ?_
        obtain ⟨ht3, H⟩ := H
        refine g_getRv rfl rfl rfl rfl ht3 (pc' := 141) rfl (fun r4 hr4 => ?_)
        replace H := H r4 hr4
        refine g_iload rfl rfl rfl (pc' := 142) ?_
        refine g_iload rfl rfl rfl (pc' := 143) ?_
        obtain ⟨a5, rfl, H⟩ := H
        obtain ⟨ht13, H⟩ := H
        obtain ⟨n6, hn6, H⟩ := H
        refine g_iastore rfl ht13 hn6  (pc' := 144) rfl ?_
        replace H := H _ rfl
        refine g_aload (r := some _) rfl rfl rfl (pc' := 145) ?_
        refine g_getRv rfl rfl rfl rfl ht3 (pc' := 148) rfl (fun r8 hr8 => ?_)
        replace H := H r8 hr8
        refine g_iload rfl rfl rfl (pc' := 149) ?_
        refine g_iload rfl rfl rfl (pc' := 150) ?_
        refine g_iload rfl rfl rfl (pc' := 151) ?_
        refine g_iadd rfl rfl (pc' := 152) ?_
        obtain ⟨a9, rfl, H⟩ := H
        obtain ⟨ht12, H⟩ := H
        obtain ⟨n10, hn10, H⟩ := H
        refine g_iastore rfl ht12 hn10  (pc' := 153) rfl ?_
        replace H := H _ rfl
        exact g_weak (show gm_Lle [] _ from trivial) H
      · exact H
    · replace H := H.2 hc
      refine g_aload (r := some _) rfl rfl rfl (pc' := 123) ?_
      obtain ⟨ht16, H⟩ := H
      refine g_getRv rfl rfl rfl rfl ht16 (pc' := 126) rfl (fun r17 hr17 => ?_)
      replace H := H r17 hr17
      refine g_iload rfl rfl rfl (pc' := 127) ?_
      refine g_iload rfl rfl rfl (pc' := 128) ?_
      obtain ⟨a18, rfl, H⟩ := H
      obtain ⟨ht21, H⟩ := H
      obtain ⟨n19, hn19, H⟩ := H
      refine g_iastore rfl ht21 hn19  (pc' := 129) rfl ?_
      replace H := H _ rfl
      refine g_goto rfl (pc' := 153) rfl ?_
      exact g_weak (show gm_Lle [] _ from trivial) H
  · replace H := H.2 hc
    refine g_aload (r := some _) rfl rfl rfl (pc' := 104) ?_
    obtain ⟨ht22, H⟩ := H
    refine g_getRv rfl rfl rfl rfl ht22 (pc' := 107) rfl (fun r23 hr23 => ?_)
    replace H := H r23 hr23
    refine g_iload rfl rfl rfl (pc' := 108) ?_
    refine g_iconst rfl rfl rfl (pc' := 109) ?_
    refine g_isub rfl rfl (pc' := 110) ?_
    refine g_iload rfl rfl rfl (pc' := 111) ?_
    refine g_iload rfl rfl rfl (pc' := 112) ?_
    refine g_iadd rfl rfl (pc' := 113) ?_
    obtain ⟨a24, rfl, H⟩ := H
    obtain ⟨ht27, H⟩ := H
    obtain ⟨n25, hn25, H⟩ := H
    refine g_iastore rfl ht27 hn25  (pc' := 114) rfl ?_
    replace H := H _ rfl
    refine g_goto rfl (pc' := 153) rfl ?_
    exact g_weak (show gm_Lle [] _ from trivial) H
set_option maxRecDepth 20000 in
theorem w_249_153 {a0 : Nat}  {h : hh_T} {Q : Option Value ⊕ Nat → hh_T → Prop} (H : Q (.inl none) h) : gm_G 249 153 [] [] h Q := by
  exact g_return rfl H
set_option maxRecDepth 20000 in
theorem w_250_0 {a0 : Nat} {x1 : Int32} {x2 : Int32} {h : hh_T} {Q : Option Value ⊕ Nat → hh_T → Prop} (H : hh_tg h a0 = 6 ∧ (gm_G 41 0 [some (.ref a0), some (.int x1)] [] h (pI (fun v3 h2 => gm_sub (hh_tg h2 a0) 5 = true ∧ (∀ h5, h5 = hh_wi h2 a0 3 ((hh_i h2 a0 3) - x2) → (∀ r6, r6 = hh_r h5 a0 0 → (∃ a7, r6 = some a7 ∧ ((hh_tg h5 a7 = 100 ∨ hh_tg h5 a7 = 105) ∧ (∃ n8, gm_ix v3 n8 (hh_ln h5 a7) ∧ (hh_tg h5 a7 = 100 ∧ (∃ n10, gm_ix v3 n10 (hh_ln h5 a7) ∧ (∀ h11, h11 = hh_wi h5 a7 n10 ((hh_i h5 a7 n8) + x2) → (∀ r12, r12 = hh_r h11 a0 0 → (∃ a13, r12 = some a13 ∧ ((hh_tg h11 a13 = 100 ∨ hh_tg h11 a13 = 105) ∧ (∃ n14, gm_ix v3 n14 (hh_ln h11 a13) ∧ (∀ r16, r16 = hh_r h11 a0 1 → (∃ a17, r16 = some a17 ∧ ((hh_tg h11 a17 = 100 ∨ hh_tg h11 a17 = 105) ∧ (∃ n18, gm_ix v3 n18 (hh_ln h11 a17) ∧ ((¬ (hh_i h11 a13 n14) = (hh_i h11 a17 n18) → (Q (.inl none) h11)) ∧ ((hh_i h11 a13 n14) = (hh_i h11 a17 n18) → (hh_tg h11 a0 = 6 ∧ (gm_G 38 0 [some (.ref a0), some (.int v3)] [] h11 (pV (fun h21 => Q (.inl none) h21) (fun e22 h23 => hh_tg h23 e22 = 21 ∧ Q (.inr e22) h23))))))))))))))))))))))) (fun e25 h26 => hh_tg h26 e25 = 21 ∧ Q (.inr e25) h26)))) : gm_G 250 0 [some (.ref a0), some (.int x1), some (.int x2)] [] h Q := by
  refine g_aload (r := some _) rfl rfl rfl (pc' := 1) ?_
  refine g_iload rfl rfl rfl (pc' := 2) ?_
  obtain ⟨ht1, H⟩ := H
  refine g_call rfl (y := 41) (n := 2) (pc' := 5) (g_vt ht1 rfl rfl) rfl rfl ⟨(Nat.le_of_ble_eq_true rfl), (Nat.le_of_ble_eq_true rfl), (Nat.le_of_ble_eq_true rfl)⟩ rfl (gm_G.mono H (pI_elim (fun v3 h2 H' => ?_) (fun e25 h26 H => ?_)))
  · show gm_G _ 5 _ _ _ _
    replace H := H'
    clear H'
    refine g_istore rfl rfl rfl (pc' := 6) ?_
    refine g_aload (r := some _) rfl rfl rfl (pc' := 7) ?_
    refine g_dup_a (r := some _) rfl rfl (pc' := 8) ?_
    obtain ⟨ht4, H⟩ := H
    refine g_getI rfl rfl rfl rfl ht4 (pc' := 11) rfl ?_
    refine g_iload rfl rfl rfl (pc' := 12) ?_
    refine g_isub rfl rfl (pc' := 13) ?_
    refine g_putI rfl rfl rfl rfl ht4  (pc' := 16) rfl ?_
    replace H := H _ rfl
    refine g_aload (r := some _) rfl rfl rfl (pc' := 17) ?_
    refine g_getRv rfl rfl rfl rfl ht4 (pc' := 20) rfl (fun r6 hr6 => ?_)
    replace H := H r6 hr6
    refine g_iload rfl rfl rfl (pc' := 21) ?_
    obtain ⟨a7, rfl, H⟩ := H
    refine g_dup2_a rfl (pc' := 22) rfl ?_
    obtain ⟨ht9, H⟩ := H
    obtain ⟨n8, hn8, H⟩ := H
    refine g_iaload rfl ht9 hn8 (pc' := 23) rfl ?_
    refine g_iload rfl rfl rfl (pc' := 24) ?_
    refine g_iadd rfl rfl (pc' := 25) ?_
    obtain ⟨ht24, H⟩ := H
    obtain ⟨n10, hn10, H⟩ := H
    refine g_iastore rfl ht24 hn10  (pc' := 26) rfl ?_
    replace H := H _ rfl
    refine g_aload (r := some _) rfl rfl rfl (pc' := 27) ?_
    refine g_getRv rfl rfl rfl rfl ht4 (pc' := 30) rfl (fun r12 hr12 => ?_)
    replace H := H r12 hr12
    refine g_iload rfl rfl rfl (pc' := 31) ?_
    obtain ⟨a13, rfl, H⟩ := H
    obtain ⟨ht15, H⟩ := H
    obtain ⟨n14, hn14, H⟩ := H
    refine g_iaload rfl ht15 hn14 (pc' := 32) rfl ?_
    refine g_aload (r := some _) rfl rfl rfl (pc' := 33) ?_
    refine g_getRv rfl rfl rfl rfl ht4 (pc' := 36) rfl (fun r16 hr16 => ?_)
    replace H := H r16 hr16
    refine g_iload rfl rfl rfl (pc' := 37) ?_
    obtain ⟨a17, rfl, H⟩ := H
    obtain ⟨ht19, H⟩ := H
    obtain ⟨n18, hn18, H⟩ := H
    refine g_iaload rfl ht19 hn18 (pc' := 38) rfl ?_
    refine g_ic_ne rfl (pc' := 41) (pt := 46) rfl rfl ⟨fun hc => ?_, fun hc => ?_⟩
    · replace H := H.1 hc
      exact g_return rfl H
    · replace H := H.2 hc
      refine g_aload (r := some _) rfl rfl rfl (pc' := 42) ?_
      refine g_iload rfl rfl rfl (pc' := 43) ?_
      obtain ⟨ht20, H⟩ := H
      refine g_call rfl (y := 38) (n := 2) (pc' := 46) (g_vt ht20 rfl rfl) rfl rfl ⟨(Nat.le_of_ble_eq_true rfl), (Nat.le_of_ble_eq_true rfl), (Nat.le_of_ble_eq_true rfl)⟩ rfl (gm_G.mono H (pV_elim (fun h21 H' => ?_) (fun e22 h23 H => ?_)))
      · show gm_G _ 46 _ _ _ _
        replace H := H'
        clear H'
        exact g_return rfl H
      · exact H
  · exact H
set_option maxRecDepth 20000 in
theorem w_251_0 {a0 : Nat}  {h : hh_T} {Q : Option Value ⊕ Nat → hh_T → Prop} (H : gm_G 251 4 [some (.ref a0), some (.int (Int32.ofNat 0)), some (.int (Int32.ofNat 0))] [] h Q) : gm_G 251 0 [some (.ref a0)] [] h Q := by
  refine g_iconst rfl rfl rfl (pc' := 1) ?_
  refine g_istore rfl rfl rfl (pc' := 2) ?_
  refine g_iconst rfl rfl rfl (pc' := 3) ?_
  refine g_istore rfl rfl rfl (pc' := 4) ?_
  exact g_weak (show gm_Lle [some _, some _, some _] _ from ⟨rfl, ⟨rfl, ⟨rfl, trivial⟩⟩⟩) H
set_option maxRecDepth 20000 in
theorem w_251_4 {a0 : Nat} {x1 : Int32} {x2 : Int32} {h : hh_T} {Q : Option Value ⊕ Nat → hh_T → Prop} (H : gm_sub (hh_tg h a0) 3 = true ∧ (((hh_i h a0 2) < x2 → (Q (.inl (some (.int ((hh_i h a0 2) * (hh_i h a0 3))))) h)) ∧ (¬ (hh_i h a0 2) < x2 → (gm_G 251 14 [some (.ref a0), some (.int x1), some (.int x2), some (.int (Int32.ofNat 0))] [] h Q)))) : gm_G 251 4 [some (.ref a0), some (.int x1), some (.int x2)] [] h Q := by
  refine g_iload rfl rfl rfl (pc' := 5) ?_
  refine g_aload (r := some _) rfl rfl rfl (pc' := 6) ?_
  obtain ⟨ht1, H⟩ := H
  refine g_getI rfl rfl rfl rfl ht1 (pc' := 9) rfl ?_
  refine g_ic_gt rfl (pc' := 12) (pt := 57) rfl rfl ⟨fun hc => ?_, fun hc => ?_⟩
  · replace H := H.1 hc
    refine g_aload (r := some _) rfl rfl rfl (pc' := 58) ?_
    refine g_getI rfl rfl rfl rfl ht1 (pc' := 61) rfl ?_
    refine g_aload (r := some _) rfl rfl rfl (pc' := 62) ?_
    refine g_getI rfl rfl rfl rfl ht1 (pc' := 65) rfl ?_
    refine g_imul rfl rfl (pc' := 66) ?_
    exact g_ireturn rfl (Or.inl rfl) H
  · replace H := H.2 hc
    refine g_iconst rfl rfl rfl (pc' := 13) ?_
    refine g_istore rfl rfl rfl (pc' := 14) ?_
    exact g_weak (show gm_Lle [some _, some _, some _, some _] _ from ⟨rfl, ⟨rfl, ⟨rfl, ⟨rfl, trivial⟩⟩⟩⟩) H
set_option maxRecDepth 20000 in
theorem w_251_14 {a0 : Nat} {x1 : Int32} {x2 : Int32} {x3 : Int32} {h : hh_T} {Q : Option Value ⊕ Nat → hh_T → Prop} (H : gm_sub (hh_tg h a0) 3 = true ∧ ((¬ x3 < ((Int32.ofNat 1) <<< ((hh_i h a0 2) &&& 31)) → (gm_G 251 4 [some (.ref a0), some (.int x1), some (.int (x2 + (Int32.ofNat 1)))] [] h Q)) ∧ (x3 < ((Int32.ofNat 1) <<< ((hh_i h a0 2) &&& 31)) → (gm_G 217 0 [some (.int x3)] [] h (pI (fun v3 h2 => (v3 = x2 → (gm_sub (hh_tg h2 a0) 6 = true ∧ (∀ r5, r5 = hh_r h2 a0 9 → (∃ a6, r5 = some a6 ∧ (hh_tg h2 a6 = 100 ∧ (∃ n7, gm_ix x1 n7 (hh_ln h2 a6) ∧ (∀ h8, h8 = hh_wi h2 a6 n7 x3 → (gm_G 251 45 [some (.ref a0), some (.int (x1 + (Int32.ofNat 1))), some (.int x2), some (.int x3)] [] h8 Q)))))))) ∧ (¬ v3 = x2 → (gm_G 251 45 [some (.ref a0), some (.int x1), some (.int x2), some (.int x3)] [] h2 Q))) (fun e10 h11 => hh_tg h11 e10 = 21 ∧ Q (.inr e10) h11)))))) : gm_G 251 14 [some (.ref a0), some (.int x1), some (.int x2), some (.int x3)] [] h Q := by
  refine g_iload rfl rfl rfl (pc' := 15) ?_
  refine g_iconst rfl rfl rfl (pc' := 16) ?_
  refine g_aload (r := some _) rfl rfl rfl (pc' := 17) ?_
  obtain ⟨ht1, H⟩ := H
  refine g_getI rfl rfl rfl rfl ht1 (pc' := 20) rfl ?_
  refine g_ishl rfl rfl (pc' := 21) ?_
  refine g_ic_ge rfl (pc' := 24) (pt := 51) rfl rfl ⟨fun hc => ?_, fun hc => ?_⟩
  · replace H := H.1 hc
    refine g_iinc (c := (Int32.ofNat 1)) rfl rfl rfl rfl rfl (pc' := 54) ?_
    refine g_goto rfl (pc' := 4) rfl ?_
    exact g_weak (show gm_Lle [some _, some _, some _] _ from ⟨rfl, ⟨rfl, ⟨rfl, trivial⟩⟩⟩) H
  · replace H := H.2 hc
    refine g_iload rfl rfl rfl (pc' := 25) ?_
    refine g_call rfl (y := 217) (n := 1) (pc' := 28) (fun _ => rfl) rfl rfl ⟨(Nat.le_of_ble_eq_true rfl), (Nat.le_of_ble_eq_true rfl), (Nat.le_of_ble_eq_true rfl)⟩ rfl (gm_G.mono H (pI_elim (fun v3 h2 H' => ?_) (fun e10 h11 H => ?_)))
    · show gm_G _ 28 _ _ _ _
      replace H := H'
      clear H'
      refine g_iload rfl rfl rfl (pc' := 29) ?_
      refine g_ic_eq rfl (pc' := 32) (pt := 35) rfl rfl ⟨fun hc => ?_, fun hc => ?_⟩
      · replace H := H.1 hc
        refine g_aload (r := some _) rfl rfl rfl (pc' := 36) ?_
        obtain ⟨ht4, H⟩ := H
        refine g_getRv rfl rfl rfl rfl ht4 (pc' := 39) rfl (fun r5 hr5 => ?_)
        replace H := H r5 hr5
        refine g_iload rfl rfl rfl (pc' := 40) ?_
        refine g_iload rfl rfl rfl (pc' := 41) ?_
        obtain ⟨a6, rfl, H⟩ := H
        obtain ⟨ht9, H⟩ := H
        obtain ⟨n7, hn7, H⟩ := H
        refine g_iastore rfl ht9 hn7  (pc' := 42) rfl ?_
        replace H := H _ rfl
        refine g_iinc (c := (Int32.ofNat 1)) rfl rfl rfl rfl rfl (pc' := 45) ?_
        exact g_weak (show gm_Lle [some _, some _, some _, some _] _ from ⟨rfl, ⟨rfl, ⟨rfl, ⟨rfl, trivial⟩⟩⟩⟩) H
      · replace H := H.2 hc
        refine g_goto rfl (pc' := 45) rfl ?_
        exact g_weak (show gm_Lle [some _, some _, some _, some _] _ from ⟨rfl, ⟨rfl, ⟨rfl, ⟨rfl, trivial⟩⟩⟩⟩) H
    · exact H
set_option maxRecDepth 20000 in
theorem w_251_45 {a0 : Nat} {x1 : Int32} {x2 : Int32} {x3 : Int32} {h : hh_T} {Q : Option Value ⊕ Nat → hh_T → Prop} (H : gm_G 251 14 [some (.ref a0), some (.int x1), some (.int x2), some (.int (x3 + (Int32.ofNat 1)))] [] h Q) : gm_G 251 45 [some (.ref a0), some (.int x1), some (.int x2), some (.int x3)] [] h Q := by
  refine g_iinc (c := (Int32.ofNat 1)) rfl rfl rfl rfl rfl (pc' := 48) ?_
  refine g_goto rfl (pc' := 14) rfl ?_
  exact g_weak (show gm_Lle [some _, some _, some _, some _] _ from ⟨rfl, ⟨rfl, ⟨rfl, ⟨rfl, trivial⟩⟩⟩⟩) H
set_option maxRecDepth 20000 in
theorem w_252_0 {a0 : Nat}  {h : hh_T} {Q : Option Value ⊕ Nat → hh_T → Prop} (H : hh_tg h a0 = 7 ∧ (gm_G 29 0 [some (.ref a0)] [] h (pI (fun v3 h2 => gm_sub (hh_tg h2 a0) 6 = true ∧ (((hh_i h2 a0 8) < v3 → (Q (.inl (some (.int (Int32.ofNat 0)))) h2)) ∧ (¬ (hh_i h2 a0 8) < v3 → (Q (.inl (some (.int (Int32.ofNat 1)))) h2)))) (fun e5 h6 => hh_tg h6 e5 = 21 ∧ Q (.inr e5) h6)))) : gm_G 252 0 [some (.ref a0)] [] h Q := by
  refine g_aload (r := some _) rfl rfl rfl (pc' := 1) ?_
  obtain ⟨ht1, H⟩ := H
  refine g_call rfl (y := 29) (n := 1) (pc' := 4) (g_vt ht1 rfl rfl) rfl rfl ⟨(Nat.le_of_ble_eq_true rfl), (Nat.le_of_ble_eq_true rfl), (Nat.le_of_ble_eq_true rfl)⟩ rfl (gm_G.mono H (pI_elim (fun v3 h2 H' => ?_) (fun e5 h6 H => ?_)))
  · show gm_G _ 4 _ _ _ _
    replace H := H'
    clear H'
    refine g_aload (r := some _) rfl rfl rfl (pc' := 5) ?_
    obtain ⟨ht4, H⟩ := H
    refine g_getI rfl rfl rfl rfl ht4 (pc' := 8) rfl ?_
    refine g_ic_gt rfl (pc' := 11) (pt := 15) rfl rfl ⟨fun hc => ?_, fun hc => ?_⟩
    · replace H := H.1 hc
      refine g_iconst rfl rfl rfl (pc' := 16) ?_
      exact g_ireturn rfl (Or.inr (by decide)) H
    · replace H := H.2 hc
      refine g_iconst rfl rfl rfl (pc' := 12) ?_
      refine g_goto rfl (pc' := 16) rfl ?_
      exact g_ireturn rfl (Or.inr (by decide)) H
  · exact H
set_option maxRecDepth 20000 in
theorem w_253_0 {a0 : Nat} {x1 : Int32} {x2 : Int32} {h : hh_T} {Q : Option Value ⊕ Nat → hh_T → Prop} (H : gm_sub (hh_tg h a0) 3 = true ∧ ((hh_i h a0 2) ≠ 0 ∧ ((((x2 >>> ((x1 - x1 / (hh_i h a0 2) * (hh_i h a0 2)) &&& 31)) &&& (Int32.ofNat 1)) = (Int32.ofNat 1) → (gm_G 253 37 [] [] h Q)) ∧ (¬ ((x2 >>> ((x1 - x1 / (hh_i h a0 2) * (hh_i h a0 2)) &&& 31)) &&& (Int32.ofNat 1)) = (Int32.ofNat 1) → (∀ r2, r2 = hh_r h a0 1 → ((hh_i h a0 2) ≠ 0 ∧ (∃ a3, r2 = some a3 ∧ ((hh_tg h a3 = 104 ∨ 200 ≤ hh_tg h a3) ∧ (∃ n4, gm_ix (x1 - x1 / (hh_i h a0 2) * (hh_i h a0 2)) n4 (hh_ln h a3) ∧ (∀ r6, r6 = hh_r h a3 n4 → ((hh_i h a0 2) ≠ 0 ∧ (∃ a7, r6 = some a7 ∧ (hh_tg h a7 = 22 ∧ (gm_G 167 0 [some (.ref a7), some (.int (x1 / (hh_i h a0 2)))] [] h (pI (fun v10 h9 => (v10 = Int32.ofNat 0 → (Q (.inl (some (.int (Int32.ofNat 0)))) h9)) ∧ (¬ v10 = Int32.ofNat 0 → (gm_G 253 37 [] [] h9 Q))) (fun e11 h12 => hh_tg h12 e11 = 21 ∧ Q (.inr e11) h12)))))))))))))))) : gm_G 253 0 [some (.ref a0), some (.int x1), some (.int x2)] [] h Q := by
  refine g_iload rfl rfl rfl (pc' := 1) ?_
  refine g_iload rfl rfl rfl (pc' := 2) ?_
  refine g_aload (r := some _) rfl rfl rfl (pc' := 3) ?_
  obtain ⟨ht1, H⟩ := H
  refine g_getI rfl rfl rfl rfl ht1 (pc' := 6) rfl ?_
  obtain ⟨Hp, H⟩ := H
  refine g_irem rfl Hp (pc' := 7) rfl ?_
  refine g_ishr rfl rfl (pc' := 8) ?_
  refine g_iconst rfl rfl rfl (pc' := 9) ?_
  refine g_iand rfl rfl (pc' := 10) ?_
  refine g_iconst rfl rfl rfl (pc' := 11) ?_
  refine g_ic_eq rfl (pc' := 14) (pt := 37) rfl rfl ⟨fun hc => ?_, fun hc => ?_⟩
  · replace H := H.1 hc
    exact g_weak (show gm_Lle [] _ from trivial) H
  · replace H := H.2 hc
    refine g_aload (r := some _) rfl rfl rfl (pc' := 15) ?_
    refine g_getRv rfl rfl rfl rfl ht1 (pc' := 18) rfl (fun r2 hr2 => ?_)
    replace H := H r2 hr2
    refine g_iload rfl rfl rfl (pc' := 19) ?_
    refine g_aload (r := some _) rfl rfl rfl (pc' := 20) ?_
    refine g_getI rfl rfl rfl rfl ht1 (pc' := 23) rfl ?_
    obtain ⟨Hp, H⟩ := H
    refine g_irem rfl Hp (pc' := 24) rfl ?_
    obtain ⟨a3, rfl, H⟩ := H
    obtain ⟨ht5, H⟩ := H
    obtain ⟨n4, hn4, H⟩ := H
    refine g_aaloadv rfl ht5 hn4 (pc' := 25) rfl (fun r6 hr6 => ?_)
    replace H := H r6 hr6
    refine g_iload rfl rfl rfl (pc' := 26) ?_
    refine g_aload (r := some _) rfl rfl rfl (pc' := 27) ?_
    refine g_getI rfl rfl rfl rfl ht1 (pc' := 30) rfl ?_
    obtain ⟨Hp, H⟩ := H
    refine g_idiv rfl Hp (pc' := 31) rfl ?_
    obtain ⟨a7, rfl, H⟩ := H
    obtain ⟨ht8, H⟩ := H
    refine g_call rfl (y := 167) (n := 2) (pc' := 34) (g_vt ht8 rfl rfl) rfl rfl ⟨(Nat.le_of_ble_eq_true rfl), (Nat.le_of_ble_eq_true rfl), (Nat.le_of_ble_eq_true rfl)⟩ rfl (gm_G.mono H (pI_elim (fun v10 h9 H' => ?_) (fun e11 h12 H => ?_)))
    · show gm_G _ 34 _ _ _ _
      replace H := H'
      clear H'
      refine g_if_eq rfl (pc' := 37) (pt := 41) rfl rfl ⟨fun hc => ?_, fun hc => ?_⟩
      · replace H := H.1 hc
        refine g_iconst rfl rfl rfl (pc' := 42) ?_
        exact g_ireturn rfl (Or.inr (by decide)) H
      · replace H := H.2 hc
        exact g_weak (show gm_Lle [] _ from trivial) H
    · exact H
set_option maxRecDepth 20000 in
theorem w_253_37 {a0 : Nat}  {h : hh_T} {Q : Option Value ⊕ Nat → hh_T → Prop} (H : Q (.inl (some (.int (Int32.ofNat 1)))) h) : gm_G 253 37 [] [] h Q := by
  refine g_iconst rfl rfl rfl (pc' := 38) ?_
  refine g_goto rfl (pc' := 42) rfl ?_
  exact g_ireturn rfl (Or.inr (by decide)) H
set_option maxRecDepth 20000 in
theorem w_254_0 {a0 : Nat} {x1 : Int32} {x2 : Int32} {x3 : Int32} {r_4 : Option Nat} {x5 : Int32} {h : hh_T} {Q : Option Value ⊕ Nat → hh_T → Prop} (H : gm_G 254 3 [some (.ref a0), some (.int x1), some (.int x2), some (.int x3), some (va_rf r_4), some (.int x5), some (.int (Int32.ofNat 0))] [] h Q) : gm_G 254 0 [some (.ref a0), some (.int x1), some (.int x2), some (.int x3), some (va_rf r_4), some (.int x5)] [] h Q := by
  refine g_iconst rfl rfl rfl (pc' := 1) ?_
  refine g_istore rfl rfl rfl (pc' := 3) ?_
  exact g_weak (show gm_Lle [some _, some _, some _, some _, some _, some _, some _] _ from ⟨rfl, ⟨rfl, ⟨rfl, ⟨rfl, ⟨rfl, ⟨rfl, ⟨rfl, trivial⟩⟩⟩⟩⟩⟩⟩) H
set_option maxRecDepth 20000 in
theorem w_254_3 {a0 : Nat} {x1 : Int32} {x2 : Int32} {x3 : Int32} {r_4 : Option Nat} {x5 : Int32} {x6 : Int32} {h : hh_T} {Q : Option Value ⊕ Nat → hh_T → Prop} (H : (¬ x6 < x1 → (gm_G 254 91 [some (.ref a0), some (.int x1), some (.int x2), some (.int x3), some (va_rf r_4), some (.int x5), some (.int (Int32.ofNat 0))] [] h Q)) ∧ (x6 < x1 → (gm_G 254 12 [some (.ref a0), some (.int x1), some (.int x2), some (.int x3), some (va_rf r_4), some (.int x5), some (.int x6), some (.int (Int32.ofNat 0))] [] h Q))) : gm_G 254 3 [some (.ref a0), some (.int x1), some (.int x2), some (.int x3), some (va_rf r_4), some (.int x5), some (.int x6)] [] h Q := by
  refine g_iload rfl rfl rfl (pc' := 5) ?_
  refine g_iload rfl rfl rfl (pc' := 6) ?_
  refine g_ic_ge rfl (pc' := 9) (pt := 88) rfl rfl ⟨fun hc => ?_, fun hc => ?_⟩
  · replace H := H.1 hc
    refine g_iconst rfl rfl rfl (pc' := 89) ?_
    refine g_istore rfl rfl rfl (pc' := 91) ?_
    exact g_weak (show gm_Lle [some _, some _, some _, some _, some _, some _, some _] _ from ⟨rfl, ⟨rfl, ⟨rfl, ⟨rfl, ⟨rfl, ⟨rfl, ⟨rfl, trivial⟩⟩⟩⟩⟩⟩⟩) H
  · replace H := H.2 hc
    refine g_iconst rfl rfl rfl (pc' := 10) ?_
    refine g_istore rfl rfl rfl (pc' := 12) ?_
    exact g_weak (show gm_Lle [some _, some _, some _, some _, some _, some _, some _, some _] _ from ⟨rfl, ⟨rfl, ⟨rfl, ⟨rfl, ⟨rfl, ⟨rfl, ⟨rfl, ⟨rfl, trivial⟩⟩⟩⟩⟩⟩⟩⟩) H
set_option maxRecDepth 20000 in
theorem w_254_12 {a0 : Nat} {x1 : Int32} {x2 : Int32} {x3 : Int32} {r_4 : Option Nat} {x5 : Int32} {x6 : Int32} {x7 : Int32} {h : hh_T} {Q : Option Value ⊕ Nat → hh_T → Prop} (H : (¬ x7 < x1 → (gm_G 254 3 [some (.ref a0), some (.int x1), some (.int x2), some (.int x3), some (va_rf r_4), some (.int x5), some (.int (x6 + (Int32.ofNat 1)))] [] h Q)) ∧ (x7 < x1 → (gm_sub (hh_tg h a0) 6 = true ∧ (∀ r2, r2 = hh_r h a0 13 → (∃ a3, r2 = some a3 ∧ ((hh_tg h a3 = 104 ∨ 200 ≤ hh_tg h a3) ∧ (∃ n4, gm_ix x6 n4 (hh_ln h a3) ∧ (∀ r6, r6 = hh_r h a3 n4 → (∀ r7, r7 = hh_r h a0 14 → (∃ a8, r7 = some a8 ∧ (gm_sub (hh_tg h a8) 0 = true ∧ (∀ r10, r10 = hh_r h a8 3 → (∀ r11, r11 = hh_r h a0 12 → (∃ a12, r11 = some a12 ∧ ((hh_tg h a12 = 100 ∨ hh_tg h a12 = 105) ∧ (∃ n13, gm_ix x6 n13 (hh_ln h a12) ∧ (∀ r15, r15 = hh_r h a0 11 → (∃ a16, r15 = some a16 ∧ ((hh_tg h a16 = 100 ∨ hh_tg h a16 = 105) ∧ (∃ n17, gm_ix x7 n17 (hh_ln h a16) ∧ (∃ a19, r10 = some a19 ∧ (hh_tg h a19 = 3 ∧ (gm_G 25 0 [some (.ref a19), some (.int (hh_i h a12 n13)), some (.int (hh_i h a16 n17))] [] h (pI (fun v22 h21 => ∃ a23, r6 = some a23 ∧ (hh_tg h21 a23 = 100 ∧ (∃ n24, gm_ix x7 n24 (hh_ln h21 a23) ∧ (∀ h25, h25 = hh_wi h21 a23 n24 v22 → (gm_sub (hh_tg h25 a0) 6 = true ∧ (∀ r27, r27 = hh_r h25 a0 13 → (∃ a28, r27 = some a28 ∧ ((hh_tg h25 a28 = 104 ∨ 200 ≤ hh_tg h25 a28) ∧ (∃ n29, gm_ix x6 n29 (hh_ln h25 a28) ∧ (∀ r31, r31 = hh_r h25 a28 n29 → ((¬ x6 = x7 → (gm_G 254 75 [some (.ref a0), some (.int x1), some (.int x2), some (.int x3), some (va_rf r_4), some (.int x5), some (.int x6), some (.int x7)] [.int (Int32.ofNat 0), .int (x1 + x7), va_rf r31] h25 Q)) ∧ (x6 = x7 → (gm_G 254 75 [some (.ref a0), some (.int x1), some (.int x2), some (.int x3), some (va_rf r_4), some (.int x5), some (.int x6), some (.int x7)] [.int (Int32.ofNat 1), .int (x1 + x7), va_rf r31] h25 Q))))))))))))) (fun e33 h34 => hh_tg h34 e33 = 21 ∧ Q (.inr e33) h34))))))))))))))))))))))))) : gm_G 254 12 [some (.ref a0), some (.int x1), some (.int x2), some (.int x3), some (va_rf r_4), some (.int x5), some (.int x6), some (.int x7)] [] h Q := by
  refine g_iload rfl rfl rfl (pc' := 14) ?_
  refine g_iload rfl rfl rfl (pc' := 15) ?_
  refine g_ic_ge rfl (pc' := 18) (pt := 82) rfl rfl ⟨fun hc => ?_, fun hc => ?_⟩
  · replace H := H.1 hc
    refine g_iinc (c := (Int32.ofNat 1)) rfl rfl rfl rfl rfl (pc' := 85) ?_
    refine g_goto rfl (pc' := 3) rfl ?_
    exact g_weak (show gm_Lle [some _, some _, some _, some _, some _, some _, some _] _ from ⟨rfl, ⟨rfl, ⟨rfl, ⟨rfl, ⟨rfl, ⟨rfl, ⟨rfl, trivial⟩⟩⟩⟩⟩⟩⟩) H
  · replace H := H.2 hc
    refine g_aload (r := some _) rfl rfl rfl (pc' := 19) ?_
    obtain ⟨ht1, H⟩ := H
    refine g_getRv rfl rfl rfl rfl ht1 (pc' := 22) rfl (fun r2 hr2 => ?_)
    replace H := H r2 hr2
    refine g_iload rfl rfl rfl (pc' := 24) ?_
    obtain ⟨a3, rfl, H⟩ := H
    obtain ⟨ht5, H⟩ := H
    obtain ⟨n4, hn4, H⟩ := H
    refine g_aaloadv rfl ht5 hn4 (pc' := 25) rfl (fun r6 hr6 => ?_)
    replace H := H r6 hr6
    refine g_iload rfl rfl rfl (pc' := 27) ?_
    refine g_aload (r := some _) rfl rfl rfl (pc' := 28) ?_
    refine g_getRv rfl rfl rfl rfl ht1 (pc' := 31) rfl (fun r7 hr7 => ?_)
    replace H := H r7 hr7
    obtain ⟨a8, rfl, H⟩ := H
    obtain ⟨ht9, H⟩ := H
    refine g_getRv rfl rfl rfl rfl ht9 (pc' := 34) rfl (fun r10 hr10 => ?_)
    replace H := H r10 hr10
    refine g_aload (r := some _) rfl rfl rfl (pc' := 35) ?_
    refine g_getRv rfl rfl rfl rfl ht1 (pc' := 38) rfl (fun r11 hr11 => ?_)
    replace H := H r11 hr11
    refine g_iload rfl rfl rfl (pc' := 40) ?_
    obtain ⟨a12, rfl, H⟩ := H
    obtain ⟨ht14, H⟩ := H
    obtain ⟨n13, hn13, H⟩ := H
    refine g_iaload rfl ht14 hn13 (pc' := 41) rfl ?_
    refine g_aload (r := some _) rfl rfl rfl (pc' := 42) ?_
    refine g_getRv rfl rfl rfl rfl ht1 (pc' := 45) rfl (fun r15 hr15 => ?_)
    replace H := H r15 hr15
    refine g_iload rfl rfl rfl (pc' := 47) ?_
    obtain ⟨a16, rfl, H⟩ := H
    obtain ⟨ht18, H⟩ := H
    obtain ⟨n17, hn17, H⟩ := H
    refine g_iaload rfl ht18 hn17 (pc' := 48) rfl ?_
    obtain ⟨a19, rfl, H⟩ := H
    obtain ⟨ht20, H⟩ := H
    refine g_call rfl (y := 25) (n := 3) (pc' := 51) (g_vt ht20 rfl rfl) rfl rfl ⟨(Nat.le_of_ble_eq_true rfl), (Nat.le_of_ble_eq_true rfl), (Nat.le_of_ble_eq_true rfl)⟩ rfl (gm_G.mono H (pI_elim (fun v22 h21 H' => ?_) (fun e33 h34 H => ?_)))
    · show gm_G _ 51 _ _ _ _
      replace H := H'
      clear H'
      obtain ⟨a23, rfl, H⟩ := H
      obtain ⟨ht32, H⟩ := H
      obtain ⟨n24, hn24, H⟩ := H
      refine g_iastore rfl ht32 hn24  (pc' := 52) rfl ?_
      replace H := H _ rfl
      refine g_aload (r := some _) rfl rfl rfl (pc' := 53) ?_
      obtain ⟨ht26, H⟩ := H
      refine g_getRv rfl rfl rfl rfl ht26 (pc' := 56) rfl (fun r27 hr27 => ?_)
      replace H := H r27 hr27
      refine g_iload rfl rfl rfl (pc' := 58) ?_
      obtain ⟨a28, rfl, H⟩ := H
      obtain ⟨ht30, H⟩ := H
      obtain ⟨n29, hn29, H⟩ := H
      refine g_aaloadv rfl ht30 hn29 (pc' := 59) rfl (fun r31 hr31 => ?_)
      replace H := H r31 hr31
      refine g_iload rfl rfl rfl (pc' := 60) ?_
      refine g_iload rfl rfl rfl (pc' := 62) ?_
      refine g_iadd rfl rfl (pc' := 63) ?_
      refine g_iload rfl rfl rfl (pc' := 65) ?_
      refine g_iload rfl rfl rfl (pc' := 67) ?_
      refine g_ic_ne rfl (pc' := 70) (pt := 74) rfl rfl ⟨fun hc => ?_, fun hc => ?_⟩
      · replace H := H.1 hc
        refine g_iconst rfl rfl rfl (pc' := 75) ?_
        exact g_weak (show gm_Lle [some _, some _, some _, some _, some _, some _, some _, some _] _ from ⟨rfl, ⟨rfl, ⟨rfl, ⟨rfl, ⟨rfl, ⟨rfl, ⟨rfl, ⟨rfl, trivial⟩⟩⟩⟩⟩⟩⟩⟩) H
      · replace H := H.2 hc
        refine g_iconst rfl rfl rfl (pc' := 71) ?_
        refine g_goto rfl (pc' := 75) rfl ?_
        exact g_weak (show gm_Lle [some _, some _, some _, some _, some _, some _, some _, some _] _ from ⟨rfl, ⟨rfl, ⟨rfl, ⟨rfl, ⟨rfl, ⟨rfl, ⟨rfl, ⟨rfl, trivial⟩⟩⟩⟩⟩⟩⟩⟩) H
    · exact H
set_option maxRecDepth 20000 in
theorem w_254_75 {a0 : Nat} {x1 : Int32} {x2 : Int32} {x3 : Int32} {r_4 : Option Nat} {x5 : Int32} {x6 : Int32} {x7 : Int32} {y0 : Int32} {y1 : Int32} {q2 : Option Nat} {h : hh_T} {Q : Option Value ⊕ Nat → hh_T → Prop} (H : ∃ a1, q2 = some a1 ∧ (hh_tg h a1 = 100 ∧ (∃ n2, gm_ix y1 n2 (hh_ln h a1) ∧ (∀ h3, h3 = hh_wi h a1 n2 y0 → (gm_G 254 12 [some (.ref a0), some (.int x1), some (.int x2), some (.int x3), some (va_rf r_4), some (.int x5), some (.int x6), some (.int (x7 + (Int32.ofNat 1)))] [] h3 Q))))) : gm_G 254 75 [some (.ref a0), some (.int x1), some (.int x2), some (.int x3), some (va_rf r_4), some (.int x5), some (.int x6), some (.int x7)] [.int y0, .int y1, va_rf q2] h Q := by
  obtain ⟨a1, rfl, H⟩ := H
  obtain ⟨ht4, H⟩ := H
  obtain ⟨n2, hn2, H⟩ := H
  refine g_iastore rfl ht4 hn2  (pc' := 76) rfl ?_
  replace H := H _ rfl
  refine g_iinc (c := (Int32.ofNat 1)) rfl rfl rfl rfl rfl (pc' := 79) ?_
  refine g_goto rfl (pc' := 12) rfl ?_
  exact g_weak (show gm_Lle [some _, some _, some _, some _, some _, some _, some _, some _] _ from ⟨rfl, ⟨rfl, ⟨rfl, ⟨rfl, ⟨rfl, ⟨rfl, ⟨rfl, ⟨rfl, trivial⟩⟩⟩⟩⟩⟩⟩⟩) H
set_option maxRecDepth 20000 in
theorem w_254_91 {a0 : Nat} {x1 : Int32} {x2 : Int32} {x3 : Int32} {r_4 : Option Nat} {x5 : Int32} {x6 : Int32} {h : hh_T} {Q : Option Value ⊕ Nat → hh_T → Prop} (H : (¬ x6 < x1 → (gm_G 254 250 [some (.ref a0), some (.int x1), some (.int x2), some (.int x3), some (va_rf r_4), some (.int x5), some (.int (Int32.ofNat 0))] [] h Q)) ∧ (x6 < x1 → (gm_sub (hh_tg h a0) 6 = true ∧ (∀ r2, r2 = hh_r h a0 13 → (∃ a3, r2 = some a3 ∧ ((hh_tg h a3 = 104 ∨ 200 ≤ hh_tg h a3) ∧ (∃ n4, gm_ix x6 n4 (hh_ln h a3) ∧ (∀ r6, r6 = hh_r h a3 n4 → (∃ a7, r6 = some a7 ∧ ((hh_tg h a7 = 100 ∨ hh_tg h a7 = 105) ∧ (∃ n8, gm_ix x6 n8 (hh_ln h a7) ∧ (gm_G 254 116 [some (.ref a0), some (.int x1), some (.int x2), some (.int x3), some (va_rf r_4), some (.int x5), some (.int x6), some (.ref a7), some (.int (hh_i h a7 n8)), some (.int (Int32.ofNat 0))] [] h Q)))))))))))) : gm_G 254 91 [some (.ref a0), some (.int x1), some (.int x2), some (.int x3), some (va_rf r_4), some (.int x5), some (.int x6)] [] h Q := by
  refine g_iload rfl rfl rfl (pc' := 93) ?_
  refine g_iload rfl rfl rfl (pc' := 94) ?_
  refine g_ic_ge rfl (pc' := 97) (pt := 247) rfl rfl ⟨fun hc => ?_, fun hc => ?_⟩
  · replace H := H.1 hc
    refine g_iconst rfl rfl rfl (pc' := 248) ?_
    refine g_istore rfl rfl rfl (pc' := 250) ?_
    exact g_weak (show gm_Lle [some _, some _, some _, some _, some _, some _, some _] _ from ⟨rfl, ⟨rfl, ⟨rfl, ⟨rfl, ⟨rfl, ⟨rfl, ⟨rfl, trivial⟩⟩⟩⟩⟩⟩⟩) H
  · replace H := H.2 hc
    refine g_aload (r := some _) rfl rfl rfl (pc' := 98) ?_
    obtain ⟨ht1, H⟩ := H
    refine g_getRv rfl rfl rfl rfl ht1 (pc' := 101) rfl (fun r2 hr2 => ?_)
    replace H := H r2 hr2
    refine g_iload rfl rfl rfl (pc' := 103) ?_
    obtain ⟨a3, rfl, H⟩ := H
    obtain ⟨ht5, H⟩ := H
    obtain ⟨n4, hn4, H⟩ := H
    refine g_aaloadv rfl ht5 hn4 (pc' := 104) rfl (fun r6 hr6 => ?_)
    replace H := H r6 hr6
    refine g_astore (r := _) rfl rfl rfl (pc' := 106) ?_
    refine g_aload (r := _) rfl rfl rfl (pc' := 108) ?_
    refine g_iload rfl rfl rfl (pc' := 110) ?_
    obtain ⟨a7, rfl, H⟩ := H
    obtain ⟨ht9, H⟩ := H
    obtain ⟨n8, hn8, H⟩ := H
    refine g_iaload rfl ht9 hn8 (pc' := 111) rfl ?_
    refine g_istore rfl rfl rfl (pc' := 113) ?_
    refine g_iconst rfl rfl rfl (pc' := 114) ?_
    refine g_istore rfl rfl rfl (pc' := 116) ?_
    exact g_weak (show gm_Lle [some _, some _, some _, some _, some _, some _, some _, some _, some _, some _] _ from ⟨rfl, ⟨rfl, ⟨rfl, ⟨rfl, ⟨rfl, ⟨rfl, ⟨rfl, ⟨rfl, ⟨rfl, ⟨rfl, trivial⟩⟩⟩⟩⟩⟩⟩⟩⟩⟩) H
set_option maxRecDepth 20000 in
theorem w_254_116 {a0 : Nat} {x1 : Int32} {x2 : Int32} {x3 : Int32} {r_4 : Option Nat} {x5 : Int32} {x6 : Int32} {r_7 : Option Nat} {x8 : Int32} {x9 : Int32} {h : hh_T} {Q : Option Value ⊕ Nat → hh_T → Prop} (H : (¬ x9 < ((Int32.ofNat 2) * x1) → (gm_G 254 155 [some (.ref a0), some (.int x1), some (.int x2), some (.int x3), some (va_rf r_4), some (.int x5), some (.int x6), some (va_rf r_7), none, some (.int (Int32.ofNat 0))] [] h Q)) ∧ (x9 < ((Int32.ofNat 2) * x1) → (gm_sub (hh_tg h a0) 6 = true ∧ (∀ r2, r2 = hh_r h a0 14 → (∃ a3, r2 = some a3 ∧ (gm_sub (hh_tg h a3) 0 = true ∧ (∀ r5, r5 = hh_r h a3 3 → (∃ a6, r_7 = some a6 ∧ ((hh_tg h a6 = 100 ∨ hh_tg h a6 = 105) ∧ (∃ n7, gm_ix x9 n7 (hh_ln h a6) ∧ (∃ a9, r5 = some a9 ∧ (hh_tg h a9 = 3 ∧ (gm_G 26 0 [some (.ref a9), some (.int (hh_i h a6 n7)), some (.int x8)] [] h (pI (fun v12 h11 => hh_tg h11 a6 = 100 ∧ (∃ n13, gm_ix x9 n13 (hh_ln h11 a6) ∧ (∀ h14, h14 = hh_wi h11 a6 n13 v12 → (gm_G 254 116 [some (.ref a0), some (.int x1), some (.int x2), some (.int x3), some (va_rf r_4), some (.int x5), some (.int x6), some (.ref a6), some (.int x8), some (.int (x9 + (Int32.ofNat 1)))] [] h14 Q)))) (fun e16 h17 => hh_tg h17 e16 = 21 ∧ Q (.inr e16) h17))))))))))))))) : gm_G 254 116 [some (.ref a0), some (.int x1), some (.int x2), some (.int x3), some (va_rf r_4), some (.int x5), some (.int x6), some (va_rf r_7), some (.int x8), some (.int x9)] [] h Q := by
  refine g_iload rfl rfl rfl (pc' := 118) ?_
  refine g_iconst rfl rfl rfl (pc' := 119) ?_
  refine g_iload rfl rfl rfl (pc' := 120) ?_
  refine g_imul rfl rfl (pc' := 121) ?_
  refine g_ic_ge rfl (pc' := 124) (pt := 152) rfl rfl ⟨fun hc => ?_, fun hc => ?_⟩
  · replace H := H.1 hc
    refine g_iconst rfl rfl rfl (pc' := 153) ?_
    refine g_istore rfl rfl rfl (pc' := 155) ?_
    exact g_weak (show gm_Lle [some _, some _, some _, some _, some _, some _, some _, some _, none, some _] _ from ⟨rfl, ⟨rfl, ⟨rfl, ⟨rfl, ⟨rfl, ⟨rfl, ⟨rfl, ⟨rfl, ⟨rfl, trivial⟩⟩⟩⟩⟩⟩⟩⟩⟩) H
  · replace H := H.2 hc
    refine g_aload (r := _) rfl rfl rfl (pc' := 126) ?_
    refine g_iload rfl rfl rfl (pc' := 128) ?_
    refine g_aload (r := some _) rfl rfl rfl (pc' := 129) ?_
    obtain ⟨ht1, H⟩ := H
    refine g_getRv rfl rfl rfl rfl ht1 (pc' := 132) rfl (fun r2 hr2 => ?_)
    replace H := H r2 hr2
    obtain ⟨a3, rfl, H⟩ := H
    obtain ⟨ht4, H⟩ := H
    refine g_getRv rfl rfl rfl rfl ht4 (pc' := 135) rfl (fun r5 hr5 => ?_)
    replace H := H r5 hr5
    refine g_aload (r := _) rfl rfl rfl (pc' := 137) ?_
    refine g_iload rfl rfl rfl (pc' := 139) ?_
    obtain ⟨a6, rfl, H⟩ := H
    obtain ⟨ht8, H⟩ := H
    obtain ⟨n7, hn7, H⟩ := H
    refine g_iaload rfl ht8 hn7 (pc' := 140) rfl ?_
    refine g_iload rfl rfl rfl (pc' := 142) ?_
    obtain ⟨a9, rfl, H⟩ := H
    obtain ⟨ht10, H⟩ := H
    refine g_call rfl (y := 26) (n := 3) (pc' := 145) (g_vt ht10 rfl rfl) rfl rfl ⟨(Nat.le_of_ble_eq_true rfl), (Nat.le_of_ble_eq_true rfl), (Nat.le_of_ble_eq_true rfl)⟩ rfl (gm_G.mono H (pI_elim (fun v12 h11 H' => ?_) (fun e16 h17 H => ?_)))
    · show gm_G _ 145 _ _ _ _
      replace H := H'
      clear H'
      obtain ⟨ht15, H⟩ := H
      obtain ⟨n13, hn13, H⟩ := H
      refine g_iastore rfl ht15 hn13  (pc' := 146) rfl ?_
      replace H := H _ rfl
      refine g_iinc (c := (Int32.ofNat 1)) rfl rfl rfl rfl rfl (pc' := 149) ?_
      refine g_goto rfl (pc' := 116) rfl ?_
      exact g_weak (show gm_Lle [some _, some _, some _, some _, some _, some _, some _, some _, some _, some _] _ from ⟨rfl, ⟨rfl, ⟨rfl, ⟨rfl, ⟨rfl, ⟨rfl, ⟨rfl, ⟨rfl, ⟨rfl, ⟨rfl, trivial⟩⟩⟩⟩⟩⟩⟩⟩⟩⟩) H
    · exact H
set_option maxRecDepth 20000 in
theorem w_254_155 {a0 : Nat} {x1 : Int32} {x2 : Int32} {x3 : Int32} {r_4 : Option Nat} {x5 : Int32} {x6 : Int32} {r_7 : Option Nat} {x9 : Int32} {h : hh_T} {Q : Option Value ⊕ Nat → hh_T → Prop} (H : (¬ x9 < x1 → (gm_G 254 91 [some (.ref a0), some (.int x1), some (.int x2), some (.int x3), some (va_rf r_4), some (.int x5), some (.int (x6 + (Int32.ofNat 1)))] [] h Q)) ∧ (x9 < x1 → (gm_sub (hh_tg h a0) 6 = true ∧ (∀ r2, r2 = hh_r h a0 13 → (∃ a3, r2 = some a3 ∧ ((hh_tg h a3 = 104 ∨ 200 ≤ hh_tg h a3) ∧ (∃ n4, gm_ix x9 n4 (hh_ln h a3) ∧ (∀ r6, r6 = hh_r h a3 n4 → (∃ a7, r6 = some a7 ∧ ((hh_tg h a7 = 100 ∨ hh_tg h a7 = 105) ∧ (∃ n8, gm_ix x6 n8 (hh_ln h a7) ∧ ((x9 = x6 → (gm_G 254 235 [some (.ref a0), some (.int x1), some (.int x2), some (.int x3), some (va_rf r_4), some (.int x5), some (.int x6), some (va_rf r_7), none, some (.int x9)] [] h Q)) ∧ (¬ x9 = x6 → ((¬ (hh_i h a7 n8) = Int32.ofNat 0 → (gm_G 254 191 [some (.ref a0), some (.int x1), some (.int x2), some (.int x3), some (va_rf r_4), some (.int x5), some (.int x6), some (va_rf r_7), none, some (.int x9), some (.int (hh_i h a7 n8)), some (.int (Int32.ofNat 0))] [] h Q)) ∧ ((hh_i h a7 n8) = Int32.ofNat 0 → (gm_G 254 235 [some (.ref a0), some (.int x1), some (.int x2), some (.int x3), some (va_rf r_4), some (.int x5), some (.int x6), some (va_rf r_7), none, some (.int x9)] [] h Q)))))))))))))))) : gm_G 254 155 [some (.ref a0), some (.int x1), some (.int x2), some (.int x3), some (va_rf r_4), some (.int x5), some (.int x6), some (va_rf r_7), none, some (.int x9)] [] h Q := by
  refine g_iload rfl rfl rfl (pc' := 157) ?_
  refine g_iload rfl rfl rfl (pc' := 158) ?_
  refine g_ic_ge rfl (pc' := 161) (pt := 241) rfl rfl ⟨fun hc => ?_, fun hc => ?_⟩
  · replace H := H.1 hc
    refine g_iinc (c := (Int32.ofNat 1)) rfl rfl rfl rfl rfl (pc' := 244) ?_
    refine g_goto rfl (pc' := 91) rfl ?_
    exact g_weak (show gm_Lle [some _, some _, some _, some _, some _, some _, some _] _ from ⟨rfl, ⟨rfl, ⟨rfl, ⟨rfl, ⟨rfl, ⟨rfl, ⟨rfl, trivial⟩⟩⟩⟩⟩⟩⟩) H
  · replace H := H.2 hc
    refine g_aload (r := some _) rfl rfl rfl (pc' := 162) ?_
    obtain ⟨ht1, H⟩ := H
    refine g_getRv rfl rfl rfl rfl ht1 (pc' := 165) rfl (fun r2 hr2 => ?_)
    replace H := H r2 hr2
    refine g_iload rfl rfl rfl (pc' := 167) ?_
    obtain ⟨a3, rfl, H⟩ := H
    obtain ⟨ht5, H⟩ := H
    obtain ⟨n4, hn4, H⟩ := H
    refine g_aaloadv rfl ht5 hn4 (pc' := 168) rfl (fun r6 hr6 => ?_)
    replace H := H r6 hr6
    refine g_iload rfl rfl rfl (pc' := 170) ?_
    obtain ⟨a7, rfl, H⟩ := H
    obtain ⟨ht9, H⟩ := H
    obtain ⟨n8, hn8, H⟩ := H
    refine g_iaload rfl ht9 hn8 (pc' := 171) rfl ?_
    refine g_istore rfl rfl rfl (pc' := 173) ?_
    refine g_iload rfl rfl rfl (pc' := 175) ?_
    refine g_iload rfl rfl rfl (pc' := 177) ?_
    refine g_ic_eq rfl (pc' := 180) (pt := 235) rfl rfl ⟨fun hc => ?_, fun hc => ?_⟩
    · replace H := H.1 hc
      exact g_weak (show gm_Lle [some _, some _, some _, some _, some _, some _, some _, some _, none, some _] _ from ⟨rfl, ⟨rfl, ⟨rfl, ⟨rfl, ⟨rfl, ⟨rfl, ⟨rfl, ⟨rfl, ⟨rfl, trivial⟩⟩⟩⟩⟩⟩⟩⟩⟩) H
    · replace H := H.2 hc
      refine g_iload rfl rfl rfl (pc' := 182) ?_
      refine g_if_ne rfl (pc' := 185) (pt := 188) rfl rfl ⟨fun hc => ?_, fun hc => ?_⟩
      · replace H := H.1 hc
        refine g_iconst rfl rfl rfl (pc' := 189) ?_
        refine g_istore rfl rfl rfl (pc' := 191) ?_
        exact g_weak (show gm_Lle [some _, some _, some _, some _, some _, some _, some _, some _, none, some _, some _, some _] _ from ⟨rfl, ⟨rfl, ⟨rfl, ⟨rfl, ⟨rfl, ⟨rfl, ⟨rfl, ⟨rfl, ⟨rfl, ⟨rfl, ⟨rfl, trivial⟩⟩⟩⟩⟩⟩⟩⟩⟩⟩⟩) H
      · replace H := H.2 hc
        refine g_goto rfl (pc' := 235) rfl ?_
        exact g_weak (show gm_Lle [some _, some _, some _, some _, some _, some _, some _, some _, none, some _] _ from ⟨rfl, ⟨rfl, ⟨rfl, ⟨rfl, ⟨rfl, ⟨rfl, ⟨rfl, ⟨rfl, ⟨rfl, trivial⟩⟩⟩⟩⟩⟩⟩⟩⟩) H
set_option maxRecDepth 20000 in
theorem w_254_191 {a0 : Nat} {x1 : Int32} {x2 : Int32} {x3 : Int32} {r_4 : Option Nat} {x5 : Int32} {x6 : Int32} {r_7 : Option Nat} {x9 : Int32} {x10 : Int32} {x11 : Int32} {h : hh_T} {Q : Option Value ⊕ Nat → hh_T → Prop} (H : (¬ x11 < ((Int32.ofNat 2) * x1) → (gm_G 254 235 [some (.ref a0), some (.int x1), some (.int x2), some (.int x3), some (va_rf r_4), some (.int x5), some (.int x6), some (va_rf r_7), none, some (.int x9)] [] h Q)) ∧ (x11 < ((Int32.ofNat 2) * x1) → (gm_sub (hh_tg h a0) 6 = true ∧ (∀ r2, r2 = hh_r h a0 13 → (∃ a3, r2 = some a3 ∧ ((hh_tg h a3 = 104 ∨ 200 ≤ hh_tg h a3) ∧ (∃ n4, gm_ix x9 n4 (hh_ln h a3) ∧ (∀ r6, r6 = hh_r h a3 n4 → (∃ a7, r6 = some a7 ∧ ((hh_tg h a7 = 100 ∨ hh_tg h a7 = 105) ∧ (∃ n8, gm_ix x11 n8 (hh_ln h a7) ∧ (∀ r10, r10 = hh_r h a0 14 → (∃ a11, r10 = some a11 ∧ (gm_sub (hh_tg h a11) 0 = true ∧ (∀ r13, r13 = hh_r h a11 3 → (∃ a14, r_7 = some a14 ∧ ((hh_tg h a14 = 100 ∨ hh_tg h a14 = 105) ∧ (∃ n15, gm_ix x11 n15 (hh_ln h a14) ∧ (∃ a17, r13 = some a17 ∧ (hh_tg h a17 = 3 ∧ (gm_G 27 0 [some (.ref a17), some (.int x10), some (.int (hh_i h a14 n15))] [] h (pI (fun v20 h19 => hh_tg h19 a7 = 100 ∧ (∃ n21, gm_ix x11 n21 (hh_ln h19 a7) ∧ (∀ h22, h22 = hh_wi h19 a7 n21 ((hh_i h a7 n8) ^^^ v20) → (gm_G 254 191 [some (.ref a0), some (.int x1), some (.int x2), some (.int x3), some (va_rf r_4), some (.int x5), some (.int x6), some (.ref a14), none, some (.int x9), some (.int x10), some (.int (x11 + (Int32.ofNat 1)))] [] h22 Q)))) (fun e24 h25 => hh_tg h25 e24 = 21 ∧ Q (.inr e24) h25))))))))))))))))))))))) : gm_G 254 191 [some (.ref a0), some (.int x1), some (.int x2), some (.int x3), some (va_rf r_4), some (.int x5), some (.int x6), some (va_rf r_7), none, some (.int x9), some (.int x10), some (.int x11)] [] h Q := by
  refine g_iload rfl rfl rfl (pc' := 193) ?_
  refine g_iconst rfl rfl rfl (pc' := 194) ?_
  refine g_iload rfl rfl rfl (pc' := 195) ?_
  refine g_imul rfl rfl (pc' := 196) ?_
  refine g_ic_ge rfl (pc' := 199) (pt := 235) rfl rfl ⟨fun hc => ?_, fun hc => ?_⟩
  · replace H := H.1 hc
    exact g_weak (show gm_Lle [some _, some _, some _, some _, some _, some _, some _, some _, none, some _] _ from ⟨rfl, ⟨rfl, ⟨rfl, ⟨rfl, ⟨rfl, ⟨rfl, ⟨rfl, ⟨rfl, ⟨rfl, trivial⟩⟩⟩⟩⟩⟩⟩⟩⟩) H
  · replace H := H.2 hc
    refine g_aload (r := some _) rfl rfl rfl (pc' := 200) ?_
    obtain ⟨ht1, H⟩ := H
    refine g_getRv rfl rfl rfl rfl ht1 (pc' := 203) rfl (fun r2 hr2 => ?_)
    replace H := H r2 hr2
    refine g_iload rfl rfl rfl (pc' := 205) ?_
    obtain ⟨a3, rfl, H⟩ := H
    obtain ⟨ht5, H⟩ := H
    obtain ⟨n4, hn4, H⟩ := H
    refine g_aaloadv rfl ht5 hn4 (pc' := 206) rfl (fun r6 hr6 => ?_)
    replace H := H r6 hr6
    refine g_iload rfl rfl rfl (pc' := 208) ?_
    obtain ⟨a7, rfl, H⟩ := H
    refine g_dup2_a rfl (pc' := 209) rfl ?_
    obtain ⟨ht9, H⟩ := H
    obtain ⟨n8, hn8, H⟩ := H
    refine g_iaload rfl ht9 hn8 (pc' := 210) rfl ?_
    refine g_aload (r := some _) rfl rfl rfl (pc' := 211) ?_
    refine g_getRv rfl rfl rfl rfl ht1 (pc' := 214) rfl (fun r10 hr10 => ?_)
    replace H := H r10 hr10
    obtain ⟨a11, rfl, H⟩ := H
    obtain ⟨ht12, H⟩ := H
    refine g_getRv rfl rfl rfl rfl ht12 (pc' := 217) rfl (fun r13 hr13 => ?_)
    replace H := H r13 hr13
    refine g_iload rfl rfl rfl (pc' := 219) ?_
    refine g_aload (r := _) rfl rfl rfl (pc' := 221) ?_
    refine g_iload rfl rfl rfl (pc' := 223) ?_
    obtain ⟨a14, rfl, H⟩ := H
    obtain ⟨ht16, H⟩ := H
    obtain ⟨n15, hn15, H⟩ := H
    refine g_iaload rfl ht16 hn15 (pc' := 224) rfl ?_
    obtain ⟨a17, rfl, H⟩ := H
    obtain ⟨ht18, H⟩ := H
    refine g_call rfl (y := 27) (n := 3) (pc' := 227) (g_vt ht18 rfl rfl) rfl rfl ⟨(Nat.le_of_ble_eq_true rfl), (Nat.le_of_ble_eq_true rfl), (Nat.le_of_ble_eq_true rfl)⟩ rfl (gm_G.mono H (pI_elim (fun v20 h19 H' => ?_) (fun e24 h25 H => ?_)))
    · show gm_G _ 227 _ _ _ _
      replace H := H'
      clear H'
      refine g_ixor rfl rfl (pc' := 228) ?_
      obtain ⟨ht23, H⟩ := H
      obtain ⟨n21, hn21, H⟩ := H
      refine g_iastore rfl ht23 hn21  (pc' := 229) rfl ?_
      replace H := H _ rfl
      refine g_iinc (c := (Int32.ofNat 1)) rfl rfl rfl rfl rfl (pc' := 232) ?_
      refine g_goto rfl (pc' := 191) rfl ?_
      exact g_weak (show gm_Lle [some _, some _, some _, some _, some _, some _, some _, some _, none, some _, some _, some _] _ from ⟨rfl, ⟨rfl, ⟨rfl, ⟨rfl, ⟨rfl, ⟨rfl, ⟨rfl, ⟨rfl, ⟨rfl, ⟨rfl, ⟨rfl, trivial⟩⟩⟩⟩⟩⟩⟩⟩⟩⟩⟩) H
    · exact H
set_option maxRecDepth 20000 in
theorem w_254_235 {a0 : Nat} {x1 : Int32} {x2 : Int32} {x3 : Int32} {r_4 : Option Nat} {x5 : Int32} {x6 : Int32} {r_7 : Option Nat} {x9 : Int32} {h : hh_T} {Q : Option Value ⊕ Nat → hh_T → Prop} (H : gm_G 254 155 [some (.ref a0), some (.int x1), some (.int x2), some (.int x3), some (va_rf r_4), some (.int x5), some (.int x6), some (va_rf r_7), none, some (.int (x9 + (Int32.ofNat 1)))] [] h Q) : gm_G 254 235 [some (.ref a0), some (.int x1), some (.int x2), some (.int x3), some (va_rf r_4), some (.int x5), some (.int x6), some (va_rf r_7), none, some (.int x9)] [] h Q := by
  refine g_iinc (c := (Int32.ofNat 1)) rfl rfl rfl rfl rfl (pc' := 238) ?_
  refine g_goto rfl (pc' := 155) rfl ?_
  exact g_weak (show gm_Lle [some _, some _, some _, some _, some _, some _, some _, some _, none, some _] _ from ⟨rfl, ⟨rfl, ⟨rfl, ⟨rfl, ⟨rfl, ⟨rfl, ⟨rfl, ⟨rfl, ⟨rfl, trivial⟩⟩⟩⟩⟩⟩⟩⟩⟩) H
set_option maxRecDepth 20000 in
theorem w_254_250 {a0 : Nat} {x1 : Int32} {x2 : Int32} {x3 : Int32} {r_4 : Option Nat} {x5 : Int32} {x6 : Int32} {h : hh_T} {Q : Option Value ⊕ Nat → hh_T → Prop} (H : (¬ x6 < x1 → (gm_G 254 420 [some (.ref a0), some (.int x1), none, none, some (va_rf r_4), some (.int x5), some (.int (Int32.ofNat 0))] [] h Q)) ∧ (x6 < x1 → (gm_sub (hh_tg h a0) 6 = true ∧ (∀ r2, r2 = hh_r h a0 12 → (∃ a3, r2 = some a3 ∧ ((hh_tg h a3 = 100 ∨ hh_tg h a3 = 105) ∧ (∃ n4, gm_ix x6 n4 (hh_ln h a3) ∧ (gm_sub (hh_tg h a0) 3 = true ∧ (∀ r7, r7 = hh_r h a0 1 → ((hh_i h a0 2) ≠ 0 ∧ (∃ a8, r7 = some a8 ∧ ((hh_tg h a8 = 104 ∨ 200 ≤ hh_tg h a8) ∧ (∃ n9, gm_ix ((x2 + (hh_i h a3 n4)) - (x2 + (hh_i h a3 n4)) / (hh_i h a0 2) * (hh_i h a0 2)) n9 (hh_ln h a8) ∧ (∀ r11, r11 = hh_r h a8 n9 → ((hh_i h a0 2) ≠ 0 ∧ (∀ r12, r12 = hh_r h a0 10 → (∃ a13, r11 = some a13 ∧ (hh_tg h a13 = 22 ∧ (gm_G 170 0 [some (.ref a13), some (.int ((x2 + (hh_i h a3 n4)) / (hh_i h a0 2))), some (va_rf r12), some (.int ((Int32.ofNat 8) * x6))] [] h (pV (fun h15 => gm_G 254 301 [some (.ref a0), some (.int x1), some (.int x2), some (.int x3), some (va_rf r_4), some (.int x5), some (.int x6), none, some (.int (Int32.ofNat 0))] [] h15 Q) (fun e16 h17 => hh_tg h17 e16 = 21 ∧ Q (.inr e16) h17))))))))))))))))))))) : gm_G 254 250 [some (.ref a0), some (.int x1), some (.int x2), some (.int x3), some (va_rf r_4), some (.int x5), some (.int x6)] [] h Q := by
  refine g_iload rfl rfl rfl (pc' := 252) ?_
  refine g_iload rfl rfl rfl (pc' := 253) ?_
  refine g_ic_ge rfl (pc' := 256) (pt := 417) rfl rfl ⟨fun hc => ?_, fun hc => ?_⟩
  · replace H := H.1 hc
    refine g_iconst rfl rfl rfl (pc' := 418) ?_
    refine g_istore rfl rfl rfl (pc' := 420) ?_
    exact g_weak (show gm_Lle [some _, some _, none, none, some _, some _, some _] _ from ⟨rfl, ⟨rfl, ⟨rfl, ⟨rfl, ⟨rfl, trivial⟩⟩⟩⟩⟩) H
  · replace H := H.2 hc
    refine g_iload rfl rfl rfl (pc' := 257) ?_
    refine g_aload (r := some _) rfl rfl rfl (pc' := 258) ?_
    obtain ⟨ht1, H⟩ := H
    refine g_getRv rfl rfl rfl rfl ht1 (pc' := 261) rfl (fun r2 hr2 => ?_)
    replace H := H r2 hr2
    refine g_iload rfl rfl rfl (pc' := 263) ?_
    obtain ⟨a3, rfl, H⟩ := H
    obtain ⟨ht5, H⟩ := H
    obtain ⟨n4, hn4, H⟩ := H
    refine g_iaload rfl ht5 hn4 (pc' := 264) rfl ?_
    refine g_iadd rfl rfl (pc' := 265) ?_
    refine g_istore rfl rfl rfl (pc' := 267) ?_
    refine g_aload (r := some _) rfl rfl rfl (pc' := 268) ?_
    obtain ⟨ht6, H⟩ := H
    refine g_getRv rfl rfl rfl rfl ht6 (pc' := 271) rfl (fun r7 hr7 => ?_)
    replace H := H r7 hr7
    refine g_iload rfl rfl rfl (pc' := 273) ?_
    refine g_aload (r := some _) rfl rfl rfl (pc' := 274) ?_
    refine g_getI rfl rfl rfl rfl ht6 (pc' := 277) rfl ?_
    obtain ⟨Hp, H⟩ := H
    refine g_irem rfl Hp (pc' := 278) rfl ?_
    obtain ⟨a8, rfl, H⟩ := H
    obtain ⟨ht10, H⟩ := H
    obtain ⟨n9, hn9, H⟩ := H
    refine g_aaloadv rfl ht10 hn9 (pc' := 279) rfl (fun r11 hr11 => ?_)
    replace H := H r11 hr11
    refine g_iload rfl rfl rfl (pc' := 281) ?_
    refine g_aload (r := some _) rfl rfl rfl (pc' := 282) ?_
    refine g_getI rfl rfl rfl rfl ht6 (pc' := 285) rfl ?_
    obtain ⟨Hp, H⟩ := H
    refine g_idiv rfl Hp (pc' := 286) rfl ?_
    refine g_aload (r := some _) rfl rfl rfl (pc' := 287) ?_
    refine g_getRv rfl rfl rfl rfl ht1 (pc' := 290) rfl (fun r12 hr12 => ?_)
    replace H := H r12 hr12
    refine g_iconst rfl rfl rfl (pc' := 292) ?_
    refine g_iload rfl rfl rfl (pc' := 294) ?_
    refine g_imul rfl rfl (pc' := 295) ?_
    obtain ⟨a13, rfl, H⟩ := H
    obtain ⟨ht14, H⟩ := H
    refine g_call rfl (y := 170) (n := 4) (pc' := 298) (g_vt ht14 rfl rfl) (by cases r12 <;> rfl) rfl ⟨(Nat.le_of_ble_eq_true rfl), (Nat.le_of_ble_eq_true rfl), (Nat.le_of_ble_eq_true rfl)⟩ rfl (gm_G.mono H (pV_elim (fun h15 H' => ?_) (fun e16 h17 H => ?_)))
    · show gm_G _ 298 _ _ _ _
      replace H := H'
      clear H'
      refine g_iconst rfl rfl rfl (pc' := 299) ?_
      refine g_istore rfl rfl rfl (pc' := 301) ?_
      exact g_weak (show gm_Lle [some _, some _, some _, some _, some _, some _, some _, none, some _] _ from ⟨rfl, ⟨rfl, ⟨rfl, ⟨rfl, ⟨rfl, ⟨rfl, ⟨rfl, ⟨rfl, trivial⟩⟩⟩⟩⟩⟩⟩⟩) H
    · exact H
set_option maxRecDepth 20000 in
theorem w_254_301 {a0 : Nat} {x1 : Int32} {x2 : Int32} {x3 : Int32} {r_4 : Option Nat} {x5 : Int32} {x6 : Int32} {x8 : Int32} {h : hh_T} {Q : Option Value ⊕ Nat → hh_T → Prop} (H : (¬ x8 < x3 → (gm_G 254 250 [some (.ref a0), some (.int x1), some (.int x2), some (.int x3), some (va_rf r_4), some (.int x5), some (.int (x6 + (Int32.ofNat 1)))] [] h Q)) ∧ (x8 < x3 → (hh_tg h a0 = 7 ∧ (gm_G 43 0 [some (.ref a0), some (.int x8), some (.int x1)] [] h (pI (fun v3 h2 => (v3 = Int32.ofNat 0 → (gm_sub (hh_tg h2 a0) 6 = true ∧ (∀ r5, r5 = hh_r h2 a0 14 → (∃ a6, r5 = some a6 ∧ (gm_sub (hh_tg h2 a6) 0 = true ∧ (∀ r8, r8 = hh_r h2 a6 3 → (∀ r9, r9 = hh_r h2 a0 12 → (∃ a10, r9 = some a10 ∧ ((hh_tg h2 a10 = 100 ∨ hh_tg h2 a10 = 105) ∧ (∃ n11, gm_ix x6 n11 (hh_ln h2 a10) ∧ (∃ a13, r8 = some a13 ∧ (hh_tg h2 a13 = 3 ∧ (gm_G 25 0 [some (.ref a13), some (.int (hh_i h2 a10 n11)), some (.int x8)] [] h2 (pI (fun v16 h15 => gm_G 254 344 [some (.ref a0), some (.int x1), some (.int x2), some (.int x3), some (va_rf r_4), some (.int x5), some (.int x6), none, some (.int x8), some (.int v16), some (.int (Int32.ofNat 0))] [] h15 Q) (fun e17 h18 => hh_tg h18 e17 = 21 ∧ Q (.inr e17) h18))))))))))))))) ∧ (¬ v3 = Int32.ofNat 0 → (gm_G 254 405 [some (.ref a0), some (.int x1), some (.int x2), some (.int x3), some (va_rf r_4), some (.int x5), some (.int x6), none, some (.int x8)] [] h2 Q))) (fun e19 h20 => hh_tg h20 e19 = 21 ∧ Q (.inr e19) h20)))))) : gm_G 254 301 [some (.ref a0), some (.int x1), some (.int x2), some (.int x3), some (va_rf r_4), some (.int x5), some (.int x6), none, some (.int x8)] [] h Q := by
  refine g_iload rfl rfl rfl (pc' := 303) ?_
  refine g_iload rfl rfl rfl (pc' := 304) ?_
  refine g_ic_ge rfl (pc' := 307) (pt := 411) rfl rfl ⟨fun hc => ?_, fun hc => ?_⟩
  · replace H := H.1 hc
    refine g_iinc (c := (Int32.ofNat 1)) rfl rfl rfl rfl rfl (pc' := 414) ?_
    refine g_goto rfl (pc' := 250) rfl ?_
    exact g_weak (show gm_Lle [some _, some _, some _, some _, some _, some _, some _] _ from ⟨rfl, ⟨rfl, ⟨rfl, ⟨rfl, ⟨rfl, ⟨rfl, ⟨rfl, trivial⟩⟩⟩⟩⟩⟩⟩) H
  · replace H := H.2 hc
    refine g_aload (r := some _) rfl rfl rfl (pc' := 308) ?_
    refine g_iload rfl rfl rfl (pc' := 310) ?_
    refine g_iload rfl rfl rfl (pc' := 311) ?_
    obtain ⟨ht1, H⟩ := H
    refine g_call rfl (y := 43) (n := 3) (pc' := 314) (g_vt ht1 rfl rfl) rfl rfl ⟨(Nat.le_of_ble_eq_true rfl), (Nat.le_of_ble_eq_true rfl), (Nat.le_of_ble_eq_true rfl)⟩ rfl (gm_G.mono H (pI_elim (fun v3 h2 H' => ?_) (fun e19 h20 H => ?_)))
    · show gm_G _ 314 _ _ _ _
      replace H := H'
      clear H'
      refine g_if_eq rfl (pc' := 317) (pt := 320) rfl rfl ⟨fun hc => ?_, fun hc => ?_⟩
      · replace H := H.1 hc
        refine g_aload (r := some _) rfl rfl rfl (pc' := 321) ?_
        obtain ⟨ht4, H⟩ := H
        refine g_getRv rfl rfl rfl rfl ht4 (pc' := 324) rfl (fun r5 hr5 => ?_)
        replace H := H r5 hr5
        obtain ⟨a6, rfl, H⟩ := H
        obtain ⟨ht7, H⟩ := H
        refine g_getRv rfl rfl rfl rfl ht7 (pc' := 327) rfl (fun r8 hr8 => ?_)
        replace H := H r8 hr8
        refine g_aload (r := some _) rfl rfl rfl (pc' := 328) ?_
        refine g_getRv rfl rfl rfl rfl ht4 (pc' := 331) rfl (fun r9 hr9 => ?_)
        replace H := H r9 hr9
        refine g_iload rfl rfl rfl (pc' := 333) ?_
        obtain ⟨a10, rfl, H⟩ := H
        obtain ⟨ht12, H⟩ := H
        obtain ⟨n11, hn11, H⟩ := H
        refine g_iaload rfl ht12 hn11 (pc' := 334) rfl ?_
        refine g_iload rfl rfl rfl (pc' := 336) ?_
        obtain ⟨a13, rfl, H⟩ := H
        obtain ⟨ht14, H⟩ := H
        refine g_call rfl (y := 25) (n := 3) (pc' := 339) (g_vt ht14 rfl rfl) rfl rfl ⟨(Nat.le_of_ble_eq_true rfl), (Nat.le_of_ble_eq_true rfl), (Nat.le_of_ble_eq_true rfl)⟩ rfl (gm_G.mono H (pI_elim (fun v16 h15 H' => ?_) (fun e17 h18 H => ?_)))
        · show gm_G _ 339 _ _ _ _
          replace H := H'
          clear H'
          refine g_istore rfl rfl rfl (pc' := 341) ?_
          refine g_iconst rfl rfl rfl (pc' := 342) ?_
          refine g_istore rfl rfl rfl (pc' := 344) ?_
          exact g_weak (show gm_Lle [some _, some _, some _, some _, some _, some _, some _, none, some _, some _, some _] _ from ⟨rfl, ⟨rfl, ⟨rfl, ⟨rfl, ⟨rfl, ⟨rfl, ⟨rfl, ⟨rfl, ⟨rfl, ⟨rfl, trivial⟩⟩⟩⟩⟩⟩⟩⟩⟩⟩) H
        · exact H
      · replace H := H.2 hc
        refine g_goto rfl (pc' := 405) rfl ?_
        exact g_weak (show gm_Lle [some _, some _, some _, some _, some _, some _, some _, none, some _] _ from ⟨rfl, ⟨rfl, ⟨rfl, ⟨rfl, ⟨rfl, ⟨rfl, ⟨rfl, ⟨rfl, trivial⟩⟩⟩⟩⟩⟩⟩⟩) H
    · exact H
set_option maxRecDepth 20000 in
theorem w_254_344 {a0 : Nat} {x1 : Int32} {x2 : Int32} {x3 : Int32} {r_4 : Option Nat} {x5 : Int32} {x6 : Int32} {x8 : Int32} {x9 : Int32} {x10 : Int32} {h : hh_T} {Q : Option Value ⊕ Nat → hh_T → Prop} (H : (¬ x10 < (Int32.ofNat 8) → (gm_G 254 405 [some (.ref a0), some (.int x1), some (.int x2), some (.int x3), some (va_rf r_4), some (.int x5), some (.int x6), none, some (.int x8)] [] h Q)) ∧ (x10 < (Int32.ofNat 8) → (gm_sub (hh_tg h a0) 6 = true ∧ (∀ r2, r2 = hh_r h a0 10 → (∃ a3, r2 = some a3 ∧ ((hh_tg h a3 = 101 ∨ hh_tg h a3 = 102) ∧ (∃ n4, gm_ix (((Int32.ofNat 8) * x6) + x10) n4 (hh_ln h a3) ∧ (∀ r6, r6 = hh_r h a0 14 → (∃ a7, r6 = some a7 ∧ (gm_sub (hh_tg h a7) 0 = true ∧ (∀ r9, r9 = hh_r h a7 3 → (∃ a10, r_4 = some a10 ∧ ((hh_tg h a10 = 101 ∨ hh_tg h a10 = 102) ∧ (∃ n11, gm_ix ((x5 + ((Int32.ofNat 8) * x8)) + x10) n11 (hh_ln h a10) ∧ (∃ a13, r9 = some a13 ∧ (hh_tg h a13 = 3 ∧ (gm_G 27 0 [some (.ref a13), some (.int x9), some (.int ((hh_i h a10 n11) &&& (Int32.ofNat 255)))] [] h (pI (fun v16 h15 => hh_tg h15 a3 = 101 ∧ (∃ n17, gm_ix (((Int32.ofNat 8) * x6) + x10) n17 (hh_ln h15 a3) ∧ (∀ h18, h18 = hh_wi h15 a3 n17 ((((hh_i h a3 n4) ^^^ (v16.toInt8.toInt32)).toInt8.toInt32).toInt8.toInt32) → (gm_G 254 344 [some (.ref a0), some (.int x1), some (.int x2), some (.int x3), some (.ref a10), some (.int x5), some (.int x6), none, some (.int x8), some (.int x9), some (.int (x10 + (Int32.ofNat 1)))] [] h18 Q)))) (fun e20 h21 => hh_tg h21 e20 = 21 ∧ Q (.inr e20) h21))))))))))))))))))) : gm_G 254 344 [some (.ref a0), some (.int x1), some (.int x2), some (.int x3), some (va_rf r_4), some (.int x5), some (.int x6), none, some (.int x8), some (.int x9), some (.int x10)] [] h Q := by
  refine g_iload rfl rfl rfl (pc' := 346) ?_
  refine g_iconst rfl rfl rfl (pc' := 348) ?_
  refine g_ic_ge rfl (pc' := 351) (pt := 405) rfl rfl ⟨fun hc => ?_, fun hc => ?_⟩
  · replace H := H.1 hc
    exact g_weak (show gm_Lle [some _, some _, some _, some _, some _, some _, some _, none, some _] _ from ⟨rfl, ⟨rfl, ⟨rfl, ⟨rfl, ⟨rfl, ⟨rfl, ⟨rfl, ⟨rfl, trivial⟩⟩⟩⟩⟩⟩⟩⟩) H
  · replace H := H.2 hc
    refine g_aload (r := some _) rfl rfl rfl (pc' := 352) ?_
    obtain ⟨ht1, H⟩ := H
    refine g_getRv rfl rfl rfl rfl ht1 (pc' := 355) rfl (fun r2 hr2 => ?_)
    replace H := H r2 hr2
    refine g_iconst rfl rfl rfl (pc' := 357) ?_
    refine g_iload rfl rfl rfl (pc' := 359) ?_
    refine g_imul rfl rfl (pc' := 360) ?_
    refine g_iload rfl rfl rfl (pc' := 362) ?_
    refine g_iadd rfl rfl (pc' := 363) ?_
    obtain ⟨a3, rfl, H⟩ := H
    refine g_dup2_a rfl (pc' := 364) rfl ?_
    obtain ⟨ht5, H⟩ := H
    obtain ⟨n4, hn4, H⟩ := H
    refine g_baload rfl ht5 hn4 (pc' := 365) rfl ?_
    refine g_aload (r := some _) rfl rfl rfl (pc' := 366) ?_
    refine g_getRv rfl rfl rfl rfl ht1 (pc' := 369) rfl (fun r6 hr6 => ?_)
    replace H := H r6 hr6
    obtain ⟨a7, rfl, H⟩ := H
    obtain ⟨ht8, H⟩ := H
    refine g_getRv rfl rfl rfl rfl ht8 (pc' := 372) rfl (fun r9 hr9 => ?_)
    replace H := H r9 hr9
    refine g_iload rfl rfl rfl (pc' := 374) ?_
    refine g_aload (r := _) rfl rfl rfl (pc' := 376) ?_
    refine g_iload rfl rfl rfl (pc' := 378) ?_
    refine g_iconst rfl rfl rfl (pc' := 380) ?_
    refine g_iload rfl rfl rfl (pc' := 382) ?_
    refine g_imul rfl rfl (pc' := 383) ?_
    refine g_iadd rfl rfl (pc' := 384) ?_
    refine g_iload rfl rfl rfl (pc' := 386) ?_
    refine g_iadd rfl rfl (pc' := 387) ?_
    obtain ⟨a10, rfl, H⟩ := H
    obtain ⟨ht12, H⟩ := H
    obtain ⟨n11, hn11, H⟩ := H
    refine g_baload rfl ht12 hn11 (pc' := 388) rfl ?_
    refine g_iconst rfl rfl rfl (pc' := 391) ?_
    refine g_iand rfl rfl (pc' := 392) ?_
    obtain ⟨a13, rfl, H⟩ := H
    obtain ⟨ht14, H⟩ := H
    refine g_call rfl (y := 27) (n := 3) (pc' := 395) (g_vt ht14 rfl rfl) rfl rfl ⟨(Nat.le_of_ble_eq_true rfl), (Nat.le_of_ble_eq_true rfl), (Nat.le_of_ble_eq_true rfl)⟩ rfl (gm_G.mono H (pI_elim (fun v16 h15 H' => ?_) (fun e20 h21 H => ?_)))
    · show gm_G _ 395 _ _ _ _
      replace H := H'
      clear H'
      refine g_i2b rfl rfl (pc' := 396) ?_
      refine g_ixor rfl rfl (pc' := 397) ?_
      refine g_i2b rfl rfl (pc' := 398) ?_
      obtain ⟨ht19, H⟩ := H
      obtain ⟨n17, hn17, H⟩ := H
      refine g_bastore rfl ht19 hn17  (pc' := 399) rfl ?_
      replace H := H _ rfl
      refine g_iinc (c := (Int32.ofNat 1)) rfl rfl rfl rfl rfl (pc' := 402) ?_
      refine g_goto rfl (pc' := 344) rfl ?_
      exact g_weak (show gm_Lle [some _, some _, some _, some _, some _, some _, some _, none, some _, some _, some _] _ from ⟨rfl, ⟨rfl, ⟨rfl, ⟨rfl, ⟨rfl, ⟨rfl, ⟨rfl, ⟨rfl, ⟨rfl, ⟨rfl, trivial⟩⟩⟩⟩⟩⟩⟩⟩⟩⟩) H
    · exact H
set_option maxRecDepth 20000 in
theorem w_254_405 {a0 : Nat} {x1 : Int32} {x2 : Int32} {x3 : Int32} {r_4 : Option Nat} {x5 : Int32} {x6 : Int32} {x8 : Int32} {h : hh_T} {Q : Option Value ⊕ Nat → hh_T → Prop} (H : gm_G 254 301 [some (.ref a0), some (.int x1), some (.int x2), some (.int x3), some (va_rf r_4), some (.int x5), some (.int x6), none, some (.int (x8 + (Int32.ofNat 1)))] [] h Q) : gm_G 254 405 [some (.ref a0), some (.int x1), some (.int x2), some (.int x3), some (va_rf r_4), some (.int x5), some (.int x6), none, some (.int x8)] [] h Q := by
  refine g_iinc (c := (Int32.ofNat 1)) rfl rfl rfl rfl rfl (pc' := 408) ?_
  refine g_goto rfl (pc' := 301) rfl ?_
  exact g_weak (show gm_Lle [some _, some _, some _, some _, some _, some _, some _, none, some _] _ from ⟨rfl, ⟨rfl, ⟨rfl, ⟨rfl, ⟨rfl, ⟨rfl, ⟨rfl, ⟨rfl, trivial⟩⟩⟩⟩⟩⟩⟩⟩) H
set_option maxRecDepth 20000 in
theorem w_254_420 {a0 : Nat} {x1 : Int32} {r_4 : Option Nat} {x5 : Int32} {x6 : Int32} {h : hh_T} {Q : Option Value ⊕ Nat → hh_T → Prop} (H : (¬ x6 < x1 → (Q (.inl none) h)) ∧ (x6 < x1 → (gm_G 254 429 [some (.ref a0), some (.int x1), none, none, some (va_rf r_4), some (.int x5), some (.int x6), some (.int (Int32.ofNat 0))] [] h Q))) : gm_G 254 420 [some (.ref a0), some (.int x1), none, none, some (va_rf r_4), some (.int x5), some (.int x6)] [] h Q := by
  refine g_iload rfl rfl rfl (pc' := 422) ?_
  refine g_iload rfl rfl rfl (pc' := 423) ?_
  refine g_ic_ge rfl (pc' := 426) (pt := 532) rfl rfl ⟨fun hc => ?_, fun hc => ?_⟩
  · replace H := H.1 hc
    exact g_return rfl H
  · replace H := H.2 hc
    refine g_iconst rfl rfl rfl (pc' := 427) ?_
    refine g_istore rfl rfl rfl (pc' := 429) ?_
    exact g_weak (show gm_Lle [some _, some _, none, none, some _, some _, some _, some _] _ from ⟨rfl, ⟨rfl, ⟨rfl, ⟨rfl, ⟨rfl, ⟨rfl, trivial⟩⟩⟩⟩⟩⟩) H
set_option maxRecDepth 20000 in
theorem w_254_429 {a0 : Nat} {x1 : Int32} {r_4 : Option Nat} {x5 : Int32} {x6 : Int32} {x7 : Int32} {h : hh_T} {Q : Option Value ⊕ Nat → hh_T → Prop} (H : (¬ x7 < (Int32.ofNat 8) → (gm_G 254 420 [some (.ref a0), some (.int x1), none, none, some (va_rf r_4), some (.int x5), some (.int (x6 + (Int32.ofNat 1)))] [] h Q)) ∧ (x7 < (Int32.ofNat 8) → (gm_G 254 442 [some (.ref a0), some (.int x1), none, none, some (va_rf r_4), some (.int x5), some (.int x6), some (.int x7), some (.int (Int32.ofNat 0)), some (.int (Int32.ofNat 0))] [] h Q))) : gm_G 254 429 [some (.ref a0), some (.int x1), none, none, some (va_rf r_4), some (.int x5), some (.int x6), some (.int x7)] [] h Q := by
  refine g_iload rfl rfl rfl (pc' := 431) ?_
  refine g_iconst rfl rfl rfl (pc' := 433) ?_
  refine g_ic_ge rfl (pc' := 436) (pt := 526) rfl rfl ⟨fun hc => ?_, fun hc => ?_⟩
  · replace H := H.1 hc
    refine g_iinc (c := (Int32.ofNat 1)) rfl rfl rfl rfl rfl (pc' := 529) ?_
    refine g_goto rfl (pc' := 420) rfl ?_
    exact g_weak (show gm_Lle [some _, some _, none, none, some _, some _, some _] _ from ⟨rfl, ⟨rfl, ⟨rfl, ⟨rfl, ⟨rfl, trivial⟩⟩⟩⟩⟩) H
  · replace H := H.2 hc
    refine g_iconst rfl rfl rfl (pc' := 437) ?_
    refine g_istore rfl rfl rfl (pc' := 439) ?_
    refine g_iconst rfl rfl rfl (pc' := 440) ?_
    refine g_istore rfl rfl rfl (pc' := 442) ?_
    exact g_weak (show gm_Lle [some _, some _, none, none, some _, some _, some _, some _, some _, some _] _ from ⟨rfl, ⟨rfl, ⟨rfl, ⟨rfl, ⟨rfl, ⟨rfl, ⟨rfl, ⟨rfl, trivial⟩⟩⟩⟩⟩⟩⟩⟩) H
set_option maxRecDepth 20000 in
theorem w_254_442 {a0 : Nat} {x1 : Int32} {r_4 : Option Nat} {x5 : Int32} {x6 : Int32} {x7 : Int32} {x8 : Int32} {x9 : Int32} {h : hh_T} {Q : Option Value ⊕ Nat → hh_T → Prop} (H : (¬ x9 < x1 → (gm_sub (hh_tg h a0) 6 = true ∧ (∀ r2, r2 = hh_r h a0 11 → (∃ a3, r2 = some a3 ∧ ((hh_tg h a3 = 100 ∨ hh_tg h a3 = 105) ∧ (∃ n4, gm_ix x6 n4 (hh_ln h a3) ∧ (∃ a6, r_4 = some a6 ∧ (hh_tg h a6 = 101 ∧ (∃ n7, gm_ix ((x5 + ((Int32.ofNat 8) * (hh_i h a3 n4))) + x7) n7 (hh_ln h a6) ∧ (∀ h8, h8 = hh_wi h a6 n7 ((x8.toInt8.toInt32).toInt8.toInt32) → (gm_G 254 429 [some (.ref a0), some (.int x1), none, none, some (.ref a6), some (.int x5), some (.int x6), some (.int (x7 + (Int32.ofNat 1)))] [] h8 Q))))))))))) ∧ (x9 < x1 → (gm_sub (hh_tg h a0) 6 = true ∧ (∀ r11, r11 = hh_r h a0 14 → (∃ a12, r11 = some a12 ∧ (gm_sub (hh_tg h a12) 0 = true ∧ (∀ r14, r14 = hh_r h a12 3 → (∀ r15, r15 = hh_r h a0 13 → (∃ a16, r15 = some a16 ∧ ((hh_tg h a16 = 104 ∨ 200 ≤ hh_tg h a16) ∧ (∃ n17, gm_ix x6 n17 (hh_ln h a16) ∧ (∀ r19, r19 = hh_r h a16 n17 → (∃ a20, r19 = some a20 ∧ ((hh_tg h a20 = 100 ∨ hh_tg h a20 = 105) ∧ (∃ n21, gm_ix (x1 + x9) n21 (hh_ln h a20) ∧ (∀ r23, r23 = hh_r h a0 10 → (∃ a24, r23 = some a24 ∧ ((hh_tg h a24 = 101 ∨ hh_tg h a24 = 102) ∧ (∃ n25, gm_ix (((Int32.ofNat 8) * x9) + x7) n25 (hh_ln h a24) ∧ (∃ a27, r14 = some a27 ∧ (hh_tg h a27 = 3 ∧ (gm_G 27 0 [some (.ref a27), some (.int (hh_i h a20 n21)), some (.int ((hh_i h a24 n25) &&& (Int32.ofNat 255)))] [] h (pI (fun v30 h29 => gm_G 254 442 [some (.ref a0), some (.int x1), none, none, some (va_rf r_4), some (.int x5), some (.int x6), some (.int x7), some (.int (x8 ^^^ v30)), some (.int (x9 + (Int32.ofNat 1)))] [] h29 Q) (fun e31 h32 => hh_tg h32 e31 = 21 ∧ Q (.inr e31) h32)))))))))))))))))))))))) : gm_G 254 442 [some (.ref a0), some (.int x1), none, none, some (va_rf r_4), some (.int x5), some (.int x6), some (.int x7), some (.int x8), some (.int x9)] [] h Q := by
  refine g_iload rfl rfl rfl (pc' := 444) ?_
  refine g_iload rfl rfl rfl (pc' := 445) ?_
  refine g_ic_ge rfl (pc' := 448) (pt := 498) rfl rfl ⟨fun hc => ?_, fun hc => ?_⟩
  · replace H := H.1 hc
    refine g_aload (r := _) rfl rfl rfl (pc' := 500) ?_
    refine g_iload rfl rfl rfl (pc' := 502) ?_
    refine g_iconst rfl rfl rfl (pc' := 504) ?_
    refine g_aload (r := some _) rfl rfl rfl (pc' := 505) ?_
    obtain ⟨ht1, H⟩ := H
    refine g_getRv rfl rfl rfl rfl ht1 (pc' := 508) rfl (fun r2 hr2 => ?_)
    replace H := H r2 hr2
    refine g_iload rfl rfl rfl (pc' := 510) ?_
    obtain ⟨a3, rfl, H⟩ := H
    obtain ⟨ht5, H⟩ := H
    obtain ⟨n4, hn4, H⟩ := H
    refine g_iaload rfl ht5 hn4 (pc' := 511) rfl ?_
    refine g_imul rfl rfl (pc' := 512) ?_
    refine g_iadd rfl rfl (pc' := 513) ?_
    refine g_iload rfl rfl rfl (pc' := 515) ?_
    refine g_iadd rfl rfl (pc' := 516) ?_
    refine g_iload rfl rfl rfl (pc' := 518) ?_
    refine g_i2b rfl rfl (pc' := 519) ?_
    obtain ⟨a6, rfl, H⟩ := H
    obtain ⟨ht9, H⟩ := H
    obtain ⟨n7, hn7, H⟩ := H
    refine g_bastore rfl ht9 hn7  (pc' := 520) rfl ?_
    replace H := H _ rfl
    refine g_iinc (c := (Int32.ofNat 1)) rfl rfl rfl rfl rfl (pc' := 523) ?_
    refine g_goto rfl (pc' := 429) rfl ?_
    exact g_weak (show gm_Lle [some _, some _, none, none, some _, some _, some _, some _] _ from ⟨rfl, ⟨rfl, ⟨rfl, ⟨rfl, ⟨rfl, ⟨rfl, trivial⟩⟩⟩⟩⟩⟩) H
  · replace H := H.2 hc
    refine g_iload rfl rfl rfl (pc' := 450) ?_
    refine g_aload (r := some _) rfl rfl rfl (pc' := 451) ?_
    obtain ⟨ht10, H⟩ := H
    refine g_getRv rfl rfl rfl rfl ht10 (pc' := 454) rfl (fun r11 hr11 => ?_)
    replace H := H r11 hr11
    obtain ⟨a12, rfl, H⟩ := H
    obtain ⟨ht13, H⟩ := H
    refine g_getRv rfl rfl rfl rfl ht13 (pc' := 457) rfl (fun r14 hr14 => ?_)
    replace H := H r14 hr14
    refine g_aload (r := some _) rfl rfl rfl (pc' := 458) ?_
    refine g_getRv rfl rfl rfl rfl ht10 (pc' := 461) rfl (fun r15 hr15 => ?_)
    replace H := H r15 hr15
    refine g_iload rfl rfl rfl (pc' := 463) ?_
    obtain ⟨a16, rfl, H⟩ := H
    obtain ⟨ht18, H⟩ := H
    obtain ⟨n17, hn17, H⟩ := H
    refine g_aaloadv rfl ht18 hn17 (pc' := 464) rfl (fun r19 hr19 => ?_)
    replace H := H r19 hr19
    refine g_iload rfl rfl rfl (pc' := 465) ?_
    refine g_iload rfl rfl rfl (pc' := 467) ?_
    refine g_iadd rfl rfl (pc' := 468) ?_
    obtain ⟨a20, rfl, H⟩ := H
    obtain ⟨ht22, H⟩ := H
    obtain ⟨n21, hn21, H⟩ := H
    refine g_iaload rfl ht22 hn21 (pc' := 469) rfl ?_
    refine g_aload (r := some _) rfl rfl rfl (pc' := 470) ?_
    refine g_getRv rfl rfl rfl rfl ht10 (pc' := 473) rfl (fun r23 hr23 => ?_)
    replace H := H r23 hr23
    refine g_iconst rfl rfl rfl (pc' := 475) ?_
    refine g_iload rfl rfl rfl (pc' := 477) ?_
    refine g_imul rfl rfl (pc' := 478) ?_
    refine g_iload rfl rfl rfl (pc' := 480) ?_
    refine g_iadd rfl rfl (pc' := 481) ?_
    obtain ⟨a24, rfl, H⟩ := H
    obtain ⟨ht26, H⟩ := H
    obtain ⟨n25, hn25, H⟩ := H
    refine g_baload rfl ht26 hn25 (pc' := 482) rfl ?_
    refine g_iconst rfl rfl rfl (pc' := 485) ?_
    refine g_iand rfl rfl (pc' := 486) ?_
    obtain ⟨a27, rfl, H⟩ := H
    obtain ⟨ht28, H⟩ := H
    refine g_call rfl (y := 27) (n := 3) (pc' := 489) (g_vt ht28 rfl rfl) rfl rfl ⟨(Nat.le_of_ble_eq_true rfl), (Nat.le_of_ble_eq_true rfl), (Nat.le_of_ble_eq_true rfl)⟩ rfl (gm_G.mono H (pI_elim (fun v30 h29 H' => ?_) (fun e31 h32 H => ?_)))
    · show gm_G _ 489 _ _ _ _
      replace H := H'
      clear H'
      refine g_ixor rfl rfl (pc' := 490) ?_
      refine g_istore rfl rfl rfl (pc' := 492) ?_
      refine g_iinc (c := (Int32.ofNat 1)) rfl rfl rfl rfl rfl (pc' := 495) ?_
      refine g_goto rfl (pc' := 442) rfl ?_
      exact g_weak (show gm_Lle [some _, some _, none, none, some _, some _, some _, some _, some _, some _] _ from ⟨rfl, ⟨rfl, ⟨rfl, ⟨rfl, ⟨rfl, ⟨rfl, ⟨rfl, ⟨rfl, trivial⟩⟩⟩⟩⟩⟩⟩⟩) H
    · exact H
set_option maxRecDepth 20000 in
theorem w_255_0 {a0 : Nat} {x1 : Int32} {x2 : Int32} {j3 : Int64} {r_5 : Option Nat} {h : hh_T} {Q : Option Value ⊕ Nat → hh_T → Prop} (H : gm_sub (hh_tg h a0) 10 = true ∧ (∀ r2, r2 = hh_r h a0 0 → (∃ a3, r2 = some a3 ∧ ((hh_tg h a3 = 104 ∨ 200 ≤ hh_tg h a3) ∧ (∃ n4, gm_ix ((j3 &&& (Int64.ofNat 7)).toInt32) n4 (hh_ln h a3) ∧ (∀ r6, r6 = hh_r h a3 n4 → (gm_G 255 13 [none, some (.int x1), some (.int x2), some (.long j3), none, some (va_rf r_5), some (va_rf r6)] [] h Q))))))) : gm_G 255 0 [some (.ref a0), some (.int x1), some (.int x2), some (.long j3), none, some (va_rf r_5)] [] h Q := by
  refine g_aload (r := some _) rfl rfl rfl (pc' := 1) ?_
  obtain ⟨ht1, H⟩ := H
  refine g_getRv rfl rfl rfl rfl ht1 (pc' := 4) rfl (fun r2 hr2 => ?_)
  replace H := H r2 hr2
  refine g_lload rfl rfl rfl (pc' := 5) ?_
  refine g_lconst rfl rfl rfl (pc' := 8) ?_
  refine g_land rfl rfl (pc' := 9) ?_
  refine g_l2i rfl rfl (pc' := 10) ?_
  obtain ⟨a3, rfl, H⟩ := H
  obtain ⟨ht5, H⟩ := H
  obtain ⟨n4, hn4, H⟩ := H
  refine g_aaloadv rfl ht5 hn4 (pc' := 11) rfl (fun r6 hr6 => ?_)
  replace H := H r6 hr6
  refine g_astore (r := _) rfl gm_sto_rf5 rfl (pc' := 13) ?_
  exact g_weak (show gm_Lle [none, some _, some _, some _, none, some _, some _] _ from ⟨rfl, ⟨rfl, ⟨rfl, ⟨rfl, ⟨rfl, trivial⟩⟩⟩⟩⟩) H
set_option maxRecDepth 20000 in
theorem w_255_13 {a0 : Nat} {x1 : Int32} {x2 : Int32} {j3 : Int64} {r_5 : Option Nat} {r_6 : Option Nat} {h : hh_T} {Q : Option Value ⊕ Nat → hh_T → Prop} (H : (r_6 = none → (Q (.inl (some (va_rf none))) h)) ∧ (∀ a1, r_6 = some a1 → (gm_sub (hh_tg h a1) 31 = true ∧ ((¬ (lg_cmp (hh_j h a1 3) j3) = Int32.ofNat 0 → (gm_G 255 66 [none, some (.int x1), some (.int x2), some (.long j3), none, some (va_rf r_5), some (.ref a1)] [] h Q)) ∧ ((lg_cmp (hh_j h a1 3) j3) = Int32.ofNat 0 → ((¬ (hh_i h a1 0) = x1 → (gm_G 255 66 [none, some (.int x1), some (.int x2), some (.long j3), none, some (va_rf r_5), some (.ref a1)] [] h Q)) ∧ ((hh_i h a1 0) = x1 → ((¬ (hh_i h a1 1) = x2 → (gm_G 255 66 [none, some (.int x1), some (.int x2), some (.long j3), none, some (va_rf r_5), some (.ref a1)] [] h Q)) ∧ ((hh_i h a1 1) = x2 → (∀ r3, r3 = hh_r h a1 8 → (gm_G 56 0 [some (va_rf r3), some (va_rf r_5), some (.int ((Int32.ofNat 8) * x2))] [] h (pI (fun v5 h4 => (v5 = Int32.ofNat 0 → (gm_G 255 66 [none, some (.int x1), some (.int x2), some (.long j3), none, some (va_rf r_5), some (.ref a1)] [] h4 Q)) ∧ (¬ v5 = Int32.ofNat 0 → (Q (.inl (some (.ref a1))) h4))) (fun e6 h7 => hh_tg h7 e6 = 21 ∧ Q (.inr e6) h7))))))))))))) : gm_G 255 13 [none, some (.int x1), some (.int x2), some (.long j3), none, some (va_rf r_5), some (va_rf r_6)] [] h Q := by
  refine g_aload (r := _) rfl rfl rfl (pc' := 15) ?_
  refine g_ifnull rfl (pc' := 18) (pt := 76) rfl rfl ⟨fun hc => ?_, fun a1 hc => ?_⟩
  · replace H := H.1 hc
    subst hc
    refine g_null rfl rfl (pc' := 77) ?_
    exact g_areturn (r := _) rfl H
  · replace H := H.2 a1 hc
    subst hc
    refine g_aload (r := some _) rfl rfl rfl (pc' := 20) ?_
    obtain ⟨ht2, H⟩ := H
    refine g_getJ rfl rfl rfl rfl ht2 (pc' := 23) rfl ?_
    refine g_lload rfl rfl rfl (pc' := 24) ?_
    refine g_lcmp rfl rfl (pc' := 25) ?_
    refine g_if_ne rfl (pc' := 28) (pt := 66) rfl rfl ⟨fun hc => ?_, fun hc => ?_⟩
    · replace H := H.1 hc
      exact g_weak (show gm_Lle [none, some _, some _, some _, none, some _, some _] _ from ⟨rfl, ⟨rfl, ⟨rfl, ⟨rfl, ⟨rfl, trivial⟩⟩⟩⟩⟩) H
    · replace H := H.2 hc
      refine g_aload (r := some _) rfl rfl rfl (pc' := 30) ?_
      refine g_getI rfl rfl rfl rfl ht2 (pc' := 33) rfl ?_
      refine g_iload rfl rfl rfl (pc' := 34) ?_
      refine g_ic_ne rfl (pc' := 37) (pt := 66) rfl rfl ⟨fun hc => ?_, fun hc => ?_⟩
      · replace H := H.1 hc
        exact g_weak (show gm_Lle [none, some _, some _, some _, none, some _, some _] _ from ⟨rfl, ⟨rfl, ⟨rfl, ⟨rfl, ⟨rfl, trivial⟩⟩⟩⟩⟩) H
      · replace H := H.2 hc
        refine g_aload (r := some _) rfl rfl rfl (pc' := 39) ?_
        refine g_getI rfl rfl rfl rfl ht2 (pc' := 42) rfl ?_
        refine g_iload rfl rfl rfl (pc' := 43) ?_
        refine g_ic_ne rfl (pc' := 46) (pt := 66) rfl rfl ⟨fun hc => ?_, fun hc => ?_⟩
        · replace H := H.1 hc
          exact g_weak (show gm_Lle [none, some _, some _, some _, none, some _, some _] _ from ⟨rfl, ⟨rfl, ⟨rfl, ⟨rfl, ⟨rfl, trivial⟩⟩⟩⟩⟩) H
        · replace H := H.2 hc
          refine g_aload (r := some _) rfl rfl rfl (pc' := 48) ?_
          refine g_getRv rfl rfl rfl rfl ht2 (pc' := 51) rfl (fun r3 hr3 => ?_)
          replace H := H r3 hr3
          refine g_aload (r := _) rfl rfl rfl (pc' := 53) ?_
          refine g_iconst rfl rfl rfl (pc' := 55) ?_
          refine g_iload rfl rfl rfl (pc' := 56) ?_
          refine g_imul rfl rfl (pc' := 57) ?_
          refine g_call rfl (y := 56) (n := 3) (pc' := 60) (fun _ => rfl) (by cases r3 <;> cases r_5 <;> rfl) rfl ⟨(Nat.le_of_ble_eq_true rfl), (Nat.le_of_ble_eq_true rfl), (Nat.le_of_ble_eq_true rfl)⟩ rfl (gm_G.mono H (pI_elim (fun v5 h4 H' => ?_) (fun e6 h7 H => ?_)))
          · show gm_G _ 60 _ _ _ _
            replace H := H'
            clear H'
            refine g_if_eq rfl (pc' := 63) (pt := 66) rfl rfl ⟨fun hc => ?_, fun hc => ?_⟩
            · replace H := H.1 hc
              exact g_weak (show gm_Lle [none, some _, some _, some _, none, some _, some _] _ from ⟨rfl, ⟨rfl, ⟨rfl, ⟨rfl, ⟨rfl, trivial⟩⟩⟩⟩⟩) H
            · replace H := H.2 hc
              refine g_aload (r := some _) rfl rfl rfl (pc' := 65) ?_
              exact g_areturn (r := some _) rfl H
          · exact H
set_option maxRecDepth 20000 in
theorem w_255_66 {a0 : Nat} {x1 : Int32} {x2 : Int32} {j3 : Int64} {r_5 : Option Nat} {r_6 : Option Nat} {h : hh_T} {Q : Option Value ⊕ Nat → hh_T → Prop} (H : ∃ a1, r_6 = some a1 ∧ (gm_sub (hh_tg h a1) 31 = true ∧ (∀ r3, r3 = hh_r h a1 9 → (gm_G 255 13 [none, some (.int x1), some (.int x2), some (.long j3), none, some (va_rf r_5), some (va_rf r3)] [] h Q)))) : gm_G 255 66 [none, some (.int x1), some (.int x2), some (.long j3), none, some (va_rf r_5), some (va_rf r_6)] [] h Q := by
  refine g_aload (r := _) rfl rfl rfl (pc' := 68) ?_
  obtain ⟨a1, rfl, H⟩ := H
  obtain ⟨ht2, H⟩ := H
  refine g_getRv rfl rfl rfl rfl ht2 (pc' := 71) rfl (fun r3 hr3 => ?_)
  replace H := H r3 hr3
  refine g_astore (r := _) rfl gm_sto_rf5 rfl (pc' := 73) ?_
  refine g_goto rfl (pc' := 13) rfl ?_
  exact g_weak (show gm_Lle [none, some _, some _, some _, none, some _, some _] _ from ⟨rfl, ⟨rfl, ⟨rfl, ⟨rfl, ⟨rfl, trivial⟩⟩⟩⟩⟩) H
set_option maxRecDepth 20000 in
theorem w_256_0 {a0 : Nat} {r_1 : Option Nat} {h : hh_T} {Q : Option Value ⊕ Nat → hh_T → Prop} (H : ∃ a1, r_1 = some a1 ∧ (gm_sub (hh_tg h a1) 31 = true ∧ ((¬ (hh_i h a1 10) = Int32.ofNat 0 → (hh_tg h a0 = 12 ∧ (gm_G 60 0 [some (.ref a0), some (.ref a1)] [] h (pI (fun v5 h4 => (v5 = Int32.ofNat 0 → (gm_G 256 26 [some (.ref a0), some (.ref a1)] [] h4 Q)) ∧ (¬ v5 = Int32.ofNat 0 → (gm_sub (hh_tg h4 a0) 11 = true ∧ (∀ r7, r7 = hh_r h4 a0 4 → (gm_sub (hh_tg h4 a1) 31 = true ∧ (∃ a9, r7 = some a9 ∧ (hh_tg h4 a9 = 102 ∧ (∃ n10, gm_ix (hh_i h4 a1 11) n10 (hh_ln h4 a9) ∧ (∀ h11, h11 = hh_wi h4 a9 n10 (Int32.ofNat 0) → (gm_G 256 26 [some (.ref a0), some (.ref a1)] [] h11 Q)))))))))) (fun e13 h14 => hh_tg h14 e13 = 21 ∧ Q (.inr e13) h14))))) ∧ ((hh_i h a1 10) = Int32.ofNat 0 → (Q (.inl none) h))))) : gm_G 256 0 [some (.ref a0), some (va_rf r_1)] [] h Q := by
  refine g_aload (r := _) rfl rfl rfl (pc' := 1) ?_
  obtain ⟨a1, rfl, H⟩ := H
  obtain ⟨ht2, H⟩ := H
  refine g_getI rfl rfl rfl rfl ht2 (pc' := 4) rfl ?_
  refine g_if_ne rfl (pc' := 7) (pt := 8) rfl rfl ⟨fun hc => ?_, fun hc => ?_⟩
  · replace H := H.1 hc
    refine g_aload (r := some _) rfl rfl rfl (pc' := 9) ?_
    refine g_aload (r := some _) rfl rfl rfl (pc' := 10) ?_
    obtain ⟨ht3, H⟩ := H
    refine g_call rfl (y := 60) (n := 2) (pc' := 13) (g_vt ht3 rfl rfl) rfl rfl ⟨(Nat.le_of_ble_eq_true rfl), (Nat.le_of_ble_eq_true rfl), (Nat.le_of_ble_eq_true rfl)⟩ rfl (gm_G.mono H (pI_elim (fun v5 h4 H' => ?_) (fun e13 h14 H => ?_)))
    · show gm_G _ 13 _ _ _ _
      replace H := H'
      clear H'
      refine g_if_eq rfl (pc' := 16) (pt := 26) rfl rfl ⟨fun hc => ?_, fun hc => ?_⟩
      · replace H := H.1 hc
        exact g_weak (show gm_Lle [some _, some _] _ from ⟨rfl, ⟨rfl, trivial⟩⟩) H
      · replace H := H.2 hc
        refine g_aload (r := some _) rfl rfl rfl (pc' := 17) ?_
        obtain ⟨ht6, H⟩ := H
        refine g_getRv rfl rfl rfl rfl ht6 (pc' := 20) rfl (fun r7 hr7 => ?_)
        replace H := H r7 hr7
        refine g_aload (r := some _) rfl rfl rfl (pc' := 21) ?_
        obtain ⟨ht8, H⟩ := H
        refine g_getI rfl rfl rfl rfl ht8 (pc' := 24) rfl ?_
        refine g_iconst rfl rfl rfl (pc' := 25) ?_
        obtain ⟨a9, rfl, H⟩ := H
        obtain ⟨ht12, H⟩ := H
        obtain ⟨n10, hn10, H⟩ := H
        refine g_zastore rfl ht12 hn10 (by decide) (pc' := 26) rfl ?_
        replace H := H _ rfl
        exact g_weak (show gm_Lle [some _, some _] _ from ⟨rfl, ⟨rfl, trivial⟩⟩) H
    · exact H
  · replace H := H.2 hc
    exact g_return rfl H
set_option maxRecDepth 20000 in
theorem w_256_26 {a0 : Nat} {r_1 : Option Nat} {h : hh_T} {Q : Option Value ⊕ Nat → hh_T → Prop} (H : ∃ a1, r_1 = some a1 ∧ (gm_sub (hh_tg h a1) 31 = true ∧ (∀ r3, r3 = hh_r h a1 12 → ((∀ a4, r3 = some a4 → (∀ r5, r5 = hh_r h a1 12 → (∀ r6, r6 = hh_r h a1 13 → (∃ a7, r5 = some a7 ∧ (gm_sub (hh_tg h a7) 31 = true ∧ (∀ h9, h9 = hh_wr h a7 13 r6 → (gm_G 256 60 [some (.ref a0), some (.ref a1)] [] h9 Q))))))) ∧ (r3 = none → (gm_sub (hh_tg h a0) 11 = true ∧ (∀ r11, r11 = hh_r h a0 0 → (∀ r12, r12 = hh_r h a1 13 → (∃ a13, r11 = some a13 ∧ (200 ≤ hh_tg h a13 ∧ (∀ b, r12 = some b → gm_as (hh_tg h a13) (hh_tg h b) = true) ∧ (∃ n14, gm_ix (hh_i h a1 10) n14 (hh_ln h a13) ∧ (∀ h15, h15 = hh_wr h a13 n14 r12 → (gm_G 256 60 [some (.ref a0), some (.ref a1)] [] h15 Q))))))))))))) : gm_G 256 26 [some (.ref a0), some (va_rf r_1)] [] h Q := by
  refine g_aload (r := _) rfl rfl rfl (pc' := 27) ?_
  obtain ⟨a1, rfl, H⟩ := H
  obtain ⟨ht2, H⟩ := H
  refine g_getRv rfl rfl rfl rfl ht2 (pc' := 30) rfl (fun r3 hr3 => ?_)
  replace H := H r3 hr3
  refine g_ifnonnull rfl (pc' := 33) (pt := 49) rfl rfl ⟨fun a4 hc => ?_, fun hc => ?_⟩
  · replace H := H.1 a4 hc
    subst hc
    refine g_aload (r := some _) rfl rfl rfl (pc' := 50) ?_
    refine g_getRv rfl rfl rfl rfl ht2 (pc' := 53) rfl (fun r5 hr5 => ?_)
    replace H := H r5 hr5
    refine g_aload (r := some _) rfl rfl rfl (pc' := 54) ?_
    refine g_getRv rfl rfl rfl rfl ht2 (pc' := 57) rfl (fun r6 hr6 => ?_)
    replace H := H r6 hr6
    obtain ⟨a7, rfl, H⟩ := H
    obtain ⟨ht8, H⟩ := H
    refine g_putR rfl rfl rfl rfl ht8  (pc' := 60) rfl ?_
    replace H := H _ rfl
    exact g_weak (show gm_Lle [some _, some _] _ from ⟨rfl, ⟨rfl, trivial⟩⟩) H
  · replace H := H.2 hc
    subst hc
    refine g_aload (r := some _) rfl rfl rfl (pc' := 34) ?_
    obtain ⟨ht10, H⟩ := H
    refine g_getRv rfl rfl rfl rfl ht10 (pc' := 37) rfl (fun r11 hr11 => ?_)
    replace H := H r11 hr11
    refine g_aload (r := some _) rfl rfl rfl (pc' := 38) ?_
    refine g_getI rfl rfl rfl rfl ht2 (pc' := 41) rfl ?_
    refine g_aload (r := some _) rfl rfl rfl (pc' := 42) ?_
    refine g_getRv rfl rfl rfl rfl ht2 (pc' := 45) rfl (fun r12 hr12 => ?_)
    replace H := H r12 hr12
    obtain ⟨a13, rfl, H⟩ := H
    obtain ⟨Ha, Hb, H⟩ := H
    obtain ⟨n14, hn14, H⟩ := H
    refine g_aastore (r := _) rfl Ha Hb hn14 (pc' := 46) rfl ?_
    replace H := H _ rfl
    refine g_goto rfl (pc' := 60) rfl ?_
    exact g_weak (show gm_Lle [some _, some _] _ from ⟨rfl, ⟨rfl, trivial⟩⟩) H
set_option maxRecDepth 20000 in
theorem w_256_60 {a0 : Nat} {r_1 : Option Nat} {h : hh_T} {Q : Option Value ⊕ Nat → hh_T → Prop} (H : ∃ a1, r_1 = some a1 ∧ (gm_sub (hh_tg h a1) 31 = true ∧ (∀ r3, r3 = hh_r h a1 13 → ((∀ a4, r3 = some a4 → (∀ r5, r5 = hh_r h a1 13 → (∀ r6, r6 = hh_r h a1 12 → (∃ a7, r5 = some a7 ∧ (gm_sub (hh_tg h a7) 31 = true ∧ (∀ h9, h9 = hh_wr h a7 12 r6 → (gm_G 256 94 [some (.ref a0), some (.ref a1)] [] h9 Q))))))) ∧ (r3 = none → (gm_sub (hh_tg h a0) 11 = true ∧ (∀ r11, r11 = hh_r h a0 1 → (∀ r12, r12 = hh_r h a1 12 → (∃ a13, r11 = some a13 ∧ (200 ≤ hh_tg h a13 ∧ (∀ b, r12 = some b → gm_as (hh_tg h a13) (hh_tg h b) = true) ∧ (∃ n14, gm_ix (hh_i h a1 10) n14 (hh_ln h a13) ∧ (∀ h15, h15 = hh_wr h a13 n14 r12 → (gm_G 256 94 [some (.ref a0), some (.ref a1)] [] h15 Q))))))))))))) : gm_G 256 60 [some (.ref a0), some (va_rf r_1)] [] h Q := by
  refine g_aload (r := _) rfl rfl rfl (pc' := 61) ?_
  obtain ⟨a1, rfl, H⟩ := H
  obtain ⟨ht2, H⟩ := H
  refine g_getRv rfl rfl rfl rfl ht2 (pc' := 64) rfl (fun r3 hr3 => ?_)
  replace H := H r3 hr3
  refine g_ifnonnull rfl (pc' := 67) (pt := 83) rfl rfl ⟨fun a4 hc => ?_, fun hc => ?_⟩
  · replace H := H.1 a4 hc
    subst hc
    refine g_aload (r := some _) rfl rfl rfl (pc' := 84) ?_
    refine g_getRv rfl rfl rfl rfl ht2 (pc' := 87) rfl (fun r5 hr5 => ?_)
    replace H := H r5 hr5
    refine g_aload (r := some _) rfl rfl rfl (pc' := 88) ?_
    refine g_getRv rfl rfl rfl rfl ht2 (pc' := 91) rfl (fun r6 hr6 => ?_)
    replace H := H r6 hr6
    obtain ⟨a7, rfl, H⟩ := H
    obtain ⟨ht8, H⟩ := H
    refine g_putR rfl rfl rfl rfl ht8  (pc' := 94) rfl ?_
    replace H := H _ rfl
    exact g_weak (show gm_Lle [some _, some _] _ from ⟨rfl, ⟨rfl, trivial⟩⟩) H
  · replace H := H.2 hc
    subst hc
    refine g_aload (r := some _) rfl rfl rfl (pc' := 68) ?_
    obtain ⟨ht10, H⟩ := H
    refine g_getRv rfl rfl rfl rfl ht10 (pc' := 71) rfl (fun r11 hr11 => ?_)
    replace H := H r11 hr11
    refine g_aload (r := some _) rfl rfl rfl (pc' := 72) ?_
    refine g_getI rfl rfl rfl rfl ht2 (pc' := 75) rfl ?_
    refine g_aload (r := some _) rfl rfl rfl (pc' := 76) ?_
    refine g_getRv rfl rfl rfl rfl ht2 (pc' := 79) rfl (fun r12 hr12 => ?_)
    replace H := H r12 hr12
    obtain ⟨a13, rfl, H⟩ := H
    obtain ⟨Ha, Hb, H⟩ := H
    obtain ⟨n14, hn14, H⟩ := H
    refine g_aastore (r := _) rfl Ha Hb hn14 (pc' := 80) rfl ?_
    replace H := H _ rfl
    refine g_goto rfl (pc' := 94) rfl ?_
    exact g_weak (show gm_Lle [some _, some _] _ from ⟨rfl, ⟨rfl, trivial⟩⟩) H
set_option maxRecDepth 20000 in
theorem w_256_94 {a0 : Nat} {r_1 : Option Nat} {h : hh_T} {Q : Option Value ⊕ Nat → hh_T → Prop} (H : gm_sub (hh_tg h a0) 11 = true ∧ (∀ r2, r2 = hh_r h a0 2 → (∃ a3, r_1 = some a3 ∧ (gm_sub (hh_tg h a3) 31 = true ∧ (∃ a5, r2 = some a5 ∧ ((hh_tg h a5 = 100 ∨ hh_tg h a5 = 105) ∧ (∃ n6, gm_ix (hh_i h a3 10) n6 (hh_ln h a5) ∧ (hh_tg h a5 = 100 ∧ (∃ n8, gm_ix (hh_i h a3 10) n8 (hh_ln h a5) ∧ (∀ h9, h9 = hh_wi h a5 n8 ((hh_i h a5 n6) - (Int32.ofNat 1)) → (∀ h10, h10 = hh_wr h9 a3 12 none → (∀ h11, h11 = hh_wr h10 a3 13 none → (∀ h12, h12 = hh_wi h11 a3 10 (Int32.ofNat 0) → (Q (.inl none) h12)))))))))))))) : gm_G 256 94 [some (.ref a0), some (va_rf r_1)] [] h Q := by
  refine g_aload (r := some _) rfl rfl rfl (pc' := 95) ?_
  obtain ⟨ht1, H⟩ := H
  refine g_getRv rfl rfl rfl rfl ht1 (pc' := 98) rfl (fun r2 hr2 => ?_)
  replace H := H r2 hr2
  refine g_aload (r := _) rfl rfl rfl (pc' := 99) ?_
  obtain ⟨a3, rfl, H⟩ := H
  obtain ⟨ht4, H⟩ := H
  refine g_getI rfl rfl rfl rfl ht4 (pc' := 102) rfl ?_
  obtain ⟨a5, rfl, H⟩ := H
  refine g_dup2_a rfl (pc' := 103) rfl ?_
  obtain ⟨ht7, H⟩ := H
  obtain ⟨n6, hn6, H⟩ := H
  refine g_iaload rfl ht7 hn6 (pc' := 104) rfl ?_
  refine g_iconst rfl rfl rfl (pc' := 105) ?_
  refine g_isub rfl rfl (pc' := 106) ?_
  obtain ⟨ht13, H⟩ := H
  obtain ⟨n8, hn8, H⟩ := H
  refine g_iastore rfl ht13 hn8  (pc' := 107) rfl ?_
  replace H := H _ rfl
  refine g_aload (r := some _) rfl rfl rfl (pc' := 108) ?_
  refine g_null rfl rfl (pc' := 109) ?_
  refine g_putR rfl rfl rfl rfl ht4  (pc' := 112) rfl ?_
  replace H := H _ rfl
  refine g_aload (r := some _) rfl rfl rfl (pc' := 113) ?_
  refine g_null rfl rfl (pc' := 114) ?_
  refine g_putR rfl rfl rfl rfl ht4  (pc' := 117) rfl ?_
  replace H := H _ rfl
  refine g_aload (r := some _) rfl rfl rfl (pc' := 118) ?_
  refine g_iconst rfl rfl rfl (pc' := 119) ?_
  refine g_putI rfl rfl rfl rfl ht4  (pc' := 122) rfl ?_
  replace H := H _ rfl
  exact g_return rfl H
set_option maxRecDepth 20000 in
theorem w_257_0 {a0 : Nat} {x1 : Int32} {h : hh_T} {Q : Option Value ⊕ Nat → hh_T → Prop} (H : hh_tg h a0 = 13 ∧ (gm_G 63 0 [some (.ref a0), some (.int x1)] [] h (pI (fun v3 h2 => hh_tg h2 a0 = 13 ∧ (gm_G 63 0 [some (.ref a0), some (.int (x1 + (Int32.ofNat 1)))] [] h2 (pI (fun v6 h5 => Q (.inl (some (.int ((v3 <<< ((Int32.ofNat 8) &&& 31)) ||| v6)))) h5) (fun e7 h8 => hh_tg h8 e7 = 21 ∧ Q (.inr e7) h8)))) (fun e9 h10 => hh_tg h10 e9 = 21 ∧ Q (.inr e9) h10)))) : gm_G 257 0 [some (.ref a0), some (.int x1)] [] h Q := by
  refine g_aload (r := some _) rfl rfl rfl (pc' := 1) ?_
  refine g_iload rfl rfl rfl (pc' := 2) ?_
  obtain ⟨ht1, H⟩ := H
  refine g_call rfl (y := 63) (n := 2) (pc' := 5) (g_vt ht1 rfl rfl) rfl rfl ⟨(Nat.le_of_ble_eq_true rfl), (Nat.le_of_ble_eq_true rfl), (Nat.le_of_ble_eq_true rfl)⟩ rfl (gm_G.mono H (pI_elim (fun v3 h2 H' => ?_) (fun e9 h10 H => ?_)))
  · show gm_G _ 5 _ _ _ _
    replace H := H'
    clear H'
    refine g_iconst rfl rfl rfl (pc' := 7) ?_
    refine g_ishl rfl rfl (pc' := 8) ?_
    refine g_aload (r := some _) rfl rfl rfl (pc' := 9) ?_
    refine g_iload rfl rfl rfl (pc' := 10) ?_
    refine g_iconst rfl rfl rfl (pc' := 11) ?_
    refine g_iadd rfl rfl (pc' := 12) ?_
    obtain ⟨ht4, H⟩ := H
    refine g_call rfl (y := 63) (n := 2) (pc' := 15) (g_vt ht4 rfl rfl) rfl rfl ⟨(Nat.le_of_ble_eq_true rfl), (Nat.le_of_ble_eq_true rfl), (Nat.le_of_ble_eq_true rfl)⟩ rfl (gm_G.mono H (pI_elim (fun v6 h5 H' => ?_) (fun e7 h8 H => ?_)))
    · show gm_G _ 15 _ _ _ _
      replace H := H'
      clear H'
      refine g_ior rfl rfl (pc' := 16) ?_
      exact g_ireturn rfl (Or.inl rfl) H
    · exact H
  · exact H
set_option maxRecDepth 20000 in
theorem w_258_0 {a0 : Nat} {x1 : Int32} {h : hh_T} {Q : Option Value ⊕ Nat → hh_T → Prop} (H : gm_G 258 2 [some (.ref a0), some (.int x1), some (.int (Int32.ofNat 0))] [] h Q) : gm_G 258 0 [some (.ref a0), some (.int x1)] [] h Q := by
  refine g_iconst rfl rfl rfl (pc' := 1) ?_
  refine g_istore rfl rfl rfl (pc' := 2) ?_
  exact g_weak (show gm_Lle [some _, some _, some _] _ from ⟨rfl, ⟨rfl, ⟨rfl, trivial⟩⟩⟩) H
set_option maxRecDepth 20000 in
theorem w_258_2 {a0 : Nat} {x1 : Int32} {x2 : Int32} {h : hh_T} {Q : Option Value ⊕ Nat → hh_T → Prop} (H : gm_sub (hh_tg h a0) 13 = true ∧ ((¬ x2 < (hh_i h a0 1) → (∀ r2, r2 = hh_r h a0 0 → (∃ a3, r2 = some a3 ∧ ((hh_tg h a3 = 104 ∨ 200 ≤ hh_tg h a3) ∧ (∃ n4, gm_ix (hh_i h a0 1) n4 (hh_ln h a3) ∧ (∀ r6, r6 = hh_r h a3 n4 → ((∀ a7, r6 = some a7 → (gm_G 258 64 [some (.ref a0), some (.int x1)] [] h Q)) ∧ (r6 = none → (∀ r8, r8 = hh_r h a0 0 → (∀ a9 h10, a9 = hh_sz h → h10 = hh_al h 31 0 4 → (gm_G 201 0 [some (.ref a9)] [] h10 (pV (fun h11 => ∃ a12, r8 = some a12 ∧ (200 ≤ hh_tg h11 a12 ∧ (gm_as (hh_tg h11 a12) (hh_tg h11 a9) = true) ∧ (∃ n13, gm_ix (hh_i h a0 1) n13 (hh_ln h11 a12) ∧ (∀ h14, h14 = hh_wr h11 a12 n13 (some a9) → (gm_G 258 64 [some (.ref a0), some (.int x1)] [] h14 Q))))) (fun e15 h16 => hh_tg h16 e15 = 21 ∧ Q (.inr e15) h16))))))))))))) ∧ (x2 < (hh_i h a0 1) → (∀ r17, r17 = hh_r h a0 0 → (∃ a18, r17 = some a18 ∧ ((hh_tg h a18 = 104 ∨ 200 ≤ hh_tg h a18) ∧ (∃ n19, gm_ix x2 n19 (hh_ln h a18) ∧ (∀ r21, r21 = hh_r h a18 n19 → (∃ a22, r21 = some a22 ∧ (gm_sub (hh_tg h a22) 30 = true ∧ ((¬ (hh_i h a22 0) = x1 → (gm_G 258 2 [some (.ref a0), some (.int x1), some (.int (x2 + (Int32.ofNat 1)))] [] h Q)) ∧ ((hh_i h a22 0) = x1 → (∀ r24, r24 = hh_r h a0 0 → (∃ a25, r24 = some a25 ∧ ((hh_tg h a25 = 104 ∨ 200 ≤ hh_tg h a25) ∧ (∃ n26, gm_ix x2 n26 (hh_ln h a25) ∧ (∀ r28, r28 = hh_r h a25 n26 → (Q (.inl (some (va_rf r28))) h)))))))))))))))))) : gm_G 258 2 [some (.ref a0), some (.int x1), some (.int x2)] [] h Q := by
  refine g_iload rfl rfl rfl (pc' := 3) ?_
  refine g_aload (r := some _) rfl rfl rfl (pc' := 4) ?_
  obtain ⟨ht1, H⟩ := H
  refine g_getI rfl rfl rfl rfl ht1 (pc' := 7) rfl ?_
  refine g_ic_ge rfl (pc' := 10) (pt := 36) rfl rfl ⟨fun hc => ?_, fun hc => ?_⟩
  · replace H := H.1 hc
    refine g_aload (r := some _) rfl rfl rfl (pc' := 37) ?_
    refine g_getRv rfl rfl rfl rfl ht1 (pc' := 40) rfl (fun r2 hr2 => ?_)
    replace H := H r2 hr2
    refine g_aload (r := some _) rfl rfl rfl (pc' := 41) ?_
    refine g_getI rfl rfl rfl rfl ht1 (pc' := 44) rfl ?_
    obtain ⟨a3, rfl, H⟩ := H
    obtain ⟨ht5, H⟩ := H
    obtain ⟨n4, hn4, H⟩ := H
    refine g_aaloadv rfl ht5 hn4 (pc' := 45) rfl (fun r6 hr6 => ?_)
    replace H := H r6 hr6
    refine g_ifnonnull rfl (pc' := 48) (pt := 64) rfl rfl ⟨fun a7 hc => ?_, fun hc => ?_⟩
    · replace H := H.1 a7 hc
      subst hc
      exact g_weak (show gm_Lle [some _, some _] _ from ⟨rfl, ⟨rfl, trivial⟩⟩) H
    · replace H := H.2 hc
      subst hc
      refine g_aload (r := some _) rfl rfl rfl (pc' := 49) ?_
      refine g_getRv rfl rfl rfl rfl ht1 (pc' := 52) rfl (fun r8 hr8 => ?_)
      replace H := H r8 hr8
      refine g_aload (r := some _) rfl rfl rfl (pc' := 53) ?_
      refine g_getI rfl rfl rfl rfl ht1 (pc' := 56) rfl ?_
      refine g_new rfl (t := 31) (s := 4) rfl rfl (pc' := 59) rfl ?_
      replace H := H _ _ rfl rfl
      refine g_dup_a (r := some _) rfl rfl (pc' := 60) ?_
      refine g_call rfl (y := 201) (n := 1) (pc' := 63) (fun _ => rfl) rfl rfl ⟨(Nat.le_of_ble_eq_true rfl), (Nat.le_of_ble_eq_true rfl), (Nat.le_of_ble_eq_true rfl)⟩ rfl (gm_G.mono H (pV_elim (fun h11 H' => ?_) (fun e15 h16 H => ?_)))
      · show gm_G _ 63 _ _ _ _
        replace H := H'
        clear H'
        obtain ⟨a12, rfl, H⟩ := H
        obtain ⟨Ha, Hb, H⟩ := H
        obtain ⟨n13, hn13, H⟩ := H
        refine g_aastore (r := some _) rfl Ha (fun b hb => by cases hb; exact Hb) hn13 (pc' := 64) rfl ?_
        replace H := H _ rfl
        exact g_weak (show gm_Lle [some _, some _] _ from ⟨rfl, ⟨rfl, trivial⟩⟩) H
      · exact H
  · replace H := H.2 hc
    refine g_aload (r := some _) rfl rfl rfl (pc' := 11) ?_
    refine g_getRv rfl rfl rfl rfl ht1 (pc' := 14) rfl (fun r17 hr17 => ?_)
    replace H := H r17 hr17
    refine g_iload rfl rfl rfl (pc' := 15) ?_
    obtain ⟨a18, rfl, H⟩ := H
    obtain ⟨ht20, H⟩ := H
    obtain ⟨n19, hn19, H⟩ := H
    refine g_aaloadv rfl ht20 hn19 (pc' := 16) rfl (fun r21 hr21 => ?_)
    replace H := H r21 hr21
    obtain ⟨a22, rfl, H⟩ := H
    obtain ⟨ht23, H⟩ := H
    refine g_getI rfl rfl rfl rfl ht23 (pc' := 19) rfl ?_
    refine g_iload rfl rfl rfl (pc' := 20) ?_
    refine g_ic_ne rfl (pc' := 23) (pt := 30) rfl rfl ⟨fun hc => ?_, fun hc => ?_⟩
    · replace H := H.1 hc
      refine g_iinc (c := (Int32.ofNat 1)) rfl rfl rfl rfl rfl (pc' := 33) ?_
      refine g_goto rfl (pc' := 2) rfl ?_
      exact g_weak (show gm_Lle [some _, some _, some _] _ from ⟨rfl, ⟨rfl, ⟨rfl, trivial⟩⟩⟩) H
    · replace H := H.2 hc
      refine g_aload (r := some _) rfl rfl rfl (pc' := 24) ?_
      refine g_getRv rfl rfl rfl rfl ht1 (pc' := 27) rfl (fun r24 hr24 => ?_)
      replace H := H r24 hr24
      refine g_iload rfl rfl rfl (pc' := 28) ?_
      obtain ⟨a25, rfl, H⟩ := H
      obtain ⟨ht27, H⟩ := H
      obtain ⟨n26, hn26, H⟩ := H
      refine g_aaloadv rfl ht27 hn26 (pc' := 29) rfl (fun r28 hr28 => ?_)
      replace H := H r28 hr28
      exact g_areturn (r := _) rfl H
set_option maxRecDepth 20000 in
theorem w_258_64 {a0 : Nat} {x1 : Int32} {h : hh_T} {Q : Option Value ⊕ Nat → hh_T → Prop} (H : gm_sub (hh_tg h a0) 13 = true ∧ (∀ r2, r2 = hh_r h a0 0 → (∃ a3, r2 = some a3 ∧ ((hh_tg h a3 = 104 ∨ 200 ≤ hh_tg h a3) ∧ (∃ n4, gm_ix (hh_i h a0 1) n4 (hh_ln h a3) ∧ (∀ r6, r6 = hh_r h a3 n4 → (∃ a7, r6 = some a7 ∧ (gm_sub (hh_tg h a7) 30 = true ∧ (∀ h9, h9 = hh_wi h a7 0 x1 → (∀ h10, h10 = hh_wi h9 a7 1 (Int32.ofNat 0) → (∀ h11, h11 = hh_wi h10 a7 2 (Int32.ofNat 0) → (∀ h12, h12 = hh_wi h11 a0 1 ((hh_i h11 a0 1) + (Int32.ofNat 1)) → (Q (.inl (some (.ref a7))) h12))))))))))))) : gm_G 258 64 [some (.ref a0), some (.int x1)] [] h Q := by
  refine g_aload (r := some _) rfl rfl rfl (pc' := 65) ?_
  obtain ⟨ht1, H⟩ := H
  refine g_getRv rfl rfl rfl rfl ht1 (pc' := 68) rfl (fun r2 hr2 => ?_)
  replace H := H r2 hr2
  refine g_aload (r := some _) rfl rfl rfl (pc' := 69) ?_
  refine g_getI rfl rfl rfl rfl ht1 (pc' := 72) rfl ?_
  obtain ⟨a3, rfl, H⟩ := H
  obtain ⟨ht5, H⟩ := H
  obtain ⟨n4, hn4, H⟩ := H
  refine g_aaloadv rfl ht5 hn4 (pc' := 73) rfl (fun r6 hr6 => ?_)
  replace H := H r6 hr6
  refine g_astore (r := _) rfl rfl rfl (pc' := 74) ?_
  refine g_aload (r := _) rfl rfl rfl (pc' := 75) ?_
  refine g_iload rfl rfl rfl (pc' := 76) ?_
  obtain ⟨a7, rfl, H⟩ := H
  obtain ⟨ht8, H⟩ := H
  refine g_putI rfl rfl rfl rfl ht8  (pc' := 79) rfl ?_
  replace H := H _ rfl
  refine g_aload (r := some _) rfl rfl rfl (pc' := 80) ?_
  refine g_iconst rfl rfl rfl (pc' := 81) ?_
  refine g_putI rfl rfl rfl rfl ht8  (pc' := 84) rfl ?_
  replace H := H _ rfl
  refine g_aload (r := some _) rfl rfl rfl (pc' := 85) ?_
  refine g_iconst rfl rfl rfl (pc' := 86) ?_
  refine g_putI rfl rfl rfl rfl ht8  (pc' := 89) rfl ?_
  replace H := H _ rfl
  refine g_aload (r := some _) rfl rfl rfl (pc' := 90) ?_
  refine g_dup_a (r := some _) rfl rfl (pc' := 91) ?_
  refine g_getI rfl rfl rfl rfl ht1 (pc' := 94) rfl ?_
  refine g_iconst rfl rfl rfl (pc' := 95) ?_
  refine g_iadd rfl rfl (pc' := 96) ?_
  refine g_putI rfl rfl rfl rfl ht1  (pc' := 99) rfl ?_
  replace H := H _ rfl
  refine g_aload (r := some _) rfl rfl rfl (pc' := 100) ?_
  exact g_areturn (r := some _) rfl H
set_option maxRecDepth 20000 in
theorem w_259_0 {a0 : Nat} {r_1 : Option Nat} {x2 : Int32} {x3 : Int32} {x4 : Int32} {h : hh_T} {Q : Option Value ⊕ Nat → hh_T → Prop} (H : (x2 < x3 → (gm_G 259 10 [some (.ref a0), some (va_rf r_1), some (.int x2), some (.int x3), some (.int x4), some (.int (Int32.ofNat 0))] [] h Q)) ∧ (¬ x2 < x3 → (Q (.inl (some (.int (Int32.ofNat 0)))) h))) : gm_G 259 0 [some (.ref a0), some (va_rf r_1), some (.int x2), some (.int x3), some (.int x4)] [] h Q := by
  refine g_iload rfl rfl rfl (pc' := 1) ?_
  refine g_iload rfl rfl rfl (pc' := 2) ?_
  refine g_ic_lt rfl (pc' := 5) (pt := 7) rfl rfl ⟨fun hc => ?_, fun hc => ?_⟩
  · replace H := H.1 hc
    refine g_iconst rfl rfl rfl (pc' := 8) ?_
    refine g_istore rfl rfl rfl (pc' := 10) ?_
    exact g_weak (show gm_Lle [some _, some _, some _, some _, some _, some _] _ from ⟨rfl, ⟨rfl, ⟨rfl, ⟨rfl, ⟨rfl, ⟨rfl, trivial⟩⟩⟩⟩⟩⟩) H
  · replace H := H.2 hc
    refine g_iconst rfl rfl rfl (pc' := 6) ?_
    exact g_ireturn rfl (Or.inr (by decide)) H
set_option maxRecDepth 20000 in
theorem w_259_10 {a0 : Nat} {r_1 : Option Nat} {x2 : Int32} {x3 : Int32} {x4 : Int32} {x5 : Int32} {h : hh_T} {Q : Option Value ⊕ Nat → hh_T → Prop} (H : (¬ x5 < (Int32.ofNat 8) → (Q (.inl (some (.int (Int32.ofNat 0)))) h)) ∧ (x5 < (Int32.ofNat 8) → (hh_tg h a0 = 15 ∧ (gm_G 76 0 [some (.ref a0), some (.int x5), some (va_rf r_1)] [] h (pI (fun v3 h2 => (v3 = Int32.ofNat 0 → (gm_G 259 49 [some (.ref a0), some (va_rf r_1), some (.int x2), some (.int x3), some (.int x4), some (.int x5)] [] h2 Q)) ∧ (¬ v3 = Int32.ofNat 0 → (gm_sub (hh_tg h2 a0) 14 = true ∧ (∀ r5, r5 = hh_r h2 a0 0 → (∃ a6, r5 = some a6 ∧ ((hh_tg h2 a6 = 104 ∨ 200 ≤ hh_tg h2 a6) ∧ (∃ n7, gm_ix x5 n7 (hh_ln h2 a6) ∧ (∀ r9, r9 = hh_r h2 a6 n7 → (∃ a10, r9 = some a10 ∧ (gm_sub (hh_tg h2 a10) 42 = true ∧ (∀ r12, r12 = hh_r h2 a10 7 → (∃ a13, r12 = some a13 ∧ (hh_tg h2 a13 = 44 ∧ (gm_G 212 0 [some (.ref a13), some (.int x2), some (.int x3), some (.int x4)] [] h2 (pI (fun v16 h15 => (v16 = Int32.ofNat 0 → (gm_G 259 49 [some (.ref a0), some (va_rf r_1), some (.int x2), some (.int x3), some (.int x4), some (.int x5)] [] h15 Q)) ∧ (¬ v16 = Int32.ofNat 0 → (Q (.inl (some (.int (Int32.ofNat 1)))) h15))) (fun e17 h18 => hh_tg h18 e17 = 21 ∧ Q (.inr e17) h18)))))))))))))))) (fun e19 h20 => hh_tg h20 e19 = 21 ∧ Q (.inr e19) h20)))))) : gm_G 259 10 [some (.ref a0), some (va_rf r_1), some (.int x2), some (.int x3), some (.int x4), some (.int x5)] [] h Q := by
  refine g_iload rfl rfl rfl (pc' := 12) ?_
  refine g_iconst rfl rfl rfl (pc' := 14) ?_
  refine g_ic_ge rfl (pc' := 17) (pt := 55) rfl rfl ⟨fun hc => ?_, fun hc => ?_⟩
  · replace H := H.1 hc
    refine g_iconst rfl rfl rfl (pc' := 56) ?_
    exact g_ireturn rfl (Or.inr (by decide)) H
  · replace H := H.2 hc
    refine g_aload (r := some _) rfl rfl rfl (pc' := 18) ?_
    refine g_iload rfl rfl rfl (pc' := 20) ?_
    refine g_aload (r := _) rfl rfl rfl (pc' := 21) ?_
    obtain ⟨ht1, H⟩ := H
    refine g_call rfl (y := 76) (n := 3) (pc' := 24) (g_vt ht1 rfl rfl) (by cases r_1 <;> rfl) rfl ⟨(Nat.le_of_ble_eq_true rfl), (Nat.le_of_ble_eq_true rfl), (Nat.le_of_ble_eq_true rfl)⟩ rfl (gm_G.mono H (pI_elim (fun v3 h2 H' => ?_) (fun e19 h20 H => ?_)))
    · show gm_G _ 24 _ _ _ _
      replace H := H'
      clear H'
      refine g_if_eq rfl (pc' := 27) (pt := 49) rfl rfl ⟨fun hc => ?_, fun hc => ?_⟩
      · replace H := H.1 hc
        exact g_weak (show gm_Lle [some _, some _, some _, some _, some _, some _] _ from ⟨rfl, ⟨rfl, ⟨rfl, ⟨rfl, ⟨rfl, ⟨rfl, trivial⟩⟩⟩⟩⟩⟩) H
      · replace H := H.2 hc
        refine g_aload (r := some _) rfl rfl rfl (pc' := 28) ?_
        obtain ⟨ht4, H⟩ := H
        refine g_getRv rfl rfl rfl rfl ht4 (pc' := 31) rfl (fun r5 hr5 => ?_)
        replace H := H r5 hr5
        refine g_iload rfl rfl rfl (pc' := 33) ?_
        obtain ⟨a6, rfl, H⟩ := H
        obtain ⟨ht8, H⟩ := H
        obtain ⟨n7, hn7, H⟩ := H
        refine g_aaloadv rfl ht8 hn7 (pc' := 34) rfl (fun r9 hr9 => ?_)
        replace H := H r9 hr9
        obtain ⟨a10, rfl, H⟩ := H
        obtain ⟨ht11, H⟩ := H
        refine g_getRv rfl rfl rfl rfl ht11 (pc' := 37) rfl (fun r12 hr12 => ?_)
        replace H := H r12 hr12
        refine g_iload rfl rfl rfl (pc' := 38) ?_
        refine g_iload rfl rfl rfl (pc' := 39) ?_
        refine g_iload rfl rfl rfl (pc' := 41) ?_
        obtain ⟨a13, rfl, H⟩ := H
        obtain ⟨ht14, H⟩ := H
        refine g_call rfl (y := 212) (n := 4) (pc' := 44) (g_vt ht14 rfl rfl) rfl rfl ⟨(Nat.le_of_ble_eq_true rfl), (Nat.le_of_ble_eq_true rfl), (Nat.le_of_ble_eq_true rfl)⟩ rfl (gm_G.mono H (pI_elim (fun v16 h15 H' => ?_) (fun e17 h18 H => ?_)))
        · show gm_G _ 44 _ _ _ _
          replace H := H'
          clear H'
          refine g_if_eq rfl (pc' := 47) (pt := 49) rfl rfl ⟨fun hc => ?_, fun hc => ?_⟩
          · replace H := H.1 hc
            exact g_weak (show gm_Lle [some _, some _, some _, some _, some _, some _] _ from ⟨rfl, ⟨rfl, ⟨rfl, ⟨rfl, ⟨rfl, ⟨rfl, trivial⟩⟩⟩⟩⟩⟩) H
          · replace H := H.2 hc
            refine g_iconst rfl rfl rfl (pc' := 48) ?_
            exact g_ireturn rfl (Or.inr (by decide)) H
        · exact H
    · exact H
set_option maxRecDepth 20000 in
theorem w_259_49 {a0 : Nat} {r_1 : Option Nat} {x2 : Int32} {x3 : Int32} {x4 : Int32} {x5 : Int32} {h : hh_T} {Q : Option Value ⊕ Nat → hh_T → Prop} (H : gm_G 259 10 [some (.ref a0), some (va_rf r_1), some (.int x2), some (.int x3), some (.int x4), some (.int (x5 + (Int32.ofNat 1)))] [] h Q) : gm_G 259 49 [some (.ref a0), some (va_rf r_1), some (.int x2), some (.int x3), some (.int x4), some (.int x5)] [] h Q := by
  refine g_iinc (c := (Int32.ofNat 1)) rfl rfl rfl rfl rfl (pc' := 52) ?_
  refine g_goto rfl (pc' := 10) rfl ?_
  exact g_weak (show gm_Lle [some _, some _, some _, some _, some _, some _] _ from ⟨rfl, ⟨rfl, ⟨rfl, ⟨rfl, ⟨rfl, ⟨rfl, trivial⟩⟩⟩⟩⟩⟩) H
set_option maxRecDepth 20000 in
theorem w_260_0 {a0 : Nat} {r_1 : Option Nat} {x2 : Int32} {h : hh_T} {Q : Option Value ⊕ Nat → hh_T → Prop} (H : gm_G 260 2 [some (.ref a0), some (va_rf r_1), some (.int x2), some (.int (Int32.ofNat 0))] [] h Q) : gm_G 260 0 [some (.ref a0), some (va_rf r_1), some (.int x2)] [] h Q := by
  refine g_iconst rfl rfl rfl (pc' := 1) ?_
  refine g_istore rfl rfl rfl (pc' := 2) ?_
  exact g_weak (show gm_Lle [some _, some _, some _, some _] _ from ⟨rfl, ⟨rfl, ⟨rfl, ⟨rfl, trivial⟩⟩⟩⟩) H
set_option maxRecDepth 20000 in
theorem w_260_2 {a0 : Nat} {r_1 : Option Nat} {x2 : Int32} {x3 : Int32} {h : hh_T} {Q : Option Value ⊕ Nat → hh_T → Prop} (H : (¬ x3 < (Int32.ofNat 8) → (Q (.inl (some (.int (Int32.ofNat 1)))) h)) ∧ (x3 < (Int32.ofNat 8) → (hh_tg h a0 = 15 ∧ (gm_G 76 0 [some (.ref a0), some (.int x3), some (va_rf r_1)] [] h (pI (fun v3 h2 => (v3 = Int32.ofNat 0 → (gm_G 260 36 [some (.ref a0), some (va_rf r_1), some (.int x2), some (.int x3)] [] h2 Q)) ∧ (¬ v3 = Int32.ofNat 0 → ((x2 = (Int32.ofNat 2) → (Q (.inl (some (.int (Int32.ofNat 0)))) h2)) ∧ (¬ x2 = (Int32.ofNat 2) → (gm_sub (hh_tg h2 a0) 14 = true ∧ (∀ r5, r5 = hh_r h2 a0 0 → (∃ a6, r5 = some a6 ∧ ((hh_tg h2 a6 = 104 ∨ 200 ≤ hh_tg h2 a6) ∧ (∃ n7, gm_ix x3 n7 (hh_ln h2 a6) ∧ (∀ r9, r9 = hh_r h2 a6 n7 → (∃ a10, r9 = some a10 ∧ (hh_tg h2 a10 = 43 ∧ (gm_G 209 0 [some (.ref a10)] [] h2 (pI (fun v13 h12 => (v13 = Int32.ofNat 0 → (gm_G 260 36 [some (.ref a0), some (va_rf r_1), some (.int x2), some (.int x3)] [] h12 Q)) ∧ (¬ v13 = Int32.ofNat 0 → (Q (.inl (some (.int (Int32.ofNat 0)))) h12))) (fun e14 h15 => hh_tg h15 e14 = 21 ∧ Q (.inr e14) h15))))))))))))))) (fun e16 h17 => hh_tg h17 e16 = 21 ∧ Q (.inr e16) h17)))))) : gm_G 260 2 [some (.ref a0), some (va_rf r_1), some (.int x2), some (.int x3)] [] h Q := by
  refine g_iload rfl rfl rfl (pc' := 3) ?_
  refine g_iconst rfl rfl rfl (pc' := 5) ?_
  refine g_ic_ge rfl (pc' := 8) (pt := 42) rfl rfl ⟨fun hc => ?_, fun hc => ?_⟩
  · replace H := H.1 hc
    refine g_iconst rfl rfl rfl (pc' := 43) ?_
    exact g_ireturn rfl (Or.inr (by decide)) H
  · replace H := H.2 hc
    refine g_aload (r := some _) rfl rfl rfl (pc' := 9) ?_
    refine g_iload rfl rfl rfl (pc' := 10) ?_
    refine g_aload (r := _) rfl rfl rfl (pc' := 11) ?_
    obtain ⟨ht1, H⟩ := H
    refine g_call rfl (y := 76) (n := 3) (pc' := 14) (g_vt ht1 rfl rfl) (by cases r_1 <;> rfl) rfl ⟨(Nat.le_of_ble_eq_true rfl), (Nat.le_of_ble_eq_true rfl), (Nat.le_of_ble_eq_true rfl)⟩ rfl (gm_G.mono H (pI_elim (fun v3 h2 H' => ?_) (fun e16 h17 H => ?_)))
    · show gm_G _ 14 _ _ _ _
      replace H := H'
      clear H'
      refine g_if_eq rfl (pc' := 17) (pt := 36) rfl rfl ⟨fun hc => ?_, fun hc => ?_⟩
      · replace H := H.1 hc
        exact g_weak (show gm_Lle [some _, some _, some _, some _] _ from ⟨rfl, ⟨rfl, ⟨rfl, ⟨rfl, trivial⟩⟩⟩⟩) H
      · replace H := H.2 hc
        refine g_iload rfl rfl rfl (pc' := 18) ?_
        refine g_iconst rfl rfl rfl (pc' := 19) ?_
        refine g_ic_eq rfl (pc' := 22) (pt := 34) rfl rfl ⟨fun hc => ?_, fun hc => ?_⟩
        · replace H := H.1 hc
          refine g_iconst rfl rfl rfl (pc' := 35) ?_
          exact g_ireturn rfl (Or.inr (by decide)) H
        · replace H := H.2 hc
          refine g_aload (r := some _) rfl rfl rfl (pc' := 23) ?_
          obtain ⟨ht4, H⟩ := H
          refine g_getRv rfl rfl rfl rfl ht4 (pc' := 26) rfl (fun r5 hr5 => ?_)
          replace H := H r5 hr5
          refine g_iload rfl rfl rfl (pc' := 27) ?_
          obtain ⟨a6, rfl, H⟩ := H
          obtain ⟨ht8, H⟩ := H
          obtain ⟨n7, hn7, H⟩ := H
          refine g_aaloadv rfl ht8 hn7 (pc' := 28) rfl (fun r9 hr9 => ?_)
          replace H := H r9 hr9
          obtain ⟨a10, rfl, H⟩ := H
          obtain ⟨ht11, H⟩ := H
          refine g_call rfl (y := 209) (n := 1) (pc' := 31) (g_vt ht11 rfl rfl) rfl rfl ⟨(Nat.le_of_ble_eq_true rfl), (Nat.le_of_ble_eq_true rfl), (Nat.le_of_ble_eq_true rfl)⟩ rfl (gm_G.mono H (pI_elim (fun v13 h12 H' => ?_) (fun e14 h15 H => ?_)))
          · show gm_G _ 31 _ _ _ _
            replace H := H'
            clear H'
            refine g_if_eq rfl (pc' := 34) (pt := 36) rfl rfl ⟨fun hc => ?_, fun hc => ?_⟩
            · replace H := H.1 hc
              exact g_weak (show gm_Lle [some _, some _, some _, some _] _ from ⟨rfl, ⟨rfl, ⟨rfl, ⟨rfl, trivial⟩⟩⟩⟩) H
            · replace H := H.2 hc
              refine g_iconst rfl rfl rfl (pc' := 35) ?_
              exact g_ireturn rfl (Or.inr (by decide)) H
          · exact H
    · exact H
set_option maxRecDepth 20000 in
theorem w_260_36 {a0 : Nat} {r_1 : Option Nat} {x2 : Int32} {x3 : Int32} {h : hh_T} {Q : Option Value ⊕ Nat → hh_T → Prop} (H : gm_G 260 2 [some (.ref a0), some (va_rf r_1), some (.int x2), some (.int (x3 + (Int32.ofNat 1)))] [] h Q) : gm_G 260 36 [some (.ref a0), some (va_rf r_1), some (.int x2), some (.int x3)] [] h Q := by
  refine g_iinc (c := (Int32.ofNat 1)) rfl rfl rfl rfl rfl (pc' := 39) ?_
  refine g_goto rfl (pc' := 2) rfl ?_
  exact g_weak (show gm_Lle [some _, some _, some _, some _] _ from ⟨rfl, ⟨rfl, ⟨rfl, ⟨rfl, trivial⟩⟩⟩⟩) H
set_option maxRecDepth 20000 in
theorem w_261_0 {a0 : Nat} {x1 : Int32} {x2 : Int32} {x3 : Int32} {x4 : Int32} {h : hh_T} {Q : Option Value ⊕ Nat → hh_T → Prop} (H : gm_G 261 3 [some (.ref a0), some (.int x1), some (.int x2), some (.int x3), some (.int x4), some (.int (Int32.ofNat 0))] [] h Q) : gm_G 261 0 [some (.ref a0), some (.int x1), some (.int x2), some (.int x3), some (.int x4)] [] h Q := by
  refine g_iconst rfl rfl rfl (pc' := 1) ?_
  refine g_istore rfl rfl rfl (pc' := 3) ?_
  exact g_weak (show gm_Lle [some _, some _, some _, some _, some _, some _] _ from ⟨rfl, ⟨rfl, ⟨rfl, ⟨rfl, ⟨rfl, ⟨rfl, trivial⟩⟩⟩⟩⟩⟩) H
set_option maxRecDepth 20000 in
theorem w_261_3 {a0 : Nat} {x1 : Int32} {x2 : Int32} {x3 : Int32} {x4 : Int32} {x5 : Int32} {h : hh_T} {Q : Option Value ⊕ Nat → hh_T → Prop} (H : (¬ x5 < (Int32.ofNat 4) → (Q (.inl none) h)) ∧ (x5 < (Int32.ofNat 4) → (gm_sub (hh_tg h a0) 15 = true ∧ (∀ r2, r2 = hh_r h a0 0 → (∃ a3, r2 = some a3 ∧ ((hh_tg h a3 = 104 ∨ 200 ≤ hh_tg h a3) ∧ (∃ n4, gm_ix x5 n4 (hh_ln h a3) ∧ (∀ r6, r6 = hh_r h a3 n4 → ((r6 = none → (gm_G 261 64 [some (.ref a0), some (.int x1), some (.int x2), some (.int x3), some (.int x4), some (.int x5)] [] h Q)) ∧ (∀ a7, r6 = some a7 → (∀ r8, r8 = hh_r h a0 0 → (∃ a9, r8 = some a9 ∧ ((hh_tg h a9 = 104 ∨ 200 ≤ hh_tg h a9) ∧ (∃ n10, gm_ix x5 n10 (hh_ln h a9) ∧ (∀ r12, r12 = hh_r h a9 n10 → (∃ a13, r12 = some a13 ∧ (gm_sub (hh_tg h a13) 47 = true ∧ ((¬ (hh_i h a13 0) = x1 → (gm_G 261 64 [some (.ref a0), some (.int x1), some (.int x2), some (.int x3), some (.int x4), some (.int x5)] [] h Q)) ∧ ((hh_i h a13 0) = x1 → (∀ r15, r15 = hh_r h a0 0 → (∃ a16, r15 = some a16 ∧ ((hh_tg h a16 = 104 ∨ 200 ≤ hh_tg h a16) ∧ (∃ n17, gm_ix x5 n17 (hh_ln h a16) ∧ (∀ r19, r19 = hh_r h a16 n17 → (∃ a20, r19 = some a20 ∧ (gm_sub (hh_tg h a20) 47 = true ∧ ((¬ (hh_i h a20 1) = x2 → (gm_G 261 64 [some (.ref a0), some (.int x1), some (.int x2), some (.int x3), some (.int x4), some (.int x5)] [] h Q)) ∧ ((hh_i h a20 1) = x2 → (∀ r22, r22 = hh_r h a0 0 → (∃ a23, r22 = some a23 ∧ ((hh_tg h a23 = 104 ∨ 200 ≤ hh_tg h a23) ∧ (∃ n24, gm_ix x5 n24 (hh_ln h a23) ∧ (∀ r26, r26 = hh_r h a23 n24 → (∃ a27, r26 = some a27 ∧ (hh_tg h a27 = 48 ∧ (gm_G 216 0 [some (.ref a27), some (.int (((Int32.ofNat 16) * x4) + x3))] [] h (pV (fun h29 => gm_G 261 64 [some (.ref a0), some (.int x1), some (.int x2), some (.int x3), some (.int x4), some (.int x5)] [] h29 Q) (fun e30 h31 => hh_tg h31 e30 = 21 ∧ Q (.inr e30) h31)))))))))))))))))))))))))))))))))))))) : gm_G 261 3 [some (.ref a0), some (.int x1), some (.int x2), some (.int x3), some (.int x4), some (.int x5)] [] h Q := by
  refine g_iload rfl rfl rfl (pc' := 5) ?_
  refine g_iconst rfl rfl rfl (pc' := 6) ?_
  refine g_ic_ge rfl (pc' := 9) (pt := 70) rfl rfl ⟨fun hc => ?_, fun hc => ?_⟩
  · replace H := H.1 hc
    exact g_return rfl H
  · replace H := H.2 hc
    refine g_aload (r := some _) rfl rfl rfl (pc' := 10) ?_
    obtain ⟨ht1, H⟩ := H
    refine g_getRv rfl rfl rfl rfl ht1 (pc' := 13) rfl (fun r2 hr2 => ?_)
    replace H := H r2 hr2
    refine g_iload rfl rfl rfl (pc' := 15) ?_
    obtain ⟨a3, rfl, H⟩ := H
    obtain ⟨ht5, H⟩ := H
    obtain ⟨n4, hn4, H⟩ := H
    refine g_aaloadv rfl ht5 hn4 (pc' := 16) rfl (fun r6 hr6 => ?_)
    replace H := H r6 hr6
    refine g_ifnull rfl (pc' := 19) (pt := 64) rfl rfl ⟨fun hc => ?_, fun a7 hc => ?_⟩
    · replace H := H.1 hc
      subst hc
      exact g_weak (show gm_Lle [some _, some _, some _, some _, some _, some _] _ from ⟨rfl, ⟨rfl, ⟨rfl, ⟨rfl, ⟨rfl, ⟨rfl, trivial⟩⟩⟩⟩⟩⟩) H
    · replace H := H.2 a7 hc
      subst hc
      refine g_aload (r := some _) rfl rfl rfl (pc' := 20) ?_
      refine g_getRv rfl rfl rfl rfl ht1 (pc' := 23) rfl (fun r8 hr8 => ?_)
      replace H := H r8 hr8
      refine g_iload rfl rfl rfl (pc' := 25) ?_
      obtain ⟨a9, rfl, H⟩ := H
      obtain ⟨ht11, H⟩ := H
      obtain ⟨n10, hn10, H⟩ := H
      refine g_aaloadv rfl ht11 hn10 (pc' := 26) rfl (fun r12 hr12 => ?_)
      replace H := H r12 hr12
      obtain ⟨a13, rfl, H⟩ := H
      obtain ⟨ht14, H⟩ := H
      refine g_getI rfl rfl rfl rfl ht14 (pc' := 29) rfl ?_
      refine g_iload rfl rfl rfl (pc' := 30) ?_
      refine g_ic_ne rfl (pc' := 33) (pt := 64) rfl rfl ⟨fun hc => ?_, fun hc => ?_⟩
      · replace H := H.1 hc
        exact g_weak (show gm_Lle [some _, some _, some _, some _, some _, some _] _ from ⟨rfl, ⟨rfl, ⟨rfl, ⟨rfl, ⟨rfl, ⟨rfl, trivial⟩⟩⟩⟩⟩⟩) H
      · replace H := H.2 hc
        refine g_aload (r := some _) rfl rfl rfl (pc' := 34) ?_
        refine g_getRv rfl rfl rfl rfl ht1 (pc' := 37) rfl (fun r15 hr15 => ?_)
        replace H := H r15 hr15
        refine g_iload rfl rfl rfl (pc' := 39) ?_
        obtain ⟨a16, rfl, H⟩ := H
        obtain ⟨ht18, H⟩ := H
        obtain ⟨n17, hn17, H⟩ := H
        refine g_aaloadv rfl ht18 hn17 (pc' := 40) rfl (fun r19 hr19 => ?_)
        replace H := H r19 hr19
        obtain ⟨a20, rfl, H⟩ := H
        obtain ⟨ht21, H⟩ := H
        refine g_getI rfl rfl rfl rfl ht21 (pc' := 43) rfl ?_
        refine g_iload rfl rfl rfl (pc' := 44) ?_
        refine g_ic_ne rfl (pc' := 47) (pt := 64) rfl rfl ⟨fun hc => ?_, fun hc => ?_⟩
        · replace H := H.1 hc
          exact g_weak (show gm_Lle [some _, some _, some _, some _, some _, some _] _ from ⟨rfl, ⟨rfl, ⟨rfl, ⟨rfl, ⟨rfl, ⟨rfl, trivial⟩⟩⟩⟩⟩⟩) H
        · replace H := H.2 hc
          refine g_aload (r := some _) rfl rfl rfl (pc' := 48) ?_
          refine g_getRv rfl rfl rfl rfl ht1 (pc' := 51) rfl (fun r22 hr22 => ?_)
          replace H := H r22 hr22
          refine g_iload rfl rfl rfl (pc' := 53) ?_
          obtain ⟨a23, rfl, H⟩ := H
          obtain ⟨ht25, H⟩ := H
          obtain ⟨n24, hn24, H⟩ := H
          refine g_aaloadv rfl ht25 hn24 (pc' := 54) rfl (fun r26 hr26 => ?_)
          replace H := H r26 hr26
          refine g_iconst rfl rfl rfl (pc' := 56) ?_
          refine g_iload rfl rfl rfl (pc' := 58) ?_
          refine g_imul rfl rfl (pc' := 59) ?_
          refine g_iload rfl rfl rfl (pc' := 60) ?_
          refine g_iadd rfl rfl (pc' := 61) ?_
          obtain ⟨a27, rfl, H⟩ := H
          obtain ⟨ht28, H⟩ := H
          refine g_call rfl (y := 216) (n := 2) (pc' := 64) (g_vt ht28 rfl rfl) rfl rfl ⟨(Nat.le_of_ble_eq_true rfl), (Nat.le_of_ble_eq_true rfl), (Nat.le_of_ble_eq_true rfl)⟩ rfl (gm_G.mono H (pV_elim (fun h29 H' => ?_) (fun e30 h31 H => ?_)))
          · show gm_G _ 64 _ _ _ _
            replace H := H'
            clear H'
            exact g_weak (show gm_Lle [some _, some _, some _, some _, some _, some _] _ from ⟨rfl, ⟨rfl, ⟨rfl, ⟨rfl, ⟨rfl, ⟨rfl, trivial⟩⟩⟩⟩⟩⟩) H
          · exact H
set_option maxRecDepth 20000 in
theorem w_261_64 {a0 : Nat} {x1 : Int32} {x2 : Int32} {x3 : Int32} {x4 : Int32} {x5 : Int32} {h : hh_T} {Q : Option Value ⊕ Nat → hh_T → Prop} (H : gm_G 261 3 [some (.ref a0), some (.int x1), some (.int x2), some (.int x3), some (.int x4), some (.int (x5 + (Int32.ofNat 1)))] [] h Q) : gm_G 261 64 [some (.ref a0), some (.int x1), some (.int x2), some (.int x3), some (.int x4), some (.int x5)] [] h Q := by
  refine g_iinc (c := (Int32.ofNat 1)) rfl rfl rfl rfl rfl (pc' := 67) ?_
  refine g_goto rfl (pc' := 3) rfl ?_
  exact g_weak (show gm_Lle [some _, some _, some _, some _, some _, some _] _ from ⟨rfl, ⟨rfl, ⟨rfl, ⟨rfl, ⟨rfl, ⟨rfl, trivial⟩⟩⟩⟩⟩⟩) H
set_option maxRecDepth 20000 in
theorem w_262_0 {a0 : Nat} {r_1 : Option Nat} {x2 : Int32} {x3 : Int32} {h : hh_T} {Q : Option Value ⊕ Nat → hh_T → Prop} (H : gm_G 262 3 [some (.ref a0), some (va_rf r_1), some (.int x2), some (.int x3), some (.int (Int32.ofNat 0))] [] h Q) : gm_G 262 0 [some (.ref a0), some (va_rf r_1), some (.int x2), some (.int x3)] [] h Q := by
  refine g_iconst rfl rfl rfl (pc' := 1) ?_
  refine g_istore rfl rfl rfl (pc' := 3) ?_
  exact g_weak (show gm_Lle [some _, some _, some _, some _, some _] _ from ⟨rfl, ⟨rfl, ⟨rfl, ⟨rfl, ⟨rfl, trivial⟩⟩⟩⟩⟩) H
set_option maxRecDepth 20000 in
theorem w_262_3 {a0 : Nat} {r_1 : Option Nat} {x2 : Int32} {x3 : Int32} {x4 : Int32} {h : hh_T} {Q : Option Value ⊕ Nat → hh_T → Prop} (H : (¬ x4 < (Int32.ofNat 4) → (Q (.inl none) h)) ∧ (x4 < (Int32.ofNat 4) → (gm_sub (hh_tg h a0) 15 = true ∧ (∀ r2, r2 = hh_r h a0 0 → (∃ a3, r2 = some a3 ∧ ((hh_tg h a3 = 104 ∨ 200 ≤ hh_tg h a3) ∧ (∃ n4, gm_ix x4 n4 (hh_ln h a3) ∧ (∀ r6, r6 = hh_r h a3 n4 → ((r6 = none → (gm_G 262 83 [some (.ref a0), some (va_rf r_1), some (.int x2), some (.int x3), some (.int x4)] [] h Q)) ∧ (∀ a7, r6 = some a7 → (∀ r8, r8 = hh_r h a0 0 → (∃ a9, r8 = some a9 ∧ ((hh_tg h a9 = 104 ∨ 200 ≤ hh_tg h a9) ∧ (∃ n10, gm_ix x4 n10 (hh_ln h a9) ∧ (∀ r12, r12 = hh_r h a9 n10 → (∃ a13, r12 = some a13 ∧ (gm_sub (hh_tg h a13) 47 = true ∧ (∃ a15, r_1 = some a15 ∧ (gm_sub (hh_tg h a15) 23 = true ∧ (((hh_i h a13 0) = (hh_i h a15 0) → (∀ r17, r17 = hh_r h a15 9 → (∃ a18, r17 = some a18 ∧ (gm_sub (hh_tg h a18) 24 = true ∧ (∀ r20, r20 = hh_r h a18 2 → (∀ r21, r21 = hh_r h a0 0 → (∃ a22, r21 = some a22 ∧ ((hh_tg h a22 = 104 ∨ 200 ≤ hh_tg h a22) ∧ (∃ n23, gm_ix x4 n23 (hh_ln h a22) ∧ (∀ r25, r25 = hh_r h a22 n23 → (∃ a26, r25 = some a26 ∧ (gm_sub (hh_tg h a26) 47 = true ∧ (∃ a28, r20 = some a28 ∧ ((hh_tg h a28 = 104 ∨ 200 ≤ hh_tg h a28) ∧ (∃ n29, gm_ix (hh_i h a26 1) n29 (hh_ln h a28) ∧ (∀ r31, r31 = hh_r h a28 n29 → ((∀ b, r31 = some b → gm_sub (hh_tg h b) 27 = true) ∧ (∃ a32, r31 = some a32 ∧ (hh_tg h a32 = 28 ∧ (gm_G 198 0 [some (.ref a32), some (.int x3)] [] h (pI (fun v35 h34 => (v35 = Int32.ofNat 0 → (gm_G 262 83 [some (.ref a0), some (.ref a15), some (.int x2), some (.int x3), some (.int x4)] [] h34 Q)) ∧ (¬ v35 = Int32.ofNat 0 → (gm_sub (hh_tg h34 a0) 15 = true ∧ (∀ r37, r37 = hh_r h34 a0 0 → (∃ a38, r37 = some a38 ∧ ((hh_tg h34 a38 = 104 ∨ 200 ≤ hh_tg h34 a38) ∧ (∃ n39, gm_ix x4 n39 (hh_ln h34 a38) ∧ (∀ r41, r41 = hh_r h34 a38 n39 → (∃ a42, r41 = some a42 ∧ (hh_tg h34 a42 = 48 ∧ (gm_G 216 0 [some (.ref a42), some (.int (((Int32.ofNat 16) * x3) + x2))] [] h34 (pV (fun h44 => gm_G 262 83 [some (.ref a0), some (.ref a15), some (.int x2), some (.int x3), some (.int x4)] [] h44 Q) (fun e45 h46 => hh_tg h46 e45 = 21 ∧ Q (.inr e45) h46))))))))))))) (fun e47 h48 => hh_tg h48 e47 = 21 ∧ Q (.inr e47) h48)))))))))))))))))))))) ∧ (¬ (hh_i h a13 0) = (hh_i h a15 0) → (gm_G 262 83 [some (.ref a0), some (.ref a15), some (.int x2), some (.int x3), some (.int x4)] [] h Q)))))))))))))))))))))) : gm_G 262 3 [some (.ref a0), some (va_rf r_1), some (.int x2), some (.int x3), some (.int x4)] [] h Q := by
  refine g_iload rfl rfl rfl (pc' := 5) ?_
  refine g_iconst rfl rfl rfl (pc' := 6) ?_
  refine g_ic_ge rfl (pc' := 9) (pt := 89) rfl rfl ⟨fun hc => ?_, fun hc => ?_⟩
  · replace H := H.1 hc
    exact g_return rfl H
  · replace H := H.2 hc
    refine g_aload (r := some _) rfl rfl rfl (pc' := 10) ?_
    obtain ⟨ht1, H⟩ := H
    refine g_getRv rfl rfl rfl rfl ht1 (pc' := 13) rfl (fun r2 hr2 => ?_)
    replace H := H r2 hr2
    refine g_iload rfl rfl rfl (pc' := 15) ?_
    obtain ⟨a3, rfl, H⟩ := H
    obtain ⟨ht5, H⟩ := H
    obtain ⟨n4, hn4, H⟩ := H
    refine g_aaloadv rfl ht5 hn4 (pc' := 16) rfl (fun r6 hr6 => ?_)
    replace H := H r6 hr6
    refine g_ifnull rfl (pc' := 19) (pt := 83) rfl rfl ⟨fun hc => ?_, fun a7 hc => ?_⟩
    · replace H := H.1 hc
      subst hc
      exact g_weak (show gm_Lle [some _, some _, some _, some _, some _] _ from ⟨rfl, ⟨rfl, ⟨rfl, ⟨rfl, ⟨rfl, trivial⟩⟩⟩⟩⟩) H
    · replace H := H.2 a7 hc
      subst hc
      refine g_aload (r := some _) rfl rfl rfl (pc' := 20) ?_
      refine g_getRv rfl rfl rfl rfl ht1 (pc' := 23) rfl (fun r8 hr8 => ?_)
      replace H := H r8 hr8
      refine g_iload rfl rfl rfl (pc' := 25) ?_
      obtain ⟨a9, rfl, H⟩ := H
      obtain ⟨ht11, H⟩ := H
      obtain ⟨n10, hn10, H⟩ := H
      refine g_aaloadv rfl ht11 hn10 (pc' := 26) rfl (fun r12 hr12 => ?_)
      replace H := H r12 hr12
      obtain ⟨a13, rfl, H⟩ := H
      obtain ⟨ht14, H⟩ := H
      refine g_getI rfl rfl rfl rfl ht14 (pc' := 29) rfl ?_
      refine g_aload (r := _) rfl rfl rfl (pc' := 30) ?_
      obtain ⟨a15, rfl, H⟩ := H
      obtain ⟨ht16, H⟩ := H
      refine g_getI rfl rfl rfl rfl ht16 (pc' := 33) rfl ?_
      refine g_ic_eq rfl (pc' := 36) (pt := 39) rfl rfl ⟨fun hc => ?_, fun hc => ?_⟩
      · replace H := H.1 hc
        refine g_aload (r := some _) rfl rfl rfl (pc' := 40) ?_
        refine g_getRv rfl rfl rfl rfl ht16 (pc' := 43) rfl (fun r17 hr17 => ?_)
        replace H := H r17 hr17
        obtain ⟨a18, rfl, H⟩ := H
        obtain ⟨ht19, H⟩ := H
        refine g_getRv rfl rfl rfl rfl ht19 (pc' := 46) rfl (fun r20 hr20 => ?_)
        replace H := H r20 hr20
        refine g_aload (r := some _) rfl rfl rfl (pc' := 47) ?_
        refine g_getRv rfl rfl rfl rfl ht1 (pc' := 50) rfl (fun r21 hr21 => ?_)
        replace H := H r21 hr21
        refine g_iload rfl rfl rfl (pc' := 52) ?_
        obtain ⟨a22, rfl, H⟩ := H
        obtain ⟨ht24, H⟩ := H
        obtain ⟨n23, hn23, H⟩ := H
        refine g_aaloadv rfl ht24 hn23 (pc' := 53) rfl (fun r25 hr25 => ?_)
        replace H := H r25 hr25
        obtain ⟨a26, rfl, H⟩ := H
        obtain ⟨ht27, H⟩ := H
        refine g_getI rfl rfl rfl rfl ht27 (pc' := 56) rfl ?_
        obtain ⟨a28, rfl, H⟩ := H
        obtain ⟨ht30, H⟩ := H
        obtain ⟨n29, hn29, H⟩ := H
        refine g_aaloadv rfl ht30 hn29 (pc' := 57) rfl (fun r31 hr31 => ?_)
        replace H := H r31 hr31
        obtain ⟨Hc, H⟩ := H
        refine g_cast rfl Hc (pc' := 60) rfl ?_
        refine g_iload rfl rfl rfl (pc' := 61) ?_
        obtain ⟨a32, rfl, H⟩ := H
        obtain ⟨ht33, H⟩ := H
        refine g_call rfl (y := 198) (n := 2) (pc' := 64) (g_vt ht33 rfl rfl) rfl rfl ⟨(Nat.le_of_ble_eq_true rfl), (Nat.le_of_ble_eq_true rfl), (Nat.le_of_ble_eq_true rfl)⟩ rfl (gm_G.mono H (pI_elim (fun v35 h34 H' => ?_) (fun e47 h48 H => ?_)))
        · show gm_G _ 64 _ _ _ _
          replace H := H'
          clear H'
          refine g_if_eq rfl (pc' := 67) (pt := 83) rfl rfl ⟨fun hc => ?_, fun hc => ?_⟩
          · replace H := H.1 hc
            exact g_weak (show gm_Lle [some _, some _, some _, some _, some _] _ from ⟨rfl, ⟨rfl, ⟨rfl, ⟨rfl, ⟨rfl, trivial⟩⟩⟩⟩⟩) H
          · replace H := H.2 hc
            refine g_aload (r := some _) rfl rfl rfl (pc' := 68) ?_
            obtain ⟨ht36, H⟩ := H
            refine g_getRv rfl rfl rfl rfl ht36 (pc' := 71) rfl (fun r37 hr37 => ?_)
            replace H := H r37 hr37
            refine g_iload rfl rfl rfl (pc' := 73) ?_
            obtain ⟨a38, rfl, H⟩ := H
            obtain ⟨ht40, H⟩ := H
            obtain ⟨n39, hn39, H⟩ := H
            refine g_aaloadv rfl ht40 hn39 (pc' := 74) rfl (fun r41 hr41 => ?_)
            replace H := H r41 hr41
            refine g_iconst rfl rfl rfl (pc' := 76) ?_
            refine g_iload rfl rfl rfl (pc' := 77) ?_
            refine g_imul rfl rfl (pc' := 78) ?_
            refine g_iload rfl rfl rfl (pc' := 79) ?_
            refine g_iadd rfl rfl (pc' := 80) ?_
            obtain ⟨a42, rfl, H⟩ := H
            obtain ⟨ht43, H⟩ := H
            refine g_call rfl (y := 216) (n := 2) (pc' := 83) (g_vt ht43 rfl rfl) rfl rfl ⟨(Nat.le_of_ble_eq_true rfl), (Nat.le_of_ble_eq_true rfl), (Nat.le_of_ble_eq_true rfl)⟩ rfl (gm_G.mono H (pV_elim (fun h44 H' => ?_) (fun e45 h46 H => ?_)))
            · show gm_G _ 83 _ _ _ _
              replace H := H'
              clear H'
              exact g_weak (show gm_Lle [some _, some _, some _, some _, some _] _ from ⟨rfl, ⟨rfl, ⟨rfl, ⟨rfl, ⟨rfl, trivial⟩⟩⟩⟩⟩) H
            · exact H
        · exact H
      · replace H := H.2 hc
        refine g_goto rfl (pc' := 83) rfl ?_
        exact g_weak (show gm_Lle [some _, some _, some _, some _, some _] _ from ⟨rfl, ⟨rfl, ⟨rfl, ⟨rfl, ⟨rfl, trivial⟩⟩⟩⟩⟩) H
set_option maxRecDepth 20000 in
theorem w_262_83 {a0 : Nat} {r_1 : Option Nat} {x2 : Int32} {x3 : Int32} {x4 : Int32} {h : hh_T} {Q : Option Value ⊕ Nat → hh_T → Prop} (H : gm_G 262 3 [some (.ref a0), some (va_rf r_1), some (.int x2), some (.int x3), some (.int (x4 + (Int32.ofNat 1)))] [] h Q) : gm_G 262 83 [some (.ref a0), some (va_rf r_1), some (.int x2), some (.int x3), some (.int x4)] [] h Q := by
  refine g_iinc (c := (Int32.ofNat 1)) rfl rfl rfl rfl rfl (pc' := 86) ?_
  refine g_goto rfl (pc' := 3) rfl ?_
  exact g_weak (show gm_Lle [some _, some _, some _, some _, some _] _ from ⟨rfl, ⟨rfl, ⟨rfl, ⟨rfl, ⟨rfl, trivial⟩⟩⟩⟩⟩) H
set_option maxRecDepth 20000 in
theorem w_263_0 {a0 : Nat}  {h : hh_T} {Q : Option Value ⊕ Nat → hh_T → Prop} (H : ∀ a1 h2, a1 = hh_sz h → h2 = hh_al h 13 0 2 → (gm_G 62 0 [some (.ref a1), some (.int (Int32.ofNat 6000))] [] h2 (pV (fun h3 => gm_sub (hh_tg h3 a0) 16 = true ∧ (∀ h5, h5 = hh_wr h3 a0 0 (some a1) → (∀ a6 h7, a6 = hh_sz h5 → h7 = hh_al h5 101 6000 6000 → (gm_sub (hh_tg h7 a0) 16 = true ∧ (∀ h9, h9 = hh_wr h7 a0 1 (some a6) → (gm_G 263 27 [] [] h9 Q)))))) (fun e10 h11 => hh_tg h11 e10 = 21 ∧ Q (.inr e10) h11)))) : gm_G 263 0 [some (.ref a0)] [] h Q := by
  refine g_aload (r := some _) rfl rfl rfl (pc' := 1) ?_
  refine g_objinit rfl (Nat.le_of_ble_eq_true rfl) (pc' := 4) rfl ?_
  refine g_aload (r := some _) rfl rfl rfl (pc' := 5) ?_
  refine g_new rfl (t := 13) (s := 2) rfl rfl (pc' := 8) rfl ?_
  replace H := H _ _ rfl rfl
  refine g_dup_a (r := some _) rfl rfl (pc' := 9) ?_
  refine g_iconst rfl rfl rfl (pc' := 12) ?_
  refine g_call rfl (y := 62) (n := 2) (pc' := 15) (fun _ => rfl) rfl rfl ⟨(Nat.le_of_ble_eq_true rfl), (Nat.le_of_ble_eq_true rfl), (Nat.le_of_ble_eq_true rfl)⟩ rfl (gm_G.mono H (pV_elim (fun h3 H' => ?_) (fun e10 h11 H => ?_)))
  · show gm_G _ 15 _ _ _ _
    replace H := H'
    clear H'
    obtain ⟨ht4, H⟩ := H
    refine g_putR (x := some _) rfl rfl rfl rfl ht4  (pc' := 18) rfl ?_
    replace H := H _ rfl
    refine g_aload (r := some _) rfl rfl rfl (pc' := 19) ?_
    refine g_iconst rfl rfl rfl (pc' := 22) ?_
    refine g_newarray rfl (u := 101) (n := 6000) rfl (by decide) rfl (by decide) (pc' := 24) rfl ?_
    replace H := H _ _ rfl rfl
    obtain ⟨ht8, H⟩ := H
    refine g_putR (x := some _) rfl rfl rfl rfl ht8  (pc' := 27) rfl ?_
    replace H := H _ rfl
    exact g_weak (show gm_Lle [] _ from trivial) H
  · exact H
set_option maxRecDepth 20000 in
theorem w_263_27 {a0 : Nat}  {h : hh_T} {Q : Option Value ⊕ Nat → hh_T → Prop} (H : Q (.inl none) h) : gm_G 263 27 [] [] h Q := by
  exact g_return rfl H
set_option maxRecDepth 20000 in
theorem w_264_0 {a0 : Nat} {x1 : Int32} {x2 : Int32} {h : hh_T} {Q : Option Value ⊕ Nat → hh_T → Prop} (H : gm_sub (hh_tg h a0) 16 = true ∧ (∀ r2, r2 = hh_r h a0 1 → (∃ a3, r2 = some a3 ∧ ((hh_tg h a3 = 101 ∨ hh_tg h a3 = 102) ∧ (∃ n4, gm_ix x1 n4 (hh_ln h a3) ∧ (((hh_i h a3 n4) = Int32.ofNat 0 → (gm_G 264 14 [some (.ref a0), some (.int x1), some (.int x2)] [.int (Int32.ofNat 0)] h Q)) ∧ (¬ (hh_i h a3 n4) = Int32.ofNat 0 → (gm_G 264 14 [some (.ref a0), some (.int x1), some (.int x2)] [.int (Int32.ofNat 1)] h Q)))))))) : gm_G 264 0 [some (.ref a0), some (.int x1), some (.int x2)] [] h Q := by
  refine g_aload (r := some _) rfl rfl rfl (pc' := 1) ?_
  obtain ⟨ht1, H⟩ := H
  refine g_getRv rfl rfl rfl rfl ht1 (pc' := 4) rfl (fun r2 hr2 => ?_)
  replace H := H r2 hr2
  refine g_iload rfl rfl rfl (pc' := 5) ?_
  obtain ⟨a3, rfl, H⟩ := H
  obtain ⟨ht5, H⟩ := H
  obtain ⟨n4, hn4, H⟩ := H
  refine g_baload rfl ht5 hn4 (pc' := 6) rfl ?_
  refine g_if_eq rfl (pc' := 9) (pt := 13) rfl rfl ⟨fun hc => ?_, fun hc => ?_⟩
  · replace H := H.1 hc
    refine g_iconst rfl rfl rfl (pc' := 14) ?_
    exact g_weak (show gm_Lle [some _, some _, some _] _ from ⟨rfl, ⟨rfl, ⟨rfl, trivial⟩⟩⟩) H
  · replace H := H.2 hc
    refine g_iconst rfl rfl rfl (pc' := 10) ?_
    refine g_goto rfl (pc' := 14) rfl ?_
    exact g_weak (show gm_Lle [some _, some _, some _] _ from ⟨rfl, ⟨rfl, ⟨rfl, trivial⟩⟩⟩) H
set_option maxRecDepth 20000 in
theorem w_264_14 {a0 : Nat} {x1 : Int32} {x2 : Int32} {y0 : Int32} {h : hh_T} {Q : Option Value ⊕ Nat → hh_T → Prop} (H : gm_sub (hh_tg h a0) 16 = true ∧ (∀ r2, r2 = hh_r h a0 1 → (∃ a3, r2 = some a3 ∧ ((hh_tg h a3 = 101 ∨ hh_tg h a3 = 102) ∧ (∃ n4, gm_ix x1 n4 (hh_ln h a3) ∧ (hh_tg h a3 = 101 ∧ (∃ n6, gm_ix x1 n6 (hh_ln h a3) ∧ (∀ h7, h7 = hh_wi h a3 n6 ((((hh_i h a3 n4) ^^^ (x2.toInt8.toInt32)).toInt8.toInt32).toInt8.toInt32) → (∀ r8, r8 = hh_r h7 a0 0 → (∃ a9, r8 = some a9 ∧ (gm_sub (hh_tg h7 a9) 12 = true ∧ (∀ r11, r11 = hh_r h7 a9 0 → (∃ a12, r11 = some a12 ∧ ((hh_tg h7 a12 = 101 ∨ hh_tg h7 a12 = 102) ∧ (∃ n13, gm_ix x1 n13 (hh_ln h7 a12) ∧ (hh_tg h7 a12 = 101 ∧ (∃ n15, gm_ix x1 n15 (hh_ln h7 a12) ∧ (∀ h16, h16 = hh_wi h7 a12 n15 ((((hh_i h7 a12 n13) ^^^ (x2.toInt8.toInt32)).toInt8.toInt32).toInt8.toInt32) → (∀ r17, r17 = hh_r h16 a0 1 → (∃ a18, r17 = some a18 ∧ ((hh_tg h16 a18 = 101 ∨ hh_tg h16 a18 = 102) ∧ (∃ n19, gm_ix x1 n19 (hh_ln h16 a18) ∧ (((hh_i h16 a18 n19) = Int32.ofNat 0 → (gm_G 264 56 [some (.ref a0), some (.int x1), none, some (.int y0)] [.int (Int32.ofNat 0)] h16 Q)) ∧ (¬ (hh_i h16 a18 n19) = Int32.ofNat 0 → (gm_G 264 56 [some (.ref a0), some (.int x1), none, some (.int y0)] [.int (Int32.ofNat 1)] h16 Q))))))))))))))))))))))))) : gm_G 264 14 [some (.ref a0), some (.int x1), some (.int x2)] [.int y0] h Q := by
  refine g_istore rfl rfl rfl (pc' := 15) ?_
  refine g_aload (r := some _) rfl rfl rfl (pc' := 16) ?_
  obtain ⟨ht1, H⟩ := H
  refine g_getRv rfl rfl rfl rfl ht1 (pc' := 19) rfl (fun r2 hr2 => ?_)
  replace H := H r2 hr2
  refine g_iload rfl rfl rfl (pc' := 20) ?_
  obtain ⟨a3, rfl, H⟩ := H
  refine g_dup2_a rfl (pc' := 21) rfl ?_
  obtain ⟨ht5, H⟩ := H
  obtain ⟨n4, hn4, H⟩ := H
  refine g_baload rfl ht5 hn4 (pc' := 22) rfl ?_
  refine g_iload rfl rfl rfl (pc' := 23) ?_
  refine g_i2b rfl rfl (pc' := 24) ?_
  refine g_ixor rfl rfl (pc' := 25) ?_
  refine g_i2b rfl rfl (pc' := 26) ?_
  obtain ⟨ht22, H⟩ := H
  obtain ⟨n6, hn6, H⟩ := H
  refine g_bastore rfl ht22 hn6  (pc' := 27) rfl ?_
  replace H := H _ rfl
  refine g_aload (r := some _) rfl rfl rfl (pc' := 28) ?_
  refine g_getRv rfl rfl rfl rfl ht1 (pc' := 31) rfl (fun r8 hr8 => ?_)
  replace H := H r8 hr8
  obtain ⟨a9, rfl, H⟩ := H
  obtain ⟨ht10, H⟩ := H
  refine g_getRv rfl rfl rfl rfl ht10 (pc' := 34) rfl (fun r11 hr11 => ?_)
  replace H := H r11 hr11
  refine g_iload rfl rfl rfl (pc' := 35) ?_
  obtain ⟨a12, rfl, H⟩ := H
  refine g_dup2_a rfl (pc' := 36) rfl ?_
  obtain ⟨ht14, H⟩ := H
  obtain ⟨n13, hn13, H⟩ := H
  refine g_baload rfl ht14 hn13 (pc' := 37) rfl ?_
  refine g_iload rfl rfl rfl (pc' := 38) ?_
  refine g_i2b rfl rfl (pc' := 39) ?_
  refine g_ixor rfl rfl (pc' := 40) ?_
  refine g_i2b rfl rfl (pc' := 41) ?_
  obtain ⟨ht21, H⟩ := H
  obtain ⟨n15, hn15, H⟩ := H
  refine g_bastore rfl ht21 hn15  (pc' := 42) rfl ?_
  replace H := H _ rfl
  refine g_aload (r := some _) rfl rfl rfl (pc' := 43) ?_
  refine g_getRv rfl rfl rfl rfl ht1 (pc' := 46) rfl (fun r17 hr17 => ?_)
  replace H := H r17 hr17
  refine g_iload rfl rfl rfl (pc' := 47) ?_
  obtain ⟨a18, rfl, H⟩ := H
  obtain ⟨ht20, H⟩ := H
  obtain ⟨n19, hn19, H⟩ := H
  refine g_baload rfl ht20 hn19 (pc' := 48) rfl ?_
  refine g_if_eq rfl (pc' := 51) (pt := 55) rfl rfl ⟨fun hc => ?_, fun hc => ?_⟩
  · replace H := H.1 hc
    refine g_iconst rfl rfl rfl (pc' := 56) ?_
    exact g_weak (show gm_Lle [some _, some _, none, some _] _ from ⟨rfl, ⟨rfl, ⟨rfl, trivial⟩⟩⟩) H
  · replace H := H.2 hc
    refine g_iconst rfl rfl rfl (pc' := 52) ?_
    refine g_goto rfl (pc' := 56) rfl ?_
    exact g_weak (show gm_Lle [some _, some _, none, some _] _ from ⟨rfl, ⟨rfl, ⟨rfl, trivial⟩⟩⟩) H
set_option maxRecDepth 20000 in
theorem w_264_56 {a0 : Nat} {x1 : Int32} {x3 : Int32} {y0 : Int32} {h : hh_T} {Q : Option Value ⊕ Nat → hh_T → Prop} (H : (y0 = Int32.ofNat 0 → (gm_G 264 77 [some (.ref a0), some (.int x1), none, some (.int x3), some (.int y0)] [] h Q)) ∧ (¬ y0 = Int32.ofNat 0 → ((¬ x3 = Int32.ofNat 0 → (gm_G 264 77 [some (.ref a0), some (.int x1), none, some (.int x3), some (.int y0)] [] h Q)) ∧ (x3 = Int32.ofNat 0 → (gm_sub (hh_tg h a0) 16 = true ∧ (∀ h2, h2 = hh_wi h a0 2 ((hh_i h a0 2) + (Int32.ofNat 1)) → (gm_G 264 77 [some (.ref a0), some (.int x1), none, some (.int x3), some (.int y0)] [] h2 Q))))))) : gm_G 264 56 [some (.ref a0), some (.int x1), none, some (.int x3)] [.int y0] h Q := by
  refine g_istore rfl rfl rfl (pc' := 58) ?_
  refine g_iload rfl rfl rfl (pc' := 60) ?_
  refine g_if_eq rfl (pc' := 63) (pt := 77) rfl rfl ⟨fun hc => ?_, fun hc => ?_⟩
  · replace H := H.1 hc
    exact g_weak (show gm_Lle [some _, some _, none, some _, some _] _ from ⟨rfl, ⟨rfl, ⟨rfl, ⟨rfl, trivial⟩⟩⟩⟩) H
  · replace H := H.2 hc
    refine g_iload rfl rfl rfl (pc' := 64) ?_
    refine g_if_ne rfl (pc' := 67) (pt := 77) rfl rfl ⟨fun hc => ?_, fun hc => ?_⟩
    · replace H := H.1 hc
      exact g_weak (show gm_Lle [some _, some _, none, some _, some _] _ from ⟨rfl, ⟨rfl, ⟨rfl, ⟨rfl, trivial⟩⟩⟩⟩) H
    · replace H := H.2 hc
      refine g_aload (r := some _) rfl rfl rfl (pc' := 68) ?_
      refine g_dup_a (r := some _) rfl rfl (pc' := 69) ?_
      obtain ⟨ht1, H⟩ := H
      refine g_getI rfl rfl rfl rfl ht1 (pc' := 72) rfl ?_
      refine g_iconst rfl rfl rfl (pc' := 73) ?_
      refine g_iadd rfl rfl (pc' := 74) ?_
      refine g_putI rfl rfl rfl rfl ht1  (pc' := 77) rfl ?_
      replace H := H _ rfl
      exact g_weak (show gm_Lle [some _, some _, none, some _, some _] _ from ⟨rfl, ⟨rfl, ⟨rfl, ⟨rfl, trivial⟩⟩⟩⟩) H
set_option maxRecDepth 20000 in
theorem w_264_77 {a0 : Nat} {x1 : Int32} {x3 : Int32} {x4 : Int32} {h : hh_T} {Q : Option Value ⊕ Nat → hh_T → Prop} (H : (x3 = Int32.ofNat 0 → (gm_G 264 96 [some (.ref a0), some (.int x1)] [] h Q)) ∧ (¬ x3 = Int32.ofNat 0 → ((¬ x4 = Int32.ofNat 0 → (gm_G 264 96 [some (.ref a0), some (.int x1)] [] h Q)) ∧ (x4 = Int32.ofNat 0 → (gm_sub (hh_tg h a0) 16 = true ∧ (∀ h2, h2 = hh_wi h a0 2 ((hh_i h a0 2) - (Int32.ofNat 1)) → (gm_G 264 96 [some (.ref a0), some (.int x1)] [] h2 Q))))))) : gm_G 264 77 [some (.ref a0), some (.int x1), none, some (.int x3), some (.int x4)] [] h Q := by
  refine g_iload rfl rfl rfl (pc' := 78) ?_
  refine g_if_eq rfl (pc' := 81) (pt := 96) rfl rfl ⟨fun hc => ?_, fun hc => ?_⟩
  · replace H := H.1 hc
    exact g_weak (show gm_Lle [some _, some _] _ from ⟨rfl, ⟨rfl, trivial⟩⟩) H
  · replace H := H.2 hc
    refine g_iload rfl rfl rfl (pc' := 83) ?_
    refine g_if_ne rfl (pc' := 86) (pt := 96) rfl rfl ⟨fun hc => ?_, fun hc => ?_⟩
    · replace H := H.1 hc
      exact g_weak (show gm_Lle [some _, some _] _ from ⟨rfl, ⟨rfl, trivial⟩⟩) H
    · replace H := H.2 hc
      refine g_aload (r := some _) rfl rfl rfl (pc' := 87) ?_
      refine g_dup_a (r := some _) rfl rfl (pc' := 88) ?_
      obtain ⟨ht1, H⟩ := H
      refine g_getI rfl rfl rfl rfl ht1 (pc' := 91) rfl ?_
      refine g_iconst rfl rfl rfl (pc' := 92) ?_
      refine g_isub rfl rfl (pc' := 93) ?_
      refine g_putI rfl rfl rfl rfl ht1  (pc' := 96) rfl ?_
      replace H := H _ rfl
      exact g_weak (show gm_Lle [some _, some _] _ from ⟨rfl, ⟨rfl, trivial⟩⟩) H
set_option maxRecDepth 20000 in
theorem w_264_96 {a0 : Nat} {x1 : Int32} {h : hh_T} {Q : Option Value ⊕ Nat → hh_T → Prop} (H : gm_sub (hh_tg h a0) 16 = true ∧ (∀ r2, r2 = hh_r h a0 0 → (∃ a3, r2 = some a3 ∧ (hh_tg h a3 = 13 ∧ (gm_G 63 0 [some (.ref a3), some (.int x1)] [] h (pI (fun v6 h5 => Q (.inl (some (.int v6))) h5) (fun e7 h8 => hh_tg h8 e7 = 21 ∧ Q (.inr e7) h8))))))) : gm_G 264 96 [some (.ref a0), some (.int x1)] [] h Q := by
  refine g_aload (r := some _) rfl rfl rfl (pc' := 97) ?_
  obtain ⟨ht1, H⟩ := H
  refine g_getRv rfl rfl rfl rfl ht1 (pc' := 100) rfl (fun r2 hr2 => ?_)
  replace H := H r2 hr2
  refine g_iload rfl rfl rfl (pc' := 101) ?_
  obtain ⟨a3, rfl, H⟩ := H
  obtain ⟨ht4, H⟩ := H
  refine g_call rfl (y := 63) (n := 2) (pc' := 104) (g_vt ht4 rfl rfl) rfl rfl ⟨(Nat.le_of_ble_eq_true rfl), (Nat.le_of_ble_eq_true rfl), (Nat.le_of_ble_eq_true rfl)⟩ rfl (gm_G.mono H (pI_elim (fun v6 h5 H' => ?_) (fun e7 h8 H => ?_)))
  · show gm_G _ 104 _ _ _ _
    replace H := H'
    clear H'
    exact g_ireturn rfl (Or.inl rfl) H
  · exact H
set_option maxRecDepth 20000 in
theorem w_265_0 {a0 : Nat} {r_1 : Option Nat} {h : hh_T} {Q : Option Value ⊕ Nat → hh_T → Prop} (H : gm_sub (hh_tg h a0) 17 = true ∧ (∀ h2, h2 = hh_wr h a0 11 r_1 → (∀ a3 h4, a3 = hh_sz h2 → h4 = hh_al h2 212 4 4 → (gm_sub (hh_tg h4 a0) 17 = true ∧ (∀ h6, h6 = hh_wr h4 a0 0 (some a3) → (∀ a7 h8, a7 = hh_sz h6 → h8 = hh_al h6 212 4 4 → (gm_sub (hh_tg h8 a0) 17 = true ∧ (∀ h10, h10 = hh_wr h8 a0 1 (some a7) → (gm_G 265 25 [some (.ref a0)] [] h10 Q))))))))) : gm_G 265 0 [some (.ref a0), some (va_rf r_1)] [] h Q := by
  refine g_aload (r := some _) rfl rfl rfl (pc' := 1) ?_
  refine g_aload (r := _) rfl rfl rfl (pc' := 2) ?_
  obtain ⟨ht1, H⟩ := H
  refine g_putR rfl rfl rfl rfl ht1  (pc' := 5) rfl ?_
  replace H := H _ rfl
  refine g_aload (r := some _) rfl rfl rfl (pc' := 6) ?_
  refine g_objinit rfl (Nat.le_of_ble_eq_true rfl) (pc' := 9) rfl ?_
  refine g_aload (r := some _) rfl rfl rfl (pc' := 10) ?_
  refine g_iconst rfl rfl rfl (pc' := 11) ?_
  refine g_anewarray rfl (n := 4) rfl (by decide) (pc' := 14) rfl ?_
  replace H := H _ _ rfl rfl
  obtain ⟨ht5, H⟩ := H
  refine g_putR (x := some _) rfl rfl rfl rfl ht5  (pc' := 17) rfl ?_
  replace H := H _ rfl
  refine g_aload (r := some _) rfl rfl rfl (pc' := 18) ?_
  refine g_iconst rfl rfl rfl (pc' := 19) ?_
  refine g_anewarray rfl (n := 4) rfl (by decide) (pc' := 22) rfl ?_
  replace H := H _ _ rfl rfl
  obtain ⟨ht9, H⟩ := H
  refine g_putR (x := some _) rfl rfl rfl rfl ht9  (pc' := 25) rfl ?_
  replace H := H _ rfl
  exact g_weak (show gm_Lle [some _] _ from ⟨rfl, trivial⟩) H
set_option maxRecDepth 20000 in
theorem w_265_25 {a0 : Nat}  {h : hh_T} {Q : Option Value ⊕ Nat → hh_T → Prop} (H : ∀ a1 h2, a1 = hh_sz h → h2 = hh_al h 102 4 4 → (gm_sub (hh_tg h2 a0) 17 = true ∧ (∀ h4, h4 = hh_wr h2 a0 2 (some a1) → (∀ a5 h6, a5 = hh_sz h4 → h6 = hh_al h4 100 8 8 → (gm_sub (hh_tg h6 a0) 17 = true ∧ (∀ h8, h8 = hh_wr h6 a0 3 (some a5) → (∀ a9 h10, a9 = hh_sz h8 → h10 = hh_al h8 100 8 8 → (gm_sub (hh_tg h10 a0) 17 = true ∧ (∀ h12, h12 = hh_wr h10 a0 4 (some a9) → (gm_G 265 48 [some (.ref a0)] [] h12 Q)))))))))) : gm_G 265 25 [some (.ref a0)] [] h Q := by
  refine g_aload (r := some _) rfl rfl rfl (pc' := 26) ?_
  refine g_iconst rfl rfl rfl (pc' := 27) ?_
  refine g_newarray rfl (u := 102) (n := 4) rfl (by decide) rfl (by decide) (pc' := 29) rfl ?_
  replace H := H _ _ rfl rfl
  obtain ⟨ht3, H⟩ := H
  refine g_putR (x := some _) rfl rfl rfl rfl ht3  (pc' := 32) rfl ?_
  replace H := H _ rfl
  refine g_aload (r := some _) rfl rfl rfl (pc' := 33) ?_
  refine g_iconst rfl rfl rfl (pc' := 35) ?_
  refine g_newarray rfl (u := 100) (n := 8) rfl (by decide) rfl (by decide) (pc' := 37) rfl ?_
  replace H := H _ _ rfl rfl
  obtain ⟨ht7, H⟩ := H
  refine g_putR (x := some _) rfl rfl rfl rfl ht7  (pc' := 40) rfl ?_
  replace H := H _ rfl
  refine g_aload (r := some _) rfl rfl rfl (pc' := 41) ?_
  refine g_iconst rfl rfl rfl (pc' := 43) ?_
  refine g_newarray rfl (u := 100) (n := 8) rfl (by decide) rfl (by decide) (pc' := 45) rfl ?_
  replace H := H _ _ rfl rfl
  obtain ⟨ht11, H⟩ := H
  refine g_putR (x := some _) rfl rfl rfl rfl ht11  (pc' := 48) rfl ?_
  replace H := H _ rfl
  exact g_weak (show gm_Lle [some _] _ from ⟨rfl, trivial⟩) H
set_option maxRecDepth 20000 in
theorem w_265_48 {a0 : Nat}  {h : hh_T} {Q : Option Value ⊕ Nat → hh_T → Prop} (H : gm_G 265 50 [some (.ref a0), none, some (.int (Int32.ofNat 0))] [] h Q) : gm_G 265 48 [some (.ref a0)] [] h Q := by
  refine g_iconst rfl rfl rfl (pc' := 49) ?_
  refine g_istore rfl rfl rfl (pc' := 50) ?_
  exact g_weak (show gm_Lle [some _, none, some _] _ from ⟨rfl, ⟨rfl, trivial⟩⟩) H
set_option maxRecDepth 20000 in
theorem w_265_50 {a0 : Nat} {x2 : Int32} {h : hh_T} {Q : Option Value ⊕ Nat → hh_T → Prop} (H : (¬ x2 < (Int32.ofNat 4) → (Q (.inl none) h)) ∧ (x2 < (Int32.ofNat 4) → (gm_sub (hh_tg h a0) 17 = true ∧ (∀ r2, r2 = hh_r h a0 0 → (∀ a3 h4, a3 = hh_sz h → h4 = hh_al h 13 0 2 → (gm_G 62 0 [some (.ref a3), some (.int (Int32.ofNat 320))] [] h4 (pV (fun h5 => ∃ a6, r2 = some a6 ∧ (200 ≤ hh_tg h5 a6 ∧ (gm_as (hh_tg h5 a6) (hh_tg h5 a3) = true) ∧ (∃ n7, gm_ix x2 n7 (hh_ln h5 a6) ∧ (∀ h8, h8 = hh_wr h5 a6 n7 (some a3) → (gm_sub (hh_tg h8 a0) 17 = true ∧ (∀ r10, r10 = hh_r h8 a0 1 → (∀ a11 h12, a11 = hh_sz h8 → h12 = hh_al h8 13 0 2 → (gm_G 62 0 [some (.ref a11), some (.int (Int32.ofNat 320))] [] h12 (pV (fun h13 => ∃ a14, r10 = some a14 ∧ (200 ≤ hh_tg h13 a14 ∧ (gm_as (hh_tg h13 a14) (hh_tg h13 a11) = true) ∧ (∃ n15, gm_ix x2 n15 (hh_ln h13 a14) ∧ (∀ h16, h16 = hh_wr h13 a14 n15 (some a11) → (gm_G 265 87 [some (.ref a0), none, some (.int x2)] [] h16 Q))))) (fun e17 h18 => hh_tg h18 e17 = 21 ∧ Q (.inr e17) h18)))))))))) (fun e19 h20 => hh_tg h20 e19 = 21 ∧ Q (.inr e19) h20)))))))) : gm_G 265 50 [some (.ref a0), none, some (.int x2)] [] h Q := by
  refine g_iload rfl rfl rfl (pc' := 51) ?_
  refine g_iconst rfl rfl rfl (pc' := 52) ?_
  refine g_ic_ge rfl (pc' := 55) (pt := 93) rfl rfl ⟨fun hc => ?_, fun hc => ?_⟩
  · replace H := H.1 hc
    exact g_return rfl H
  · replace H := H.2 hc
    refine g_aload (r := some _) rfl rfl rfl (pc' := 56) ?_
    obtain ⟨ht1, H⟩ := H
    refine g_getRv rfl rfl rfl rfl ht1 (pc' := 59) rfl (fun r2 hr2 => ?_)
    replace H := H r2 hr2
    refine g_iload rfl rfl rfl (pc' := 60) ?_
    refine g_new rfl (t := 13) (s := 2) rfl rfl (pc' := 63) rfl ?_
    replace H := H _ _ rfl rfl
    refine g_dup_a (r := some _) rfl rfl (pc' := 64) ?_
    refine g_iconst rfl rfl rfl (pc' := 67) ?_
    refine g_call rfl (y := 62) (n := 2) (pc' := 70) (fun _ => rfl) rfl rfl ⟨(Nat.le_of_ble_eq_true rfl), (Nat.le_of_ble_eq_true rfl), (Nat.le_of_ble_eq_true rfl)⟩ rfl (gm_G.mono H (pV_elim (fun h5 H' => ?_) (fun e19 h20 H => ?_)))
    · show gm_G _ 70 _ _ _ _
      replace H := H'
      clear H'
      obtain ⟨a6, rfl, H⟩ := H
      obtain ⟨Ha, Hb, H⟩ := H
      obtain ⟨n7, hn7, H⟩ := H
      refine g_aastore (r := some _) rfl Ha (fun b hb => by cases hb; exact Hb) hn7 (pc' := 71) rfl ?_
      replace H := H _ rfl
      refine g_aload (r := some _) rfl rfl rfl (pc' := 72) ?_
      obtain ⟨ht9, H⟩ := H
      refine g_getRv rfl rfl rfl rfl ht9 (pc' := 75) rfl (fun r10 hr10 => ?_)
      replace H := H r10 hr10
      refine g_iload rfl rfl rfl (pc' := 76) ?_
      refine g_new rfl (t := 13) (s := 2) rfl rfl (pc' := 79) rfl ?_
      replace H := H _ _ rfl rfl
      refine g_dup_a (r := some _) rfl rfl (pc' := 80) ?_
      refine g_iconst rfl rfl rfl (pc' := 83) ?_
      refine g_call rfl (y := 62) (n := 2) (pc' := 86) (fun _ => rfl) rfl rfl ⟨(Nat.le_of_ble_eq_true rfl), (Nat.le_of_ble_eq_true rfl), (Nat.le_of_ble_eq_true rfl)⟩ rfl (gm_G.mono H (pV_elim (fun h13 H' => ?_) (fun e17 h18 H => ?_)))
      · show gm_G _ 86 _ _ _ _
        replace H := H'
        clear H'
        obtain ⟨a14, rfl, H⟩ := H
        obtain ⟨Ha, Hb, H⟩ := H
        obtain ⟨n15, hn15, H⟩ := H
        refine g_aastore (r := some _) rfl Ha (fun b hb => by cases hb; exact Hb) hn15 (pc' := 87) rfl ?_
        replace H := H _ rfl
        exact g_weak (show gm_Lle [some _, none, some _] _ from ⟨rfl, ⟨rfl, trivial⟩⟩) H
      · exact H
    · exact H
set_option maxRecDepth 20000 in
theorem w_265_87 {a0 : Nat} {x2 : Int32} {h : hh_T} {Q : Option Value ⊕ Nat → hh_T → Prop} (H : gm_G 265 50 [some (.ref a0), none, some (.int (x2 + (Int32.ofNat 1)))] [] h Q) : gm_G 265 87 [some (.ref a0), none, some (.int x2)] [] h Q := by
  refine g_iinc (c := (Int32.ofNat 1)) rfl rfl rfl rfl rfl (pc' := 90) ?_
  refine g_goto rfl (pc' := 50) rfl ?_
  exact g_weak (show gm_Lle [some _, none, some _] _ from ⟨rfl, ⟨rfl, trivial⟩⟩) H
set_option maxRecDepth 20000 in
theorem w_266_0 {a0 : Nat} {x1 : Int32} {x2 : Int32} {h : hh_T} {Q : Option Value ⊕ Nat → hh_T → Prop} (H : hh_tg h a0 = 18 ∧ (gm_G 85 0 [some (.ref a0), some (.int x1)] [] h (pI (fun v3 h2 => (¬ v3 < Int32.ofNat 0 → (gm_G 266 25 [some (.ref a0), some (.int x1), some (.int x2), some (.int v3)] [] h2 Q)) ∧ (v3 < Int32.ofNat 0 → (gm_sub (hh_tg h2 a0) 17 = true ∧ (∀ h5, h5 = hh_wi h2 a0 5 ((hh_i h2 a0 5) + (Int32.ofNat 1)) → (gm_G 266 25 [some (.ref a0), some (.int x1), some (.int x2), some (.int (hh_i h2 a0 5))] [] h5 Q))))) (fun e6 h7 => hh_tg h7 e6 = 21 ∧ Q (.inr e6) h7)))) : gm_G 266 0 [some (.ref a0), some (.int x1), some (.int x2)] [] h Q := by
  refine g_aload (r := some _) rfl rfl rfl (pc' := 1) ?_
  refine g_iload rfl rfl rfl (pc' := 2) ?_
  obtain ⟨ht1, H⟩ := H
  refine g_call rfl (y := 85) (n := 2) (pc' := 5) (g_vt ht1 rfl rfl) rfl rfl ⟨(Nat.le_of_ble_eq_true rfl), (Nat.le_of_ble_eq_true rfl), (Nat.le_of_ble_eq_true rfl)⟩ rfl (gm_G.mono H (pI_elim (fun v3 h2 H' => ?_) (fun e6 h7 H => ?_)))
  · show gm_G _ 5 _ _ _ _
    replace H := H'
    clear H'
    refine g_istore rfl rfl rfl (pc' := 6) ?_
    refine g_iload rfl rfl rfl (pc' := 7) ?_
    refine g_if_ge rfl (pc' := 10) (pt := 25) rfl rfl ⟨fun hc => ?_, fun hc => ?_⟩
    · replace H := H.1 hc
      exact g_weak (show gm_Lle [some _, some _, some _, some _] _ from ⟨rfl, ⟨rfl, ⟨rfl, ⟨rfl, trivial⟩⟩⟩⟩) H
    · replace H := H.2 hc
      refine g_aload (r := some _) rfl rfl rfl (pc' := 11) ?_
      obtain ⟨ht4, H⟩ := H
      refine g_getI rfl rfl rfl rfl ht4 (pc' := 14) rfl ?_
      refine g_istore rfl rfl rfl (pc' := 15) ?_
      refine g_aload (r := some _) rfl rfl rfl (pc' := 16) ?_
      refine g_dup_a (r := some _) rfl rfl (pc' := 17) ?_
      refine g_getI rfl rfl rfl rfl ht4 (pc' := 20) rfl ?_
      refine g_iconst rfl rfl rfl (pc' := 21) ?_
      refine g_iadd rfl rfl (pc' := 22) ?_
      refine g_putI rfl rfl rfl rfl ht4  (pc' := 25) rfl ?_
      replace H := H _ rfl
      exact g_weak (show gm_Lle [some _, some _, some _, some _] _ from ⟨rfl, ⟨rfl, ⟨rfl, ⟨rfl, trivial⟩⟩⟩⟩) H
  · exact H
set_option maxRecDepth 20000 in
theorem w_266_25 {a0 : Nat} {x1 : Int32} {x2 : Int32} {x3 : Int32} {h : hh_T} {Q : Option Value ⊕ Nat → hh_T → Prop} (H : gm_sub (hh_tg h a0) 17 = true ∧ (∀ r2, r2 = hh_r h a0 3 → (∃ a3, r2 = some a3 ∧ (hh_tg h a3 = 100 ∧ (∃ n4, gm_ix x3 n4 (hh_ln h a3) ∧ (∀ h5, h5 = hh_wi h a3 n4 x1 → (∀ r6, r6 = hh_r h5 a0 4 → (∃ a7, r6 = some a7 ∧ (hh_tg h5 a7 = 100 ∧ (∃ n8, gm_ix x3 n8 (hh_ln h5 a7) ∧ (∀ h9, h9 = hh_wi h5 a7 n8 x2 → (Q (.inl none) h9)))))))))))) : gm_G 266 25 [some (.ref a0), some (.int x1), some (.int x2), some (.int x3)] [] h Q := by
  refine g_aload (r := some _) rfl rfl rfl (pc' := 26) ?_
  obtain ⟨ht1, H⟩ := H
  refine g_getRv rfl rfl rfl rfl ht1 (pc' := 29) rfl (fun r2 hr2 => ?_)
  replace H := H r2 hr2
  refine g_iload rfl rfl rfl (pc' := 30) ?_
  refine g_iload rfl rfl rfl (pc' := 31) ?_
  obtain ⟨a3, rfl, H⟩ := H
  obtain ⟨ht11, H⟩ := H
  obtain ⟨n4, hn4, H⟩ := H
  refine g_iastore rfl ht11 hn4  (pc' := 32) rfl ?_
  replace H := H _ rfl
  refine g_aload (r := some _) rfl rfl rfl (pc' := 33) ?_
  refine g_getRv rfl rfl rfl rfl ht1 (pc' := 36) rfl (fun r6 hr6 => ?_)
  replace H := H r6 hr6
  refine g_iload rfl rfl rfl (pc' := 37) ?_
  refine g_iload rfl rfl rfl (pc' := 38) ?_
  obtain ⟨a7, rfl, H⟩ := H
  obtain ⟨ht10, H⟩ := H
  obtain ⟨n8, hn8, H⟩ := H
  refine g_iastore rfl ht10 hn8  (pc' := 39) rfl ?_
  replace H := H _ rfl
  exact g_return rfl H
set_option maxRecDepth 20000 in
theorem w_267_0 {a0 : Nat} {x1 : Int32} {h : hh_T} {Q : Option Value ⊕ Nat → hh_T → Prop} (H : hh_tg h a0 = 18 ∧ (gm_G 85 0 [some (.ref a0), some (.int x1)] [] h (pI (fun v3 h2 => (¬ v3 < Int32.ofNat 0 → (gm_sub (hh_tg h2 a0) 17 = true ∧ (∀ r5, r5 = hh_r h2 a0 4 → (∃ a6, r5 = some a6 ∧ ((hh_tg h2 a6 = 100 ∨ hh_tg h2 a6 = 105) ∧ (∃ n7, gm_ix v3 n7 (hh_ln h2 a6) ∧ (Q (.inl (some (.int (hh_i h2 a6 n7)))) h2))))))) ∧ (v3 < Int32.ofNat 0 → (Q (.inl (some (.int (Int32.ofInt (-2))))) h2))) (fun e9 h10 => hh_tg h10 e9 = 21 ∧ Q (.inr e9) h10)))) : gm_G 267 0 [some (.ref a0), some (.int x1)] [] h Q := by
  refine g_aload (r := some _) rfl rfl rfl (pc' := 1) ?_
  refine g_iload rfl rfl rfl (pc' := 2) ?_
  obtain ⟨ht1, H⟩ := H
  refine g_call rfl (y := 85) (n := 2) (pc' := 5) (g_vt ht1 rfl rfl) rfl rfl ⟨(Nat.le_of_ble_eq_true rfl), (Nat.le_of_ble_eq_true rfl), (Nat.le_of_ble_eq_true rfl)⟩ rfl (gm_G.mono H (pI_elim (fun v3 h2 H' => ?_) (fun e9 h10 H => ?_)))
  · show gm_G _ 5 _ _ _ _
    replace H := H'
    clear H'
    refine g_istore rfl rfl rfl (pc' := 6) ?_
    refine g_iload rfl rfl rfl (pc' := 7) ?_
    refine g_if_ge rfl (pc' := 10) (pt := 15) rfl rfl ⟨fun hc => ?_, fun hc => ?_⟩
    · replace H := H.1 hc
      refine g_aload (r := some _) rfl rfl rfl (pc' := 16) ?_
      obtain ⟨ht4, H⟩ := H
      refine g_getRv rfl rfl rfl rfl ht4 (pc' := 19) rfl (fun r5 hr5 => ?_)
      replace H := H r5 hr5
      refine g_iload rfl rfl rfl (pc' := 20) ?_
      obtain ⟨a6, rfl, H⟩ := H
      obtain ⟨ht8, H⟩ := H
      obtain ⟨n7, hn7, H⟩ := H
      refine g_iaload rfl ht8 hn7 (pc' := 21) rfl ?_
      exact g_ireturn rfl (Or.inl rfl) H
    · replace H := H.2 hc
      refine g_iconst rfl rfl rfl (pc' := 12) ?_
      refine g_goto rfl (pc' := 21) rfl ?_
      exact g_ireturn rfl (Or.inl rfl) H
  · exact H
set_option maxRecDepth 20000 in
theorem w_268_0 {a0 : Nat} {x1 : Int32} {h : hh_T} {Q : Option Value ⊕ Nat → hh_T → Prop} (H : hh_tg h a0 = 18 ∧ (gm_G 85 0 [some (.ref a0), some (.int x1)] [] h (pI (fun v3 h2 => (¬ v3 < Int32.ofNat 0 → (gm_sub (hh_tg h2 a0) 17 = true ∧ (∀ h5, h5 = hh_wi h2 a0 5 ((hh_i h2 a0 5) - (Int32.ofNat 1)) → (∀ r6, r6 = hh_r h5 a0 3 → (∀ r7, r7 = hh_r h5 a0 3 → (∃ a8, r7 = some a8 ∧ ((hh_tg h5 a8 = 100 ∨ hh_tg h5 a8 = 105) ∧ (∃ n9, gm_ix (hh_i h5 a0 5) n9 (hh_ln h5 a8) ∧ (∃ a11, r6 = some a11 ∧ (hh_tg h5 a11 = 100 ∧ (∃ n12, gm_ix v3 n12 (hh_ln h5 a11) ∧ (∀ h13, h13 = hh_wi h5 a11 n12 (hh_i h5 a8 n9) → (∀ r14, r14 = hh_r h13 a0 4 → (∀ r15, r15 = hh_r h13 a0 4 → (∃ a16, r15 = some a16 ∧ ((hh_tg h13 a16 = 100 ∨ hh_tg h13 a16 = 105) ∧ (∃ n17, gm_ix (hh_i h13 a0 5) n17 (hh_ln h13 a16) ∧ (∃ a19, r14 = some a19 ∧ (hh_tg h13 a19 = 100 ∧ (∃ n20, gm_ix v3 n20 (hh_ln h13 a19) ∧ (∀ h21, h21 = hh_wi h13 a19 n20 (hh_i h13 a16 n17) → (Q (.inl none) h21)))))))))))))))))))))) ∧ (v3 < Int32.ofNat 0 → (Q (.inl none) h2))) (fun e24 h25 => hh_tg h25 e24 = 21 ∧ Q (.inr e24) h25)))) : gm_G 268 0 [some (.ref a0), some (.int x1)] [] h Q := by
  refine g_aload (r := some _) rfl rfl rfl (pc' := 1) ?_
  refine g_iload rfl rfl rfl (pc' := 2) ?_
  obtain ⟨ht1, H⟩ := H
  refine g_call rfl (y := 85) (n := 2) (pc' := 5) (g_vt ht1 rfl rfl) rfl rfl ⟨(Nat.le_of_ble_eq_true rfl), (Nat.le_of_ble_eq_true rfl), (Nat.le_of_ble_eq_true rfl)⟩ rfl (gm_G.mono H (pI_elim (fun v3 h2 H' => ?_) (fun e24 h25 H => ?_)))
  · show gm_G _ 5 _ _ _ _
    replace H := H'
    clear H'
    refine g_istore rfl rfl rfl (pc' := 6) ?_
    refine g_iload rfl rfl rfl (pc' := 7) ?_
    refine g_if_ge rfl (pc' := 10) (pt := 11) rfl rfl ⟨fun hc => ?_, fun hc => ?_⟩
    · replace H := H.1 hc
      refine g_aload (r := some _) rfl rfl rfl (pc' := 12) ?_
      refine g_dup_a (r := some _) rfl rfl (pc' := 13) ?_
      obtain ⟨ht4, H⟩ := H
      refine g_getI rfl rfl rfl rfl ht4 (pc' := 16) rfl ?_
      refine g_iconst rfl rfl rfl (pc' := 17) ?_
      refine g_isub rfl rfl (pc' := 18) ?_
      refine g_putI rfl rfl rfl rfl ht4  (pc' := 21) rfl ?_
      replace H := H _ rfl
      refine g_aload (r := some _) rfl rfl rfl (pc' := 22) ?_
      refine g_getRv rfl rfl rfl rfl ht4 (pc' := 25) rfl (fun r6 hr6 => ?_)
      replace H := H r6 hr6
      refine g_iload rfl rfl rfl (pc' := 26) ?_
      refine g_aload (r := some _) rfl rfl rfl (pc' := 27) ?_
      refine g_getRv rfl rfl rfl rfl ht4 (pc' := 30) rfl (fun r7 hr7 => ?_)
      replace H := H r7 hr7
      refine g_aload (r := some _) rfl rfl rfl (pc' := 31) ?_
      refine g_getI rfl rfl rfl rfl ht4 (pc' := 34) rfl ?_
      obtain ⟨a8, rfl, H⟩ := H
      obtain ⟨ht10, H⟩ := H
      obtain ⟨n9, hn9, H⟩ := H
      refine g_iaload rfl ht10 hn9 (pc' := 35) rfl ?_
      obtain ⟨a11, rfl, H⟩ := H
      obtain ⟨ht23, H⟩ := H
      obtain ⟨n12, hn12, H⟩ := H
      refine g_iastore rfl ht23 hn12  (pc' := 36) rfl ?_
      replace H := H _ rfl
      refine g_aload (r := some _) rfl rfl rfl (pc' := 37) ?_
      refine g_getRv rfl rfl rfl rfl ht4 (pc' := 40) rfl (fun r14 hr14 => ?_)
      replace H := H r14 hr14
      refine g_iload rfl rfl rfl (pc' := 41) ?_
      refine g_aload (r := some _) rfl rfl rfl (pc' := 42) ?_
      refine g_getRv rfl rfl rfl rfl ht4 (pc' := 45) rfl (fun r15 hr15 => ?_)
      replace H := H r15 hr15
      refine g_aload (r := some _) rfl rfl rfl (pc' := 46) ?_
      refine g_getI rfl rfl rfl rfl ht4 (pc' := 49) rfl ?_
      obtain ⟨a16, rfl, H⟩ := H
      obtain ⟨ht18, H⟩ := H
      obtain ⟨n17, hn17, H⟩ := H
      refine g_iaload rfl ht18 hn17 (pc' := 50) rfl ?_
      obtain ⟨a19, rfl, H⟩ := H
      obtain ⟨ht22, H⟩ := H
      obtain ⟨n20, hn20, H⟩ := H
      refine g_iastore rfl ht22 hn20  (pc' := 51) rfl ?_
      replace H := H _ rfl
      exact g_return rfl H
    · replace H := H.2 hc
      exact g_return rfl H
  · exact H
set_option maxRecDepth 20000 in
theorem w_310_0 {a0 : Nat} {r_1 : Option Nat} {j2 : Int64} {h : hh_T} {Q : Option Value ⊕ Nat → hh_T → Prop} (H : gm_G 310 3 [some (.ref a0), some (va_rf r_1), some (.long j2), none, some (.int (Int32.ofNat 0))] [] h Q) : gm_G 310 0 [some (.ref a0), some (va_rf r_1), some (.long j2), none] [] h Q := by
  refine g_iconst rfl rfl rfl (pc' := 1) ?_
  refine g_istore rfl rfl rfl (pc' := 3) ?_
  exact g_weak (show gm_Lle [some _, some _, some _, none, some _] _ from ⟨rfl, ⟨rfl, ⟨rfl, ⟨rfl, trivial⟩⟩⟩⟩) H
set_option maxRecDepth 20000 in
theorem w_310_3 {a0 : Nat} {r_1 : Option Nat} {j2 : Int64} {x4 : Int32} {h : hh_T} {Q : Option Value ⊕ Nat → hh_T → Prop} (H : ∃ a1, r_1 = some a1 ∧ (gm_sub (hh_tg h a1) 23 = true ∧ ((¬ x4 < (hh_i h a1 8) → (Q (.inl (some (va_rf none))) h)) ∧ (x4 < (hh_i h a1 8) → (∀ r3, r3 = hh_r h a1 7 → (∃ a4, r3 = some a4 ∧ ((hh_tg h a4 = 100 ∨ hh_tg h a4 = 105) ∧ (∃ n5, gm_ix x4 n5 (hh_ln h a4) ∧ (hh_tg h a0 = 23 ∧ (gm_G 179 0 [some (.ref a0), some (.int (hh_i h a4 n5))] [] h (pR (fun r9 h8 => ∃ a10, r9 = some a10 ∧ (gm_sub (hh_tg h8 a10) 29 = true ∧ ((¬ (lg_cmp (hh_j h8 a10 4) j2) = Int32.ofNat 0 → (gm_G 310 3 [some (.ref a0), some (.ref a1), some (.long j2), none, some (.int (x4 + (Int32.ofNat 1)))] [] h8 Q)) ∧ ((lg_cmp (hh_j h8 a10 4) j2) = Int32.ofNat 0 → (Q (.inl (some (.ref a10))) h8))))) (fun e12 h13 => hh_tg h13 e12 = 21 ∧ Q (.inr e12) h13)))))))))))) : gm_G 310 3 [some (.ref a0), some (va_rf r_1), some (.long j2), none, some (.int x4)] [] h Q := by
  refine g_iload rfl rfl rfl (pc' := 5) ?_
  refine g_aload (r := _) rfl rfl rfl (pc' := 6) ?_
  obtain ⟨a1, rfl, H⟩ := H
  obtain ⟨ht2, H⟩ := H
  refine g_getI rfl rfl rfl rfl ht2 (pc' := 9) rfl ?_
  refine g_ic_ge rfl (pc' := 12) (pt := 44) rfl rfl ⟨fun hc => ?_, fun hc => ?_⟩
  · replace H := H.1 hc
    refine g_null rfl rfl (pc' := 45) ?_
    exact g_areturn (r := _) rfl H
  · replace H := H.2 hc
    refine g_aload (r := some _) rfl rfl rfl (pc' := 13) ?_
    refine g_aload (r := some _) rfl rfl rfl (pc' := 14) ?_
    refine g_getRv rfl rfl rfl rfl ht2 (pc' := 17) rfl (fun r3 hr3 => ?_)
    replace H := H r3 hr3
    refine g_iload rfl rfl rfl (pc' := 19) ?_
    obtain ⟨a4, rfl, H⟩ := H
    obtain ⟨ht6, H⟩ := H
    obtain ⟨n5, hn5, H⟩ := H
    refine g_iaload rfl ht6 hn5 (pc' := 20) rfl ?_
    obtain ⟨ht7, H⟩ := H
    refine g_call rfl (y := 179) (n := 2) (pc' := 23) (g_vt ht7 rfl rfl) rfl rfl ⟨(Nat.le_of_ble_eq_true rfl), (Nat.le_of_ble_eq_true rfl), (Nat.le_of_ble_eq_true rfl)⟩ rfl (gm_G.mono H (pR_elim (fun r9 h8 H' => ?_) (fun e12 h13 H => ?_)))
    · show gm_G _ 23 _ _ _ _
      replace H := H'
      clear H'
      refine g_astore (r := _) rfl rfl rfl (pc' := 25) ?_
      refine g_aload (r := _) rfl rfl rfl (pc' := 27) ?_
      obtain ⟨a10, rfl, H⟩ := H
      obtain ⟨ht11, H⟩ := H
      refine g_getJ rfl rfl rfl rfl ht11 (pc' := 30) rfl ?_
      refine g_lload rfl rfl rfl (pc' := 31) ?_
      refine g_lcmp rfl rfl (pc' := 32) ?_
      refine g_if_ne rfl (pc' := 35) (pt := 38) rfl rfl ⟨fun hc => ?_, fun hc => ?_⟩
      · replace H := H.1 hc
        refine g_iinc (c := (Int32.ofNat 1)) rfl rfl rfl rfl rfl (pc' := 41) ?_
        refine g_goto rfl (pc' := 3) rfl ?_
        exact g_weak (show gm_Lle [some _, some _, some _, none, some _] _ from ⟨rfl, ⟨rfl, ⟨rfl, ⟨rfl, trivial⟩⟩⟩⟩) H
      · replace H := H.2 hc
        refine g_aload (r := some _) rfl rfl rfl (pc' := 37) ?_
        exact g_areturn (r := some _) rfl H
    · exact H
set_option maxRecDepth 20000 in
theorem w_311_0 {a0 : Nat} {r_1 : Option Nat} {x2 : Int32} {h : hh_T} {Q : Option Value ⊕ Nat → hh_T → Prop} (H : gm_G 311 2 [some (.ref a0), none, some (.int x2), some (va_rf r_1)] [] h Q) : gm_G 311 0 [some (.ref a0), some (va_rf r_1), some (.int x2)] [] h Q := by
  refine g_aload (r := _) rfl rfl rfl (pc' := 1) ?_
  refine g_astore (r := _) rfl rfl rfl (pc' := 2) ?_
  exact g_weak (show gm_Lle [some _, none, some _, some _] _ from ⟨rfl, ⟨rfl, ⟨rfl, trivial⟩⟩⟩) H
set_option maxRecDepth 20000 in
theorem w_311_2 {a0 : Nat} {x2 : Int32} {r_3 : Option Nat} {h : hh_T} {Q : Option Value ⊕ Nat → hh_T → Prop} (H : ∃ a1, r_3 = some a1 ∧ (gm_sub (hh_tg h a1) 23 = true ∧ (∀ r3, r3 = hh_r h a1 5 → (∃ a4, r3 = some a4 ∧ ((hh_tg h a4 = 100 ∨ hh_tg h a4 = 105) ∧ (∃ n5, gm_ix x2 n5 (hh_ln h a4) ∧ ((¬ (hh_i h a4 n5) = (Int32.ofInt (-2)) → (gm_G 311 32 [none, none, some (.int x2), some (.ref a1)] [] h Q)) ∧ ((hh_i h a4 n5) = (Int32.ofInt (-2)) → ((¬ Int32.ofNat 0 < (hh_i h a1 0) → (gm_G 311 32 [none, none, some (.int x2), some (.ref a1)] [] h Q)) ∧ (Int32.ofNat 0 < (hh_i h a1 0) → (hh_tg h a0 = 23 ∧ (gm_G 178 0 [some (.ref a0), some (.int (hh_i h a1 1))] [] h (pR (fun r9 h8 => gm_G 311 2 [some (.ref a0), none, some (.int x2), some (va_rf r9)] [] h8 Q) (fun e10 h11 => hh_tg h11 e10 = 21 ∧ Q (.inr e10) h11)))))))))))))) : gm_G 311 2 [some (.ref a0), none, some (.int x2), some (va_rf r_3)] [] h Q := by
  refine g_aload (r := _) rfl rfl rfl (pc' := 3) ?_
  obtain ⟨a1, rfl, H⟩ := H
  obtain ⟨ht2, H⟩ := H
  refine g_getRv rfl rfl rfl rfl ht2 (pc' := 6) rfl (fun r3 hr3 => ?_)
  replace H := H r3 hr3
  refine g_iload rfl rfl rfl (pc' := 7) ?_
  obtain ⟨a4, rfl, H⟩ := H
  obtain ⟨ht6, H⟩ := H
  obtain ⟨n5, hn5, H⟩ := H
  refine g_iaload rfl ht6 hn5 (pc' := 8) rfl ?_
  refine g_iconst rfl rfl rfl (pc' := 10) ?_
  refine g_ic_ne rfl (pc' := 13) (pt := 32) rfl rfl ⟨fun hc => ?_, fun hc => ?_⟩
  · replace H := H.1 hc
    exact g_weak (show gm_Lle [none, none, some _, some _] _ from ⟨rfl, ⟨rfl, trivial⟩⟩) H
  · replace H := H.2 hc
    refine g_aload (r := some _) rfl rfl rfl (pc' := 14) ?_
    refine g_getI rfl rfl rfl rfl ht2 (pc' := 17) rfl ?_
    refine g_if_le rfl (pc' := 20) (pt := 32) rfl rfl ⟨fun hc => ?_, fun hc => ?_⟩
    · replace H := H.1 hc
      exact g_weak (show gm_Lle [none, none, some _, some _] _ from ⟨rfl, ⟨rfl, trivial⟩⟩) H
    · replace H := H.2 hc
      refine g_aload (r := some _) rfl rfl rfl (pc' := 21) ?_
      refine g_aload (r := some _) rfl rfl rfl (pc' := 22) ?_
      refine g_getI rfl rfl rfl rfl ht2 (pc' := 25) rfl ?_
      obtain ⟨ht7, H⟩ := H
      refine g_call rfl (y := 178) (n := 2) (pc' := 28) (g_vt ht7 rfl rfl) rfl rfl ⟨(Nat.le_of_ble_eq_true rfl), (Nat.le_of_ble_eq_true rfl), (Nat.le_of_ble_eq_true rfl)⟩ rfl (gm_G.mono H (pR_elim (fun r9 h8 H' => ?_) (fun e10 h11 H => ?_)))
      · show gm_G _ 28 _ _ _ _
        replace H := H'
        clear H'
        refine g_astore (r := _) rfl rfl rfl (pc' := 29) ?_
        refine g_goto rfl (pc' := 2) rfl ?_
        exact g_weak (show gm_Lle [some _, none, some _, some _] _ from ⟨rfl, ⟨rfl, ⟨rfl, trivial⟩⟩⟩) H
      · exact H
set_option maxRecDepth 20000 in
theorem w_311_32 {a0 : Nat} {x2 : Int32} {r_3 : Option Nat} {h : hh_T} {Q : Option Value ⊕ Nat → hh_T → Prop} (H : ∃ a1, r_3 = some a1 ∧ (gm_sub (hh_tg h a1) 23 = true ∧ (∀ r3, r3 = hh_r h a1 5 → (∃ a4, r3 = some a4 ∧ ((hh_tg h a4 = 100 ∨ hh_tg h a4 = 105) ∧ (∃ n5, gm_ix x2 n5 (hh_ln h a4) ∧ (((hh_i h a4 n5) = (Int32.ofInt (-2)) → ((¬ x2 = (Int32.ofNat 1) → (Q (.inl (some (.int (Int32.ofNat 0)))) h)) ∧ (x2 = (Int32.ofNat 1) → (Q (.inl (some (.int (Int32.ofNat 1)))) h)))) ∧ (¬ (hh_i h a4 n5) = (Int32.ofInt (-2)) → (∀ r7, r7 = hh_r h a1 5 → (∃ a8, r7 = some a8 ∧ ((hh_tg h a8 = 100 ∨ hh_tg h a8 = 105) ∧ (∃ n9, gm_ix x2 n9 (hh_ln h a8) ∧ (Q (.inl (some (.int (hh_i h a8 n9)))) h))))))))))))) : gm_G 311 32 [none, none, some (.int x2), some (va_rf r_3)] [] h Q := by
  refine g_aload (r := _) rfl rfl rfl (pc' := 33) ?_
  obtain ⟨a1, rfl, H⟩ := H
  obtain ⟨ht2, H⟩ := H
  refine g_getRv rfl rfl rfl rfl ht2 (pc' := 36) rfl (fun r3 hr3 => ?_)
  replace H := H r3 hr3
  refine g_iload rfl rfl rfl (pc' := 37) ?_
  obtain ⟨a4, rfl, H⟩ := H
  obtain ⟨ht6, H⟩ := H
  obtain ⟨n5, hn5, H⟩ := H
  refine g_iaload rfl ht6 hn5 (pc' := 38) rfl ?_
  refine g_iconst rfl rfl rfl (pc' := 40) ?_
  refine g_ic_eq rfl (pc' := 43) (pt := 52) rfl rfl ⟨fun hc => ?_, fun hc => ?_⟩
  · replace H := H.1 hc
    refine g_iload rfl rfl rfl (pc' := 53) ?_
    refine g_iconst rfl rfl rfl (pc' := 54) ?_
    refine g_ic_ne rfl (pc' := 57) (pt := 61) rfl rfl ⟨fun hc => ?_, fun hc => ?_⟩
    · replace H := H.1 hc
      refine g_iconst rfl rfl rfl (pc' := 62) ?_
      exact g_ireturn rfl (Or.inl rfl) H
    · replace H := H.2 hc
      refine g_iconst rfl rfl rfl (pc' := 58) ?_
      refine g_goto rfl (pc' := 62) rfl ?_
      exact g_ireturn rfl (Or.inl rfl) H
  · replace H := H.2 hc
    refine g_aload (r := some _) rfl rfl rfl (pc' := 44) ?_
    refine g_getRv rfl rfl rfl rfl ht2 (pc' := 47) rfl (fun r7 hr7 => ?_)
    replace H := H r7 hr7
    refine g_iload rfl rfl rfl (pc' := 48) ?_
    obtain ⟨a8, rfl, H⟩ := H
    obtain ⟨ht10, H⟩ := H
    obtain ⟨n9, hn9, H⟩ := H
    refine g_iaload rfl ht10 hn9 (pc' := 49) rfl ?_
    refine g_goto rfl (pc' := 62) rfl ?_
    exact g_ireturn rfl (Or.inl rfl) H
