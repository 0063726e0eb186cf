/-! STAGE 2, 7: the component, label by label (printed) -/
set_option maxRecDepth 20000 in
theorem w_430_58 {a0 : Nat} {r_3 : Option Nat} {h : hh_T} {Q : Option Value ⊕ Nat → hh_T → Prop} (H : hh_tg h a0 = 40 ∧ (gm_G 206 0 [some (.ref a0), some (va_rf r_3)] [] h (pV (fun h2 => Q (.inl none) h2) (fun e3 h4 => hh_tg h4 e3 = 21 ∧ Q (.inr e3) h4)))) : gm_G 430 58 [some (.ref a0), none, none, some (va_rf r_3)] [] h Q := by
  refine g_aload (r := some _) rfl rfl rfl (pc' := 59) ?_
  refine g_aload (r := _) rfl rfl rfl (pc' := 60) ?_
  obtain ⟨ht1, H⟩ := H
  refine g_call rfl (y := 206) (n := 2) (pc' := 63) (g_vt ht1 rfl rfl) (by cases r_3 <;> rfl) rfl ⟨(Nat.le_of_ble_eq_true rfl), (Nat.le_of_ble_eq_true rfl), (Nat.le_of_ble_eq_true rfl)⟩ rfl (gm_G.mono H (pV_elim (fun h2 H' => ?_) (fun e3 h4 H => ?_)))
  · show gm_G _ 63 _ _ _ _
    replace H := H'
    clear H'
    exact g_return rfl H
  · exact H
set_option maxRecDepth 20000 in
theorem w_431_0  {x0 : Int32} {x1 : Int32} {h : hh_T} {Q : Option Value ⊕ Nat → hh_T → Prop} (H : (¬ x0 = Int32.ofNat 0 → (Q (.inl none) h)) ∧ (x0 = Int32.ofNat 0 → (∀ a1 h2, a1 = hh_sz h → h2 = hh_al h 21 0 7 → (gm_G 425 0 [some (.ref a1), some (.int x1)] [] h2 (pV (fun h3 => hh_tg h3 a1 = 21 ∧ Q (.inr a1) h3) (fun e4 h5 => hh_tg h5 e4 = 21 ∧ Q (.inr e4) h5)))))) : gm_G 431 0 [some (.int x0), some (.int x1)] [] h Q := by
  refine g_iload rfl rfl rfl (pc' := 1) ?_
  refine g_if_ne rfl (pc' := 4) (pt := 13) rfl rfl ⟨fun hc => ?_, fun hc => ?_⟩
  · replace H := H.1 hc
    exact g_return rfl H
  · replace H := H.2 hc
    refine g_new rfl (t := 21) (s := 7) rfl rfl (pc' := 7) rfl ?_
    replace H := H _ _ rfl rfl
    refine g_dup_a (r := some _) rfl rfl (pc' := 8) ?_
    refine g_iload rfl rfl rfl (pc' := 9) ?_
    refine g_call rfl (y := 425) (n := 2) (pc' := 12) (fun _ => rfl) rfl rfl ⟨(Nat.le_of_ble_eq_true rfl), (Nat.le_of_ble_eq_true rfl), (Nat.le_of_ble_eq_true rfl)⟩ rfl (gm_G.mono H (pV_elim (fun h3 H' => ?_) (fun e4 h5 H => ?_)))
    · show gm_G _ 12 _ _ _ _
      replace H := H'
      clear H'
      exact g_throw rfl H.1 rfl H.2
    · exact H
set_option maxRecDepth 20000 in
theorem w_432_0 {a0 : Nat} {r_1 : Option Nat} {h : hh_T} {Q : Option Value ⊕ Nat → hh_T → Prop} (H : ∃ a1, r_1 = some a1 ∧ (gm_sub (hh_tg h a1) 24 = true ∧ (∀ h3, h3 = hh_wi h a1 0 ((hh_i h a1 0) - (Int32.ofNat 1)) → ((¬ Int32.ofNat 0 < (hh_i h3 a1 0) → (gm_G 432 20 [some (.ref a0), some (.ref a1), some (.int (Int32.ofNat 0))] [] h3 Q)) ∧ (Int32.ofNat 0 < (hh_i h3 a1 0) → (Q (.inl none) h3)))))) : gm_G 432 0 [some (.ref a0), some (va_rf r_1)] [] h Q := by
  refine g_aload (r := _) rfl rfl rfl (pc' := 1) ?_
  refine g_dup_a (r := _) rfl rfl (pc' := 2) ?_
  obtain ⟨a1, rfl, H⟩ := H
  obtain ⟨ht2, H⟩ := H
  refine g_getI rfl rfl rfl rfl ht2 (pc' := 5) rfl ?_
  refine g_iconst rfl rfl rfl (pc' := 6) ?_
  refine g_isub rfl rfl (pc' := 7) ?_
  refine g_putI rfl rfl rfl rfl ht2  (pc' := 10) rfl ?_
  replace H := H _ rfl
  refine g_aload (r := some _) rfl rfl rfl (pc' := 11) ?_
  refine g_getI rfl rfl rfl rfl ht2 (pc' := 14) rfl ?_
  refine g_if_le rfl (pc' := 17) (pt := 18) rfl rfl ⟨fun hc => ?_, fun hc => ?_⟩
  · replace H := H.1 hc
    refine g_iconst rfl rfl rfl (pc' := 19) ?_
    refine g_istore rfl rfl rfl (pc' := 20) ?_
    exact g_weak (show gm_Lle [some _, some _, some _] _ from ⟨rfl, ⟨rfl, ⟨rfl, trivial⟩⟩⟩) H
  · replace H := H.2 hc
    exact g_return rfl H
set_option maxRecDepth 20000 in
theorem w_432_20 {a0 : Nat} {r_1 : Option Nat} {x2 : Int32} {h : hh_T} {Q : Option Value ⊕ Nat → hh_T → Prop} (H : (¬ x2 < (Int32.ofNat 16) → (gm_sub (hh_tg h a0) 0 = true ∧ (∀ r2, r2 = hh_r h a0 32 → (∃ a3, r_1 = some a3 ∧ (gm_sub (hh_tg h a3) 24 = true ∧ (∀ h5, h5 = hh_wr h a3 3 r2 → (∀ h6, h6 = hh_wr h5 a0 32 (some a3) → (Q (.inl none) h6)))))))) ∧ (x2 < (Int32.ofNat 16) → (∃ a7, r_1 = some a7 ∧ (gm_sub (hh_tg h a7) 24 = true ∧ (∀ r9, r9 = hh_r h a7 2 → (∃ a10, r9 = some a10 ∧ ((hh_tg h a10 = 104 ∨ 200 ≤ hh_tg h a10) ∧ (∃ n11, gm_ix x2 n11 (hh_ln h a10) ∧ (∀ r13, r13 = hh_r h a10 n11 → ((r13 = none → (gm_G 432 45 [some (.ref a0), some (.ref a7), some (.int x2)] [] h Q)) ∧ (∀ a14, r13 = some a14 → (∀ r15, r15 = hh_r h a7 2 → (∃ a16, r15 = some a16 ∧ ((hh_tg h a16 = 104 ∨ 200 ≤ hh_tg h a16) ∧ (∃ n17, gm_ix x2 n17 (hh_ln h a16) ∧ (∀ r19, r19 = hh_r h a16 n17 → (hh_tg h a0 = 1 ∧ (gm_G 415 0 [some (.ref a0), some (va_rf r19)] [] h (pV (fun h21 => gm_G 432 45 [some (.ref a0), some (.ref a7), some (.int x2)] [] h21 Q) (fun e22 h23 => hh_tg h23 e22 = 21 ∧ Q (.inr e22) h23)))))))))))))))))))) : gm_G 432 20 [some (.ref a0), some (va_rf r_1), some (.int x2)] [] h Q := by
  refine g_iload rfl rfl rfl (pc' := 21) ?_
  refine g_iconst rfl rfl rfl (pc' := 23) ?_
  refine g_ic_ge rfl (pc' := 26) (pt := 58) rfl rfl ⟨fun hc => ?_, fun hc => ?_⟩
  · replace H := H.1 hc
    refine g_aload (r := _) rfl rfl rfl (pc' := 59) ?_
    refine g_aload (r := some _) rfl rfl rfl (pc' := 60) ?_
    obtain ⟨ht1, H⟩ := H
    refine g_getRv rfl rfl rfl rfl ht1 (pc' := 63) rfl (fun r2 hr2 => ?_)
    replace H := H r2 hr2
    obtain ⟨a3, rfl, H⟩ := H
    obtain ⟨ht4, H⟩ := H
    refine g_putR rfl rfl rfl rfl ht4  (pc' := 66) rfl ?_
    replace H := H _ rfl
    refine g_aload (r := some _) rfl rfl rfl (pc' := 67) ?_
    refine g_aload (r := some _) rfl rfl rfl (pc' := 68) ?_
    refine g_putR (x := some _) rfl rfl rfl rfl ht1  (pc' := 71) rfl ?_
    replace H := H _ rfl
    exact g_return rfl H
  · replace H := H.2 hc
    refine g_aload (r := _) rfl rfl rfl (pc' := 27) ?_
    obtain ⟨a7, rfl, H⟩ := H
    obtain ⟨ht8, H⟩ := H
    refine g_getRv rfl rfl rfl rfl ht8 (pc' := 30) rfl (fun r9 hr9 => ?_)
    replace H := H r9 hr9
    refine g_iload rfl rfl rfl (pc' := 31) ?_
    obtain ⟨a10, rfl, H⟩ := H
    obtain ⟨ht12, H⟩ := H
    obtain ⟨n11, hn11, H⟩ := H
    refine g_aaloadv rfl ht12 hn11 (pc' := 32) rfl (fun r13 hr13 => ?_)
    replace H := H r13 hr13
    refine g_ifnull rfl (pc' := 35) (pt := 45) rfl rfl ⟨fun hc => ?_, fun a14 hc => ?_⟩
    · replace H := H.1 hc
      subst hc
      exact g_weak (show gm_Lle [some _, some _, some _] _ from ⟨rfl, ⟨rfl, ⟨rfl, trivial⟩⟩⟩) H
    · replace H := H.2 a14 hc
      subst hc
      refine g_aload (r := some _) rfl rfl rfl (pc' := 36) ?_
      refine g_aload (r := some _) rfl rfl rfl (pc' := 37) ?_
      refine g_getRv rfl rfl rfl rfl ht8 (pc' := 40) rfl (fun r15 hr15 => ?_)
      replace H := H r15 hr15
      refine g_iload rfl rfl rfl (pc' := 41) ?_
      obtain ⟨a16, rfl, H⟩ := H
      obtain ⟨ht18, H⟩ := H
      obtain ⟨n17, hn17, H⟩ := H
      refine g_aaloadv rfl ht18 hn17 (pc' := 42) rfl (fun r19 hr19 => ?_)
      replace H := H r19 hr19
      obtain ⟨ht20, H⟩ := H
      refine g_call rfl (y := 415) (n := 2) (pc' := 45) (g_vt ht20 rfl rfl) (by cases r19 <;> rfl) rfl ⟨(Nat.le_of_ble_eq_true rfl), (Nat.le_of_ble_eq_true rfl), (Nat.le_of_ble_eq_true rfl)⟩ rfl (gm_G.mono H (pV_elim (fun h21 H' => ?_) (fun e22 h23 H => ?_)))
      · show gm_G _ 45 _ _ _ _
        replace H := H'
        clear H'
        exact g_weak (show gm_Lle [some _, some _, some _] _ from ⟨rfl, ⟨rfl, ⟨rfl, trivial⟩⟩⟩) H
      · exact H
set_option maxRecDepth 20000 in
theorem w_432_45 {a0 : Nat} {r_1 : Option Nat} {x2 : Int32} {h : hh_T} {Q : Option Value ⊕ Nat → hh_T → Prop} (H : ∃ a1, r_1 = some a1 ∧ (gm_sub (hh_tg h a1) 24 = true ∧ (∀ r3, r3 = hh_r h a1 2 → (∃ a4, r3 = some a4 ∧ (200 ≤ hh_tg h a4 ∧ (True) ∧ (∃ n5, gm_ix x2 n5 (hh_ln h a4) ∧ (∀ h6, h6 = hh_wr h a4 n5 none → (gm_G 432 20 [some (.ref a0), some (.ref a1), some (.int (x2 + (Int32.ofNat 1)))] [] h6 Q)))))))) : gm_G 432 45 [some (.ref a0), some (va_rf r_1), some (.int x2)] [] h Q := by
  refine g_aload (r := _) rfl rfl rfl (pc' := 46) ?_
  obtain ⟨a1, rfl, H⟩ := H
  obtain ⟨ht2, H⟩ := H
  refine g_getRv rfl rfl rfl rfl ht2 (pc' := 49) rfl (fun r3 hr3 => ?_)
  replace H := H r3 hr3
  refine g_iload rfl rfl rfl (pc' := 50) ?_
  refine g_null rfl rfl (pc' := 51) ?_
  obtain ⟨a4, rfl, H⟩ := H
  obtain ⟨Ha, Hb, H⟩ := H
  obtain ⟨n5, hn5, H⟩ := H
  refine g_aastore (r := _) rfl Ha (fun b hb => by cases hb) hn5 (pc' := 52) rfl ?_
  replace H := H _ rfl
  refine g_iinc (c := (Int32.ofNat 1)) rfl rfl rfl rfl rfl (pc' := 55) ?_
  refine g_goto rfl (pc' := 20) rfl ?_
  exact g_weak (show gm_Lle [some _, some _, some _] _ from ⟨rfl, ⟨rfl, ⟨rfl, trivial⟩⟩⟩) H
set_option maxRecDepth 20000 in
theorem w_444_0 {a0 : Nat} {r_1 : Option Nat} {x2 : Int32} {h : hh_T} {Q : Option Value ⊕ Nat → hh_T → Prop} (H : ∃ a1, r_1 = some a1 ∧ (gm_sub (hh_tg h a1) 24 = true ∧ (∀ r3, r3 = hh_r h a1 2 → (∃ a4, r3 = some a4 ∧ ((hh_tg h a4 = 104 ∨ 200 ≤ hh_tg h a4) ∧ (∃ n5, gm_ix x2 n5 (hh_ln h a4) ∧ (∀ r7, r7 = hh_r h a4 n5 → ((r7 = none → (gm_G 444 22 [none, some (.ref a1), some (.int x2)] [] h Q)) ∧ (∀ a8, r7 = some a8 → (gm_sub (hh_tg h a0) 32 = true ∧ (∀ r10, r10 = hh_r h a0 2 → (∀ r11, r11 = hh_r h a1 2 → (∃ a12, r11 = some a12 ∧ ((hh_tg h a12 = 104 ∨ 200 ≤ hh_tg h a12) ∧ (∃ n13, gm_ix x2 n13 (hh_ln h a12) ∧ (∀ r15, r15 = hh_r h a12 n13 → (∃ a16, r10 = some a16 ∧ (hh_tg h a16 = 1 ∧ (gm_G 415 0 [some (.ref a16), some (va_rf r15)] [] h (pV (fun h18 => gm_G 444 22 [none, some (.ref a1), some (.int x2)] [] h18 Q) (fun e19 h20 => hh_tg h20 e19 = 21 ∧ Q (.inr e19) h20))))))))))))))))))))) : gm_G 444 0 [some (.ref a0), some (va_rf r_1), some (.int x2)] [] h Q := by
  refine g_aload (r := _) rfl rfl rfl (pc' := 1) ?_
  obtain ⟨a1, rfl, H⟩ := H
  obtain ⟨ht2, H⟩ := H
  refine g_getRv rfl rfl rfl rfl ht2 (pc' := 4) rfl (fun r3 hr3 => ?_)
  replace H := H r3 hr3
  refine g_iload rfl rfl rfl (pc' := 5) ?_
  obtain ⟨a4, rfl, H⟩ := H
  obtain ⟨ht6, H⟩ := H
  obtain ⟨n5, hn5, H⟩ := H
  refine g_aaloadv rfl ht6 hn5 (pc' := 6) rfl (fun r7 hr7 => ?_)
  replace H := H r7 hr7
  refine g_ifnull rfl (pc' := 9) (pt := 22) rfl rfl ⟨fun hc => ?_, fun a8 hc => ?_⟩
  · replace H := H.1 hc
    subst hc
    exact g_weak (show gm_Lle [none, some _, some _] _ from ⟨rfl, ⟨rfl, trivial⟩⟩) H
  · replace H := H.2 a8 hc
    subst hc
    refine g_aload (r := some _) rfl rfl rfl (pc' := 10) ?_
    obtain ⟨ht9, H⟩ := H
    refine g_getRv rfl rfl rfl rfl ht9 (pc' := 13) rfl (fun r10 hr10 => ?_)
    replace H := H r10 hr10
    refine g_aload (r := some _) rfl rfl rfl (pc' := 14) ?_
    refine g_getRv rfl rfl rfl rfl ht2 (pc' := 17) rfl (fun r11 hr11 => ?_)
    replace H := H r11 hr11
    refine g_iload rfl rfl rfl (pc' := 18) ?_
    obtain ⟨a12, rfl, H⟩ := H
    obtain ⟨ht14, H⟩ := H
    obtain ⟨n13, hn13, H⟩ := H
    refine g_aaloadv rfl ht14 hn13 (pc' := 19) rfl (fun r15 hr15 => ?_)
    replace H := H r15 hr15
    obtain ⟨a16, rfl, H⟩ := H
    obtain ⟨ht17, H⟩ := H
    refine g_call rfl (y := 415) (n := 2) (pc' := 22) (g_vt ht17 rfl rfl) (by cases r15 <;> rfl) rfl ⟨(Nat.le_of_ble_eq_true rfl), (Nat.le_of_ble_eq_true rfl), (Nat.le_of_ble_eq_true rfl)⟩ rfl (gm_G.mono H (pV_elim (fun h18 H' => ?_) (fun e19 h20 H => ?_)))
    · show gm_G _ 22 _ _ _ _
      replace H := H'
      clear H'
      exact g_weak (show gm_Lle [none, some _, some _] _ from ⟨rfl, ⟨rfl, trivial⟩⟩) H
    · exact H
set_option maxRecDepth 20000 in
theorem w_444_22 {a0 : Nat} {r_1 : Option Nat} {x2 : Int32} {h : hh_T} {Q : Option Value ⊕ Nat → hh_T → Prop} (H : ∃ a1, r_1 = some a1 ∧ (gm_sub (hh_tg h a1) 24 = true ∧ (∀ r3, r3 = hh_r h a1 2 → (∃ a4, r3 = some a4 ∧ (200 ≤ hh_tg h a4 ∧ (True) ∧ (∃ n5, gm_ix x2 n5 (hh_ln h a4) ∧ (∀ h6, h6 = hh_wr h a4 n5 none → (Q (.inl none) h6)))))))) : gm_G 444 22 [none, some (va_rf r_1), some (.int x2)] [] h Q := by
  refine g_aload (r := _) rfl rfl rfl (pc' := 23) ?_
  obtain ⟨a1, rfl, H⟩ := H
  obtain ⟨ht2, H⟩ := H
  refine g_getRv rfl rfl rfl rfl ht2 (pc' := 26) rfl (fun r3 hr3 => ?_)
  replace H := H r3 hr3
  refine g_iload rfl rfl rfl (pc' := 27) ?_
  refine g_null rfl rfl (pc' := 28) ?_
  obtain ⟨a4, rfl, H⟩ := H
  obtain ⟨Ha, Hb, H⟩ := H
  obtain ⟨n5, hn5, H⟩ := H
  refine g_aastore (r := _) rfl Ha (fun b hb => by cases hb) hn5 (pc' := 29) rfl ?_
  replace H := H _ rfl
  exact g_return rfl H
set_option maxRecDepth 20000 in
theorem w_445_0 {a0 : Nat} {r_1 : Option Nat} {x2 : Int32} {h : hh_T} {Q : Option Value ⊕ Nat → hh_T → Prop} (H : gm_sub (hh_tg h a0) 36 = true ∧ (∀ r2, r2 = hh_r h a0 5 → (∃ a3, r2 = some a3 ∧ (hh_tg h a3 = 1 ∧ (gm_G 396 0 [some (.ref a3), some (va_rf r_1)] [] h (pR (fun r6 h5 => gm_sub (hh_tg h5 a0) 36 = true ∧ (∀ r8, r8 = hh_r h5 a0 5 → (∃ a9, r8 = some a9 ∧ (hh_tg h5 a9 = 1 ∧ (gm_G 395 0 [some (.ref a9), some (va_rf r6), some (.int (hh_i h5 a0 3))] [] h5 (pR (fun r12 h11 => (∀ b, r12 = some b → gm_sub (hh_tg h11 b) 27 = true) ∧ (∃ a13, r12 = some a13 ∧ (gm_sub (hh_tg h11 a13) 27 = true ∧ (∀ r15, r15 = hh_r h11 a13 13 → (gm_sub (hh_tg h11 a0) 36 = true ∧ (hh_tg h11 a13 = 28 ∧ (gm_G 196 0 [some (.ref a13), some (.long (hh_j h11 a0 4)), none] [] h11 (pI (fun v19 h18 => ∃ a20, r15 = some a20 ∧ ((hh_tg h18 a20 = 100 ∨ hh_tg h18 a20 = 105) ∧ (∃ n21, gm_ix v19 n21 (hh_ln h18 a20) ∧ (gm_sub (hh_tg h18 a0) 36 = true ∧ (hh_tg h18 a13 = 28 ∧ (gm_G 317 0 [some (.ref a13), some (.long (hh_j h18 a0 4)), none] [] h18 (pV (fun h25 => hh_tg h25 a0 = 37 ∧ (gm_G 206 0 [some (.ref a0), some (.ref a13)] [] h25 (pV (fun h27 => gm_G 445 58 [some (.ref a0), none, none, some (va_rf r6), none, some (.int (hh_i h18 a20 n21))] [] h27 Q) (fun e28 h29 => hh_tg h29 e28 = 21 ∧ Q (.inr e28) h29)))) (fun e30 h31 => hh_tg h31 e30 = 21 ∧ Q (.inr e30) h31)))))))) (fun e32 h33 => hh_tg h33 e32 = 21 ∧ Q (.inr e32) h33))))))))) (fun e34 h35 => hh_tg h35 e34 = 21 ∧ Q (.inr e34) h35))))))) (fun e36 h37 => hh_tg h37 e36 = 21 ∧ Q (.inr e36) h37))))))) : gm_G 445 0 [some (.ref a0), some (va_rf r_1), some (.int x2)] [] h Q := by
  refine g_aload (r := some _) rfl rfl rfl (pc' := 1) ?_
  obtain ⟨ht1, H⟩ := H
  refine g_getRv rfl rfl rfl rfl ht1 (pc' := 4) rfl (fun r2 hr2 => ?_)
  replace H := H r2 hr2
  refine g_aload (r := _) rfl rfl rfl (pc' := 5) ?_
  obtain ⟨a3, rfl, H⟩ := H
  obtain ⟨ht4, H⟩ := H
  refine g_call rfl (y := 396) (n := 2) (pc' := 8) (g_vt ht4 rfl rfl) (by cases r_1 <;> rfl) rfl ⟨(Nat.le_of_ble_eq_true rfl), (Nat.le_of_ble_eq_true rfl), (Nat.le_of_ble_eq_true rfl)⟩ rfl (gm_G.mono H (pR_elim (fun r6 h5 H' => ?_) (fun e36 h37 H => ?_)))
  · show gm_G _ 8 _ _ _ _
    replace H := H'
    clear H'
    refine g_astore (r := _) rfl rfl rfl (pc' := 9) ?_
    refine g_aload (r := some _) rfl rfl rfl (pc' := 10) ?_
    obtain ⟨ht7, H⟩ := H
    refine g_getRv rfl rfl rfl rfl ht7 (pc' := 13) rfl (fun r8 hr8 => ?_)
    replace H := H r8 hr8
    refine g_aload (r := _) rfl rfl rfl (pc' := 14) ?_
    refine g_aload (r := some _) rfl rfl rfl (pc' := 15) ?_
    refine g_getI rfl rfl rfl rfl ht7 (pc' := 18) rfl ?_
    obtain ⟨a9, rfl, H⟩ := H
    obtain ⟨ht10, H⟩ := H
    refine g_call rfl (y := 395) (n := 3) (pc' := 21) (g_vt ht10 rfl rfl) (by cases r6 <;> rfl) rfl ⟨(Nat.le_of_ble_eq_true rfl), (Nat.le_of_ble_eq_true rfl), (Nat.le_of_ble_eq_true rfl)⟩ rfl (gm_G.mono H (pR_elim (fun r12 h11 H' => ?_) (fun e34 h35 H => ?_)))
    · show gm_G _ 21 _ _ _ _
      replace H := H'
      clear H'
      obtain ⟨Hc, H⟩ := H
      refine g_cast rfl Hc (pc' := 24) rfl ?_
      refine g_astore (r := _) rfl gm_sto_rf3 rfl (pc' := 26) ?_
      refine g_aload (r := _) rfl rfl rfl (pc' := 28) ?_
      obtain ⟨a13, rfl, H⟩ := H
      obtain ⟨ht14, H⟩ := H
      refine g_getRv rfl rfl rfl rfl ht14 (pc' := 31) rfl (fun r15 hr15 => ?_)
      replace H := H r15 hr15
      refine g_aload (r := some _) rfl rfl rfl (pc' := 33) ?_
      refine g_aload (r := some _) rfl rfl rfl (pc' := 34) ?_
      obtain ⟨ht16, H⟩ := H
      refine g_getJ rfl rfl rfl rfl ht16 (pc' := 37) rfl ?_
      obtain ⟨ht17, H⟩ := H
      refine g_call rfl (y := 196) (n := 2) (pc' := 40) (g_vt ht17 rfl rfl) rfl rfl ⟨(Nat.le_of_ble_eq_true rfl), (Nat.le_of_ble_eq_true rfl), (Nat.le_of_ble_eq_true rfl)⟩ rfl (gm_G.mono H (pI_elim (fun v19 h18 H' => ?_) (fun e32 h33 H => ?_)))
      · show gm_G _ 40 _ _ _ _
        replace H := H'
        clear H'
        obtain ⟨a20, rfl, H⟩ := H
        obtain ⟨ht22, H⟩ := H
        obtain ⟨n21, hn21, H⟩ := H
        refine g_iaload rfl ht22 hn21 (pc' := 41) rfl ?_
        refine g_istore rfl rfl rfl (pc' := 43) ?_
        refine g_aload (r := some _) rfl rfl rfl (pc' := 45) ?_
        refine g_aload (r := some _) rfl rfl rfl (pc' := 46) ?_
        obtain ⟨ht23, H⟩ := H
        refine g_getJ rfl rfl rfl rfl ht23 (pc' := 49) rfl ?_
        obtain ⟨ht24, H⟩ := H
        refine g_call rfl (y := 317) (n := 2) (pc' := 52) (g_vt ht24 rfl rfl) rfl rfl ⟨(Nat.le_of_ble_eq_true rfl), (Nat.le_of_ble_eq_true rfl), (Nat.le_of_ble_eq_true rfl)⟩ rfl (gm_G.mono H (pV_elim (fun h25 H' => ?_) (fun e30 h31 H => ?_)))
        · show gm_G _ 52 _ _ _ _
          replace H := H'
          clear H'
          refine g_aload (r := some _) rfl rfl rfl (pc' := 53) ?_
          refine g_aload (r := some _) rfl rfl rfl (pc' := 55) ?_
          obtain ⟨ht26, H⟩ := H
          refine g_call rfl (y := 206) (n := 2) (pc' := 58) (g_vt ht26 rfl rfl) rfl rfl ⟨(Nat.le_of_ble_eq_true rfl), (Nat.le_of_ble_eq_true rfl), (Nat.le_of_ble_eq_true rfl)⟩ rfl (gm_G.mono H (pV_elim (fun h27 H' => ?_) (fun e28 h29 H => ?_)))
          · show gm_G _ 58 _ _ _ _
            replace H := H'
            clear H'
            exact g_weak (show gm_Lle [some _, none, none, some _, none, some _] _ from ⟨rfl, ⟨rfl, ⟨rfl, trivial⟩⟩⟩) H
          · exact H
        · exact H
      · exact H
    · exact H
  · exact H
set_option maxRecDepth 20000 in
theorem w_445_58 {a0 : Nat} {r_3 : Option Nat} {x5 : Int32} {h : hh_T} {Q : Option Value ⊕ Nat → hh_T → Prop} (H : ∃ a1, r_3 = some a1 ∧ (gm_sub (hh_tg h a1) 24 = true ∧ (∀ r3, r3 = hh_r h a1 2 → (∃ a4, r3 = some a4 ∧ ((hh_tg h a4 = 104 ∨ 200 ≤ hh_tg h a4) ∧ (∃ n5, gm_ix x5 n5 (hh_ln h a4) ∧ (∀ r7, r7 = hh_r h a4 n5 → (∃ a8, r7 = some a8 ∧ (gm_sub (hh_tg h a8) 25 = true ∧ ((¬ (Int32.ofNat 1) < (hh_i h a8 5) → (gm_sub (hh_tg h a0) 36 = true ∧ (∀ r11, r11 = hh_r h a0 5 → (∀ r12, r12 = hh_r h a1 2 → (∃ a13, r12 = some a13 ∧ ((hh_tg h a13 = 104 ∨ 200 ≤ hh_tg h a13) ∧ (∃ n14, gm_ix x5 n14 (hh_ln h a13) ∧ (∀ r16, r16 = hh_r h a13 n14 → (∃ a17, r11 = some a17 ∧ (hh_tg h a17 = 1 ∧ (gm_G 415 0 [some (.ref a17), some (va_rf r16)] [] h (pV (fun h19 => gm_sub (hh_tg h19 a1) 24 = true ∧ (∀ r21, r21 = hh_r h19 a1 2 → (∃ a22, r21 = some a22 ∧ (200 ≤ hh_tg h19 a22 ∧ (True) ∧ (∃ n23, gm_ix x5 n23 (hh_ln h19 a22) ∧ (∀ h24, h24 = hh_wr h19 a22 n23 none → (gm_G 445 126 [] [] h24 Q))))))) (fun e25 h26 => hh_tg h26 e25 = 21 ∧ Q (.inr e25) h26))))))))))))) ∧ ((Int32.ofNat 1) < (hh_i h a8 5) → (gm_sub (hh_tg h a0) 36 = true ∧ (∀ r28, r28 = hh_r h a0 5 → (∃ a29, r28 = some a29 ∧ (hh_tg h a29 = 1 ∧ (gm_G 395 0 [some (.ref a29), some (.ref a1), some (.int x5)] [] h (pR (fun r32 h31 => ∃ a33, r32 = some a33 ∧ (gm_sub (hh_tg h31 a33) 25 = true ∧ (∀ h35, h35 = hh_wi h31 a33 5 ((hh_i h31 a33 5) - (Int32.ofNat 1)) → (hh_tg h35 a0 = 37 ∧ (gm_G 206 0 [some (.ref a0), some (.ref a33)] [] h35 (pV (fun h37 => gm_G 445 126 [] [] h37 Q) (fun e38 h39 => hh_tg h39 e38 = 21 ∧ Q (.inr e38) h39))))))) (fun e40 h41 => hh_tg h41 e40 = 21 ∧ Q (.inr e40) h41)))))))))))))))))) : gm_G 445 58 [some (.ref a0), none, none, some (va_rf r_3), none, some (.int x5)] [] h Q := by
  refine g_aload (r := _) rfl rfl rfl (pc' := 59) ?_
  obtain ⟨a1, rfl, H⟩ := H
  obtain ⟨ht2, H⟩ := H
  refine g_getRv rfl rfl rfl rfl ht2 (pc' := 62) rfl (fun r3 hr3 => ?_)
  replace H := H r3 hr3
  refine g_iload rfl rfl rfl (pc' := 64) ?_
  obtain ⟨a4, rfl, H⟩ := H
  obtain ⟨ht6, H⟩ := H
  obtain ⟨n5, hn5, H⟩ := H
  refine g_aaloadv rfl ht6 hn5 (pc' := 65) rfl (fun r7 hr7 => ?_)
  replace H := H r7 hr7
  obtain ⟨a8, rfl, H⟩ := H
  obtain ⟨ht9, H⟩ := H
  refine g_getI rfl rfl rfl rfl ht9 (pc' := 68) rfl ?_
  refine g_iconst rfl rfl rfl (pc' := 69) ?_
  refine g_ic_le rfl (pc' := 72) (pt := 104) rfl rfl ⟨fun hc => ?_, fun hc => ?_⟩
  · replace H := H.1 hc
    refine g_aload (r := some _) rfl rfl rfl (pc' := 105) ?_
    obtain ⟨ht10, H⟩ := H
    refine g_getRv rfl rfl rfl rfl ht10 (pc' := 108) rfl (fun r11 hr11 => ?_)
    replace H := H r11 hr11
    refine g_aload (r := some _) rfl rfl rfl (pc' := 109) ?_
    refine g_getRv rfl rfl rfl rfl ht2 (pc' := 112) rfl (fun r12 hr12 => ?_)
    replace H := H r12 hr12
    refine g_iload rfl rfl rfl (pc' := 114) ?_
    obtain ⟨a13, rfl, H⟩ := H
    obtain ⟨ht15, H⟩ := H
    obtain ⟨n14, hn14, H⟩ := H
    refine g_aaloadv rfl ht15 hn14 (pc' := 115) rfl (fun r16 hr16 => ?_)
    replace H := H r16 hr16
    obtain ⟨a17, rfl, H⟩ := H
    obtain ⟨ht18, H⟩ := H
    refine g_call rfl (y := 415) (n := 2) (pc' := 118) (g_vt ht18 rfl rfl) (by cases r16 <;> rfl) rfl ⟨(Nat.le_of_ble_eq_true rfl), (Nat.le_of_ble_eq_true rfl), (Nat.le_of_ble_eq_true rfl)⟩ rfl (gm_G.mono H (pV_elim (fun h19 H' => ?_) (fun e25 h26 H => ?_)))
    · show gm_G _ 118 _ _ _ _
      replace H := H'
      clear H'
      refine g_aload (r := some _) rfl rfl rfl (pc' := 119) ?_
      obtain ⟨ht20, H⟩ := H
      refine g_getRv rfl rfl rfl rfl ht20 (pc' := 122) rfl (fun r21 hr21 => ?_)
      replace H := H r21 hr21
      refine g_iload rfl rfl rfl (pc' := 124) ?_
      refine g_null rfl rfl (pc' := 125) ?_
      obtain ⟨a22, rfl, H⟩ := H
      obtain ⟨Ha, Hb, H⟩ := H
      obtain ⟨n23, hn23, H⟩ := H
      refine g_aastore (r := _) rfl Ha (fun b hb => by cases hb) hn23 (pc' := 126) rfl ?_
      replace H := H _ rfl
      exact g_weak (show gm_Lle [] _ from trivial) H
    · exact H
  · replace H := H.2 hc
    refine g_aload (r := some _) rfl rfl rfl (pc' := 73) ?_
    obtain ⟨ht27, H⟩ := H
    refine g_getRv rfl rfl rfl rfl ht27 (pc' := 76) rfl (fun r28 hr28 => ?_)
    replace H := H r28 hr28
    refine g_aload (r := some _) rfl rfl rfl (pc' := 77) ?_
    refine g_iload rfl rfl rfl (pc' := 79) ?_
    obtain ⟨a29, rfl, H⟩ := H
    obtain ⟨ht30, H⟩ := H
    refine g_call rfl (y := 395) (n := 3) (pc' := 82) (g_vt ht30 rfl rfl) rfl rfl ⟨(Nat.le_of_ble_eq_true rfl), (Nat.le_of_ble_eq_true rfl), (Nat.le_of_ble_eq_true rfl)⟩ rfl (gm_G.mono H (pR_elim (fun r32 h31 H' => ?_) (fun e40 h41 H => ?_)))
    · show gm_G _ 82 _ _ _ _
      replace H := H'
      clear H'
      refine g_astore (r := _) rfl rfl rfl (pc' := 84) ?_
      refine g_aload (r := _) rfl rfl rfl (pc' := 86) ?_
      refine g_dup_a (r := _) rfl rfl (pc' := 87) ?_
      obtain ⟨a33, rfl, H⟩ := H
      obtain ⟨ht34, H⟩ := H
      refine g_getI rfl rfl rfl rfl ht34 (pc' := 90) rfl ?_
      refine g_iconst rfl rfl rfl (pc' := 91) ?_
      refine g_isub rfl rfl (pc' := 92) ?_
      refine g_putI rfl rfl rfl rfl ht34  (pc' := 95) rfl ?_
      replace H := H _ rfl
      refine g_aload (r := some _) rfl rfl rfl (pc' := 96) ?_
      refine g_aload (r := some _) rfl rfl rfl (pc' := 98) ?_
      obtain ⟨ht36, H⟩ := H
      refine g_call rfl (y := 206) (n := 2) (pc' := 101) (g_vt ht36 rfl rfl) rfl rfl ⟨(Nat.le_of_ble_eq_true rfl), (Nat.le_of_ble_eq_true rfl), (Nat.le_of_ble_eq_true rfl)⟩ rfl (gm_G.mono H (pV_elim (fun h37 H' => ?_) (fun e38 h39 H => ?_)))
      · show gm_G _ 101 _ _ _ _
        replace H := H'
        clear H'
        refine g_goto rfl (pc' := 126) rfl ?_
        exact g_weak (show gm_Lle [] _ from trivial) H
      · exact H
    · exact H
set_option maxRecDepth 20000 in
theorem w_445_126 {a0 : Nat}  {h : hh_T} {Q : Option Value ⊕ Nat → hh_T → Prop} (H : Q (.inl none) h) : gm_G 445 126 [] [] h Q := by
  exact g_return rfl H
set_option maxRecDepth 20000 in
theorem w_446_0 {a0 : Nat} {r_1 : Option Nat} {x2 : Int32} {x3 : Int32} {h : hh_T} {Q : Option Value ⊕ Nat → hh_T → Prop} (H : (Int32.ofNat 0 < x3 → (∃ a1, r_1 = some a1 ∧ (gm_sub (hh_tg h a1) 23 = true ∧ (∀ r3, r3 = hh_r h a1 6 → (∃ a4, r3 = some a4 ∧ ((hh_tg h a4 = 100 ∨ hh_tg h a4 = 105) ∧ (0 < hh_ln h a4 ∧ (((hh_i h a4 0) < Int32.ofNat 0 → (gm_G 446 44 [some (.ref a0), some (.ref a1), some (.int x2), some (.int x3)] [] h Q)) ∧ (¬ (hh_i h a4 0) < Int32.ofNat 0 → (∀ r7, r7 = hh_r h a1 9 → (hh_tg h a0 = 1 ∧ (gm_G 353 0 [some (.ref a0), some (va_rf r7), some (.int (Int32.ofInt (-1)))] [] h (pI (fun v10 h9 => gm_sub (hh_tg h9 a1) 23 = true ∧ (∀ r12, r12 = hh_r h9 a1 6 → (∃ a13, r12 = some a13 ∧ ((hh_tg h9 a13 = 100 ∨ hh_tg h9 a13 = 105) ∧ (0 < hh_ln h9 a13 ∧ (((hh_i h9 a13 0) < (v10 + x3) → (gm_G 446 39 [some (.ref a0), some (.ref a1), some (.int x2), some (.int x3)] [.int (Int32.ofNat 0)] h9 Q)) ∧ (¬ (hh_i h9 a13 0) < (v10 + x3) → (gm_G 446 39 [some (.ref a0), some (.ref a1), some (.int x2), some (.int x3)] [.int (Int32.ofNat 1)] h9 Q)))))))) (fun e16 h17 => hh_tg h17 e16 = 21 ∧ Q (.inr e16) h17)))))))))))))) ∧ (¬ Int32.ofNat 0 < x3 → (Q (.inl none) h))) : gm_G 446 0 [some (.ref a0), some (va_rf r_1), some (.int x2), some (.int x3)] [] h Q := by
  refine g_iload rfl rfl rfl (pc' := 1) ?_
  refine g_if_gt rfl (pc' := 4) (pt := 5) rfl rfl ⟨fun hc => ?_, fun hc => ?_⟩
  · replace H := H.1 hc
    refine g_aload (r := _) rfl rfl rfl (pc' := 6) ?_
    obtain ⟨a1, rfl, H⟩ := H
    obtain ⟨ht2, H⟩ := H
    refine g_getRv rfl rfl rfl rfl ht2 (pc' := 9) rfl (fun r3 hr3 => ?_)
    replace H := H r3 hr3
    refine g_iconst rfl rfl rfl (pc' := 10) ?_
    obtain ⟨a4, rfl, H⟩ := H
    obtain ⟨ht6, H⟩ := H
    obtain ⟨hn5, H⟩ := H
    refine g_iaload rfl ht6 ⟨rfl, by decide, hn5⟩ (pc' := 11) rfl ?_
    refine g_if_lt rfl (pc' := 14) (pt := 44) rfl rfl ⟨fun hc => ?_, fun hc => ?_⟩
    · replace H := H.1 hc
      exact g_weak (show gm_Lle [some _, some _, some _, some _] _ from ⟨rfl, ⟨rfl, ⟨rfl, ⟨rfl, trivial⟩⟩⟩⟩) H
    · replace H := H.2 hc
      refine g_aload (r := some _) rfl rfl rfl (pc' := 15) ?_
      refine g_aload (r := some _) rfl rfl rfl (pc' := 16) ?_
      refine g_getRv rfl rfl rfl rfl ht2 (pc' := 19) rfl (fun r7 hr7 => ?_)
      replace H := H r7 hr7
      refine g_iconst rfl rfl rfl (pc' := 20) ?_
      obtain ⟨ht8, H⟩ := H
      refine g_call rfl (y := 353) (n := 3) (pc' := 23) (g_vt ht8 rfl rfl) (by cases r7 <;> rfl) rfl ⟨(Nat.le_of_ble_eq_true rfl), (Nat.le_of_ble_eq_true rfl), (Nat.le_of_ble_eq_true rfl)⟩ rfl (gm_G.mono H (pI_elim (fun v10 h9 H' => ?_) (fun e16 h17 H => ?_)))
      · show gm_G _ 23 _ _ _ _
        replace H := H'
        clear H'
        refine g_iload rfl rfl rfl (pc' := 24) ?_
        refine g_iadd rfl rfl (pc' := 25) ?_
        refine g_aload (r := some _) rfl rfl rfl (pc' := 26) ?_
        obtain ⟨ht11, H⟩ := H
        refine g_getRv rfl rfl rfl rfl ht11 (pc' := 29) rfl (fun r12 hr12 => ?_)
        replace H := H r12 hr12
        refine g_iconst rfl rfl rfl (pc' := 30) ?_
        obtain ⟨a13, rfl, H⟩ := H
        obtain ⟨ht15, H⟩ := H
        obtain ⟨hn14, H⟩ := H
        refine g_iaload rfl ht15 ⟨rfl, by decide, hn14⟩ (pc' := 31) rfl ?_
        refine g_ic_gt rfl (pc' := 34) (pt := 38) rfl rfl ⟨fun hc => ?_, fun hc => ?_⟩
        · replace H := H.1 hc
          refine g_iconst rfl rfl rfl (pc' := 39) ?_
          exact g_weak (show gm_Lle [some _, some _, some _, some _] _ from ⟨rfl, ⟨rfl, ⟨rfl, ⟨rfl, trivial⟩⟩⟩⟩) H
        · replace H := H.2 hc
          refine g_iconst rfl rfl rfl (pc' := 35) ?_
          refine g_goto rfl (pc' := 39) rfl ?_
          exact g_weak (show gm_Lle [some _, some _, some _, some _] _ from ⟨rfl, ⟨rfl, ⟨rfl, ⟨rfl, trivial⟩⟩⟩⟩) H
      · exact H
  · replace H := H.2 hc
    exact g_return rfl H
set_option maxRecDepth 20000 in
theorem w_446_39 {a0 : Nat} {r_1 : Option Nat} {x2 : Int32} {x3 : Int32} {y0 : Int32} {h : hh_T} {Q : Option Value ⊕ Nat → hh_T → Prop} (H : gm_G 431 0 [some (.int y0), some (.int (Int32.ofInt (-7)))] [] h (pV (fun h1 => gm_G 446 44 [some (.ref a0), some (va_rf r_1), some (.int x2), some (.int x3)] [] h1 Q) (fun e2 h3 => hh_tg h3 e2 = 21 ∧ Q (.inr e2) h3))) : gm_G 446 39 [some (.ref a0), some (va_rf r_1), some (.int x2), some (.int x3)] [.int y0] h Q := by
  refine g_iconst rfl rfl rfl (pc' := 41) ?_
  refine g_call rfl (y := 431) (n := 2) (pc' := 44) (fun _ => rfl) rfl rfl ⟨(Nat.le_of_ble_eq_true rfl), (Nat.le_of_ble_eq_true rfl), (Nat.le_of_ble_eq_true rfl)⟩ rfl (gm_G.mono H (pV_elim (fun h1 H' => ?_) (fun e2 h3 H => ?_)))
  · show gm_G _ 44 _ _ _ _
    replace H := H'
    clear H'
    exact g_weak (show gm_Lle [some _, some _, some _, some _] _ from ⟨rfl, ⟨rfl, ⟨rfl, ⟨rfl, trivial⟩⟩⟩⟩) H
  · exact H
set_option maxRecDepth 20000 in
theorem w_446_44 {a0 : Nat} {r_1 : Option Nat} {x2 : Int32} {x3 : Int32} {h : hh_T} {Q : Option Value ⊕ Nat → hh_T → Prop} (H : ∃ a1, r_1 = some a1 ∧ (gm_sub (hh_tg h a1) 23 = true ∧ (∀ r3, r3 = hh_r h a1 6 → (∃ a4, r3 = some a4 ∧ ((hh_tg h a4 = 100 ∨ hh_tg h a4 = 105) ∧ (∃ n5, gm_ix ((Int32.ofNat 1) + x2) n5 (hh_ln h a4) ∧ (((hh_i h a4 n5) < Int32.ofNat 0 → (Q (.inl none) h)) ∧ (¬ (hh_i h a4 n5) < Int32.ofNat 0 → (∀ r7, r7 = hh_r h a1 9 → (hh_tg h a0 = 1 ∧ (gm_G 353 0 [some (.ref a0), some (va_rf r7), some (.int x2)] [] h (pI (fun v10 h9 => gm_sub (hh_tg h9 a1) 23 = true ∧ (∀ r12, r12 = hh_r h9 a1 6 → (∃ a13, r12 = some a13 ∧ ((hh_tg h9 a13 = 100 ∨ hh_tg h9 a13 = 105) ∧ (∃ n14, gm_ix ((Int32.ofNat 1) + x2) n14 (hh_ln h9 a13) ∧ (((hh_i h9 a13 n14) < (v10 + x3) → (gm_G 446 82 [] [.int (Int32.ofNat 0)] h9 Q)) ∧ (¬ (hh_i h9 a13 n14) < (v10 + x3) → (gm_G 446 82 [] [.int (Int32.ofNat 1)] h9 Q)))))))) (fun e16 h17 => hh_tg h17 e16 = 21 ∧ Q (.inr e16) h17))))))))))))) : gm_G 446 44 [some (.ref a0), some (va_rf r_1), some (.int x2), some (.int x3)] [] h Q := by
  refine g_aload (r := _) rfl rfl rfl (pc' := 45) ?_
  obtain ⟨a1, rfl, H⟩ := H
  obtain ⟨ht2, H⟩ := H
  refine g_getRv rfl rfl rfl rfl ht2 (pc' := 48) rfl (fun r3 hr3 => ?_)
  replace H := H r3 hr3
  refine g_iconst rfl rfl rfl (pc' := 49) ?_
  refine g_iload rfl rfl rfl (pc' := 50) ?_
  refine g_iadd rfl rfl (pc' := 51) ?_
  obtain ⟨a4, rfl, H⟩ := H
  obtain ⟨ht6, H⟩ := H
  obtain ⟨n5, hn5, H⟩ := H
  refine g_iaload rfl ht6 hn5 (pc' := 52) rfl ?_
  refine g_if_lt rfl (pc' := 55) (pt := 87) rfl rfl ⟨fun hc => ?_, fun hc => ?_⟩
  · replace H := H.1 hc
    exact g_return rfl H
  · replace H := H.2 hc
    refine g_aload (r := some _) rfl rfl rfl (pc' := 56) ?_
    refine g_aload (r := some _) rfl rfl rfl (pc' := 57) ?_
    refine g_getRv rfl rfl rfl rfl ht2 (pc' := 60) rfl (fun r7 hr7 => ?_)
    replace H := H r7 hr7
    refine g_iload rfl rfl rfl (pc' := 61) ?_
    obtain ⟨ht8, H⟩ := H
    refine g_call rfl (y := 353) (n := 3) (pc' := 64) (g_vt ht8 rfl rfl) (by cases r7 <;> rfl) rfl ⟨(Nat.le_of_ble_eq_true rfl), (Nat.le_of_ble_eq_true rfl), (Nat.le_of_ble_eq_true rfl)⟩ rfl (gm_G.mono H (pI_elim (fun v10 h9 H' => ?_) (fun e16 h17 H => ?_)))
    · show gm_G _ 64 _ _ _ _
      replace H := H'
      clear H'
      refine g_iload rfl rfl rfl (pc' := 65) ?_
      refine g_iadd rfl rfl (pc' := 66) ?_
      refine g_aload (r := some _) rfl rfl rfl (pc' := 67) ?_
      obtain ⟨ht11, H⟩ := H
      refine g_getRv rfl rfl rfl rfl ht11 (pc' := 70) rfl (fun r12 hr12 => ?_)
      replace H := H r12 hr12
      refine g_iconst rfl rfl rfl (pc' := 71) ?_
      refine g_iload rfl rfl rfl (pc' := 72) ?_
      refine g_iadd rfl rfl (pc' := 73) ?_
      obtain ⟨a13, rfl, H⟩ := H
      obtain ⟨ht15, H⟩ := H
      obtain ⟨n14, hn14, H⟩ := H
      refine g_iaload rfl ht15 hn14 (pc' := 74) rfl ?_
      refine g_ic_gt rfl (pc' := 77) (pt := 81) rfl rfl ⟨fun hc => ?_, fun hc => ?_⟩
      · replace H := H.1 hc
        refine g_iconst rfl rfl rfl (pc' := 82) ?_
        exact g_weak (show gm_Lle [] _ from trivial) H
      · replace H := H.2 hc
        refine g_iconst rfl rfl rfl (pc' := 78) ?_
        refine g_goto rfl (pc' := 82) rfl ?_
        exact g_weak (show gm_Lle [] _ from trivial) H
    · exact H
set_option maxRecDepth 20000 in
theorem w_446_82 {a0 : Nat} {y0 : Int32} {h : hh_T} {Q : Option Value ⊕ Nat → hh_T → Prop} (H : gm_G 431 0 [some (.int y0), some (.int (Int32.ofInt (-7)))] [] h (pV (fun h1 => Q (.inl none) h1) (fun e2 h3 => hh_tg h3 e2 = 21 ∧ Q (.inr e2) h3))) : gm_G 446 82 [] [.int y0] h Q := by
  refine g_iconst rfl rfl rfl (pc' := 84) ?_
  refine g_call rfl (y := 431) (n := 2) (pc' := 87) (fun _ => rfl) rfl rfl ⟨(Nat.le_of_ble_eq_true rfl), (Nat.le_of_ble_eq_true rfl), (Nat.le_of_ble_eq_true rfl)⟩ rfl (gm_G.mono H (pV_elim (fun h1 H' => ?_) (fun e2 h3 H => ?_)))
  · show gm_G _ 87 _ _ _ _
    replace H := H'
    clear H'
    exact g_return rfl H
  · exact H
set_option maxRecDepth 20000 in
theorem w_447_0 {a0 : Nat} {x1 : Int32} {h : hh_T} {Q : Option Value ⊕ Nat → hh_T → Prop} (H : gm_sub (hh_tg h a0) 0 = true ∧ (∀ r2, r2 = hh_r h a0 51 → (∃ a3, r2 = some a3 ∧ (hh_tg h a3 = 15 ∧ (gm_G 73 0 [some (.ref a3), some (.int x1)] [] h (pR (fun r6 h5 => (r6 = none → (gm_G 447 18 [none, none, some (va_rf none)] [.int (Int32.ofNat 0)] h5 Q)) ∧ (∀ a7, r6 = some a7 → (gm_G 447 18 [none, none, some (.ref a7)] [.int (Int32.ofNat 1)] h5 Q))) (fun e8 h9 => hh_tg h9 e8 = 21 ∧ Q (.inr e8) h9))))))) : gm_G 447 0 [some (.ref a0), some (.int x1)] [] h Q := by
  refine g_aload (r := some _) rfl rfl rfl (pc' := 1) ?_
  obtain ⟨ht1, H⟩ := H
  refine g_getRv rfl rfl rfl rfl ht1 (pc' := 4) rfl (fun r2 hr2 => ?_)
  replace H := H r2 hr2
  refine g_iload rfl rfl rfl (pc' := 5) ?_
  obtain ⟨a3, rfl, H⟩ := H
  obtain ⟨ht4, H⟩ := H
  refine g_call rfl (y := 73) (n := 2) (pc' := 8) (g_vt ht4 rfl rfl) rfl rfl ⟨(Nat.le_of_ble_eq_true rfl), (Nat.le_of_ble_eq_true rfl), (Nat.le_of_ble_eq_true rfl)⟩ rfl (gm_G.mono H (pR_elim (fun r6 h5 H' => ?_) (fun e8 h9 H => ?_)))
  · show gm_G _ 8 _ _ _ _
    replace H := H'
    clear H'
    refine g_astore (r := _) rfl rfl rfl (pc' := 9) ?_
    refine g_aload (r := _) rfl rfl rfl (pc' := 10) ?_
    refine g_ifnull rfl (pc' := 13) (pt := 17) rfl rfl ⟨fun hc => ?_, fun a7 hc => ?_⟩
    · replace H := H.1 hc
      subst hc
      refine g_iconst rfl rfl rfl (pc' := 18) ?_
      exact g_weak (show gm_Lle [none, none, some _] _ from ⟨rfl, trivial⟩) H
    · replace H := H.2 a7 hc
      subst hc
      refine g_iconst rfl rfl rfl (pc' := 14) ?_
      refine g_goto rfl (pc' := 18) rfl ?_
      exact g_weak (show gm_Lle [none, none, some _] _ from ⟨rfl, trivial⟩) H
  · exact H
set_option maxRecDepth 20000 in
theorem w_447_18 {a0 : Nat} {r_2 : Option Nat} {y0 : Int32} {h : hh_T} {Q : Option Value ⊕ Nat → hh_T → Prop} (H : gm_G 431 0 [some (.int y0), some (.int (Int32.ofInt (-2)))] [] h (pV (fun h1 => Q (.inl (some (va_rf r_2))) h1) (fun e2 h3 => hh_tg h3 e2 = 21 ∧ Q (.inr e2) h3))) : gm_G 447 18 [none, none, some (va_rf r_2)] [.int y0] h Q := by
  refine g_iconst rfl rfl rfl (pc' := 20) ?_
  refine g_call rfl (y := 431) (n := 2) (pc' := 23) (fun _ => rfl) rfl rfl ⟨(Nat.le_of_ble_eq_true rfl), (Nat.le_of_ble_eq_true rfl), (Nat.le_of_ble_eq_true rfl)⟩ rfl (gm_G.mono H (pV_elim (fun h1 H' => ?_) (fun e2 h3 H => ?_)))
  · show gm_G _ 23 _ _ _ _
    replace H := H'
    clear H'
    refine g_aload (r := _) rfl rfl rfl (pc' := 24) ?_
    exact g_areturn (r := _) rfl H
  · exact H
set_option maxRecDepth 20000 in
theorem w_448_0  {r_0 : Option Nat} {x1 : Int32} {h : hh_T} {Q : Option Value ⊕ Nat → hh_T → Prop} (H : ∃ a1, r_0 = some a1 ∧ (hh_tg h a1 = 25 ∧ (gm_G 189 0 [some (.ref a1), some (.int x1)] [] h (pR (fun r4 h3 => (r4 = none → (gm_G 448 15 [none, none, some (va_rf none)] [.int (Int32.ofNat 0)] h3 Q)) ∧ (∀ a5, r4 = some a5 → (gm_G 448 15 [none, none, some (.ref a5)] [.int (Int32.ofNat 1)] h3 Q))) (fun e6 h7 => hh_tg h7 e6 = 21 ∧ Q (.inr e6) h7))))) : gm_G 448 0 [some (va_rf r_0), some (.int x1)] [] h Q := by
  refine g_aload (r := _) rfl rfl rfl (pc' := 1) ?_
  refine g_iload rfl rfl rfl (pc' := 2) ?_
  obtain ⟨a1, rfl, H⟩ := H
  obtain ⟨ht2, H⟩ := H
  refine g_call rfl (y := 189) (n := 2) (pc' := 5) (g_vt ht2 rfl rfl) rfl rfl ⟨(Nat.le_of_ble_eq_true rfl), (Nat.le_of_ble_eq_true rfl), (Nat.le_of_ble_eq_true rfl)⟩ rfl (gm_G.mono H (pR_elim (fun r4 h3 H' => ?_) (fun e6 h7 H => ?_)))
  · show gm_G _ 5 _ _ _ _
    replace H := H'
    clear H'
    refine g_astore (r := _) rfl rfl rfl (pc' := 6) ?_
    refine g_aload (r := _) rfl rfl rfl (pc' := 7) ?_
    refine g_ifnull rfl (pc' := 10) (pt := 14) rfl rfl ⟨fun hc => ?_, fun a5 hc => ?_⟩
    · replace H := H.1 hc
      subst hc
      refine g_iconst rfl rfl rfl (pc' := 15) ?_
      exact g_weak (show gm_Lle [none, none, some _] _ from ⟨rfl, trivial⟩) H
    · replace H := H.2 a5 hc
      subst hc
      refine g_iconst rfl rfl rfl (pc' := 11) ?_
      refine g_goto rfl (pc' := 15) rfl ?_
      exact g_weak (show gm_Lle [none, none, some _] _ from ⟨rfl, trivial⟩) H
  · exact H
set_option maxRecDepth 20000 in
theorem w_448_15  {r_2 : Option Nat} {y0 : Int32} {h : hh_T} {Q : Option Value ⊕ Nat → hh_T → Prop} (H : gm_G 431 0 [some (.int y0), some (.int (Int32.ofInt (-2)))] [] h (pV (fun h1 => Q (.inl (some (va_rf r_2))) h1) (fun e2 h3 => hh_tg h3 e2 = 21 ∧ Q (.inr e2) h3))) : gm_G 448 15 [none, none, some (va_rf r_2)] [.int y0] h Q := by
  refine g_iconst rfl rfl rfl (pc' := 17) ?_
  refine g_call rfl (y := 431) (n := 2) (pc' := 20) (fun _ => rfl) rfl rfl ⟨(Nat.le_of_ble_eq_true rfl), (Nat.le_of_ble_eq_true rfl), (Nat.le_of_ble_eq_true rfl)⟩ rfl (gm_G.mono H (pV_elim (fun h1 H' => ?_) (fun e2 h3 H => ?_)))
  · show gm_G _ 20 _ _ _ _
    replace H := H'
    clear H'
    refine g_aload (r := _) rfl rfl rfl (pc' := 21) ?_
    exact g_areturn (r := _) rfl H
  · exact H
set_option maxRecDepth 20000 in
theorem w_449_0 {a0 : Nat} {r_1 : Option Nat} {r_2 : Option Nat} {h : hh_T} {Q : Option Value ⊕ Nat → hh_T → Prop} (H : ∃ a1, r_1 = some a1 ∧ (gm_sub (hh_tg h a1) 23 = true ∧ (∀ r3, r3 = hh_r h a1 9 → (∀ h4, h4 = hh_wr h a1 9 r_2 → (hh_tg h4 a0 = 1 ∧ (gm_G 432 0 [some (.ref a0), some (va_rf r3)] [] h4 (pV (fun h6 => gm_sub (hh_tg h6 a0) 0 = true ∧ (∀ r8, r8 = hh_r h6 a0 52 → (gm_sub (hh_tg h6 a1) 23 = true ∧ (∃ a10, r8 = some a10 ∧ (hh_tg h6 a10 = 16 ∧ (gm_G 82 0 [some (.ref a10), some (.int (hh_i h6 a1 0)), some (.int (Int32.ofInt (-1)))] [] h6 (pV (fun h12 => Q (.inl none) h12) (fun e13 h14 => hh_tg h14 e13 = 21 ∧ Q (.inr e13) h14)))))))) (fun e15 h16 => hh_tg h16 e15 = 21 ∧ Q (.inr e15) h16)))))))) : gm_G 449 0 [some (.ref a0), some (va_rf r_1), some (va_rf r_2)] [] h Q := by
  refine g_aload (r := _) rfl rfl rfl (pc' := 1) ?_
  obtain ⟨a1, rfl, H⟩ := H
  obtain ⟨ht2, H⟩ := H
  refine g_getRv rfl rfl rfl rfl ht2 (pc' := 4) rfl (fun r3 hr3 => ?_)
  replace H := H r3 hr3
  refine g_astore (r := _) rfl gm_sto_rf2 rfl (pc' := 5) ?_
  refine g_aload (r := some _) rfl rfl rfl (pc' := 6) ?_
  refine g_aload (r := _) rfl rfl rfl (pc' := 7) ?_
  refine g_putR rfl rfl rfl rfl ht2  (pc' := 10) rfl ?_
  replace H := H _ rfl
  refine g_aload (r := some _) rfl rfl rfl (pc' := 11) ?_
  refine g_aload (r := _) rfl rfl rfl (pc' := 12) ?_
  obtain ⟨ht5, H⟩ := H
  refine g_call rfl (y := 432) (n := 2) (pc' := 15) (g_vt ht5 rfl rfl) (by cases r3 <;> rfl) rfl ⟨(Nat.le_of_ble_eq_true rfl), (Nat.le_of_ble_eq_true rfl), (Nat.le_of_ble_eq_true rfl)⟩ rfl (gm_G.mono H (pV_elim (fun h6 H' => ?_) (fun e15 h16 H => ?_)))
  · show gm_G _ 15 _ _ _ _
    replace H := H'
    clear H'
    refine g_aload (r := some _) rfl rfl rfl (pc' := 16) ?_
    obtain ⟨ht7, H⟩ := H
    refine g_getRv rfl rfl rfl rfl ht7 (pc' := 19) rfl (fun r8 hr8 => ?_)
    replace H := H r8 hr8
    refine g_aload (r := some _) rfl rfl rfl (pc' := 20) ?_
    obtain ⟨ht9, H⟩ := H
    refine g_getI rfl rfl rfl rfl ht9 (pc' := 23) rfl ?_
    refine g_iconst rfl rfl rfl (pc' := 24) ?_
    obtain ⟨a10, rfl, H⟩ := H
    obtain ⟨ht11, H⟩ := H
    refine g_call rfl (y := 82) (n := 3) (pc' := 27) (g_vt ht11 rfl rfl) rfl rfl ⟨(Nat.le_of_ble_eq_true rfl), (Nat.le_of_ble_eq_true rfl), (Nat.le_of_ble_eq_true rfl)⟩ rfl (gm_G.mono H (pV_elim (fun h12 H' => ?_) (fun e13 h14 H => ?_)))
    · show gm_G _ 27 _ _ _ _
      replace H := H'
      clear H'
      exact g_return rfl H
    · exact H
  · exact H
set_option maxRecDepth 20000 in
theorem w_450_0 {a0 : Nat} {r_1 : Option Nat} {h : hh_T} {Q : Option Value ⊕ Nat → hh_T → Prop} (H : ∃ a1, r_1 = some a1 ∧ (gm_sub (hh_tg h a1) 23 = true ∧ (∀ r3, r3 = hh_r h a1 9 → (hh_tg h a0 = 1 ∧ (gm_G 432 0 [some (.ref a0), some (va_rf r3)] [] h (pV (fun h5 => gm_sub (hh_tg h5 a0) 0 = true ∧ (∀ r7, r7 = hh_r h5 a0 38 → (gm_sub (hh_tg h5 a1) 23 = true ∧ (∀ h9, h9 = hh_wr h5 a1 10 r7 → (∀ h10, h10 = hh_wr h9 a0 38 (some a1) → (Q (.inl none) h10)))))) (fun e11 h12 => hh_tg h12 e11 = 21 ∧ Q (.inr e11) h12))))))) : gm_G 450 0 [some (.ref a0), some (va_rf r_1)] [] h Q := by
  refine g_aload (r := some _) rfl rfl rfl (pc' := 1) ?_
  refine g_aload (r := _) rfl rfl rfl (pc' := 2) ?_
  obtain ⟨a1, rfl, H⟩ := H
  obtain ⟨ht2, H⟩ := H
  refine g_getRv rfl rfl rfl rfl ht2 (pc' := 5) rfl (fun r3 hr3 => ?_)
  replace H := H r3 hr3
  obtain ⟨ht4, H⟩ := H
  refine g_call rfl (y := 432) (n := 2) (pc' := 8) (g_vt ht4 rfl rfl) (by cases r3 <;> rfl) rfl ⟨(Nat.le_of_ble_eq_true rfl), (Nat.le_of_ble_eq_true rfl), (Nat.le_of_ble_eq_true rfl)⟩ rfl (gm_G.mono H (pV_elim (fun h5 H' => ?_) (fun e11 h12 H => ?_)))
  · show gm_G _ 8 _ _ _ _
    replace H := H'
    clear H'
    refine g_aload (r := some _) rfl rfl rfl (pc' := 9) ?_
    refine g_aload (r := some _) rfl rfl rfl (pc' := 10) ?_
    obtain ⟨ht6, H⟩ := H
    refine g_getRv rfl rfl rfl rfl ht6 (pc' := 13) rfl (fun r7 hr7 => ?_)
    replace H := H r7 hr7
    obtain ⟨ht8, H⟩ := H
    refine g_putR rfl rfl rfl rfl ht8  (pc' := 16) rfl ?_
    replace H := H _ rfl
    refine g_aload (r := some _) rfl rfl rfl (pc' := 17) ?_
    refine g_aload (r := some _) rfl rfl rfl (pc' := 18) ?_
    refine g_putR (x := some _) rfl rfl rfl rfl ht6  (pc' := 21) rfl ?_
    replace H := H _ rfl
    exact g_return rfl H
  · exact H
set_option maxRecDepth 20000 in
theorem w_451_0 {a0 : Nat} {r_1 : Option Nat} {h : hh_T} {Q : Option Value ⊕ Nat → hh_T → Prop} (H : ∃ a1, r_1 = some a1 ∧ (gm_sub (hh_tg h a1) 29 = true ∧ (∀ r3, r3 = hh_r h a1 5 → (hh_tg h a0 = 1 ∧ (gm_G 432 0 [some (.ref a0), some (va_rf r3)] [] h (pV (fun h5 => gm_sub (hh_tg h5 a0) 0 = true ∧ (∀ r7, r7 = hh_r h5 a0 39 → (gm_sub (hh_tg h5 a1) 29 = true ∧ (∀ h9, h9 = hh_wr h5 a1 6 r7 → (∀ h10, h10 = hh_wr h9 a0 39 (some a1) → (Q (.inl none) h10)))))) (fun e11 h12 => hh_tg h12 e11 = 21 ∧ Q (.inr e11) h12))))))) : gm_G 451 0 [some (.ref a0), some (va_rf r_1)] [] h Q := by
  refine g_aload (r := some _) rfl rfl rfl (pc' := 1) ?_
  refine g_aload (r := _) rfl rfl rfl (pc' := 2) ?_
  obtain ⟨a1, rfl, H⟩ := H
  obtain ⟨ht2, H⟩ := H
  refine g_getRv rfl rfl rfl rfl ht2 (pc' := 5) rfl (fun r3 hr3 => ?_)
  replace H := H r3 hr3
  obtain ⟨ht4, H⟩ := H
  refine g_call rfl (y := 432) (n := 2) (pc' := 8) (g_vt ht4 rfl rfl) (by cases r3 <;> rfl) rfl ⟨(Nat.le_of_ble_eq_true rfl), (Nat.le_of_ble_eq_true rfl), (Nat.le_of_ble_eq_true rfl)⟩ rfl (gm_G.mono H (pV_elim (fun h5 H' => ?_) (fun e11 h12 H => ?_)))
  · show gm_G _ 8 _ _ _ _
    replace H := H'
    clear H'
    refine g_aload (r := some _) rfl rfl rfl (pc' := 9) ?_
    refine g_aload (r := some _) rfl rfl rfl (pc' := 10) ?_
    obtain ⟨ht6, H⟩ := H
    refine g_getRv rfl rfl rfl rfl ht6 (pc' := 13) rfl (fun r7 hr7 => ?_)
    replace H := H r7 hr7
    obtain ⟨ht8, H⟩ := H
    refine g_putR rfl rfl rfl rfl ht8  (pc' := 16) rfl ?_
    replace H := H _ rfl
    refine g_aload (r := some _) rfl rfl rfl (pc' := 17) ?_
    refine g_aload (r := some _) rfl rfl rfl (pc' := 18) ?_
    refine g_putR (x := some _) rfl rfl rfl rfl ht6  (pc' := 21) rfl ?_
    replace H := H _ rfl
    exact g_return rfl H
  · exact H
set_option maxRecDepth 20000 in
theorem w_452_0  {x0 : Int32} {h : hh_T} {Q : Option Value ⊕ Nat → hh_T → Prop} (H : gm_G 431 0 [some (.int x0), some (.int (Int32.ofInt (-1)))] [] h (pV (fun h1 => Q (.inl none) h1) (fun e2 h3 => hh_tg h3 e2 = 21 ∧ Q (.inr e2) h3))) : gm_G 452 0 [some (.int x0)] [] h Q := by
  refine g_iload rfl rfl rfl (pc' := 1) ?_
  refine g_iconst rfl rfl rfl (pc' := 2) ?_
  refine g_call rfl (y := 431) (n := 2) (pc' := 5) (fun _ => rfl) rfl rfl ⟨(Nat.le_of_ble_eq_true rfl), (Nat.le_of_ble_eq_true rfl), (Nat.le_of_ble_eq_true rfl)⟩ rfl (gm_G.mono H (pV_elim (fun h1 H' => ?_) (fun e2 h3 H => ?_)))
  · show gm_G _ 5 _ _ _ _
    replace H := H'
    clear H'
    exact g_return rfl H
  · exact H
set_option maxRecDepth 20000 in
theorem w_453_0 {a0 : Nat} {x1 : Int32} {h : hh_T} {Q : Option Value ⊕ Nat → hh_T → Prop} (H : gm_sub (hh_tg h a0) 0 = true ∧ (∀ r2, r2 = hh_r h a0 33 → (∃ a3, r2 = some a3 ∧ (hh_tg h a3 = 23 ∧ (gm_G 178 0 [some (.ref a3), some (.int x1)] [] h (pR (fun r6 h5 => (r6 = none → (gm_G 453 18 [none, none, some (va_rf none)] [.int (Int32.ofNat 0)] h5 Q)) ∧ (∀ a7, r6 = some a7 → (gm_G 453 18 [none, none, some (.ref a7)] [.int (Int32.ofNat 1)] h5 Q))) (fun e8 h9 => hh_tg h9 e8 = 21 ∧ Q (.inr e8) h9))))))) : gm_G 453 0 [some (.ref a0), some (.int x1)] [] h Q := by
  refine g_aload (r := some _) rfl rfl rfl (pc' := 1) ?_
  obtain ⟨ht1, H⟩ := H
  refine g_getRv rfl rfl rfl rfl ht1 (pc' := 4) rfl (fun r2 hr2 => ?_)
  replace H := H r2 hr2
  refine g_iload rfl rfl rfl (pc' := 5) ?_
  obtain ⟨a3, rfl, H⟩ := H
  obtain ⟨ht4, H⟩ := H
  refine g_call rfl (y := 178) (n := 2) (pc' := 8) (g_vt ht4 rfl rfl) rfl rfl ⟨(Nat.le_of_ble_eq_true rfl), (Nat.le_of_ble_eq_true rfl), (Nat.le_of_ble_eq_true rfl)⟩ rfl (gm_G.mono H (pR_elim (fun r6 h5 H' => ?_) (fun e8 h9 H => ?_)))
  · show gm_G _ 8 _ _ _ _
    replace H := H'
    clear H'
    refine g_astore (r := _) rfl rfl rfl (pc' := 9) ?_
    refine g_aload (r := _) rfl rfl rfl (pc' := 10) ?_
    refine g_ifnull rfl (pc' := 13) (pt := 17) rfl rfl ⟨fun hc => ?_, fun a7 hc => ?_⟩
    · replace H := H.1 hc
      subst hc
      refine g_iconst rfl rfl rfl (pc' := 18) ?_
      exact g_weak (show gm_Lle [none, none, some _] _ from ⟨rfl, trivial⟩) H
    · replace H := H.2 a7 hc
      subst hc
      refine g_iconst rfl rfl rfl (pc' := 14) ?_
      refine g_goto rfl (pc' := 18) rfl ?_
      exact g_weak (show gm_Lle [none, none, some _] _ from ⟨rfl, trivial⟩) H
  · exact H
set_option maxRecDepth 20000 in
theorem w_453_18 {a0 : Nat} {r_2 : Option Nat} {y0 : Int32} {h : hh_T} {Q : Option Value ⊕ Nat → hh_T → Prop} (H : gm_G 431 0 [some (.int y0), some (.int (Int32.ofInt (-2)))] [] h (pV (fun h1 => Q (.inl (some (va_rf r_2))) h1) (fun e2 h3 => hh_tg h3 e2 = 21 ∧ Q (.inr e2) h3))) : gm_G 453 18 [none, none, some (va_rf r_2)] [.int y0] h Q := by
  refine g_iconst rfl rfl rfl (pc' := 20) ?_
  refine g_call rfl (y := 431) (n := 2) (pc' := 23) (fun _ => rfl) rfl rfl ⟨(Nat.le_of_ble_eq_true rfl), (Nat.le_of_ble_eq_true rfl), (Nat.le_of_ble_eq_true rfl)⟩ rfl (gm_G.mono H (pV_elim (fun h1 H' => ?_) (fun e2 h3 H => ?_)))
  · show gm_G _ 23 _ _ _ _
    replace H := H'
    clear H'
    refine g_aload (r := _) rfl rfl rfl (pc' := 24) ?_
    exact g_areturn (r := _) rfl H
  · exact H
set_option maxRecDepth 20000 in
theorem w_454_0 {a0 : Nat} {x1 : Int32} {h : hh_T} {Q : Option Value ⊕ Nat → hh_T → Prop} (H : gm_sub (hh_tg h a0) 0 = true ∧ (∀ r2, r2 = hh_r h a0 33 → (∃ a3, r2 = some a3 ∧ (hh_tg h a3 = 23 ∧ (gm_G 179 0 [some (.ref a3), some (.int x1)] [] h (pR (fun r6 h5 => (r6 = none → (gm_G 454 18 [none, none, some (va_rf none)] [.int (Int32.ofNat 0)] h5 Q)) ∧ (∀ a7, r6 = some a7 → (gm_G 454 18 [none, none, some (.ref a7)] [.int (Int32.ofNat 1)] h5 Q))) (fun e8 h9 => hh_tg h9 e8 = 21 ∧ Q (.inr e8) h9))))))) : gm_G 454 0 [some (.ref a0), some (.int x1)] [] h Q := by
  refine g_aload (r := some _) rfl rfl rfl (pc' := 1) ?_
  obtain ⟨ht1, H⟩ := H
  refine g_getRv rfl rfl rfl rfl ht1 (pc' := 4) rfl (fun r2 hr2 => ?_)
  replace H := H r2 hr2
  refine g_iload rfl rfl rfl (pc' := 5) ?_
  obtain ⟨a3, rfl, H⟩ := H
  obtain ⟨ht4, H⟩ := H
  refine g_call rfl (y := 179) (n := 2) (pc' := 8) (g_vt ht4 rfl rfl) rfl rfl ⟨(Nat.le_of_ble_eq_true rfl), (Nat.le_of_ble_eq_true rfl), (Nat.le_of_ble_eq_true rfl)⟩ rfl (gm_G.mono H (pR_elim (fun r6 h5 H' => ?_) (fun e8 h9 H => ?_)))
  · show gm_G _ 8 _ _ _ _
    replace H := H'
    clear H'
    refine g_astore (r := _) rfl rfl rfl (pc' := 9) ?_
    refine g_aload (r := _) rfl rfl rfl (pc' := 10) ?_
    refine g_ifnull rfl (pc' := 13) (pt := 17) rfl rfl ⟨fun hc => ?_, fun a7 hc => ?_⟩
    · replace H := H.1 hc
      subst hc
      refine g_iconst rfl rfl rfl (pc' := 18) ?_
      exact g_weak (show gm_Lle [none, none, some _] _ from ⟨rfl, trivial⟩) H
    · replace H := H.2 a7 hc
      subst hc
      refine g_iconst rfl rfl rfl (pc' := 14) ?_
      refine g_goto rfl (pc' := 18) rfl ?_
      exact g_weak (show gm_Lle [none, none, some _] _ from ⟨rfl, trivial⟩) H
  · exact H
set_option maxRecDepth 20000 in
theorem w_454_18 {a0 : Nat} {r_2 : Option Nat} {y0 : Int32} {h : hh_T} {Q : Option Value ⊕ Nat → hh_T → Prop} (H : gm_G 431 0 [some (.int y0), some (.int (Int32.ofInt (-2)))] [] h (pV (fun h1 => Q (.inl (some (va_rf r_2))) h1) (fun e2 h3 => hh_tg h3 e2 = 21 ∧ Q (.inr e2) h3))) : gm_G 454 18 [none, none, some (va_rf r_2)] [.int y0] h Q := by
  refine g_iconst rfl rfl rfl (pc' := 20) ?_
  refine g_call rfl (y := 431) (n := 2) (pc' := 23) (fun _ => rfl) rfl rfl ⟨(Nat.le_of_ble_eq_true rfl), (Nat.le_of_ble_eq_true rfl), (Nat.le_of_ble_eq_true rfl)⟩ rfl (gm_G.mono H (pV_elim (fun h1 H' => ?_) (fun e2 h3 H => ?_)))
  · show gm_G _ 23 _ _ _ _
    replace H := H'
    clear H'
    refine g_aload (r := _) rfl rfl rfl (pc' := 24) ?_
    exact g_areturn (r := _) rfl H
  · exact H
set_option maxRecDepth 20000 in
theorem w_455_0 {a0 : Nat} {x1 : Int32} {h : hh_T} {Q : Option Value ⊕ Nat → hh_T → Prop} (H : gm_sub (hh_tg h a0) 0 = true ∧ (∀ r2, r2 = hh_r h a0 33 → (∃ a3, r2 = some a3 ∧ (hh_tg h a3 = 23 ∧ (gm_G 312 0 [some (.ref a3), some (.int x1)] [] h (pR (fun r6 h5 => (r6 = none → (gm_G 455 18 [none, none, some (va_rf none)] [.int (Int32.ofNat 0)] h5 Q)) ∧ (∀ a7, r6 = some a7 → (gm_G 455 18 [none, none, some (.ref a7)] [.int (Int32.ofNat 1)] h5 Q))) (fun e8 h9 => hh_tg h9 e8 = 21 ∧ Q (.inr e8) h9))))))) : gm_G 455 0 [some (.ref a0), some (.int x1)] [] h Q := by
  refine g_aload (r := some _) rfl rfl rfl (pc' := 1) ?_
  obtain ⟨ht1, H⟩ := H
  refine g_getRv rfl rfl rfl rfl ht1 (pc' := 4) rfl (fun r2 hr2 => ?_)
  replace H := H r2 hr2
  refine g_iload rfl rfl rfl (pc' := 5) ?_
  obtain ⟨a3, rfl, H⟩ := H
  obtain ⟨ht4, H⟩ := H
  refine g_call rfl (y := 312) (n := 2) (pc' := 8) (g_vt ht4 rfl rfl) rfl rfl ⟨(Nat.le_of_ble_eq_true rfl), (Nat.le_of_ble_eq_true rfl), (Nat.le_of_ble_eq_true rfl)⟩ rfl (gm_G.mono H (pR_elim (fun r6 h5 H' => ?_) (fun e8 h9 H => ?_)))
  · show gm_G _ 8 _ _ _ _
    replace H := H'
    clear H'
    refine g_astore (r := _) rfl rfl rfl (pc' := 9) ?_
    refine g_aload (r := _) rfl rfl rfl (pc' := 10) ?_
    refine g_ifnull rfl (pc' := 13) (pt := 17) rfl rfl ⟨fun hc => ?_, fun a7 hc => ?_⟩
    · replace H := H.1 hc
      subst hc
      refine g_iconst rfl rfl rfl (pc' := 18) ?_
      exact g_weak (show gm_Lle [none, none, some _] _ from ⟨rfl, trivial⟩) H
    · replace H := H.2 a7 hc
      subst hc
      refine g_iconst rfl rfl rfl (pc' := 14) ?_
      refine g_goto rfl (pc' := 18) rfl ?_
      exact g_weak (show gm_Lle [none, none, some _] _ from ⟨rfl, trivial⟩) H
  · exact H
set_option maxRecDepth 20000 in
theorem w_455_18 {a0 : Nat} {r_2 : Option Nat} {y0 : Int32} {h : hh_T} {Q : Option Value ⊕ Nat → hh_T → Prop} (H : gm_G 431 0 [some (.int y0), some (.int (Int32.ofInt (-2)))] [] h (pV (fun h1 => Q (.inl (some (va_rf r_2))) h1) (fun e2 h3 => hh_tg h3 e2 = 21 ∧ Q (.inr e2) h3))) : gm_G 455 18 [none, none, some (va_rf r_2)] [.int y0] h Q := by
  refine g_iconst rfl rfl rfl (pc' := 20) ?_
  refine g_call rfl (y := 431) (n := 2) (pc' := 23) (fun _ => rfl) rfl rfl ⟨(Nat.le_of_ble_eq_true rfl), (Nat.le_of_ble_eq_true rfl), (Nat.le_of_ble_eq_true rfl)⟩ rfl (gm_G.mono H (pV_elim (fun h1 H' => ?_) (fun e2 h3 H => ?_)))
  · show gm_G _ 23 _ _ _ _
    replace H := H'
    clear H'
    refine g_aload (r := _) rfl rfl rfl (pc' := 24) ?_
    exact g_areturn (r := _) rfl H
  · exact H
set_option maxRecDepth 20000 in
theorem w_456_0 {a0 : Nat}  {h : hh_T} {Q : Option Value ⊕ Nat → hh_T → Prop} (H : gm_sub (hh_tg h a0) 0 = true ∧ (∀ h2, h2 = hh_wi h a0 17 (Int32.ofNat 0) → (∀ h3, h3 = hh_wi h2 a0 29 (Int32.ofNat 0) → (gm_G 431 0 [some (.int (hh_i h3 a0 10)), some (.int (Int32.ofInt (-9)))] [] h3 (pV (fun h4 => Q (.inl none) h4) (fun e5 h6 => hh_tg h6 e5 = 21 ∧ Q (.inr e5) h6)))))) : gm_G 456 0 [some (.ref a0)] [] h Q := by
  refine g_aload (r := some _) rfl rfl rfl (pc' := 1) ?_
  refine g_iconst rfl rfl rfl (pc' := 2) ?_
  obtain ⟨ht1, H⟩ := H
  refine g_putI rfl rfl rfl rfl ht1  (pc' := 5) rfl ?_
  replace H := H _ rfl
  refine g_aload (r := some _) rfl rfl rfl (pc' := 6) ?_
  refine g_iconst rfl rfl rfl (pc' := 7) ?_
  refine g_putI rfl rfl rfl rfl ht1  (pc' := 10) rfl ?_
  replace H := H _ rfl
  refine g_aload (r := some _) rfl rfl rfl (pc' := 11) ?_
  refine g_getZ rfl rfl rfl rfl ht1 (pc' := 14) rfl ?_
  refine g_iconst rfl rfl rfl (pc' := 16) ?_
  refine g_call rfl (y := 431) (n := 2) (pc' := 19) (fun _ => rfl) rfl rfl ⟨(Nat.le_of_ble_eq_true rfl), (Nat.le_of_ble_eq_true rfl), (Nat.le_of_ble_eq_true rfl)⟩ rfl (gm_G.mono H (pV_elim (fun h4 H' => ?_) (fun e5 h6 H => ?_)))
  · show gm_G _ 19 _ _ _ _
    replace H := H'
    clear H'
    exact g_return rfl H
  · exact H
set_option maxRecDepth 20000 in
theorem w_457_0  {x0 : Int32} {h : hh_T} {Q : Option Value ⊕ Nat → hh_T → Prop} (H : gm_G 431 0 [some (.int x0), some (.int (Int32.ofInt (-11)))] [] h (pV (fun h1 => Q (.inl none) h1) (fun e2 h3 => hh_tg h3 e2 = 21 ∧ Q (.inr e2) h3))) : gm_G 457 0 [some (.int x0)] [] h Q := by
  refine g_iload rfl rfl rfl (pc' := 1) ?_
  refine g_iconst rfl rfl rfl (pc' := 3) ?_
  refine g_call rfl (y := 431) (n := 2) (pc' := 6) (fun _ => rfl) rfl rfl ⟨(Nat.le_of_ble_eq_true rfl), (Nat.le_of_ble_eq_true rfl), (Nat.le_of_ble_eq_true rfl)⟩ rfl (gm_G.mono H (pV_elim (fun h1 H' => ?_) (fun e2 h3 H => ?_)))
  · show gm_G _ 6 _ _ _ _
    replace H := H'
    clear H'
    exact g_return rfl H
  · exact H
set_option maxRecDepth 20000 in
theorem w_458_0 {a0 : Nat} {r_1 : Option Nat} {h : hh_T} {Q : Option Value ⊕ Nat → hh_T → Prop} (H : ∃ a1, r_1 = some a1 ∧ (hh_tg h a1 = 43 ∧ (gm_G 209 0 [some (.ref a1)] [] h (pI (fun v4 h3 => (v4 = Int32.ofNat 0 → (gm_G 458 20 [some (.ref a0), some (.ref a1)] [] h3 Q)) ∧ (¬ v4 = Int32.ofNat 0 → (gm_sub (hh_tg h3 a1) 42 = true ∧ ((¬ ((hh_i h3 a1 0) - (hh_i h3 a1 0) / (Int32.ofNat 2) * (Int32.ofNat 2)) = Int32.ofNat 0 → (gm_G 458 20 [some (.ref a0), some (.ref a1)] [] h3 Q)) ∧ (((hh_i h3 a1 0) - (hh_i h3 a1 0) / (Int32.ofNat 2) * (Int32.ofNat 2)) = Int32.ofNat 0 → (gm_G 458 21 [some (.ref a0), some (.ref a1)] [.int (Int32.ofNat 1)] h3 Q)))))) (fun e6 h7 => hh_tg h7 e6 = 21 ∧ Q (.inr e6) h7))))) : gm_G 458 0 [some (.ref a0), some (va_rf r_1)] [] h Q := by
  refine g_aload (r := _) rfl rfl rfl (pc' := 1) ?_
  obtain ⟨a1, rfl, H⟩ := H
  obtain ⟨ht2, H⟩ := H
  refine g_call rfl (y := 209) (n := 1) (pc' := 4) (g_vt ht2 rfl rfl) rfl rfl ⟨(Nat.le_of_ble_eq_true rfl), (Nat.le_of_ble_eq_true rfl), (Nat.le_of_ble_eq_true rfl)⟩ rfl (gm_G.mono H (pI_elim (fun v4 h3 H' => ?_) (fun e6 h7 H => ?_)))
  · show gm_G _ 4 _ _ _ _
    replace H := H'
    clear H'
    refine g_if_eq rfl (pc' := 7) (pt := 20) rfl rfl ⟨fun hc => ?_, fun hc => ?_⟩
    · replace H := H.1 hc
      exact g_weak (show gm_Lle [some _, some _] _ from ⟨rfl, ⟨rfl, trivial⟩⟩) H
    · replace H := H.2 hc
      refine g_aload (r := some _) rfl rfl rfl (pc' := 8) ?_
      obtain ⟨ht5, H⟩ := H
      refine g_getI rfl rfl rfl rfl ht5 (pc' := 11) rfl ?_
      refine g_iconst rfl rfl rfl (pc' := 12) ?_
      refine g_irem rfl (by decide) (pc' := 13) rfl ?_
      refine g_if_ne rfl (pc' := 16) (pt := 20) rfl rfl ⟨fun hc => ?_, fun hc => ?_⟩
      · replace H := H.1 hc
        exact g_weak (show gm_Lle [some _, some _] _ from ⟨rfl, ⟨rfl, trivial⟩⟩) H
      · replace H := H.2 hc
        refine g_iconst rfl rfl rfl (pc' := 17) ?_
        refine g_goto rfl (pc' := 21) rfl ?_
        exact g_weak (show gm_Lle [some _, some _] _ from ⟨rfl, ⟨rfl, trivial⟩⟩) H
  · exact H
set_option maxRecDepth 20000 in
theorem w_458_20 {a0 : Nat} {r_1 : Option Nat} {h : hh_T} {Q : Option Value ⊕ Nat → hh_T → Prop} (H : gm_G 458 21 [some (.ref a0), some (va_rf r_1)] [.int (Int32.ofNat 0)] h Q) : gm_G 458 20 [some (.ref a0), some (va_rf r_1)] [] h Q := by
  refine g_iconst rfl rfl rfl (pc' := 21) ?_
  exact g_weak (show gm_Lle [some _, some _] _ from ⟨rfl, ⟨rfl, trivial⟩⟩) H
set_option maxRecDepth 20000 in
theorem w_458_21 {a0 : Nat} {r_1 : Option Nat} {y0 : Int32} {h : hh_T} {Q : Option Value ⊕ Nat → hh_T → Prop} (H : gm_G 431 0 [some (.int y0), some (.int (Int32.ofInt (-6)))] [] h (pV (fun h1 => gm_sub (hh_tg h1 a0) 0 = true ∧ (∀ r3, r3 = hh_r h1 a0 33 → (∃ a4, r_1 = some a4 ∧ (gm_sub (hh_tg h1 a4) 42 = true ∧ (∃ a6, r3 = some a6 ∧ (hh_tg h1 a6 = 23 ∧ (gm_G 178 0 [some (.ref a6), some (.int ((hh_i h1 a4 0) / (Int32.ofNat 2)))] [] h1 (pR (fun r9 h8 => gm_sub (hh_tg h8 a0) 0 = true ∧ (∀ r11, r11 = hh_r h8 a0 33 → (∃ a12, r11 = some a12 ∧ (hh_tg h8 a12 = 23 ∧ (gm_G 311 0 [some (.ref a12), some (va_rf r9), some (.int (Int32.ofNat 3))] [] h8 (pI (fun v15 h14 => (¬ v15 = Int32.ofNat 0 → (gm_G 458 57 [none, none, some (va_rf r9)] [.int (Int32.ofNat 0)] h14 Q)) ∧ (v15 = Int32.ofNat 0 → (gm_G 458 57 [none, none, some (va_rf r9)] [.int (Int32.ofNat 1)] h14 Q))) (fun e16 h17 => hh_tg h17 e16 = 21 ∧ Q (.inr e16) h17))))))) (fun e18 h19 => hh_tg h19 e18 = 21 ∧ Q (.inr e18) h19))))))))) (fun e20 h21 => hh_tg h21 e20 = 21 ∧ Q (.inr e20) h21))) : gm_G 458 21 [some (.ref a0), some (va_rf r_1)] [.int y0] h Q := by
  refine g_iconst rfl rfl rfl (pc' := 23) ?_
  refine g_call rfl (y := 431) (n := 2) (pc' := 26) (fun _ => rfl) rfl rfl ⟨(Nat.le_of_ble_eq_true rfl), (Nat.le_of_ble_eq_true rfl), (Nat.le_of_ble_eq_true rfl)⟩ rfl (gm_G.mono H (pV_elim (fun h1 H' => ?_) (fun e20 h21 H => ?_)))
  · show gm_G _ 26 _ _ _ _
    replace H := H'
    clear H'
    refine g_aload (r := some _) rfl rfl rfl (pc' := 27) ?_
    obtain ⟨ht2, H⟩ := H
    refine g_getRv rfl rfl rfl rfl ht2 (pc' := 30) rfl (fun r3 hr3 => ?_)
    replace H := H r3 hr3
    refine g_aload (r := _) rfl rfl rfl (pc' := 31) ?_
    obtain ⟨a4, rfl, H⟩ := H
    obtain ⟨ht5, H⟩ := H
    refine g_getI rfl rfl rfl rfl ht5 (pc' := 34) rfl ?_
    refine g_iconst rfl rfl rfl (pc' := 35) ?_
    refine g_idiv rfl (by decide) (pc' := 36) rfl ?_
    obtain ⟨a6, rfl, H⟩ := H
    obtain ⟨ht7, H⟩ := H
    refine g_call rfl (y := 178) (n := 2) (pc' := 39) (g_vt ht7 rfl rfl) rfl rfl ⟨(Nat.le_of_ble_eq_true rfl), (Nat.le_of_ble_eq_true rfl), (Nat.le_of_ble_eq_true rfl)⟩ rfl (gm_G.mono H (pR_elim (fun r9 h8 H' => ?_) (fun e18 h19 H => ?_)))
    · show gm_G _ 39 _ _ _ _
      replace H := H'
      clear H'
      refine g_astore (r := _) rfl rfl rfl (pc' := 40) ?_
      refine g_aload (r := some _) rfl rfl rfl (pc' := 41) ?_
      obtain ⟨ht10, H⟩ := H
      refine g_getRv rfl rfl rfl rfl ht10 (pc' := 44) rfl (fun r11 hr11 => ?_)
      replace H := H r11 hr11
      refine g_aload (r := _) rfl rfl rfl (pc' := 45) ?_
      refine g_iconst rfl rfl rfl (pc' := 46) ?_
      obtain ⟨a12, rfl, H⟩ := H
      obtain ⟨ht13, H⟩ := H
      refine g_call rfl (y := 311) (n := 3) (pc' := 49) (g_vt ht13 rfl rfl) (by cases r9 <;> rfl) rfl ⟨(Nat.le_of_ble_eq_true rfl), (Nat.le_of_ble_eq_true rfl), (Nat.le_of_ble_eq_true rfl)⟩ rfl (gm_G.mono H (pI_elim (fun v15 h14 H' => ?_) (fun e16 h17 H => ?_)))
      · show gm_G _ 49 _ _ _ _
        replace H := H'
        clear H'
        refine g_if_ne rfl (pc' := 52) (pt := 56) rfl rfl ⟨fun hc => ?_, fun hc => ?_⟩
        · replace H := H.1 hc
          refine g_iconst rfl rfl rfl (pc' := 57) ?_
          exact g_weak (show gm_Lle [none, none, some _] _ from ⟨rfl, trivial⟩) H
        · replace H := H.2 hc
          refine g_iconst rfl rfl rfl (pc' := 53) ?_
          refine g_goto rfl (pc' := 57) rfl ?_
          exact g_weak (show gm_Lle [none, none, some _] _ from ⟨rfl, trivial⟩) H
      · exact H
    · exact H
  · exact H
set_option maxRecDepth 20000 in
theorem w_458_57 {a0 : Nat} {r_2 : Option Nat} {y0 : Int32} {h : hh_T} {Q : Option Value ⊕ Nat → hh_T → Prop} (H : gm_G 431 0 [some (.int y0), some (.int (Int32.ofInt (-6)))] [] h (pV (fun h1 => Q (.inl (some (va_rf r_2))) h1) (fun e2 h3 => hh_tg h3 e2 = 21 ∧ Q (.inr e2) h3))) : gm_G 458 57 [none, none, some (va_rf r_2)] [.int y0] h Q := by
  refine g_iconst rfl rfl rfl (pc' := 59) ?_
  refine g_call rfl (y := 431) (n := 2) (pc' := 62) (fun _ => rfl) rfl rfl ⟨(Nat.le_of_ble_eq_true rfl), (Nat.le_of_ble_eq_true rfl), (Nat.le_of_ble_eq_true rfl)⟩ rfl (gm_G.mono H (pV_elim (fun h1 H' => ?_) (fun e2 h3 H => ?_)))
  · show gm_G _ 62 _ _ _ _
    replace H := H'
    clear H'
    refine g_aload (r := _) rfl rfl rfl (pc' := 63) ?_
    exact g_areturn (r := _) rfl H
  · exact H
set_option maxRecDepth 20000 in
theorem w_459_0 {a0 : Nat} {x1 : Int32} {h : hh_T} {Q : Option Value ⊕ Nat → hh_T → Prop} (H : gm_sub (hh_tg h a0) 12 = true ∧ (∀ r2, r2 = hh_r h a0 0 → (∃ a3, r2 = some a3 ∧ (100 ≤ hh_tg h a3 ∧ ((¬ (hh_i h a0 1) < (Int32.ofNat (hh_ln h a3)) → (gm_G 459 17 [some (.ref a0), some (.int x1)] [.int (Int32.ofNat 0)] h Q)) ∧ ((hh_i h a0 1) < (Int32.ofNat (hh_ln h a3)) → (gm_G 459 17 [some (.ref a0), some (.int x1)] [.int (Int32.ofNat 1)] h Q))))))) : gm_G 459 0 [some (.ref a0), some (.int x1)] [] h Q := by
  refine g_aload (r := some _) rfl rfl rfl (pc' := 1) ?_
  obtain ⟨ht1, H⟩ := H
  refine g_getI rfl rfl rfl rfl ht1 (pc' := 4) rfl ?_
  refine g_aload (r := some _) rfl rfl rfl (pc' := 5) ?_
  refine g_getRv rfl rfl rfl rfl ht1 (pc' := 8) rfl (fun r2 hr2 => ?_)
  replace H := H r2 hr2
  obtain ⟨a3, rfl, H⟩ := H
  obtain ⟨Hp, H⟩ := H
  refine g_alen rfl Hp (pc' := 9) rfl ?_
  refine g_ic_ge rfl (pc' := 12) (pt := 16) rfl rfl ⟨fun hc => ?_, fun hc => ?_⟩
  · replace H := H.1 hc
    refine g_iconst rfl rfl rfl (pc' := 17) ?_
    exact g_weak (show gm_Lle [some _, some _] _ from ⟨rfl, ⟨rfl, trivial⟩⟩) H
  · replace H := H.2 hc
    refine g_iconst rfl rfl rfl (pc' := 13) ?_
    refine g_goto rfl (pc' := 17) rfl ?_
    exact g_weak (show gm_Lle [some _, some _] _ from ⟨rfl, ⟨rfl, trivial⟩⟩) H
set_option maxRecDepth 20000 in
theorem w_459_17 {a0 : Nat} {x1 : Int32} {y0 : Int32} {h : hh_T} {Q : Option Value ⊕ Nat → hh_T → Prop} (H : gm_G 431 0 [some (.int y0), some (.int (Int32.ofInt (-3)))] [] h (pV (fun h1 => gm_sub (hh_tg h1 a0) 12 = true ∧ (∀ r3, r3 = hh_r h1 a0 0 → (∃ a4, r3 = some a4 ∧ (hh_tg h1 a4 = 101 ∧ (∃ n5, gm_ix (hh_i h1 a0 1) n5 (hh_ln h1 a4) ∧ (∀ h6, h6 = hh_wi h1 a4 n5 ((x1.toInt8.toInt32).toInt8.toInt32) → (∀ h7, h7 = hh_wi h6 a0 1 ((hh_i h6 a0 1) + (Int32.ofNat 1)) → (Q (.inl none) h7)))))))) (fun e9 h10 => hh_tg h10 e9 = 21 ∧ Q (.inr e9) h10))) : gm_G 459 17 [some (.ref a0), some (.int x1)] [.int y0] h Q := by
  refine g_iconst rfl rfl rfl (pc' := 19) ?_
  refine g_call rfl (y := 431) (n := 2) (pc' := 22) (fun _ => rfl) rfl rfl ⟨(Nat.le_of_ble_eq_true rfl), (Nat.le_of_ble_eq_true rfl), (Nat.le_of_ble_eq_true rfl)⟩ rfl (gm_G.mono H (pV_elim (fun h1 H' => ?_) (fun e9 h10 H => ?_)))
  · show gm_G _ 22 _ _ _ _
    replace H := H'
    clear H'
    refine g_aload (r := some _) rfl rfl rfl (pc' := 23) ?_
    obtain ⟨ht2, H⟩ := H
    refine g_getRv rfl rfl rfl rfl ht2 (pc' := 26) rfl (fun r3 hr3 => ?_)
    replace H := H r3 hr3
    refine g_aload (r := some _) rfl rfl rfl (pc' := 27) ?_
    refine g_getI rfl rfl rfl rfl ht2 (pc' := 30) rfl ?_
    refine g_iload rfl rfl rfl (pc' := 31) ?_
    refine g_i2b rfl rfl (pc' := 32) ?_
    obtain ⟨a4, rfl, H⟩ := H
    obtain ⟨ht8, H⟩ := H
    obtain ⟨n5, hn5, H⟩ := H
    refine g_bastore rfl ht8 hn5  (pc' := 33) rfl ?_
    replace H := H _ rfl
    refine g_aload (r := some _) rfl rfl rfl (pc' := 34) ?_
    refine g_dup_a (r := some _) rfl rfl (pc' := 35) ?_
    refine g_getI rfl rfl rfl rfl ht2 (pc' := 38) rfl ?_
    refine g_iconst rfl rfl rfl (pc' := 39) ?_
    refine g_iadd rfl rfl (pc' := 40) ?_
    refine g_putI rfl rfl rfl rfl ht2  (pc' := 43) rfl ?_
    replace H := H _ rfl
    exact g_return rfl H
  · exact H
set_option maxRecDepth 20000 in
theorem w_460_0 {a0 : Nat} {r_1 : Option Nat} {h : hh_T} {Q : Option Value ⊕ Nat → hh_T → Prop} (H : ∃ a1, r_1 = some a1 ∧ (gm_sub (hh_tg h a1) 25 = true ∧ ((¬ (hh_i h a1 1) = (Int32.ofNat 2) → (gm_G 460 13 [none, some (.ref a1)] [.int (Int32.ofNat 0)] h Q)) ∧ ((hh_i h a1 1) = (Int32.ofNat 2) → (gm_G 460 13 [none, some (.ref a1)] [.int (Int32.ofNat 1)] h Q))))) : gm_G 460 0 [some (.ref a0), some (va_rf r_1)] [] h Q := by
  refine g_aload (r := _) rfl rfl rfl (pc' := 1) ?_
  obtain ⟨a1, rfl, H⟩ := H
  obtain ⟨ht2, H⟩ := H
  refine g_getI rfl rfl rfl rfl ht2 (pc' := 4) rfl ?_
  refine g_iconst rfl rfl rfl (pc' := 5) ?_
  refine g_ic_ne rfl (pc' := 8) (pt := 12) rfl rfl ⟨fun hc => ?_, fun hc => ?_⟩
  · replace H := H.1 hc
    refine g_iconst rfl rfl rfl (pc' := 13) ?_
    exact g_weak (show gm_Lle [none, some _] _ from ⟨rfl, trivial⟩) H
  · replace H := H.2 hc
    refine g_iconst rfl rfl rfl (pc' := 9) ?_
    refine g_goto rfl (pc' := 13) rfl ?_
    exact g_weak (show gm_Lle [none, some _] _ from ⟨rfl, trivial⟩) H
set_option maxRecDepth 20000 in
theorem w_460_13 {a0 : Nat} {r_1 : Option Nat} {y0 : Int32} {h : hh_T} {Q : Option Value ⊕ Nat → hh_T → Prop} (H : gm_G 431 0 [some (.int y0), some (.int (Int32.ofInt (-10)))] [] h (pV (fun h1 => (∀ b, r_1 = some b → gm_sub (hh_tg h1 b) 27 = true) ∧ (Q (.inl (some (va_rf r_1))) h1)) (fun e2 h3 => hh_tg h3 e2 = 21 ∧ Q (.inr e2) h3))) : gm_G 460 13 [none, some (va_rf r_1)] [.int y0] h Q := by
  refine g_iconst rfl rfl rfl (pc' := 15) ?_
  refine g_call rfl (y := 431) (n := 2) (pc' := 18) (fun _ => rfl) rfl rfl ⟨(Nat.le_of_ble_eq_true rfl), (Nat.le_of_ble_eq_true rfl), (Nat.le_of_ble_eq_true rfl)⟩ rfl (gm_G.mono H (pV_elim (fun h1 H' => ?_) (fun e2 h3 H => ?_)))
  · show gm_G _ 18 _ _ _ _
    replace H := H'
    clear H'
    refine g_aload (r := _) rfl rfl rfl (pc' := 19) ?_
    obtain ⟨Hc, H⟩ := H
    refine g_cast rfl Hc (pc' := 22) rfl ?_
    exact g_areturn (r := _) rfl H
  · exact H
set_option maxRecDepth 20000 in
theorem w_461_0 {a0 : Nat} {x1 : Int32} {h : hh_T} {Q : Option Value ⊕ Nat → hh_T → Prop} (H : gm_G 431 0 [some (.int x1), some (.int (Int32.ofInt (-11)))] [] h (pV (fun h1 => gm_sub (hh_tg h1 a0) 17 = true ∧ (∀ r3, r3 = hh_r h1 a0 6 → (∃ a4, r3 = some a4 ∧ (hh_tg h1 a4 = 13 ∧ (gm_G 63 0 [some (.ref a4), some (.int (Int32.ofNat 4))] [] h1 (pI (fun v7 h6 => gm_sub (hh_tg h6 a0) 17 = true ∧ (∀ r9, r9 = hh_r h6 a0 6 → (∃ a10, r9 = some a10 ∧ (hh_tg h6 a10 = 13 ∧ (gm_G 63 0 [some (.ref a10), some (.int (Int32.ofNat 2))] [] h6 (pI (fun v13 h12 => gm_sub (hh_tg h12 a0) 17 = true ∧ (∀ r15, r15 = hh_r h12 a0 6 → (∃ a16, r15 = some a16 ∧ (hh_tg h12 a16 = 13 ∧ (gm_G 63 0 [some (.ref a16), some (.int (Int32.ofNat 3))] [] h12 (pI (fun v19 h18 => gm_sub (hh_tg h18 a0) 17 = true ∧ (∀ r21, r21 = hh_r h18 a0 6 → (∃ a22, r21 = some a22 ∧ (hh_tg h18 a22 = 13 ∧ (gm_G 63 0 [some (.ref a22), some (.int (Int32.ofNat 5))] [] h18 (pI (fun v25 h24 => (¬ ((((((Int32.ofNat 7) * v13) + ((Int32.ofNat 13) * v19)) + ((Int32.ofNat 29) * v7)) + (Int32.ofNat 5)) &&& (Int32.ofNat 255)) = v25 → (gm_G 461 65 [some (.ref a0), none, some (.int v7)] [.int (Int32.ofNat 0)] h24 Q)) ∧ (((((((Int32.ofNat 7) * v13) + ((Int32.ofNat 13) * v19)) + ((Int32.ofNat 29) * v7)) + (Int32.ofNat 5)) &&& (Int32.ofNat 255)) = v25 → (gm_G 461 60 [some (.ref a0), none, some (.int v7)] [] h24 Q))) (fun e26 h27 => hh_tg h27 e26 = 21 ∧ Q (.inr e26) h27))))))) (fun e28 h29 => hh_tg h29 e28 = 21 ∧ Q (.inr e28) h29))))))) (fun e30 h31 => hh_tg h31 e30 = 21 ∧ Q (.inr e30) h31))))))) (fun e32 h33 => hh_tg h33 e32 = 21 ∧ Q (.inr e32) h33))))))) (fun e34 h35 => hh_tg h35 e34 = 21 ∧ Q (.inr e34) h35))) : gm_G 461 0 [some (.ref a0), some (.int x1)] [] h Q := by
  refine g_iload rfl rfl rfl (pc' := 1) ?_
  refine g_iconst rfl rfl rfl (pc' := 3) ?_
  refine g_call rfl (y := 431) (n := 2) (pc' := 6) (fun _ => rfl) rfl rfl ⟨(Nat.le_of_ble_eq_true rfl), (Nat.le_of_ble_eq_true rfl), (Nat.le_of_ble_eq_true rfl)⟩ rfl (gm_G.mono H (pV_elim (fun h1 H' => ?_) (fun e34 h35 H => ?_)))
  · show gm_G _ 6 _ _ _ _
    replace H := H'
    clear H'
    refine g_aload (r := some _) rfl rfl rfl (pc' := 7) ?_
    obtain ⟨ht2, H⟩ := H
    refine g_getRv rfl rfl rfl rfl ht2 (pc' := 10) rfl (fun r3 hr3 => ?_)
    replace H := H r3 hr3
    refine g_iconst rfl rfl rfl (pc' := 11) ?_
    obtain ⟨a4, rfl, H⟩ := H
    obtain ⟨ht5, H⟩ := H
    refine g_call rfl (y := 63) (n := 2) (pc' := 14) (g_vt ht5 rfl rfl) rfl rfl ⟨(Nat.le_of_ble_eq_true rfl), (Nat.le_of_ble_eq_true rfl), (Nat.le_of_ble_eq_true rfl)⟩ rfl (gm_G.mono H (pI_elim (fun v7 h6 H' => ?_) (fun e32 h33 H => ?_)))
    · show gm_G _ 14 _ _ _ _
      replace H := H'
      clear H'
      refine g_istore rfl rfl rfl (pc' := 15) ?_
      refine g_iconst rfl rfl rfl (pc' := 17) ?_
      refine g_aload (r := some _) rfl rfl rfl (pc' := 18) ?_
      obtain ⟨ht8, H⟩ := H
      refine g_getRv rfl rfl rfl rfl ht8 (pc' := 21) rfl (fun r9 hr9 => ?_)
      replace H := H r9 hr9
      refine g_iconst rfl rfl rfl (pc' := 22) ?_
      obtain ⟨a10, rfl, H⟩ := H
      obtain ⟨ht11, H⟩ := H
      refine g_call rfl (y := 63) (n := 2) (pc' := 25) (g_vt ht11 rfl rfl) rfl rfl ⟨(Nat.le_of_ble_eq_true rfl), (Nat.le_of_ble_eq_true rfl), (Nat.le_of_ble_eq_true rfl)⟩ rfl (gm_G.mono H (pI_elim (fun v13 h12 H' => ?_) (fun e30 h31 H => ?_)))
      · show gm_G _ 25 _ _ _ _
        replace H := H'
        clear H'
        refine g_imul rfl rfl (pc' := 26) ?_
        refine g_iconst rfl rfl rfl (pc' := 28) ?_
        refine g_aload (r := some _) rfl rfl rfl (pc' := 29) ?_
        obtain ⟨ht14, H⟩ := H
        refine g_getRv rfl rfl rfl rfl ht14 (pc' := 32) rfl (fun r15 hr15 => ?_)
        replace H := H r15 hr15
        refine g_iconst rfl rfl rfl (pc' := 33) ?_
        obtain ⟨a16, rfl, H⟩ := H
        obtain ⟨ht17, H⟩ := H
        refine g_call rfl (y := 63) (n := 2) (pc' := 36) (g_vt ht17 rfl rfl) rfl rfl ⟨(Nat.le_of_ble_eq_true rfl), (Nat.le_of_ble_eq_true rfl), (Nat.le_of_ble_eq_true rfl)⟩ rfl (gm_G.mono H (pI_elim (fun v19 h18 H' => ?_) (fun e28 h29 H => ?_)))
        · show gm_G _ 36 _ _ _ _
          replace H := H'
          clear H'
          refine g_imul rfl rfl (pc' := 37) ?_
          refine g_iadd rfl rfl (pc' := 38) ?_
          refine g_iconst rfl rfl rfl (pc' := 40) ?_
          refine g_iload rfl rfl rfl (pc' := 41) ?_
          refine g_imul rfl rfl (pc' := 42) ?_
          refine g_iadd rfl rfl (pc' := 43) ?_
          refine g_iconst rfl rfl rfl (pc' := 44) ?_
          refine g_iadd rfl rfl (pc' := 45) ?_
          refine g_iconst rfl rfl rfl (pc' := 48) ?_
          refine g_iand rfl rfl (pc' := 49) ?_
          refine g_aload (r := some _) rfl rfl rfl (pc' := 50) ?_
          obtain ⟨ht20, H⟩ := H
          refine g_getRv rfl rfl rfl rfl ht20 (pc' := 53) rfl (fun r21 hr21 => ?_)
          replace H := H r21 hr21
          refine g_iconst rfl rfl rfl (pc' := 54) ?_
          obtain ⟨a22, rfl, H⟩ := H
          obtain ⟨ht23, H⟩ := H
          refine g_call rfl (y := 63) (n := 2) (pc' := 57) (g_vt ht23 rfl rfl) rfl rfl ⟨(Nat.le_of_ble_eq_true rfl), (Nat.le_of_ble_eq_true rfl), (Nat.le_of_ble_eq_true rfl)⟩ rfl (gm_G.mono H (pI_elim (fun v25 h24 H' => ?_) (fun e26 h27 H => ?_)))
          · show gm_G _ 57 _ _ _ _
            replace H := H'
            clear H'
            refine g_ic_ne rfl (pc' := 60) (pt := 64) rfl rfl ⟨fun hc => ?_, fun hc => ?_⟩
            · replace H := H.1 hc
              refine g_iconst rfl rfl rfl (pc' := 65) ?_
              exact g_weak (show gm_Lle [some _, none, some _] _ from ⟨rfl, ⟨rfl, trivial⟩⟩) H
            · replace H := H.2 hc
              exact g_weak (show gm_Lle [some _, none, some _] _ from ⟨rfl, ⟨rfl, trivial⟩⟩) H
          · exact H
        · exact H
      · exact H
    · exact H
  · exact H
set_option maxRecDepth 20000 in
theorem w_461_60 {a0 : Nat} {x2 : Int32} {h : hh_T} {Q : Option Value ⊕ Nat → hh_T → Prop} (H : gm_G 461 65 [some (.ref a0), none, some (.int x2)] [.int (Int32.ofNat 1)] h Q) : gm_G 461 60 [some (.ref a0), none, some (.int x2)] [] h Q := by
  refine g_iconst rfl rfl rfl (pc' := 61) ?_
  refine g_goto rfl (pc' := 65) rfl ?_
  exact g_weak (show gm_Lle [some _, none, some _] _ from ⟨rfl, ⟨rfl, trivial⟩⟩) H
set_option maxRecDepth 20000 in
theorem w_461_65 {a0 : Nat} {x2 : Int32} {y0 : Int32} {h : hh_T} {Q : Option Value ⊕ Nat → hh_T → Prop} (H : gm_G 431 0 [some (.int y0), some (.int (Int32.ofInt (-11)))] [] h (pV (fun h1 => gm_sub (hh_tg h1 a0) 17 = true ∧ (∀ r3, r3 = hh_r h1 a0 6 → (∃ a4, r3 = some a4 ∧ (hh_tg h1 a4 = 13 ∧ (gm_G 63 0 [some (.ref a4), some (.int (Int32.ofNat 2))] [] h1 (pI (fun v7 h6 => gm_sub (hh_tg h6 a0) 17 = true ∧ (∀ h9, h9 = hh_wi h6 a0 9 v7 → (∀ r10, r10 = hh_r h9 a0 6 → (∃ a11, r10 = some a11 ∧ (hh_tg h9 a11 = 13 ∧ (gm_G 63 0 [some (.ref a11), some (.int (Int32.ofNat 3))] [] h9 (pI (fun v14 h13 => gm_sub (hh_tg h13 a0) 17 = true ∧ (∀ h16, h16 = hh_wi h13 a0 10 v14 → (gm_G 461 94 [some (.ref a0), none, some (.int x2)] [] h16 Q))) (fun e17 h18 => hh_tg h18 e17 = 21 ∧ Q (.inr e17) h18)))))))) (fun e19 h20 => hh_tg h20 e19 = 21 ∧ Q (.inr e19) h20))))))) (fun e21 h22 => hh_tg h22 e21 = 21 ∧ Q (.inr e21) h22))) : gm_G 461 65 [some (.ref a0), none, some (.int x2)] [.int y0] h Q := by
  refine g_iconst rfl rfl rfl (pc' := 67) ?_
  refine g_call rfl (y := 431) (n := 2) (pc' := 70) (fun _ => rfl) rfl rfl ⟨(Nat.le_of_ble_eq_true rfl), (Nat.le_of_ble_eq_true rfl), (Nat.le_of_ble_eq_true rfl)⟩ rfl (gm_G.mono H (pV_elim (fun h1 H' => ?_) (fun e21 h22 H => ?_)))
  · show gm_G _ 70 _ _ _ _
    replace H := H'
    clear H'
    refine g_aload (r := some _) rfl rfl rfl (pc' := 71) ?_
    refine g_aload (r := some _) rfl rfl rfl (pc' := 72) ?_
    obtain ⟨ht2, H⟩ := H
    refine g_getRv rfl rfl rfl rfl ht2 (pc' := 75) rfl (fun r3 hr3 => ?_)
    replace H := H r3 hr3
    refine g_iconst rfl rfl rfl (pc' := 76) ?_
    obtain ⟨a4, rfl, H⟩ := H
    obtain ⟨ht5, H⟩ := H
    refine g_call rfl (y := 63) (n := 2) (pc' := 79) (g_vt ht5 rfl rfl) rfl rfl ⟨(Nat.le_of_ble_eq_true rfl), (Nat.le_of_ble_eq_true rfl), (Nat.le_of_ble_eq_true rfl)⟩ rfl (gm_G.mono H (pI_elim (fun v7 h6 H' => ?_) (fun e19 h20 H => ?_)))
    · show gm_G _ 79 _ _ _ _
      replace H := H'
      clear H'
      obtain ⟨ht8, H⟩ := H
      refine g_putI rfl rfl rfl rfl ht8  (pc' := 82) rfl ?_
      replace H := H _ rfl
      refine g_aload (r := some _) rfl rfl rfl (pc' := 83) ?_
      refine g_aload (r := some _) rfl rfl rfl (pc' := 84) ?_
      refine g_getRv rfl rfl rfl rfl ht8 (pc' := 87) rfl (fun r10 hr10 => ?_)
      replace H := H r10 hr10
      refine g_iconst rfl rfl rfl (pc' := 88) ?_
      obtain ⟨a11, rfl, H⟩ := H
      obtain ⟨ht12, H⟩ := H
      refine g_call rfl (y := 63) (n := 2) (pc' := 91) (g_vt ht12 rfl rfl) rfl rfl ⟨(Nat.le_of_ble_eq_true rfl), (Nat.le_of_ble_eq_true rfl), (Nat.le_of_ble_eq_true rfl)⟩ rfl (gm_G.mono H (pI_elim (fun v14 h13 H' => ?_) (fun e17 h18 H => ?_)))
      · show gm_G _ 91 _ _ _ _
        replace H := H'
        clear H'
        obtain ⟨ht15, H⟩ := H
        refine g_putI rfl rfl rfl rfl ht15  (pc' := 94) rfl ?_
        replace H := H _ rfl
        exact g_weak (show gm_Lle [some _, none, some _] _ from ⟨rfl, ⟨rfl, trivial⟩⟩) H
      · exact H
    · exact H
  · exact H
set_option maxRecDepth 20000 in
theorem w_461_94 {a0 : Nat} {x2 : Int32} {h : hh_T} {Q : Option Value ⊕ Nat → hh_T → Prop} (H : gm_sub (hh_tg h a0) 17 = true ∧ (∀ r2, r2 = hh_r h a0 11 → (∃ a3, r2 = some a3 ∧ (gm_sub (hh_tg h a3) 0 = true ∧ (∀ r5, r5 = hh_r h a3 33 → (∃ a6, r5 = some a6 ∧ (hh_tg h a6 = 23 ∧ (gm_G 312 0 [some (.ref a6), some (.int (hh_i h a0 9))] [] h (pR (fun r9 h8 => gm_sub (hh_tg h8 a0) 17 = true ∧ (∀ h11, h11 = hh_wr h8 a0 8 r9 → (∀ r12, r12 = hh_r h11 a0 8 → ((∀ a13, r12 = some a13 → (∀ r14, r14 = hh_r h11 a0 8 → (∃ a15, r14 = some a15 ∧ (hh_tg h11 a15 = 25 ∧ (gm_G 189 0 [some (.ref a15), some (.int (hh_i h11 a0 10))] [] h11 (pR (fun r18 h17 => gm_G 461 134 [none, none, some (.int x2)] [va_rf r18] h17 Q) (fun e19 h20 => hh_tg h20 e19 = 21 ∧ Q (.inr e19) h20))))))) ∧ (r12 = none → (gm_G 461 134 [none, none, some (.int x2)] [va_rf none] h11 Q)))))) (fun e21 h22 => hh_tg h22 e21 = 21 ∧ Q (.inr e21) h22)))))))))) : gm_G 461 94 [some (.ref a0), none, some (.int x2)] [] h Q := by
  refine g_aload (r := some _) rfl rfl rfl (pc' := 95) ?_
  refine g_aload (r := some _) rfl rfl rfl (pc' := 96) ?_
  obtain ⟨ht1, H⟩ := H
  refine g_getRv rfl rfl rfl rfl ht1 (pc' := 99) rfl (fun r2 hr2 => ?_)
  replace H := H r2 hr2
  obtain ⟨a3, rfl, H⟩ := H
  obtain ⟨ht4, H⟩ := H
  refine g_getRv rfl rfl rfl rfl ht4 (pc' := 102) rfl (fun r5 hr5 => ?_)
  replace H := H r5 hr5
  refine g_aload (r := some _) rfl rfl rfl (pc' := 103) ?_
  refine g_getI rfl rfl rfl rfl ht1 (pc' := 106) rfl ?_
  obtain ⟨a6, rfl, H⟩ := H
  obtain ⟨ht7, H⟩ := H
  refine g_call rfl (y := 312) (n := 2) (pc' := 109) (g_vt ht7 rfl rfl) rfl rfl ⟨(Nat.le_of_ble_eq_true rfl), (Nat.le_of_ble_eq_true rfl), (Nat.le_of_ble_eq_true rfl)⟩ rfl (gm_G.mono H (pR_elim (fun r9 h8 H' => ?_) (fun e21 h22 H => ?_)))
  · show gm_G _ 109 _ _ _ _
    replace H := H'
    clear H'
    obtain ⟨ht10, H⟩ := H
    refine g_putR rfl rfl rfl rfl ht10  (pc' := 112) rfl ?_
    replace H := H _ rfl
    refine g_aload (r := some _) rfl rfl rfl (pc' := 113) ?_
    refine g_getRv rfl rfl rfl rfl ht10 (pc' := 116) rfl (fun r12 hr12 => ?_)
    replace H := H r12 hr12
    refine g_ifnonnull rfl (pc' := 119) (pt := 123) rfl rfl ⟨fun a13 hc => ?_, fun hc => ?_⟩
    · replace H := H.1 a13 hc
      subst hc
      refine g_aload (r := some _) rfl rfl rfl (pc' := 124) ?_
      refine g_getRv rfl rfl rfl rfl ht10 (pc' := 127) rfl (fun r14 hr14 => ?_)
      replace H := H r14 hr14
      refine g_aload (r := some _) rfl rfl rfl (pc' := 128) ?_
      refine g_getI rfl rfl rfl rfl ht10 (pc' := 131) rfl ?_
      obtain ⟨a15, rfl, H⟩ := H
      obtain ⟨ht16, H⟩ := H
      refine g_call rfl (y := 189) (n := 2) (pc' := 134) (g_vt ht16 rfl rfl) rfl rfl ⟨(Nat.le_of_ble_eq_true rfl), (Nat.le_of_ble_eq_true rfl), (Nat.le_of_ble_eq_true rfl)⟩ rfl (gm_G.mono H (pR_elim (fun r18 h17 H' => ?_) (fun e19 h20 H => ?_)))
      · show gm_G _ 134 _ _ _ _
        replace H := H'
        clear H'
        exact g_weak (show gm_Lle [none, none, some _] _ from ⟨rfl, trivial⟩) H
      · exact H
    · replace H := H.2 hc
      subst hc
      refine g_null rfl rfl (pc' := 120) ?_
      refine g_goto rfl (pc' := 134) rfl ?_
      exact g_weak (show gm_Lle [none, none, some _] _ from ⟨rfl, trivial⟩) H
  · exact H
set_option maxRecDepth 20000 in
theorem w_461_134 {a0 : Nat} {x2 : Int32} {q0 : Option Nat} {h : hh_T} {Q : Option Value ⊕ Nat → hh_T → Prop} (H : (q0 = none → (gm_G 461 155 [none, none, none, some (va_rf none)] [] h Q)) ∧ (∀ a1, q0 = some a1 → (gm_sub (hh_tg h a1) 25 = true ∧ ((¬ ((hh_i h a1 8) &&& (Int32.ofNat 255)) = x2 → (gm_G 461 155 [none, none, none, some (.ref a1)] [] h Q)) ∧ (((hh_i h a1 8) &&& (Int32.ofNat 255)) = x2 → (gm_G 461 156 [none, none, none, some (.ref a1)] [.int (Int32.ofNat 1)] h Q)))))) : gm_G 461 134 [none, none, some (.int x2)] [va_rf q0] h Q := by
  refine g_astore (r := _) rfl rfl rfl (pc' := 135) ?_
  refine g_aload (r := _) rfl rfl rfl (pc' := 136) ?_
  refine g_ifnull rfl (pc' := 139) (pt := 155) rfl rfl ⟨fun hc => ?_, fun a1 hc => ?_⟩
  · replace H := H.1 hc
    subst hc
    exact g_weak (show gm_Lle [none, none, none, some _] _ from ⟨rfl, trivial⟩) H
  · replace H := H.2 a1 hc
    subst hc
    refine g_aload (r := some _) rfl rfl rfl (pc' := 140) ?_
    obtain ⟨ht2, H⟩ := H
    refine g_getI rfl rfl rfl rfl ht2 (pc' := 143) rfl ?_
    refine g_iconst rfl rfl rfl (pc' := 146) ?_
    refine g_iand rfl rfl (pc' := 147) ?_
    refine g_iload rfl rfl rfl (pc' := 148) ?_
    refine g_ic_ne rfl (pc' := 151) (pt := 155) rfl rfl ⟨fun hc => ?_, fun hc => ?_⟩
    · replace H := H.1 hc
      exact g_weak (show gm_Lle [none, none, none, some _] _ from ⟨rfl, trivial⟩) H
    · replace H := H.2 hc
      refine g_iconst rfl rfl rfl (pc' := 152) ?_
      refine g_goto rfl (pc' := 156) rfl ?_
      exact g_weak (show gm_Lle [none, none, none, some _] _ from ⟨rfl, trivial⟩) H
set_option maxRecDepth 20000 in
theorem w_461_155 {a0 : Nat} {r_3 : Option Nat} {h : hh_T} {Q : Option Value ⊕ Nat → hh_T → Prop} (H : gm_G 461 156 [none, none, none, some (va_rf r_3)] [.int (Int32.ofNat 0)] h Q) : gm_G 461 155 [none, none, none, some (va_rf r_3)] [] h Q := by
  refine g_iconst rfl rfl rfl (pc' := 156) ?_
  exact g_weak (show gm_Lle [none, none, none, some _] _ from ⟨rfl, trivial⟩) H
set_option maxRecDepth 20000 in
theorem w_461_156 {a0 : Nat} {r_3 : Option Nat} {y0 : Int32} {h : hh_T} {Q : Option Value ⊕ Nat → hh_T → Prop} (H : gm_G 431 0 [some (.int y0), some (.int (Int32.ofInt (-14)))] [] h (pV (fun h1 => Q (.inl (some (va_rf r_3))) h1) (fun e2 h3 => hh_tg h3 e2 = 21 ∧ Q (.inr e2) h3))) : gm_G 461 156 [none, none, none, some (va_rf r_3)] [.int y0] h Q := by
  refine g_iconst rfl rfl rfl (pc' := 158) ?_
  refine g_call rfl (y := 431) (n := 2) (pc' := 161) (fun _ => rfl) rfl rfl ⟨(Nat.le_of_ble_eq_true rfl), (Nat.le_of_ble_eq_true rfl), (Nat.le_of_ble_eq_true rfl)⟩ rfl (gm_G.mono H (pV_elim (fun h1 H' => ?_) (fun e2 h3 H => ?_)))
  · show gm_G _ 161 _ _ _ _
    replace H := H'
    clear H'
    refine g_aload (r := _) rfl rfl rfl (pc' := 162) ?_
    exact g_areturn (r := _) rfl H
  · exact H
set_option maxRecDepth 20000 in
theorem w_462_0 {a0 : Nat}  {h : hh_T} {Q : Option Value ⊕ Nat → hh_T → Prop} (H : gm_sub (hh_tg h a0) 17 = true ∧ ((¬ ((hh_i h a0 9) - (hh_i h a0 9) / (Int32.ofNat 2) * (Int32.ofNat 2)) = Int32.ofNat 0 → (gm_G 462 14 [some (.ref a0)] [.int (Int32.ofNat 0)] h Q)) ∧ (((hh_i h a0 9) - (hh_i h a0 9) / (Int32.ofNat 2) * (Int32.ofNat 2)) = Int32.ofNat 0 → (gm_G 462 14 [some (.ref a0)] [.int (Int32.ofNat 1)] h Q)))) : gm_G 462 0 [some (.ref a0)] [] h Q := by
  refine g_aload (r := some _) rfl rfl rfl (pc' := 1) ?_
  obtain ⟨ht1, H⟩ := H
  refine g_getI rfl rfl rfl rfl ht1 (pc' := 4) rfl ?_
  refine g_iconst rfl rfl rfl (pc' := 5) ?_
  refine g_irem rfl (by decide) (pc' := 6) rfl ?_
  refine g_if_ne rfl (pc' := 9) (pt := 13) rfl rfl ⟨fun hc => ?_, fun hc => ?_⟩
  · replace H := H.1 hc
    refine g_iconst rfl rfl rfl (pc' := 14) ?_
    exact g_weak (show gm_Lle [some _] _ from ⟨rfl, trivial⟩) H
  · replace H := H.2 hc
    refine g_iconst rfl rfl rfl (pc' := 10) ?_
    refine g_goto rfl (pc' := 14) rfl ?_
    exact g_weak (show gm_Lle [some _] _ from ⟨rfl, trivial⟩) H
set_option maxRecDepth 20000 in
theorem w_462_14 {a0 : Nat} {y0 : Int32} {h : hh_T} {Q : Option Value ⊕ Nat → hh_T → Prop} (H : gm_G 431 0 [some (.int y0), some (.int (Int32.ofInt (-6)))] [] h (pV (fun h1 => gm_sub (hh_tg h1 a0) 17 = true ∧ (∀ r3, r3 = hh_r h1 a0 11 → (∃ a4, r3 = some a4 ∧ (gm_sub (hh_tg h1 a4) 0 = true ∧ (∀ r6, r6 = hh_r h1 a4 33 → (∃ a7, r6 = some a7 ∧ (hh_tg h1 a7 = 23 ∧ (gm_G 178 0 [some (.ref a7), some (.int ((hh_i h1 a0 9) / (Int32.ofNat 2)))] [] h1 (pR (fun r10 h9 => gm_sub (hh_tg h9 a0) 17 = true ∧ (∀ r12, r12 = hh_r h9 a0 11 → (∃ a13, r12 = some a13 ∧ (gm_sub (hh_tg h9 a13) 0 = true ∧ (∀ r15, r15 = hh_r h9 a13 33 → (∃ a16, r15 = some a16 ∧ (hh_tg h9 a16 = 23 ∧ (gm_G 311 0 [some (.ref a16), some (va_rf r10), some (.int (Int32.ofNat 3))] [] h9 (pI (fun v19 h18 => (¬ v19 = Int32.ofNat 0 → (gm_G 462 56 [none, some (va_rf r10)] [.int (Int32.ofNat 0)] h18 Q)) ∧ (v19 = Int32.ofNat 0 → (gm_G 462 56 [none, some (va_rf r10)] [.int (Int32.ofNat 1)] h18 Q))) (fun e20 h21 => hh_tg h21 e20 = 21 ∧ Q (.inr e20) h21)))))))))) (fun e22 h23 => hh_tg h23 e22 = 21 ∧ Q (.inr e22) h23)))))))))) (fun e24 h25 => hh_tg h25 e24 = 21 ∧ Q (.inr e24) h25))) : gm_G 462 14 [some (.ref a0)] [.int y0] h Q := by
  refine g_iconst rfl rfl rfl (pc' := 16) ?_
  refine g_call rfl (y := 431) (n := 2) (pc' := 19) (fun _ => rfl) rfl rfl ⟨(Nat.le_of_ble_eq_true rfl), (Nat.le_of_ble_eq_true rfl), (Nat.le_of_ble_eq_true rfl)⟩ rfl (gm_G.mono H (pV_elim (fun h1 H' => ?_) (fun e24 h25 H => ?_)))
  · show gm_G _ 19 _ _ _ _
    replace H := H'
    clear H'
    refine g_aload (r := some _) rfl rfl rfl (pc' := 20) ?_
    obtain ⟨ht2, H⟩ := H
    refine g_getRv rfl rfl rfl rfl ht2 (pc' := 23) rfl (fun r3 hr3 => ?_)
    replace H := H r3 hr3
    obtain ⟨a4, rfl, H⟩ := H
    obtain ⟨ht5, H⟩ := H
    refine g_getRv rfl rfl rfl rfl ht5 (pc' := 26) rfl (fun r6 hr6 => ?_)
    replace H := H r6 hr6
    refine g_aload (r := some _) rfl rfl rfl (pc' := 27) ?_
    refine g_getI rfl rfl rfl rfl ht2 (pc' := 30) rfl ?_
    refine g_iconst rfl rfl rfl (pc' := 31) ?_
    refine g_idiv rfl (by decide) (pc' := 32) rfl ?_
    obtain ⟨a7, rfl, H⟩ := H
    obtain ⟨ht8, H⟩ := H
    refine g_call rfl (y := 178) (n := 2) (pc' := 35) (g_vt ht8 rfl rfl) rfl rfl ⟨(Nat.le_of_ble_eq_true rfl), (Nat.le_of_ble_eq_true rfl), (Nat.le_of_ble_eq_true rfl)⟩ rfl (gm_G.mono H (pR_elim (fun r10 h9 H' => ?_) (fun e22 h23 H => ?_)))
    · show gm_G _ 35 _ _ _ _
      replace H := H'
      clear H'
      refine g_astore (r := _) rfl rfl rfl (pc' := 36) ?_
      refine g_aload (r := some _) rfl rfl rfl (pc' := 37) ?_
      obtain ⟨ht11, H⟩ := H
      refine g_getRv rfl rfl rfl rfl ht11 (pc' := 40) rfl (fun r12 hr12 => ?_)
      replace H := H r12 hr12
      obtain ⟨a13, rfl, H⟩ := H
      obtain ⟨ht14, H⟩ := H
      refine g_getRv rfl rfl rfl rfl ht14 (pc' := 43) rfl (fun r15 hr15 => ?_)
      replace H := H r15 hr15
      refine g_aload (r := _) rfl rfl rfl (pc' := 44) ?_
      refine g_iconst rfl rfl rfl (pc' := 45) ?_
      obtain ⟨a16, rfl, H⟩ := H
      obtain ⟨ht17, H⟩ := H
      refine g_call rfl (y := 311) (n := 3) (pc' := 48) (g_vt ht17 rfl rfl) (by cases r10 <;> rfl) rfl ⟨(Nat.le_of_ble_eq_true rfl), (Nat.le_of_ble_eq_true rfl), (Nat.le_of_ble_eq_true rfl)⟩ rfl (gm_G.mono H (pI_elim (fun v19 h18 H' => ?_) (fun e20 h21 H => ?_)))
      · show gm_G _ 48 _ _ _ _
        replace H := H'
        clear H'
        refine g_if_ne rfl (pc' := 51) (pt := 55) rfl rfl ⟨fun hc => ?_, fun hc => ?_⟩
        · replace H := H.1 hc
          refine g_iconst rfl rfl rfl (pc' := 56) ?_
          exact g_weak (show gm_Lle [none, some _] _ from ⟨rfl, trivial⟩) H
        · replace H := H.2 hc
          refine g_iconst rfl rfl rfl (pc' := 52) ?_
          refine g_goto rfl (pc' := 56) rfl ?_
          exact g_weak (show gm_Lle [none, some _] _ from ⟨rfl, trivial⟩) H
      · exact H
    · exact H
  · exact H
set_option maxRecDepth 20000 in
theorem w_462_56 {a0 : Nat} {r_1 : Option Nat} {y0 : Int32} {h : hh_T} {Q : Option Value ⊕ Nat → hh_T → Prop} (H : gm_G 431 0 [some (.int y0), some (.int (Int32.ofInt (-6)))] [] h (pV (fun h1 => Q (.inl (some (va_rf r_1))) h1) (fun e2 h3 => hh_tg h3 e2 = 21 ∧ Q (.inr e2) h3))) : gm_G 462 56 [none, some (va_rf r_1)] [.int y0] h Q := by
  refine g_iconst rfl rfl rfl (pc' := 58) ?_
  refine g_call rfl (y := 431) (n := 2) (pc' := 61) (fun _ => rfl) rfl rfl ⟨(Nat.le_of_ble_eq_true rfl), (Nat.le_of_ble_eq_true rfl), (Nat.le_of_ble_eq_true rfl)⟩ rfl (gm_G.mono H (pV_elim (fun h1 H' => ?_) (fun e2 h3 H => ?_)))
  · show gm_G _ 61 _ _ _ _
    replace H := H'
    clear H'
    refine g_aload (r := _) rfl rfl rfl (pc' := 62) ?_
    exact g_areturn (r := _) rfl H
  · exact H
set_option maxRecDepth 20000 in
theorem w_484_0 {a0 : Nat} {r_1 : Option Nat} {x2 : Int32} {h : hh_T} {Q : Option Value ⊕ Nat → hh_T → Prop} (H : hh_tg h a0 = 33 ∧ (gm_G 322 0 [some (.ref a0)] [] h (pI (fun v3 h2 => hh_tg h2 a0 = 33 ∧ (gm_G 386 0 [some (.ref a0)] [] h2 (pI (fun v6 h5 => hh_tg h5 a0 = 33 ∧ (gm_G 322 0 [some (.ref a0)] [] h5 (pI (fun v9 h8 => hh_tg h8 a0 = 33 ∧ (gm_G 322 0 [some (.ref a0)] [] h8 (pI (fun v12 h11 => hh_tg h11 a0 = 33 ∧ (gm_G 322 0 [some (.ref a0)] [] h11 (pI (fun v15 h14 => gm_G 484 29 [some (.ref a0), some (va_rf r_1), some (.int x2), some (.int v3), some (.int v6), some (.int v9), some (.int v12), some (.int v15)] [] h14 Q) (fun e16 h17 => hh_tg h17 e16 = 21 ∧ Q (.inr e16) h17)))) (fun e18 h19 => hh_tg h19 e18 = 21 ∧ Q (.inr e18) h19)))) (fun e20 h21 => hh_tg h21 e20 = 21 ∧ Q (.inr e20) h21)))) (fun e22 h23 => hh_tg h23 e22 = 21 ∧ Q (.inr e22) h23)))) (fun e24 h25 => hh_tg h25 e24 = 21 ∧ Q (.inr e24) h25)))) : gm_G 484 0 [some (.ref a0), some (va_rf r_1), some (.int x2)] [] h Q := by
  refine g_aload (r := some _) rfl rfl rfl (pc' := 1) ?_
  obtain ⟨ht1, H⟩ := H
  refine g_call rfl (y := 322) (n := 1) (pc' := 4) (g_vt ht1 rfl rfl) rfl rfl ⟨(Nat.le_of_ble_eq_true rfl), (Nat.le_of_ble_eq_true rfl), (Nat.le_of_ble_eq_true rfl)⟩ rfl (gm_G.mono H (pI_elim (fun v3 h2 H' => ?_) (fun e24 h25 H => ?_)))
  · show gm_G _ 4 _ _ _ _
    replace H := H'
    clear H'
    refine g_istore rfl rfl rfl (pc' := 5) ?_
    refine g_aload (r := some _) rfl rfl rfl (pc' := 6) ?_
    obtain ⟨ht4, H⟩ := H
    refine g_call rfl (y := 386) (n := 1) (pc' := 9) (g_vt ht4 rfl rfl) rfl rfl ⟨(Nat.le_of_ble_eq_true rfl), (Nat.le_of_ble_eq_true rfl), (Nat.le_of_ble_eq_true rfl)⟩ rfl (gm_G.mono H (pI_elim (fun v6 h5 H' => ?_) (fun e22 h23 H => ?_)))
    · show gm_G _ 9 _ _ _ _
      replace H := H'
      clear H'
      refine g_istore rfl rfl rfl (pc' := 11) ?_
      refine g_aload (r := some _) rfl rfl rfl (pc' := 12) ?_
      obtain ⟨ht7, H⟩ := H
      refine g_call rfl (y := 322) (n := 1) (pc' := 15) (g_vt ht7 rfl rfl) rfl rfl ⟨(Nat.le_of_ble_eq_true rfl), (Nat.le_of_ble_eq_true rfl), (Nat.le_of_ble_eq_true rfl)⟩ rfl (gm_G.mono H (pI_elim (fun v9 h8 H' => ?_) (fun e20 h21 H => ?_)))
      · show gm_G _ 15 _ _ _ _
        replace H := H'
        clear H'
        refine g_istore rfl rfl rfl (pc' := 17) ?_
        refine g_aload (r := some _) rfl rfl rfl (pc' := 18) ?_
        obtain ⟨ht10, H⟩ := H
        refine g_call rfl (y := 322) (n := 1) (pc' := 21) (g_vt ht10 rfl rfl) rfl rfl ⟨(Nat.le_of_ble_eq_true rfl), (Nat.le_of_ble_eq_true rfl), (Nat.le_of_ble_eq_true rfl)⟩ rfl (gm_G.mono H (pI_elim (fun v12 h11 H' => ?_) (fun e18 h19 H => ?_)))
        · show gm_G _ 21 _ _ _ _
          replace H := H'
          clear H'
          refine g_istore rfl rfl rfl (pc' := 23) ?_
          refine g_aload (r := some _) rfl rfl rfl (pc' := 24) ?_
          obtain ⟨ht13, H⟩ := H
          refine g_call rfl (y := 322) (n := 1) (pc' := 27) (g_vt ht13 rfl rfl) rfl rfl ⟨(Nat.le_of_ble_eq_true rfl), (Nat.le_of_ble_eq_true rfl), (Nat.le_of_ble_eq_true rfl)⟩ rfl (gm_G.mono H (pI_elim (fun v15 h14 H' => ?_) (fun e16 h17 H => ?_)))
          · show gm_G _ 27 _ _ _ _
            replace H := H'
            clear H'
            refine g_istore rfl rfl rfl (pc' := 29) ?_
            exact g_weak (show gm_Lle [some _, some _, some _, some _, some _, some _, some _, some _] _ from ⟨rfl, ⟨rfl, ⟨rfl, ⟨rfl, ⟨rfl, ⟨rfl, ⟨rfl, ⟨rfl, trivial⟩⟩⟩⟩⟩⟩⟩⟩) H
          · exact H
        · exact H
      · exact H
    · exact H
  · exact H
set_option maxRecDepth 20000 in
theorem w_484_29 {a0 : Nat} {r_1 : Option Nat} {x2 : Int32} {x3 : Int32} {x4 : Int32} {x5 : Int32} {x6 : Int32} {x7 : Int32} {h : hh_T} {Q : Option Value ⊕ Nat → hh_T → Prop} (H : hh_tg h a0 = 33 ∧ (gm_G 386 0 [some (.ref a0)] [] h (pI (fun v3 h2 => gm_sub (hh_tg h2 a0) 32 = true ∧ (∀ r5, r5 = hh_r h2 a0 0 → (gm_G 341 0 [some (va_rf r5), some (.int (hh_i h2 a0 1))] [] h2 (pI (fun v7 h6 => gm_sub (hh_tg h6 a0) 32 = true ∧ (∀ h9, h9 = hh_wi h6 a0 1 ((hh_i h6 a0 1) + (Int32.ofNat 4)) → (hh_tg h9 a0 = 33 ∧ (gm_G 386 0 [some (.ref a0)] [] h9 (pI (fun v12 h11 => ∃ a13, r_1 = some a13 ∧ (gm_sub (hh_tg h11 a13) 24 = true ∧ (∀ r15, r15 = hh_r h11 a13 2 → (∃ a16, r15 = some a16 ∧ ((hh_tg h11 a16 = 104 ∨ 200 ≤ hh_tg h11 a16) ∧ (∃ n17, gm_ix x2 n17 (hh_ln h11 a16) ∧ (∀ r19, r19 = hh_r h11 a16 n17 → ((r19 = none → (gm_G 484 110 [some (.ref a0), some (.ref a13), some (.int x2), some (.int x3), some (.int x4), some (.int x5), some (.int x6), some (.int x7), some (.int v3), some (.int v7), some (.int v12)] [] h11 Q)) ∧ (∀ a20, r19 = some a20 → (gm_sub (hh_tg h11 a20) 25 = true ∧ ((¬ (hh_i h11 a20 8) = v12 → (gm_G 484 110 [some (.ref a0), some (.ref a13), some (.int x2), some (.int x3), some (.int x4), some (.int x5), some (.int x6), some (.int x7), some (.int v3), some (.int v7), some (.int v12)] [] h11 Q)) ∧ ((hh_i h11 a20 8) = v12 → ((¬ (hh_i h11 a20 1) = x3 → (gm_G 484 110 [some (.ref a0), some (.ref a13), some (.int x2), some (.int x3), some (.int x4), some (.int x5), some (.int x6), some (.int x7), some (.int v3), some (.int v7), some (.int v12)] [] h11 Q)) ∧ ((hh_i h11 a20 1) = x3 → (gm_sub (hh_tg h11 a0) 32 = true ∧ (∀ r23, r23 = hh_r h11 a0 2 → (∃ a24, r23 = some a24 ∧ (hh_tg h11 a24 = 1 ∧ (gm_G 395 0 [some (.ref a24), some (.ref a13), some (.int x2)] [] h11 (pR (fun r27 h26 => gm_G 484 107 [some (.ref a0), none, none, some (.int x3), some (.int x4), some (.int x5), some (.int x6), some (.int x7), some (.int v3), some (.int v7), some (.int v12), some (va_rf r27)] [] h26 Q) (fun e28 h29 => hh_tg h29 e28 = 21 ∧ Q (.inr e28) h29))))))))))))))))))))) (fun e30 h31 => hh_tg h31 e30 = 21 ∧ Q (.inr e30) h31)))))) (fun e32 h33 => hh_tg h33 e32 = 21 ∧ Q (.inr e32) h33))))) (fun e34 h35 => hh_tg h35 e34 = 21 ∧ Q (.inr e34) h35)))) : gm_G 484 29 [some (.ref a0), some (va_rf r_1), some (.int x2), some (.int x3), some (.int x4), some (.int x5), some (.int x6), some (.int x7)] [] h Q := by
  refine g_aload (r := some _) rfl rfl rfl (pc' := 30) ?_
  obtain ⟨ht1, H⟩ := H
  refine g_call rfl (y := 386) (n := 1) (pc' := 33) (g_vt ht1 rfl rfl) rfl rfl ⟨(Nat.le_of_ble_eq_true rfl), (Nat.le_of_ble_eq_true rfl), (Nat.le_of_ble_eq_true rfl)⟩ rfl (gm_G.mono H (pI_elim (fun v3 h2 H' => ?_) (fun e34 h35 H => ?_)))
  · show gm_G _ 33 _ _ _ _
    replace H := H'
    clear H'
    refine g_istore rfl rfl rfl (pc' := 35) ?_
    refine g_aload (r := some _) rfl rfl rfl (pc' := 36) ?_
    obtain ⟨ht4, H⟩ := H
    refine g_getRv rfl rfl rfl rfl ht4 (pc' := 39) rfl (fun r5 hr5 => ?_)
    replace H := H r5 hr5
    refine g_aload (r := some _) rfl rfl rfl (pc' := 40) ?_
    refine g_getI rfl rfl rfl rfl ht4 (pc' := 43) rfl ?_
    refine g_call rfl (y := 341) (n := 2) (pc' := 46) (fun _ => rfl) (by cases r5 <;> rfl) rfl ⟨(Nat.le_of_ble_eq_true rfl), (Nat.le_of_ble_eq_true rfl), (Nat.le_of_ble_eq_true rfl)⟩ rfl (gm_G.mono H (pI_elim (fun v7 h6 H' => ?_) (fun e32 h33 H => ?_)))
    · show gm_G _ 46 _ _ _ _
      replace H := H'
      clear H'
      refine g_istore rfl rfl rfl (pc' := 48) ?_
      refine g_aload (r := some _) rfl rfl rfl (pc' := 49) ?_
      refine g_dup_a (r := some _) rfl rfl (pc' := 50) ?_
      obtain ⟨ht8, H⟩ := H
      refine g_getI rfl rfl rfl rfl ht8 (pc' := 53) rfl ?_
      refine g_iconst rfl rfl rfl (pc' := 54) ?_
      refine g_iadd rfl rfl (pc' := 55) ?_
      refine g_putI rfl rfl rfl rfl ht8  (pc' := 58) rfl ?_
      replace H := H _ rfl
      refine g_aload (r := some _) rfl rfl rfl (pc' := 59) ?_
      obtain ⟨ht10, H⟩ := H
      refine g_call rfl (y := 386) (n := 1) (pc' := 62) (g_vt ht10 rfl rfl) rfl rfl ⟨(Nat.le_of_ble_eq_true rfl), (Nat.le_of_ble_eq_true rfl), (Nat.le_of_ble_eq_true rfl)⟩ rfl (gm_G.mono H (pI_elim (fun v12 h11 H' => ?_) (fun e30 h31 H => ?_)))
      · show gm_G _ 62 _ _ _ _
        replace H := H'
        clear H'
        refine g_istore rfl rfl rfl (pc' := 64) ?_
        refine g_aload (r := _) rfl rfl rfl (pc' := 65) ?_
        obtain ⟨a13, rfl, H⟩ := H
        obtain ⟨ht14, H⟩ := H
        refine g_getRv rfl rfl rfl rfl ht14 (pc' := 68) rfl (fun r15 hr15 => ?_)
        replace H := H r15 hr15
        refine g_iload rfl rfl rfl (pc' := 69) ?_
        obtain ⟨a16, rfl, H⟩ := H
        obtain ⟨ht18, H⟩ := H
        obtain ⟨n17, hn17, H⟩ := H
        refine g_aaloadv rfl ht18 hn17 (pc' := 70) rfl (fun r19 hr19 => ?_)
        replace H := H r19 hr19
        refine g_astore (r := _) rfl rfl rfl (pc' := 72) ?_
        refine g_aload (r := _) rfl rfl rfl (pc' := 74) ?_
        refine g_ifnull rfl (pc' := 77) (pt := 110) rfl rfl ⟨fun hc => ?_, fun a20 hc => ?_⟩
        · replace H := H.1 hc
          subst hc
          exact g_weak (show gm_Lle [some _, some _, some _, some _, some _, some _, some _, some _, some _, some _, some _] _ from ⟨rfl, ⟨rfl, ⟨rfl, ⟨rfl, ⟨rfl, ⟨rfl, ⟨rfl, ⟨rfl, ⟨rfl, ⟨rfl, ⟨rfl, trivial⟩⟩⟩⟩⟩⟩⟩⟩⟩⟩⟩) H
        · replace H := H.2 a20 hc
          subst hc
          refine g_aload (r := some _) rfl rfl rfl (pc' := 79) ?_
          obtain ⟨ht21, H⟩ := H
          refine g_getI rfl rfl rfl rfl ht21 (pc' := 82) rfl ?_
          refine g_iload rfl rfl rfl (pc' := 84) ?_
          refine g_ic_ne rfl (pc' := 87) (pt := 110) rfl rfl ⟨fun hc => ?_, fun hc => ?_⟩
          · replace H := H.1 hc
            exact g_weak (show gm_Lle [some _, some _, some _, some _, some _, some _, some _, some _, some _, some _, some _] _ from ⟨rfl, ⟨rfl, ⟨rfl, ⟨rfl, ⟨rfl, ⟨rfl, ⟨rfl, ⟨rfl, ⟨rfl, ⟨rfl, ⟨rfl, trivial⟩⟩⟩⟩⟩⟩⟩⟩⟩⟩⟩) H
          · replace H := H.2 hc
            refine g_aload (r := some _) rfl rfl rfl (pc' := 89) ?_
            refine g_getI rfl rfl rfl rfl ht21 (pc' := 92) rfl ?_
            refine g_iload rfl rfl rfl (pc' := 93) ?_
            refine g_ic_ne rfl (pc' := 96) (pt := 110) rfl rfl ⟨fun hc => ?_, fun hc => ?_⟩
            · replace H := H.1 hc
              exact g_weak (show gm_Lle [some _, some _, some _, some _, some _, some _, some _, some _, some _, some _, some _] _ from ⟨rfl, ⟨rfl, ⟨rfl, ⟨rfl, ⟨rfl, ⟨rfl, ⟨rfl, ⟨rfl, ⟨rfl, ⟨rfl, ⟨rfl, trivial⟩⟩⟩⟩⟩⟩⟩⟩⟩⟩⟩) H
            · replace H := H.2 hc
              refine g_aload (r := some _) rfl rfl rfl (pc' := 97) ?_
              obtain ⟨ht22, H⟩ := H
              refine g_getRv rfl rfl rfl rfl ht22 (pc' := 100) rfl (fun r23 hr23 => ?_)
              replace H := H r23 hr23
              refine g_aload (r := some _) rfl rfl rfl (pc' := 101) ?_
              refine g_iload rfl rfl rfl (pc' := 102) ?_
              obtain ⟨a24, rfl, H⟩ := H
              obtain ⟨ht25, H⟩ := H
              refine g_call rfl (y := 395) (n := 3) (pc' := 105) (g_vt ht25 rfl rfl) rfl rfl ⟨(Nat.le_of_ble_eq_true rfl), (Nat.le_of_ble_eq_true rfl), (Nat.le_of_ble_eq_true rfl)⟩ rfl (gm_G.mono H (pR_elim (fun r27 h26 H' => ?_) (fun e28 h29 H => ?_)))
              · show gm_G _ 105 _ _ _ _
                replace H := H'
                clear H'
                refine g_astore (r := _) rfl rfl rfl (pc' := 107) ?_
                exact g_weak (show gm_Lle [some _, none, none, some _, some _, some _, some _, some _, some _, some _, some _, some _] _ from ⟨rfl, ⟨rfl, ⟨rfl, ⟨rfl, ⟨rfl, ⟨rfl, ⟨rfl, ⟨rfl, ⟨rfl, ⟨rfl, trivial⟩⟩⟩⟩⟩⟩⟩⟩⟩⟩) H
              · exact H
      · exact H
    · exact H
  · exact H
set_option maxRecDepth 20000 in
theorem w_484_107 {a0 : Nat} {x3 : Int32} {x4 : Int32} {x5 : Int32} {x6 : Int32} {x7 : Int32} {x8 : Int32} {x9 : Int32} {x10 : Int32} {r_11 : Option Nat} {h : hh_T} {Q : Option Value ⊕ Nat → hh_T → Prop} (H : gm_G 484 134 [some (.ref a0), none, none, some (.int x3), some (.int x4), some (.int x5), some (.int x6), some (.int x7), some (.int x8), some (.int x9), some (.int x10), some (va_rf r_11)] [] h Q) : gm_G 484 107 [some (.ref a0), none, none, some (.int x3), some (.int x4), some (.int x5), some (.int x6), some (.int x7), some (.int x8), some (.int x9), some (.int x10), some (va_rf r_11)] [] h Q := by
  refine g_goto rfl (pc' := 134) rfl ?_
  exact g_weak (show gm_Lle [some _, none, none, some _, some _, some _, some _, some _, some _, some _, some _, some _] _ from ⟨rfl, ⟨rfl, ⟨rfl, ⟨rfl, ⟨rfl, ⟨rfl, ⟨rfl, ⟨rfl, ⟨rfl, ⟨rfl, trivial⟩⟩⟩⟩⟩⟩⟩⟩⟩⟩) H
set_option maxRecDepth 20000 in
theorem w_484_110 {a0 : Nat} {r_1 : Option Nat} {x2 : Int32} {x3 : Int32} {x4 : Int32} {x5 : Int32} {x6 : Int32} {x7 : Int32} {x8 : Int32} {x9 : Int32} {x10 : Int32} {h : hh_T} {Q : Option Value ⊕ Nat → hh_T → Prop} (H : hh_tg h a0 = 33 ∧ (gm_G 444 0 [some (.ref a0), some (va_rf r_1), some (.int x2)] [] h (pV (fun h2 => gm_sub (hh_tg h2 a0) 32 = true ∧ (∀ r4, r4 = hh_r h2 a0 2 → (∃ a5, r4 = some a5 ∧ (hh_tg h2 a5 = 1 ∧ (gm_G 345 0 [some (.ref a5), some (.int x3)] [] h2 (pR (fun r8 h7 => ∃ a9, r_1 = some a9 ∧ (gm_sub (hh_tg h7 a9) 24 = true ∧ (∀ r11, r11 = hh_r h7 a9 2 → (∃ a12, r11 = some a12 ∧ (200 ≤ hh_tg h7 a12 ∧ (∀ b, r8 = some b → gm_as (hh_tg h7 a12) (hh_tg h7 b) = true) ∧ (∃ n13, gm_ix x2 n13 (hh_ln h7 a12) ∧ (∀ h14, h14 = hh_wr h7 a12 n13 r8 → (gm_G 484 134 [some (.ref a0), none, none, some (.int x3), some (.int x4), some (.int x5), some (.int x6), some (.int x7), some (.int x8), some (.int x9), some (.int x10), some (va_rf r8)] [] h14 Q)))))))) (fun e15 h16 => hh_tg h16 e15 = 21 ∧ Q (.inr e15) h16))))))) (fun e17 h18 => hh_tg h18 e17 = 21 ∧ Q (.inr e17) h18)))) : gm_G 484 110 [some (.ref a0), some (va_rf r_1), some (.int x2), some (.int x3), some (.int x4), some (.int x5), some (.int x6), some (.int x7), some (.int x8), some (.int x9), some (.int x10)] [] h Q := by
  refine g_aload (r := some _) rfl rfl rfl (pc' := 111) ?_
  refine g_aload (r := _) rfl rfl rfl (pc' := 112) ?_
  refine g_iload rfl rfl rfl (pc' := 113) ?_
  obtain ⟨ht1, H⟩ := H
  refine g_call rfl (y := 444) (n := 3) (pc' := 116) (g_vt ht1 rfl rfl) (by cases r_1 <;> rfl) rfl ⟨(Nat.le_of_ble_eq_true rfl), (Nat.le_of_ble_eq_true rfl), (Nat.le_of_ble_eq_true rfl)⟩ rfl (gm_G.mono H (pV_elim (fun h2 H' => ?_) (fun e17 h18 H => ?_)))
  · show gm_G _ 116 _ _ _ _
    replace H := H'
    clear H'
    refine g_aload (r := some _) rfl rfl rfl (pc' := 117) ?_
    obtain ⟨ht3, H⟩ := H
    refine g_getRv rfl rfl rfl rfl ht3 (pc' := 120) rfl (fun r4 hr4 => ?_)
    replace H := H r4 hr4
    refine g_iload rfl rfl rfl (pc' := 121) ?_
    obtain ⟨a5, rfl, H⟩ := H
    obtain ⟨ht6, H⟩ := H
    refine g_call rfl (y := 345) (n := 2) (pc' := 124) (g_vt ht6 rfl rfl) rfl rfl ⟨(Nat.le_of_ble_eq_true rfl), (Nat.le_of_ble_eq_true rfl), (Nat.le_of_ble_eq_true rfl)⟩ rfl (gm_G.mono H (pR_elim (fun r8 h7 H' => ?_) (fun e15 h16 H => ?_)))
    · show gm_G _ 124 _ _ _ _
      replace H := H'
      clear H'
      refine g_astore (r := _) rfl rfl rfl (pc' := 126) ?_
      refine g_aload (r := _) rfl rfl rfl (pc' := 127) ?_
      obtain ⟨a9, rfl, H⟩ := H
      obtain ⟨ht10, H⟩ := H
      refine g_getRv rfl rfl rfl rfl ht10 (pc' := 130) rfl (fun r11 hr11 => ?_)
      replace H := H r11 hr11
      refine g_iload rfl rfl rfl (pc' := 131) ?_
      refine g_aload (r := _) rfl rfl rfl (pc' := 133) ?_
      obtain ⟨a12, rfl, H⟩ := H
      obtain ⟨Ha, Hb, H⟩ := H
      obtain ⟨n13, hn13, H⟩ := H
      refine g_aastore (r := _) rfl Ha Hb hn13 (pc' := 134) rfl ?_
      replace H := H _ rfl
      exact g_weak (show gm_Lle [some _, none, none, some _, some _, some _, some _, some _, some _, some _, some _, some _] _ from ⟨rfl, ⟨rfl, ⟨rfl, ⟨rfl, ⟨rfl, ⟨rfl, ⟨rfl, ⟨rfl, ⟨rfl, ⟨rfl, trivial⟩⟩⟩⟩⟩⟩⟩⟩⟩⟩) H
    · exact H
  · exact H
set_option maxRecDepth 20000 in
theorem w_484_134 {a0 : Nat} {x3 : Int32} {x4 : Int32} {x5 : Int32} {x6 : Int32} {x7 : Int32} {x8 : Int32} {x9 : Int32} {x10 : Int32} {r_11 : Option Nat} {h : hh_T} {Q : Option Value ⊕ Nat → hh_T → Prop} (H : ∃ a1, r_11 = some a1 ∧ (gm_sub (hh_tg h a1) 25 = true ∧ (∀ h3, h3 = hh_wi h a1 1 x3 → (∀ h4, h4 = hh_wi h3 a1 2 x4 → (∀ h5, h5 = hh_wi h4 a1 3 x5 → (∀ h6, h6 = hh_wi h5 a1 4 x6 → (∀ h7, h7 = hh_wi h6 a1 5 x7 → (gm_G 484 168 [some (.ref a0), none, none, some (.int x3), none, none, none, none, some (.int x8), some (.int x9), some (.int x10), some (.ref a1)] [] h7 Q)))))))) : gm_G 484 134 [some (.ref a0), none, none, some (.int x3), some (.int x4), some (.int x5), some (.int x6), some (.int x7), some (.int x8), some (.int x9), some (.int x10), some (va_rf r_11)] [] h Q := by
  refine g_aload (r := _) rfl rfl rfl (pc' := 136) ?_
  refine g_iload rfl rfl rfl (pc' := 137) ?_
  obtain ⟨a1, rfl, H⟩ := H
  obtain ⟨ht2, H⟩ := H
  refine g_putI rfl rfl rfl rfl ht2  (pc' := 140) rfl ?_
  replace H := H _ rfl
  refine g_aload (r := some _) rfl rfl rfl (pc' := 142) ?_
  refine g_iload rfl rfl rfl (pc' := 144) ?_
  refine g_putI rfl rfl rfl rfl ht2  (pc' := 147) rfl ?_
  replace H := H _ rfl
  refine g_aload (r := some _) rfl rfl rfl (pc' := 149) ?_
  refine g_iload rfl rfl rfl (pc' := 151) ?_
  refine g_putI rfl rfl rfl rfl ht2  (pc' := 154) rfl ?_
  replace H := H _ rfl
  refine g_aload (r := some _) rfl rfl rfl (pc' := 156) ?_
  refine g_iload rfl rfl rfl (pc' := 158) ?_
  refine g_putI rfl rfl rfl rfl ht2  (pc' := 161) rfl ?_
  replace H := H _ rfl
  refine g_aload (r := some _) rfl rfl rfl (pc' := 163) ?_
  refine g_iload rfl rfl rfl (pc' := 165) ?_
  refine g_putI rfl rfl rfl rfl ht2  (pc' := 168) rfl ?_
  replace H := H _ rfl
  exact g_weak (show gm_Lle [some _, none, none, some _, none, none, none, none, some _, some _, some _, some _] _ from ⟨rfl, ⟨rfl, ⟨rfl, ⟨rfl, ⟨rfl, ⟨rfl, trivial⟩⟩⟩⟩⟩⟩) H
set_option maxRecDepth 20000 in
theorem w_484_168 {a0 : Nat} {x3 : Int32} {x8 : Int32} {x9 : Int32} {x10 : Int32} {r_11 : Option Nat} {h : hh_T} {Q : Option Value ⊕ Nat → hh_T → Prop} (H : ∃ a1, r_11 = some a1 ∧ (gm_sub (hh_tg h a1) 25 = true ∧ (∀ h3, h3 = hh_wi h a1 6 x8 → (∀ h4, h4 = hh_wi h3 a1 7 x9 → (∀ h5, h5 = hh_wi h4 a1 8 x10 → (hh_tg h5 a0 = 33 ∧ (gm_G 322 0 [some (.ref a0)] [] h5 (pI (fun v8 h7 => gm_sub (hh_tg h7 a1) 25 = true ∧ (∀ h10, h10 = hh_wi h7 a1 9 v8 → (gm_G 484 198 [some (.ref a0), none, none, some (.int x3), none, none, none, none, some (.int x8), none, none, some (.ref a1)] [] h10 Q))) (fun e11 h12 => hh_tg h12 e11 = 21 ∧ Q (.inr e11) h12))))))))) : gm_G 484 168 [some (.ref a0), none, none, some (.int x3), none, none, none, none, some (.int x8), some (.int x9), some (.int x10), some (va_rf r_11)] [] h Q := by
  refine g_aload (r := _) rfl rfl rfl (pc' := 170) ?_
  refine g_iload rfl rfl rfl (pc' := 172) ?_
  obtain ⟨a1, rfl, H⟩ := H
  obtain ⟨ht2, H⟩ := H
  refine g_putI rfl rfl rfl rfl ht2  (pc' := 175) rfl ?_
  replace H := H _ rfl
  refine g_aload (r := some _) rfl rfl rfl (pc' := 177) ?_
  refine g_iload rfl rfl rfl (pc' := 179) ?_
  refine g_putI rfl rfl rfl rfl ht2  (pc' := 182) rfl ?_
  replace H := H _ rfl
  refine g_aload (r := some _) rfl rfl rfl (pc' := 184) ?_
  refine g_iload rfl rfl rfl (pc' := 186) ?_
  refine g_putI rfl rfl rfl rfl ht2  (pc' := 189) rfl ?_
  replace H := H _ rfl
  refine g_aload (r := some _) rfl rfl rfl (pc' := 191) ?_
  refine g_aload (r := some _) rfl rfl rfl (pc' := 192) ?_
  obtain ⟨ht6, H⟩ := H
  refine g_call rfl (y := 322) (n := 1) (pc' := 195) (g_vt ht6 rfl rfl) rfl rfl ⟨(Nat.le_of_ble_eq_true rfl), (Nat.le_of_ble_eq_true rfl), (Nat.le_of_ble_eq_true rfl)⟩ rfl (gm_G.mono H (pI_elim (fun v8 h7 H' => ?_) (fun e11 h12 H => ?_)))
  · show gm_G _ 195 _ _ _ _
    replace H := H'
    clear H'
    obtain ⟨ht9, H⟩ := H
    refine g_putI rfl rfl rfl rfl ht9  (pc' := 198) rfl ?_
    replace H := H _ rfl
    exact g_weak (show gm_Lle [some _, none, none, some _, none, none, none, none, some _, none, none, some _] _ from ⟨rfl, ⟨rfl, ⟨rfl, ⟨rfl, trivial⟩⟩⟩⟩) H
  · exact H
set_option maxRecDepth 20000 in
theorem w_484_198 {a0 : Nat} {x3 : Int32} {x8 : Int32} {r_11 : Option Nat} {h : hh_T} {Q : Option Value ⊕ Nat → hh_T → Prop} (H : gm_G 484 201 [some (.ref a0), none, none, some (.int x3), none, none, none, none, some (.int x8), none, none, some (va_rf r_11), some (.int (Int32.ofNat 0))] [] h Q) : gm_G 484 198 [some (.ref a0), none, none, some (.int x3), none, none, none, none, some (.int x8), none, none, some (va_rf r_11)] [] h Q := by
  refine g_iconst rfl rfl rfl (pc' := 199) ?_
  refine g_istore rfl gm_sto_rf11 rfl (pc' := 201) ?_
  exact g_weak (show gm_Lle [some _, none, none, some _, none, none, none, none, some _, none, none, some _, some _] _ from ⟨rfl, ⟨rfl, ⟨rfl, ⟨rfl, ⟨rfl, trivial⟩⟩⟩⟩⟩) H
set_option maxRecDepth 20000 in
theorem w_484_201 {a0 : Nat} {x3 : Int32} {x8 : Int32} {r_11 : Option Nat} {x12 : Int32} {h : hh_T} {Q : Option Value ⊕ Nat → hh_T → Prop} (H : ∃ a1, r_11 = some a1 ∧ (gm_sub (hh_tg h a1) 25 = true ∧ ((¬ x12 < (hh_i h a1 9) → ((¬ x3 = (Int32.ofNat 2) → ((¬ x3 = (Int32.ofNat 3) → (Q (.inl none) h)) ∧ (x3 = (Int32.ofNat 3) → (gm_G 484 324 [some (.ref a0), none, none, none, none, none, none, none, some (.int x8), none, none, some (.ref a1), some (.int (Int32.ofNat 0))] [] h Q)))) ∧ (x3 = (Int32.ofNat 2) → (gm_sub (hh_tg h a1) 27 = true ∧ (hh_tg h a0 = 33 ∧ (gm_G 322 0 [some (.ref a0)] [] h (pI (fun v6 h5 => gm_sub (hh_tg h5 a1) 27 = true ∧ (∀ h8, h8 = hh_wi h5 a1 14 v6 → (gm_G 484 273 [some (.ref a0), none, none, none, none, none, none, none, some (.int x8), none, none, none, some (.ref a1)] [] h8 Q))) (fun e9 h10 => hh_tg h10 e9 = 21 ∧ Q (.inr e9) h10)))))))) ∧ (x12 < (hh_i h a1 9) → (hh_tg h a0 = 33 ∧ (gm_G 322 0 [some (.ref a0)] [] h (pI (fun v13 h12 => hh_tg h12 a0 = 33 ∧ (gm_G 322 0 [some (.ref a0)] [] h12 (pI (fun v16 h15 => gm_sub (hh_tg h15 a1) 25 = true ∧ (∀ r18, r18 = hh_r h15 a1 10 → (hh_tg h15 a0 = 33 ∧ (gm_G 322 0 [some (.ref a0)] [] h15 (pI (fun v21 h20 => ∃ a22, r18 = some a22 ∧ (hh_tg h20 a22 = 100 ∧ (∃ n23, gm_ix x12 n23 (hh_ln h20 a22) ∧ (∀ h24, h24 = hh_wi h20 a22 n23 ((v13 ||| (v16 <<< ((Int32.ofNat 1) &&& 31))) ||| (v21 <<< ((Int32.ofNat 8) &&& 31))) → (gm_G 484 201 [some (.ref a0), none, none, some (.int x3), none, none, none, none, some (.int x8), none, none, some (.ref a1), some (.int (x12 + (Int32.ofNat 1)))] [] h24 Q))))) (fun e26 h27 => hh_tg h27 e26 = 21 ∧ Q (.inr e26) h27)))))) (fun e28 h29 => hh_tg h29 e28 = 21 ∧ Q (.inr e28) h29)))) (fun e30 h31 => hh_tg h31 e30 = 21 ∧ Q (.inr e30) h31)))))))) : gm_G 484 201 [some (.ref a0), none, none, some (.int x3), none, none, none, none, some (.int x8), none, none, some (va_rf r_11), some (.int x12)] [] h Q := by
  refine g_iload rfl rfl rfl (pc' := 203) ?_
  refine g_aload (r := _) rfl rfl rfl (pc' := 205) ?_
  obtain ⟨a1, rfl, H⟩ := H
  obtain ⟨ht2, H⟩ := H
  refine g_getI rfl rfl rfl rfl ht2 (pc' := 208) rfl ?_
  refine g_ic_ge rfl (pc' := 211) (pt := 252) rfl rfl ⟨fun hc => ?_, fun hc => ?_⟩
  · replace H := H.1 hc
    refine g_iload rfl rfl rfl (pc' := 253) ?_
    refine g_iconst rfl rfl rfl (pc' := 254) ?_
    refine g_ic_ne rfl (pc' := 257) (pt := 316) rfl rfl ⟨fun hc => ?_, fun hc => ?_⟩
    · replace H := H.1 hc
      refine g_iload rfl rfl rfl (pc' := 317) ?_
      refine g_iconst rfl rfl rfl (pc' := 318) ?_
      refine g_ic_ne rfl (pc' := 321) (pt := 353) rfl rfl ⟨fun hc => ?_, fun hc => ?_⟩
      · replace H := H.1 hc
        exact g_return rfl H
      · replace H := H.2 hc
        refine g_iconst rfl rfl rfl (pc' := 322) ?_
        refine g_istore rfl rfl rfl (pc' := 324) ?_
        exact g_weak (show gm_Lle [some _, none, none, none, none, none, none, none, some _, none, none, some _, some _] _ from ⟨rfl, ⟨rfl, ⟨rfl, ⟨rfl, trivial⟩⟩⟩⟩) H
    · replace H := H.2 hc
      refine g_aload (r := some _) rfl rfl rfl (pc' := 259) ?_
      obtain ⟨ht3, H⟩ := H
      refine g_cast (r := some _) rfl (fun b hb => by cases hb; exact ht3) (pc' := 262) rfl ?_
      refine g_astore (r := some _) rfl rfl rfl (pc' := 264) ?_
      refine g_aload (r := some _) rfl rfl rfl (pc' := 266) ?_
      refine g_aload (r := some _) rfl rfl rfl (pc' := 267) ?_
      obtain ⟨ht4, H⟩ := H
      refine g_call rfl (y := 322) (n := 1) (pc' := 270) (g_vt ht4 rfl rfl) rfl rfl ⟨(Nat.le_of_ble_eq_true rfl), (Nat.le_of_ble_eq_true rfl), (Nat.le_of_ble_eq_true rfl)⟩ rfl (gm_G.mono H (pI_elim (fun v6 h5 H' => ?_) (fun e9 h10 H => ?_)))
      · show gm_G _ 270 _ _ _ _
        replace H := H'
        clear H'
        obtain ⟨ht7, H⟩ := H
        refine g_putI rfl rfl rfl rfl ht7  (pc' := 273) rfl ?_
        replace H := H _ rfl
        exact g_weak (show gm_Lle [some _, none, none, none, none, none, none, none, some _, none, none, none, some _] _ from ⟨rfl, ⟨rfl, ⟨rfl, trivial⟩⟩⟩) H
      · exact H
  · replace H := H.2 hc
    refine g_aload (r := some _) rfl rfl rfl (pc' := 212) ?_
    obtain ⟨ht11, H⟩ := H
    refine g_call rfl (y := 322) (n := 1) (pc' := 215) (g_vt ht11 rfl rfl) rfl rfl ⟨(Nat.le_of_ble_eq_true rfl), (Nat.le_of_ble_eq_true rfl), (Nat.le_of_ble_eq_true rfl)⟩ rfl (gm_G.mono H (pI_elim (fun v13 h12 H' => ?_) (fun e30 h31 H => ?_)))
    · show gm_G _ 215 _ _ _ _
      replace H := H'
      clear H'
      refine g_istore rfl rfl rfl (pc' := 217) ?_
      refine g_aload (r := some _) rfl rfl rfl (pc' := 218) ?_
      obtain ⟨ht14, H⟩ := H
      refine g_call rfl (y := 322) (n := 1) (pc' := 221) (g_vt ht14 rfl rfl) rfl rfl ⟨(Nat.le_of_ble_eq_true rfl), (Nat.le_of_ble_eq_true rfl), (Nat.le_of_ble_eq_true rfl)⟩ rfl (gm_G.mono H (pI_elim (fun v16 h15 H' => ?_) (fun e28 h29 H => ?_)))
      · show gm_G _ 221 _ _ _ _
        replace H := H'
        clear H'
        refine g_istore rfl rfl rfl (pc' := 223) ?_
        refine g_aload (r := some _) rfl rfl rfl (pc' := 225) ?_
        obtain ⟨ht17, H⟩ := H
        refine g_getRv rfl rfl rfl rfl ht17 (pc' := 228) rfl (fun r18 hr18 => ?_)
        replace H := H r18 hr18
        refine g_iload rfl rfl rfl (pc' := 230) ?_
        refine g_iload rfl rfl rfl (pc' := 232) ?_
        refine g_iload rfl rfl rfl (pc' := 234) ?_
        refine g_iconst rfl rfl rfl (pc' := 235) ?_
        refine g_ishl rfl rfl (pc' := 236) ?_
        refine g_ior rfl rfl (pc' := 237) ?_
        refine g_aload (r := some _) rfl rfl rfl (pc' := 238) ?_
        obtain ⟨ht19, H⟩ := H
        refine g_call rfl (y := 322) (n := 1) (pc' := 241) (g_vt ht19 rfl rfl) rfl rfl ⟨(Nat.le_of_ble_eq_true rfl), (Nat.le_of_ble_eq_true rfl), (Nat.le_of_ble_eq_true rfl)⟩ rfl (gm_G.mono H (pI_elim (fun v21 h20 H' => ?_) (fun e26 h27 H => ?_)))
        · show gm_G _ 241 _ _ _ _
          replace H := H'
          clear H'
          refine g_iconst rfl rfl rfl (pc' := 243) ?_
          refine g_ishl rfl rfl (pc' := 244) ?_
          refine g_ior rfl rfl (pc' := 245) ?_
          obtain ⟨a22, rfl, H⟩ := H
          obtain ⟨ht25, H⟩ := H
          obtain ⟨n23, hn23, H⟩ := H
          refine g_iastore rfl ht25 hn23  (pc' := 246) rfl ?_
          replace H := H _ rfl
          refine g_iinc (c := (Int32.ofNat 1)) rfl rfl rfl rfl rfl (pc' := 249) ?_
          refine g_goto rfl (pc' := 201) rfl ?_
          exact g_weak (show gm_Lle [some _, none, none, some _, none, none, none, none, some _, none, none, some _, some _] _ from ⟨rfl, ⟨rfl, ⟨rfl, ⟨rfl, ⟨rfl, trivial⟩⟩⟩⟩⟩) H
        · exact H
      · exact H
    · exact H
set_option maxRecDepth 20000 in
theorem w_484_273 {a0 : Nat} {x8 : Int32} {r_12 : Option Nat} {h : hh_T} {Q : Option Value ⊕ Nat → hh_T → Prop} (H : gm_G 484 276 [some (.ref a0), none, none, none, none, none, none, none, some (.int x8), none, none, none, some (va_rf r_12), some (.int (Int32.ofNat 0))] [] h Q) : gm_G 484 273 [some (.ref a0), none, none, none, none, none, none, none, some (.int x8), none, none, none, some (va_rf r_12)] [] h Q := by
  refine g_iconst rfl rfl rfl (pc' := 274) ?_
  refine g_istore rfl gm_sto_rf12 rfl (pc' := 276) ?_
  exact g_weak (show gm_Lle [some _, none, none, none, none, none, none, none, some _, none, none, none, some _, some _] _ from ⟨rfl, ⟨rfl, ⟨rfl, ⟨rfl, trivial⟩⟩⟩⟩) H
set_option maxRecDepth 20000 in
theorem w_484_276 {a0 : Nat} {x8 : Int32} {r_12 : Option Nat} {x13 : Int32} {h : hh_T} {Q : Option Value ⊕ Nat → hh_T → Prop} (H : (¬ x13 < x8 → (Q (.inl none) h)) ∧ (x13 < x8 → (∃ a1, r_12 = some a1 ∧ (gm_sub (hh_tg h a1) 27 = true ∧ (∀ r3, r3 = hh_r h a1 12 → (hh_tg h a0 = 33 ∧ (gm_G 385 0 [some (.ref a0)] [] h (pL (fun v6 h5 => ∃ a7, r3 = some a7 ∧ (hh_tg h5 a7 = 103 ∧ (∃ n8, gm_ix x13 n8 (hh_ln h5 a7) ∧ (∀ h9, h9 = hh_wj h5 a7 n8 v6 → (gm_sub (hh_tg h9 a1) 27 = true ∧ (∀ r11, r11 = hh_r h9 a1 13 → (hh_tg h9 a0 = 33 ∧ (gm_G 322 0 [some (.ref a0)] [] h9 (pI (fun v14 h13 => ∃ a15, r11 = some a15 ∧ (hh_tg h13 a15 = 100 ∧ (∃ n16, gm_ix x13 n16 (hh_ln h13 a15) ∧ (∀ h17, h17 = hh_wi h13 a15 n16 v14 → (gm_G 484 276 [some (.ref a0), none, none, none, none, none, none, none, some (.int x8), none, none, none, some (.ref a1), some (.int (x13 + (Int32.ofNat 1)))] [] h17 Q))))) (fun e19 h20 => hh_tg h20 e19 = 21 ∧ Q (.inr e19) h20)))))))))) (fun e22 h23 => hh_tg h23 e22 = 21 ∧ Q (.inr e22) h23))))))))) : gm_G 484 276 [some (.ref a0), none, none, none, none, none, none, none, some (.int x8), none, none, none, some (va_rf r_12), some (.int x13)] [] h Q := by
  refine g_iload rfl rfl rfl (pc' := 278) ?_
  refine g_iload rfl rfl rfl (pc' := 280) ?_
  refine g_ic_ge rfl (pc' := 283) (pt := 313) rfl rfl ⟨fun hc => ?_, fun hc => ?_⟩
  · replace H := H.1 hc
    refine g_goto rfl (pc' := 353) rfl ?_
    exact g_return rfl H
  · replace H := H.2 hc
    refine g_aload (r := _) rfl rfl rfl (pc' := 285) ?_
    obtain ⟨a1, rfl, H⟩ := H
    obtain ⟨ht2, H⟩ := H
    refine g_getRv rfl rfl rfl rfl ht2 (pc' := 288) rfl (fun r3 hr3 => ?_)
    replace H := H r3 hr3
    refine g_iload rfl rfl rfl (pc' := 290) ?_
    refine g_aload (r := some _) rfl rfl rfl (pc' := 291) ?_
    obtain ⟨ht4, H⟩ := H
    refine g_call rfl (y := 385) (n := 1) (pc' := 294) (g_vt ht4 rfl rfl) rfl rfl ⟨(Nat.le_of_ble_eq_true rfl), (Nat.le_of_ble_eq_true rfl), (Nat.le_of_ble_eq_true rfl)⟩ rfl (gm_G.mono H (pL_elim (fun v6 h5 H' => ?_) (fun e22 h23 H => ?_)))
    · show gm_G _ 294 _ _ _ _
      replace H := H'
      clear H'
      obtain ⟨a7, rfl, H⟩ := H
      obtain ⟨ht21, H⟩ := H
      obtain ⟨n8, hn8, H⟩ := H
      refine g_lastore rfl ht21 hn8  (pc' := 295) rfl ?_
      replace H := H _ rfl
      refine g_aload (r := some _) rfl rfl rfl (pc' := 297) ?_
      obtain ⟨ht10, H⟩ := H
      refine g_getRv rfl rfl rfl rfl ht10 (pc' := 300) rfl (fun r11 hr11 => ?_)
      replace H := H r11 hr11
      refine g_iload rfl rfl rfl (pc' := 302) ?_
      refine g_aload (r := some _) rfl rfl rfl (pc' := 303) ?_
      obtain ⟨ht12, H⟩ := H
      refine g_call rfl (y := 322) (n := 1) (pc' := 306) (g_vt ht12 rfl rfl) rfl rfl ⟨(Nat.le_of_ble_eq_true rfl), (Nat.le_of_ble_eq_true rfl), (Nat.le_of_ble_eq_true rfl)⟩ rfl (gm_G.mono H (pI_elim (fun v14 h13 H' => ?_) (fun e19 h20 H => ?_)))
      · show gm_G _ 306 _ _ _ _
        replace H := H'
        clear H'
        obtain ⟨a15, rfl, H⟩ := H
        obtain ⟨ht18, H⟩ := H
        obtain ⟨n16, hn16, H⟩ := H
        refine g_iastore rfl ht18 hn16  (pc' := 307) rfl ?_
        replace H := H _ rfl
        refine g_iinc (c := (Int32.ofNat 1)) rfl rfl rfl rfl rfl (pc' := 310) ?_
        refine g_goto rfl (pc' := 276) rfl ?_
        exact g_weak (show gm_Lle [some _, none, none, none, none, none, none, none, some _, none, none, none, some _, some _] _ from ⟨rfl, ⟨rfl, ⟨rfl, ⟨rfl, trivial⟩⟩⟩⟩) H
      · exact H
    · exact H
set_option maxRecDepth 20000 in
theorem w_484_324 {a0 : Nat} {x8 : Int32} {r_11 : Option Nat} {x12 : Int32} {h : hh_T} {Q : Option Value ⊕ Nat → hh_T → Prop} (H : (¬ x12 < x8 → (Q (.inl none) h)) ∧ (x12 < x8 → ((∀ b, r_11 = some b → gm_sub (hh_tg h b) 28 = true) ∧ (∃ a1, r_11 = some a1 ∧ (gm_sub (hh_tg h a1) 28 = true ∧ (∀ r3, r3 = hh_r h a1 12 → (hh_tg h a0 = 33 ∧ (gm_G 322 0 [some (.ref a0)] [] h (pI (fun v6 h5 => ∃ a7, r3 = some a7 ∧ (hh_tg h5 a7 = 101 ∧ (∃ n8, gm_ix x12 n8 (hh_ln h5 a7) ∧ (∀ h9, h9 = hh_wi h5 a7 n8 ((v6.toInt8.toInt32).toInt8.toInt32) → (gm_G 484 324 [some (.ref a0), none, none, none, none, none, none, none, some (.int x8), none, none, some (.ref a1), some (.int (x12 + (Int32.ofNat 1)))] [] h9 Q))))) (fun e11 h12 => hh_tg h12 e11 = 21 ∧ Q (.inr e11) h12)))))))))) : gm_G 484 324 [some (.ref a0), none, none, none, none, none, none, none, some (.int x8), none, none, some (va_rf r_11), some (.int x12)] [] h Q := by
  refine g_iload rfl rfl rfl (pc' := 326) ?_
  refine g_iload rfl rfl rfl (pc' := 328) ?_
  refine g_ic_ge rfl (pc' := 331) (pt := 353) rfl rfl ⟨fun hc => ?_, fun hc => ?_⟩
  · replace H := H.1 hc
    exact g_return rfl H
  · replace H := H.2 hc
    refine g_aload (r := _) rfl rfl rfl (pc' := 333) ?_
    obtain ⟨Hc, H⟩ := H
    refine g_cast rfl Hc (pc' := 336) rfl ?_
    obtain ⟨a1, rfl, H⟩ := H
    obtain ⟨ht2, H⟩ := H
    refine g_getRv rfl rfl rfl rfl ht2 (pc' := 339) rfl (fun r3 hr3 => ?_)
    replace H := H r3 hr3
    refine g_iload rfl rfl rfl (pc' := 341) ?_
    refine g_aload (r := some _) rfl rfl rfl (pc' := 342) ?_
    obtain ⟨ht4, H⟩ := H
    refine g_call rfl (y := 322) (n := 1) (pc' := 345) (g_vt ht4 rfl rfl) rfl rfl ⟨(Nat.le_of_ble_eq_true rfl), (Nat.le_of_ble_eq_true rfl), (Nat.le_of_ble_eq_true rfl)⟩ rfl (gm_G.mono H (pI_elim (fun v6 h5 H' => ?_) (fun e11 h12 H => ?_)))
    · show gm_G _ 345 _ _ _ _
      replace H := H'
      clear H'
      refine g_i2b rfl rfl (pc' := 346) ?_
      obtain ⟨a7, rfl, H⟩ := H
      obtain ⟨ht10, H⟩ := H
      obtain ⟨n8, hn8, H⟩ := H
      refine g_bastore rfl ht10 hn8  (pc' := 347) rfl ?_
      replace H := H _ rfl
      refine g_iinc (c := (Int32.ofNat 1)) rfl rfl rfl rfl rfl (pc' := 350) ?_
      refine g_goto rfl (pc' := 324) rfl ?_
      exact g_weak (show gm_Lle [some _, none, none, none, none, none, none, none, some _, none, none, some _, some _] _ from ⟨rfl, ⟨rfl, ⟨rfl, ⟨rfl, trivial⟩⟩⟩⟩) H
    · exact H
set_option maxRecDepth 20000 in
theorem w_485_0 {a0 : Nat} {x1 : Int32} {j2 : Int64} {x4 : Int32} {r_5 : Option Nat} {x6 : Int32} {h : hh_T} {Q : Option Value ⊕ Nat → hh_T → Prop} (H : hh_tg h a0 = 1 ∧ (gm_G 453 0 [some (.ref a0), some (.int x1)] [] h (pR (fun r3 h2 => ∃ a4, r3 = some a4 ∧ (gm_sub (hh_tg h2 a4) 23 = true ∧ ((¬ (hh_i h2 a4 2) = Int32.ofNat 0 → (gm_G 485 20 [some (.ref a0), some (.int x1), some (.long j2), none, some (.int x4), some (va_rf r_5), some (.int x6)] [.int (Int32.ofNat 0)] h2 Q)) ∧ ((hh_i h2 a4 2) = Int32.ofNat 0 → (gm_G 485 20 [some (.ref a0), some (.int x1), some (.long j2), none, some (.int x4), some (va_rf r_5), some (.int x6)] [.int (Int32.ofNat 1)] h2 Q))))) (fun e6 h7 => hh_tg h7 e6 = 21 ∧ Q (.inr e6) h7)))) : gm_G 485 0 [some (.ref a0), some (.int x1), some (.long j2), none, some (.int x4), some (va_rf r_5), some (.int x6)] [] h Q := by
  refine g_aload (r := some _) rfl rfl rfl (pc' := 1) ?_
  refine g_iload rfl rfl rfl (pc' := 2) ?_
  obtain ⟨ht1, H⟩ := H
  refine g_call rfl (y := 453) (n := 2) (pc' := 5) (g_vt ht1 rfl rfl) rfl rfl ⟨(Nat.le_of_ble_eq_true rfl), (Nat.le_of_ble_eq_true rfl), (Nat.le_of_ble_eq_true rfl)⟩ rfl (gm_G.mono H (pR_elim (fun r3 h2 H' => ?_) (fun e6 h7 H => ?_)))
  · show gm_G _ 5 _ _ _ _
    replace H := H'
    clear H'
    refine g_astore (r := _) rfl rfl rfl (pc' := 7) ?_
    refine g_aload (r := _) rfl rfl rfl (pc' := 9) ?_
    obtain ⟨a4, rfl, H⟩ := H
    obtain ⟨ht5, H⟩ := H
    refine g_getI rfl rfl rfl rfl ht5 (pc' := 12) rfl ?_
    refine g_if_ne rfl (pc' := 15) (pt := 19) rfl rfl ⟨fun hc => ?_, fun hc => ?_⟩
    · replace H := H.1 hc
      refine g_iconst rfl rfl rfl (pc' := 20) ?_
      exact g_weak (show gm_Lle [some _, some _, some _, none, some _, some _, some _] _ from ⟨rfl, ⟨rfl, ⟨rfl, ⟨rfl, ⟨rfl, ⟨rfl, trivial⟩⟩⟩⟩⟩⟩) H
    · replace H := H.2 hc
      refine g_iconst rfl rfl rfl (pc' := 16) ?_
      refine g_goto rfl (pc' := 20) rfl ?_
      exact g_weak (show gm_Lle [some _, some _, some _, none, some _, some _, some _] _ from ⟨rfl, ⟨rfl, ⟨rfl, ⟨rfl, ⟨rfl, ⟨rfl, trivial⟩⟩⟩⟩⟩⟩) H
  · exact H
set_option maxRecDepth 20000 in
theorem w_485_20 {a0 : Nat} {x1 : Int32} {j2 : Int64} {x4 : Int32} {r_5 : Option Nat} {x6 : Int32} {y0 : Int32} {h : hh_T} {Q : Option Value ⊕ Nat → hh_T → Prop} (H : gm_G 431 0 [some (.int y0), some (.int (Int32.ofInt (-10)))] [] h (pV (fun h1 => gm_sub (hh_tg h1 a0) 0 = true ∧ (∀ r3, r3 = hh_r h1 a0 33 → (∃ a4, r3 = some a4 ∧ (hh_tg h1 a4 = 23 ∧ (gm_G 174 0 [some (.ref a4), some (.int x1), some (.long j2), none] [] h1 (pR (fun r7 h6 => (∀ a8, r7 = some a8 → (gm_G 485 42 [some (.ref a0), some (.int x1), some (.long j2), none, some (.int x4), some (va_rf r_5), some (.int x6)] [.int (Int32.ofNat 0)] h6 Q)) ∧ (r7 = none → (gm_G 485 42 [some (.ref a0), some (.int x1), some (.long j2), none, some (.int x4), some (va_rf r_5), some (.int x6)] [.int (Int32.ofNat 1)] h6 Q))) (fun e9 h10 => hh_tg h10 e9 = 21 ∧ Q (.inr e9) h10))))))) (fun e11 h12 => hh_tg h12 e11 = 21 ∧ Q (.inr e11) h12))) : gm_G 485 20 [some (.ref a0), some (.int x1), some (.long j2), none, some (.int x4), some (va_rf r_5), some (.int x6)] [.int y0] h Q := by
  refine g_iconst rfl rfl rfl (pc' := 22) ?_
  refine g_call rfl (y := 431) (n := 2) (pc' := 25) (fun _ => rfl) rfl rfl ⟨(Nat.le_of_ble_eq_true rfl), (Nat.le_of_ble_eq_true rfl), (Nat.le_of_ble_eq_true rfl)⟩ rfl (gm_G.mono H (pV_elim (fun h1 H' => ?_) (fun e11 h12 H => ?_)))
  · show gm_G _ 25 _ _ _ _
    replace H := H'
    clear H'
    refine g_aload (r := some _) rfl rfl rfl (pc' := 26) ?_
    obtain ⟨ht2, H⟩ := H
    refine g_getRv rfl rfl rfl rfl ht2 (pc' := 29) rfl (fun r3 hr3 => ?_)
    replace H := H r3 hr3
    refine g_iload rfl rfl rfl (pc' := 30) ?_
    refine g_lload rfl rfl rfl (pc' := 31) ?_
    obtain ⟨a4, rfl, H⟩ := H
    obtain ⟨ht5, H⟩ := H
    refine g_call rfl (y := 174) (n := 3) (pc' := 34) (g_vt ht5 rfl rfl) rfl rfl ⟨(Nat.le_of_ble_eq_true rfl), (Nat.le_of_ble_eq_true rfl), (Nat.le_of_ble_eq_true rfl)⟩ rfl (gm_G.mono H (pR_elim (fun r7 h6 H' => ?_) (fun e9 h10 H => ?_)))
    · show gm_G _ 34 _ _ _ _
      replace H := H'
      clear H'
      refine g_ifnonnull rfl (pc' := 37) (pt := 41) rfl rfl ⟨fun a8 hc => ?_, fun hc => ?_⟩
      · replace H := H.1 a8 hc
        subst hc
        refine g_iconst rfl rfl rfl (pc' := 42) ?_
        exact g_weak (show gm_Lle [some _, some _, some _, none, some _, some _, some _] _ from ⟨rfl, ⟨rfl, ⟨rfl, ⟨rfl, ⟨rfl, ⟨rfl, trivial⟩⟩⟩⟩⟩⟩) H
      · replace H := H.2 hc
        subst hc
        refine g_iconst rfl rfl rfl (pc' := 38) ?_
        refine g_goto rfl (pc' := 42) rfl ?_
        exact g_weak (show gm_Lle [some _, some _, some _, none, some _, some _, some _] _ from ⟨rfl, ⟨rfl, ⟨rfl, ⟨rfl, ⟨rfl, ⟨rfl, trivial⟩⟩⟩⟩⟩⟩) H
    · exact H
  · exact H
set_option maxRecDepth 20000 in
theorem w_485_42 {a0 : Nat} {x1 : Int32} {j2 : Int64} {x4 : Int32} {r_5 : Option Nat} {x6 : Int32} {y0 : Int32} {h : hh_T} {Q : Option Value ⊕ Nat → hh_T → Prop} (H : gm_G 431 0 [some (.int y0), some (.int (Int32.ofInt (-4)))] [] h (pV (fun h1 => gm_sub (hh_tg h1 a0) 0 = true ∧ (∀ r3, r3 = hh_r h1 a0 33 → (∃ a4, r3 = some a4 ∧ (gm_sub (hh_tg h1 a4) 22 = true ∧ ((¬ (hh_i h1 a4 2) < (Int32.ofNat 8) → (gm_G 485 64 [some (.ref a0), some (.int x1), some (.long j2), none, some (.int x4), some (va_rf r_5), some (.int x6)] [.int (Int32.ofNat 0)] h1 Q)) ∧ ((hh_i h1 a4 2) < (Int32.ofNat 8) → (gm_G 485 64 [some (.ref a0), some (.int x1), some (.long j2), none, some (.int x4), some (va_rf r_5), some (.int x6)] [.int (Int32.ofNat 1)] h1 Q))))))) (fun e6 h7 => hh_tg h7 e6 = 21 ∧ Q (.inr e6) h7))) : gm_G 485 42 [some (.ref a0), some (.int x1), some (.long j2), none, some (.int x4), some (va_rf r_5), some (.int x6)] [.int y0] h Q := by
  refine g_iconst rfl rfl rfl (pc' := 44) ?_
  refine g_call rfl (y := 431) (n := 2) (pc' := 47) (fun _ => rfl) rfl rfl ⟨(Nat.le_of_ble_eq_true rfl), (Nat.le_of_ble_eq_true rfl), (Nat.le_of_ble_eq_true rfl)⟩ rfl (gm_G.mono H (pV_elim (fun h1 H' => ?_) (fun e6 h7 H => ?_)))
  · show gm_G _ 47 _ _ _ _
    replace H := H'
    clear H'
    refine g_aload (r := some _) rfl rfl rfl (pc' := 48) ?_
    obtain ⟨ht2, H⟩ := H
    refine g_getRv rfl rfl rfl rfl ht2 (pc' := 51) rfl (fun r3 hr3 => ?_)
    replace H := H r3 hr3
    obtain ⟨a4, rfl, H⟩ := H
    obtain ⟨ht5, H⟩ := H
    refine g_getI rfl rfl rfl rfl ht5 (pc' := 54) rfl ?_
    refine g_iconst rfl rfl rfl (pc' := 56) ?_
    refine g_ic_ge rfl (pc' := 59) (pt := 63) rfl rfl ⟨fun hc => ?_, fun hc => ?_⟩
    · replace H := H.1 hc
      refine g_iconst rfl rfl rfl (pc' := 64) ?_
      exact g_weak (show gm_Lle [some _, some _, some _, none, some _, some _, some _] _ from ⟨rfl, ⟨rfl, ⟨rfl, ⟨rfl, ⟨rfl, ⟨rfl, trivial⟩⟩⟩⟩⟩⟩) H
    · replace H := H.2 hc
      refine g_iconst rfl rfl rfl (pc' := 60) ?_
      refine g_goto rfl (pc' := 64) rfl ?_
      exact g_weak (show gm_Lle [some _, some _, some _, none, some _, some _, some _] _ from ⟨rfl, ⟨rfl, ⟨rfl, ⟨rfl, ⟨rfl, ⟨rfl, trivial⟩⟩⟩⟩⟩⟩) H
  · exact H
set_option maxRecDepth 20000 in
theorem w_485_64 {a0 : Nat} {x1 : Int32} {j2 : Int64} {x4 : Int32} {r_5 : Option Nat} {x6 : Int32} {y0 : Int32} {h : hh_T} {Q : Option Value ⊕ Nat → hh_T → Prop} (H : gm_G 431 0 [some (.int y0), some (.int (Int32.ofInt (-3)))] [] h (pV (fun h1 => hh_tg h1 a0 = 1 ∧ (gm_G 235 0 [some (.ref a0)] [] h1 (pR (fun r4 h3 => gm_sub (hh_tg h3 a0) 0 = true ∧ (∀ r6, r6 = hh_r h3 a0 33 → (∃ a7, r6 = some a7 ∧ (gm_sub (hh_tg h3 a7) 22 = true ∧ (∃ a9, r4 = some a9 ∧ (gm_sub (hh_tg h3 a9) 23 = true ∧ (∀ h11, h11 = hh_wi h3 a9 0 (hh_i h3 a7 4) → (∀ r12, r12 = hh_r h11 a0 33 → (∃ a13, r12 = some a13 ∧ (gm_sub (hh_tg h11 a13) 22 = true ∧ (∀ h15, h15 = hh_wi h11 a13 4 ((hh_i h11 a13 4) + (Int32.ofNat 1)) → (∀ h16, h16 = hh_wi h15 a9 1 x1 → (gm_G 485 106 [some (.ref a0), none, some (.long j2), none, some (.int x4), some (va_rf r_5), some (.int x6), none, some (.ref a9)] [] h16 Q))))))))))))) (fun e17 h18 => hh_tg h18 e17 = 21 ∧ Q (.inr e17) h18)))) (fun e19 h20 => hh_tg h20 e19 = 21 ∧ Q (.inr e19) h20))) : gm_G 485 64 [some (.ref a0), some (.int x1), some (.long j2), none, some (.int x4), some (va_rf r_5), some (.int x6)] [.int y0] h Q := by
  refine g_iconst rfl rfl rfl (pc' := 66) ?_
  refine g_call rfl (y := 431) (n := 2) (pc' := 69) (fun _ => rfl) rfl rfl ⟨(Nat.le_of_ble_eq_true rfl), (Nat.le_of_ble_eq_true rfl), (Nat.le_of_ble_eq_true rfl)⟩ rfl (gm_G.mono H (pV_elim (fun h1 H' => ?_) (fun e19 h20 H => ?_)))
  · show gm_G _ 69 _ _ _ _
    replace H := H'
    clear H'
    refine g_aload (r := some _) rfl rfl rfl (pc' := 70) ?_
    obtain ⟨ht2, H⟩ := H
    refine g_call rfl (y := 235) (n := 1) (pc' := 73) (g_vt ht2 rfl rfl) rfl rfl ⟨(Nat.le_of_ble_eq_true rfl), (Nat.le_of_ble_eq_true rfl), (Nat.le_of_ble_eq_true rfl)⟩ rfl (gm_G.mono H (pR_elim (fun r4 h3 H' => ?_) (fun e17 h18 H => ?_)))
    · show gm_G _ 73 _ _ _ _
      replace H := H'
      clear H'
      refine g_astore (r := _) rfl rfl rfl (pc' := 75) ?_
      refine g_aload (r := _) rfl rfl rfl (pc' := 77) ?_
      refine g_aload (r := some _) rfl rfl rfl (pc' := 78) ?_
      obtain ⟨ht5, H⟩ := H
      refine g_getRv rfl rfl rfl rfl ht5 (pc' := 81) rfl (fun r6 hr6 => ?_)
      replace H := H r6 hr6
      obtain ⟨a7, rfl, H⟩ := H
      obtain ⟨ht8, H⟩ := H
      refine g_getI rfl rfl rfl rfl ht8 (pc' := 84) rfl ?_
      obtain ⟨a9, rfl, H⟩ := H
      obtain ⟨ht10, H⟩ := H
      refine g_putI rfl rfl rfl rfl ht10  (pc' := 87) rfl ?_
      replace H := H _ rfl
      refine g_aload (r := some _) rfl rfl rfl (pc' := 88) ?_
      refine g_getRv rfl rfl rfl rfl ht5 (pc' := 91) rfl (fun r12 hr12 => ?_)
      replace H := H r12 hr12
      refine g_dup_a (r := _) rfl rfl (pc' := 92) ?_
      obtain ⟨a13, rfl, H⟩ := H
      obtain ⟨ht14, H⟩ := H
      refine g_getI rfl rfl rfl rfl ht14 (pc' := 95) rfl ?_
      refine g_iconst rfl rfl rfl (pc' := 96) ?_
      refine g_iadd rfl rfl (pc' := 97) ?_
      refine g_putI rfl rfl rfl rfl ht14  (pc' := 100) rfl ?_
      replace H := H _ rfl
      refine g_aload (r := some _) rfl rfl rfl (pc' := 102) ?_
      refine g_iload rfl rfl rfl (pc' := 103) ?_
      refine g_putI rfl rfl rfl rfl ht10  (pc' := 106) rfl ?_
      replace H := H _ rfl
      exact g_weak (show gm_Lle [some _, none, some _, none, some _, some _, some _, none, some _] _ from ⟨rfl, ⟨rfl, ⟨rfl, ⟨rfl, ⟨rfl, ⟨rfl, trivial⟩⟩⟩⟩⟩⟩) H
    · exact H
  · exact H
set_option maxRecDepth 20000 in
theorem w_485_106 {a0 : Nat} {j2 : Int64} {x4 : Int32} {r_5 : Option Nat} {x6 : Int32} {r_8 : Option Nat} {h : hh_T} {Q : Option Value ⊕ Nat → hh_T → Prop} (H : ∃ a1, r_8 = some a1 ∧ (gm_sub (hh_tg h a1) 23 = true ∧ (∀ h3, h3 = hh_wj h a1 4 j2 → (∀ h4, h4 = hh_wi h3 a1 2 x4 → (∀ h5, h5 = hh_wi h4 a1 3 x6 → ((∀ a6, r_5 = some a6 → (gm_G 485 144 [some (.ref a0), none, none, none, none, some (.ref a6), none, none, some (.ref a1)] [.ref a6, .ref a1] h5 Q)) ∧ (r_5 = none → (hh_tg h5 a0 = 1 ∧ (gm_G 394 0 [some (.ref a0), some (.int x4)] [] h5 (pR (fun r9 h8 => gm_G 485 144 [some (.ref a0), none, none, none, none, some (va_rf none), none, none, some (.ref a1)] [va_rf r9, .ref a1] h8 Q) (fun e10 h11 => hh_tg h11 e10 = 21 ∧ Q (.inr e10) h11))))))))))) : gm_G 485 106 [some (.ref a0), none, some (.long j2), none, some (.int x4), some (va_rf r_5), some (.int x6), none, some (va_rf r_8)] [] h Q := by
  refine g_aload (r := _) rfl rfl rfl (pc' := 108) ?_
  refine g_lload rfl rfl rfl (pc' := 109) ?_
  obtain ⟨a1, rfl, H⟩ := H
  obtain ⟨ht2, H⟩ := H
  refine g_putJ rfl rfl rfl rfl ht2  (pc' := 112) rfl ?_
  replace H := H _ rfl
  refine g_aload (r := some _) rfl rfl rfl (pc' := 114) ?_
  refine g_iload rfl rfl rfl (pc' := 116) ?_
  refine g_putI rfl rfl rfl rfl ht2  (pc' := 119) rfl ?_
  replace H := H _ rfl
  refine g_aload (r := some _) rfl rfl rfl (pc' := 121) ?_
  refine g_iload rfl rfl rfl (pc' := 123) ?_
  refine g_putI rfl rfl rfl rfl ht2  (pc' := 126) rfl ?_
  replace H := H _ rfl
  refine g_aload (r := some _) rfl rfl rfl (pc' := 128) ?_
  refine g_aload (r := _) rfl rfl rfl (pc' := 130) ?_
  refine g_ifnonnull rfl (pc' := 133) (pt := 142) rfl rfl ⟨fun a6 hc => ?_, fun hc => ?_⟩
  · replace H := H.1 a6 hc
    subst hc
    refine g_aload (r := some _) rfl rfl rfl (pc' := 144) ?_
    exact g_weak (show gm_Lle [some _, none, none, none, none, some _, none, none, some _] _ from ⟨rfl, ⟨rfl, ⟨rfl, trivial⟩⟩⟩) H
  · replace H := H.2 hc
    subst hc
    refine g_aload (r := some _) rfl rfl rfl (pc' := 134) ?_
    refine g_iload rfl rfl rfl (pc' := 136) ?_
    obtain ⟨ht7, H⟩ := H
    refine g_call rfl (y := 394) (n := 2) (pc' := 139) (g_vt ht7 rfl rfl) rfl rfl ⟨(Nat.le_of_ble_eq_true rfl), (Nat.le_of_ble_eq_true rfl), (Nat.le_of_ble_eq_true rfl)⟩ rfl (gm_G.mono H (pR_elim (fun r9 h8 H' => ?_) (fun e10 h11 H => ?_)))
    · show gm_G _ 139 _ _ _ _
      replace H := H'
      clear H'
      refine g_goto rfl (pc' := 144) rfl ?_
      exact g_weak (show gm_Lle [some _, none, none, none, none, some _, none, none, some _] _ from ⟨rfl, ⟨rfl, ⟨rfl, trivial⟩⟩⟩) H
    · exact H
set_option maxRecDepth 20000 in
theorem w_485_144 {a0 : Nat} {r_5 : Option Nat} {r_8 : Option Nat} {q0 : Option Nat} {q1 : Option Nat} {h : hh_T} {Q : Option Value ⊕ Nat → hh_T → Prop} (H : ∃ a1, q1 = some a1 ∧ (gm_sub (hh_tg h a1) 23 = true ∧ (∀ h3, h3 = hh_wr h a1 9 q0 → ((r_5 = none → (gm_G 485 163 [some (.ref a0), none, none, none, none, none, none, none, some (va_rf r_8)] [] h3 Q)) ∧ (∀ a4, r_5 = some a4 → (gm_sub (hh_tg h3 a4) 24 = true ∧ (∀ h6, h6 = hh_wi h3 a4 0 ((hh_i h3 a4 0) + (Int32.ofNat 1)) → (gm_G 485 163 [some (.ref a0), none, none, none, none, none, none, none, some (va_rf r_8)] [] h6 Q)))))))) : gm_G 485 144 [some (.ref a0), none, none, none, none, some (va_rf r_5), none, none, some (va_rf r_8)] [va_rf q0, va_rf q1] h Q := by
  obtain ⟨a1, rfl, H⟩ := H
  obtain ⟨ht2, H⟩ := H
  refine g_putR rfl rfl rfl rfl ht2  (pc' := 147) rfl ?_
  replace H := H _ rfl
  refine g_aload (r := _) rfl rfl rfl (pc' := 149) ?_
  refine g_ifnull rfl (pc' := 152) (pt := 163) rfl rfl ⟨fun hc => ?_, fun a4 hc => ?_⟩
  · replace H := H.1 hc
    subst hc
    exact g_weak (show gm_Lle [some _, none, none, none, none, none, none, none, some _] _ from ⟨rfl, ⟨rfl, trivial⟩⟩) H
  · replace H := H.2 a4 hc
    subst hc
    refine g_aload (r := some _) rfl rfl rfl (pc' := 154) ?_
    refine g_dup_a (r := some _) rfl rfl (pc' := 155) ?_
    obtain ⟨ht5, H⟩ := H
    refine g_getI rfl rfl rfl rfl ht5 (pc' := 158) rfl ?_
    refine g_iconst rfl rfl rfl (pc' := 159) ?_
    refine g_iadd rfl rfl (pc' := 160) ?_
    refine g_putI rfl rfl rfl rfl ht5  (pc' := 163) rfl ?_
    replace H := H _ rfl
    exact g_weak (show gm_Lle [some _, none, none, none, none, none, none, none, some _] _ from ⟨rfl, ⟨rfl, trivial⟩⟩) H
set_option maxRecDepth 20000 in
theorem w_485_163 {a0 : Nat} {r_8 : Option Nat} {h : hh_T} {Q : Option Value ⊕ Nat → hh_T → Prop} (H : gm_sub (hh_tg h a0) 0 = true ∧ (∀ r2, r2 = hh_r h a0 33 → (∃ a3, r2 = some a3 ∧ (hh_tg h a3 = 23 ∧ (gm_G 172 0 [some (.ref a3), some (va_rf r_8)] [] h (pV (fun h5 => Q (.inl (some (va_rf r_8))) h5) (fun e6 h7 => hh_tg h7 e6 = 21 ∧ Q (.inr e6) h7))))))) : gm_G 485 163 [some (.ref a0), none, none, none, none, none, none, none, some (va_rf r_8)] [] h Q := by
  refine g_aload (r := some _) rfl rfl rfl (pc' := 164) ?_
  obtain ⟨ht1, H⟩ := H
  refine g_getRv rfl rfl rfl rfl ht1 (pc' := 167) rfl (fun r2 hr2 => ?_)
  replace H := H r2 hr2
  refine g_aload (r := _) rfl rfl rfl (pc' := 169) ?_
  obtain ⟨a3, rfl, H⟩ := H
  obtain ⟨ht4, H⟩ := H
  refine g_call rfl (y := 172) (n := 2) (pc' := 172) (g_vt ht4 rfl rfl) (by cases r_8 <;> rfl) rfl ⟨(Nat.le_of_ble_eq_true rfl), (Nat.le_of_ble_eq_true rfl), (Nat.le_of_ble_eq_true rfl)⟩ rfl (gm_G.mono H (pV_elim (fun h5 H' => ?_) (fun e6 h7 H => ?_)))
  · show gm_G _ 172 _ _ _ _
    replace H := H'
    clear H'
    refine g_aload (r := _) rfl rfl rfl (pc' := 174) ?_
    exact g_areturn (r := _) rfl H
  · exact H
set_option maxRecDepth 20000 in
theorem w_486_0 {a0 : Nat} {x1 : Int32} {x2 : Int32} {h : hh_T} {Q : Option Value ⊕ Nat → hh_T → Prop} (H : hh_tg h a0 = 1 ∧ (gm_G 456 0 [some (.ref a0)] [] h (pV (fun h2 => gm_sub (hh_tg h2 a0) 0 = true ∧ (gm_G 5 0 [some (.int x1), some (.int (Int32.ofNat 0)), some (.int ((hh_i h2 a0 8) - (Int32.ofNat 1)))] [] h2 (pI (fun v5 h4 => (v5 = Int32.ofNat 0 → (gm_G 486 30 [some (.ref a0), some (.int x1), some (.int x2)] [] h4 Q)) ∧ (¬ v5 = Int32.ofNat 0 → (hh_tg h4 a0 = 1 ∧ (gm_G 228 0 [some (.ref a0), some (.int x2)] [] h4 (pI (fun v8 h7 => (v8 = Int32.ofNat 0 → (gm_G 486 30 [some (.ref a0), some (.int x1), some (.int x2)] [] h7 Q)) ∧ (¬ v8 = Int32.ofNat 0 → (gm_G 486 31 [some (.ref a0), some (.int x1), some (.int x2)] [.int (Int32.ofNat 1)] h7 Q))) (fun e9 h10 => hh_tg h10 e9 = 21 ∧ gm_G 486 124 [some (.ref a0)] [.ref e9] h10 Q)))))) (fun e11 h12 => hh_tg h12 e11 = 21 ∧ gm_G 486 124 [some (.ref a0)] [.ref e11] h12 Q)))) (fun e13 h14 => hh_tg h14 e13 = 21 ∧ gm_G 486 124 [some (.ref a0)] [.ref e13] h14 Q)))) : gm_G 486 0 [some (.ref a0), some (.int x1), some (.int x2)] [] h Q := by
  refine g_aload (r := some _) rfl rfl rfl (pc' := 1) ?_
  obtain ⟨ht1, H⟩ := H
  refine g_call rfl (y := 456) (n := 1) (pc' := 4) (g_vt ht1 rfl rfl) rfl rfl ⟨(Nat.le_of_ble_eq_true rfl), (Nat.le_of_ble_eq_true rfl), (Nat.le_of_ble_eq_true rfl)⟩ rfl (gm_G.mono H (pV_elim (fun h2 H' => ?_) (fun e13 h14 H => ?_)))
  · show gm_G _ 4 _ _ _ _
    replace H := H'
    clear H'
    refine g_iload rfl rfl rfl (pc' := 5) ?_
    refine g_iconst rfl rfl rfl (pc' := 6) ?_
    refine g_aload (r := some _) rfl rfl rfl (pc' := 7) ?_
    obtain ⟨ht3, H⟩ := H
    refine g_getI rfl rfl rfl rfl ht3 (pc' := 10) rfl ?_
    refine g_iconst rfl rfl rfl (pc' := 11) ?_
    refine g_isub rfl rfl (pc' := 12) ?_
    refine g_call rfl (y := 5) (n := 3) (pc' := 15) (fun _ => rfl) rfl rfl ⟨(Nat.le_of_ble_eq_true rfl), (Nat.le_of_ble_eq_true rfl), (Nat.le_of_ble_eq_true rfl)⟩ rfl (gm_G.mono H (pI_elim (fun v5 h4 H' => ?_) (fun e11 h12 H => ?_)))
    · show gm_G _ 15 _ _ _ _
      replace H := H'
      clear H'
      refine g_if_eq rfl (pc' := 18) (pt := 30) rfl rfl ⟨fun hc => ?_, fun hc => ?_⟩
      · replace H := H.1 hc
        exact g_weak (show gm_Lle [some _, some _, some _] _ from ⟨rfl, ⟨rfl, ⟨rfl, trivial⟩⟩⟩) H
      · replace H := H.2 hc
        refine g_aload (r := some _) rfl rfl rfl (pc' := 19) ?_
        refine g_iload rfl rfl rfl (pc' := 20) ?_
        obtain ⟨ht6, H⟩ := H
        refine g_call rfl (y := 228) (n := 2) (pc' := 23) (g_vt ht6 rfl rfl) rfl rfl ⟨(Nat.le_of_ble_eq_true rfl), (Nat.le_of_ble_eq_true rfl), (Nat.le_of_ble_eq_true rfl)⟩ rfl (gm_G.mono H (pI_elim (fun v8 h7 H' => ?_) (fun e9 h10 H => ?_)))
        · show gm_G _ 23 _ _ _ _
          replace H := H'
          clear H'
          refine g_if_eq rfl (pc' := 26) (pt := 30) rfl rfl ⟨fun hc => ?_, fun hc => ?_⟩
          · replace H := H.1 hc
            exact g_weak (show gm_Lle [some _, some _, some _] _ from ⟨rfl, ⟨rfl, ⟨rfl, trivial⟩⟩⟩) H
          · replace H := H.2 hc
            refine g_iconst rfl rfl rfl (pc' := 27) ?_
            refine g_goto rfl (pc' := 31) rfl ?_
            exact g_weak (show gm_Lle [some _, some _, some _] _ from ⟨rfl, ⟨rfl, ⟨rfl, trivial⟩⟩⟩) H
        · exact ⟨H.1, g_weak (show gm_Lle [some _] _ from ⟨rfl, trivial⟩) H.2⟩
    · exact ⟨H.1, g_weak (show gm_Lle [some _] _ from ⟨rfl, trivial⟩) H.2⟩
  · exact ⟨H.1, g_weak (show gm_Lle [some _] _ from ⟨rfl, trivial⟩) H.2⟩
set_option maxRecDepth 20000 in
theorem w_486_30 {a0 : Nat} {x1 : Int32} {x2 : Int32} {h : hh_T} {Q : Option Value ⊕ Nat → hh_T → Prop} (H : gm_G 486 31 [some (.ref a0), some (.int x1), some (.int x2)] [.int (Int32.ofNat 0)] h Q) : gm_G 486 30 [some (.ref a0), some (.int x1), some (.int x2)] [] h Q := by
  refine g_iconst rfl rfl rfl (pc' := 31) ?_
  exact g_weak (show gm_Lle [some _, some _, some _] _ from ⟨rfl, ⟨rfl, ⟨rfl, trivial⟩⟩⟩) H
set_option maxRecDepth 20000 in
theorem w_486_31 {a0 : Nat} {x1 : Int32} {x2 : Int32} {y0 : Int32} {h : hh_T} {Q : Option Value ⊕ Nat → hh_T → Prop} (H : gm_G 452 0 [some (.int y0)] [] h (pV (fun h1 => gm_sub (hh_tg h1 a0) 0 = true ∧ (∀ r3, r3 = hh_r h1 a0 7 → (∃ a4, r3 = some a4 ∧ ((hh_tg h1 a4 = 104 ∨ 200 ≤ hh_tg h1 a4) ∧ (∃ n5, gm_ix x1 n5 (hh_ln h1 a4) ∧ (∀ r7, r7 = hh_r h1 a4 n5 → (∃ a8, r7 = some a8 ∧ ((hh_tg h1 a8 = 5 ∧ (gm_G 33 0 [some (.ref a8)] [] h1 (pI (fun v10 h9 => (¬ v10 < (Int32.ofNat 2) → (gm_G 486 54 [some (.ref a0), none, some (.int x2), some (.ref a8)] [.int (Int32.ofNat 0)] h9 Q)) ∧ (v10 < (Int32.ofNat 2) → (gm_G 486 54 [some (.ref a0), none, some (.int x2), some (.ref a8)] [.int (Int32.ofNat 1)] h9 Q))) (fun e11 h12 => hh_tg h12 e11 = 21 ∧ gm_G 486 124 [some (.ref a0)] [.ref e11] h12 Q)))) ∨ (hh_tg h1 a8 = 7 ∧ (gm_G 44 0 [some (.ref a8)] [] h1 (pI (fun v14 h13 => (¬ v14 < (Int32.ofNat 2) → (gm_G 486 54 [some (.ref a0), none, some (.int x2), some (.ref a8)] [.int (Int32.ofNat 0)] h13 Q)) ∧ (v14 < (Int32.ofNat 2) → (gm_G 486 54 [some (.ref a0), none, some (.int x2), some (.ref a8)] [.int (Int32.ofNat 1)] h13 Q))) (fun e15 h16 => hh_tg h16 e15 = 21 ∧ gm_G 486 124 [some (.ref a0)] [.ref e15] h16 Q)))))))))))) (fun e17 h18 => hh_tg h18 e17 = 21 ∧ gm_G 486 124 [some (.ref a0)] [.ref e17] h18 Q))) : gm_G 486 31 [some (.ref a0), some (.int x1), some (.int x2)] [.int y0] h Q := by
  refine g_call rfl (y := 452) (n := 1) (pc' := 34) (fun _ => rfl) rfl rfl ⟨(Nat.le_of_ble_eq_true rfl), (Nat.le_of_ble_eq_true rfl), (Nat.le_of_ble_eq_true rfl)⟩ rfl (gm_G.mono H (pV_elim (fun h1 H' => ?_) (fun e17 h18 H => ?_)))
  · show gm_G _ 34 _ _ _ _
    replace H := H'
    clear H'
    refine g_aload (r := some _) rfl rfl rfl (pc' := 35) ?_
    obtain ⟨ht2, H⟩ := H
    refine g_getRv rfl rfl rfl rfl ht2 (pc' := 38) rfl (fun r3 hr3 => ?_)
    replace H := H r3 hr3
    refine g_iload rfl rfl rfl (pc' := 39) ?_
    obtain ⟨a4, rfl, H⟩ := H
    obtain ⟨ht6, H⟩ := H
    obtain ⟨n5, hn5, H⟩ := H
    refine g_aaloadv rfl ht6 hn5 (pc' := 40) rfl (fun r7 hr7 => ?_)
    replace H := H r7 hr7
    refine g_astore (r := _) rfl rfl rfl (pc' := 41) ?_
    refine g_aload (r := _) rfl rfl rfl (pc' := 42) ?_
    obtain ⟨a8, rfl, H⟩ := H
    rcases H with ⟨ht, H⟩ | ⟨ht, H⟩
    · refine g_call rfl (y := 33) (n := 1) (pc' := 45) (g_vt ht rfl rfl) rfl rfl ⟨(Nat.le_of_ble_eq_true rfl), (Nat.le_of_ble_eq_true rfl), (Nat.le_of_ble_eq_true rfl)⟩ rfl (gm_G.mono H (pI_elim (fun v10 h9 H' => ?_) (fun e11 h12 H => ?_)))
      · show gm_G _ 45 _ _ _ _
        replace H := H'
        clear H'
        refine g_iconst rfl rfl rfl (pc' := 46) ?_
        refine g_ic_ge rfl (pc' := 49) (pt := 53) rfl rfl ⟨fun hc => ?_, fun hc => ?_⟩
        · replace H := H.1 hc
          refine g_iconst rfl rfl rfl (pc' := 54) ?_
          exact g_weak (show gm_Lle [some _, none, some _, some _] _ from ⟨rfl, ⟨rfl, ⟨rfl, trivial⟩⟩⟩) H
        · replace H := H.2 hc
          refine g_iconst rfl rfl rfl (pc' := 50) ?_
          refine g_goto rfl (pc' := 54) rfl ?_
          exact g_weak (show gm_Lle [some _, none, some _, some _] _ from ⟨rfl, ⟨rfl, ⟨rfl, trivial⟩⟩⟩) H
      · exact ⟨H.1, g_weak (show gm_Lle [some _] _ from ⟨rfl, trivial⟩) H.2⟩
    · refine g_call rfl (y := 44) (n := 1) (pc' := 45) (g_vt ht rfl rfl) rfl rfl ⟨(Nat.le_of_ble_eq_true rfl), (Nat.le_of_ble_eq_true rfl), (Nat.le_of_ble_eq_true rfl)⟩ rfl (gm_G.mono H (pI_elim (fun v14 h13 H' => ?_) (fun e15 h16 H => ?_)))
      · show gm_G _ 45 _ _ _ _
        replace H := H'
        clear H'
        refine g_iconst rfl rfl rfl (pc' := 46) ?_
        refine g_ic_ge rfl (pc' := 49) (pt := 53) rfl rfl ⟨fun hc => ?_, fun hc => ?_⟩
        · replace H := H.1 hc
          refine g_iconst rfl rfl rfl (pc' := 54) ?_
          exact g_weak (show gm_Lle [some _, none, some _, some _] _ from ⟨rfl, ⟨rfl, ⟨rfl, trivial⟩⟩⟩) H
        · replace H := H.2 hc
          refine g_iconst rfl rfl rfl (pc' := 50) ?_
          refine g_goto rfl (pc' := 54) rfl ?_
          exact g_weak (show gm_Lle [some _, none, some _, some _] _ from ⟨rfl, ⟨rfl, ⟨rfl, trivial⟩⟩⟩) H
      · exact ⟨H.1, g_weak (show gm_Lle [some _] _ from ⟨rfl, trivial⟩) H.2⟩
  · exact ⟨H.1, g_weak (show gm_Lle [some _] _ from ⟨rfl, trivial⟩) H.2⟩
set_option maxRecDepth 20000 in
theorem w_486_54 {a0 : Nat} {x2 : Int32} {r_3 : Option Nat} {y0 : Int32} {h : hh_T} {Q : Option Value ⊕ Nat → hh_T → Prop} (H : gm_G 431 0 [some (.int y0), some (.int (Int32.ofInt (-10)))] [] h (pV (fun h1 => ∃ a2, r_3 = some a2 ∧ (gm_sub (hh_tg h1 a2) 3 = true ∧ ((¬ (hh_i h1 a2 2) < (Int32.ofNat 3) → (gm_G 486 72 [some (.ref a0), none, some (.int x2), some (.ref a2)] [.int (Int32.ofNat 0)] h1 Q)) ∧ ((hh_i h1 a2 2) < (Int32.ofNat 3) → (gm_G 486 72 [some (.ref a0), none, some (.int x2), some (.ref a2)] [.int (Int32.ofNat 1)] h1 Q))))) (fun e4 h5 => hh_tg h5 e4 = 21 ∧ gm_G 486 124 [some (.ref a0)] [.ref e4] h5 Q))) : gm_G 486 54 [some (.ref a0), none, some (.int x2), some (va_rf r_3)] [.int y0] h Q := by
  refine g_iconst rfl rfl rfl (pc' := 56) ?_
  refine g_call rfl (y := 431) (n := 2) (pc' := 59) (fun _ => rfl) rfl rfl ⟨(Nat.le_of_ble_eq_true rfl), (Nat.le_of_ble_eq_true rfl), (Nat.le_of_ble_eq_true rfl)⟩ rfl (gm_G.mono H (pV_elim (fun h1 H' => ?_) (fun e4 h5 H => ?_)))
  · show gm_G _ 59 _ _ _ _
    replace H := H'
    clear H'
    refine g_aload (r := _) rfl rfl rfl (pc' := 60) ?_
    obtain ⟨a2, rfl, H⟩ := H
    obtain ⟨ht3, H⟩ := H
    refine g_getI rfl rfl rfl rfl ht3 (pc' := 63) rfl ?_
    refine g_iconst rfl rfl rfl (pc' := 64) ?_
    refine g_ic_ge rfl (pc' := 67) (pt := 71) rfl rfl ⟨fun hc => ?_, fun hc => ?_⟩
    · replace H := H.1 hc
      refine g_iconst rfl rfl rfl (pc' := 72) ?_
      exact g_weak (show gm_Lle [some _, none, some _, some _] _ from ⟨rfl, ⟨rfl, ⟨rfl, trivial⟩⟩⟩) H
    · replace H := H.2 hc
      refine g_iconst rfl rfl rfl (pc' := 68) ?_
      refine g_goto rfl (pc' := 72) rfl ?_
      exact g_weak (show gm_Lle [some _, none, some _, some _] _ from ⟨rfl, ⟨rfl, ⟨rfl, trivial⟩⟩⟩) H
  · exact ⟨H.1, g_weak (show gm_Lle [some _] _ from ⟨rfl, trivial⟩) H.2⟩
set_option maxRecDepth 20000 in
theorem w_486_72 {a0 : Nat} {x2 : Int32} {r_3 : Option Nat} {y0 : Int32} {h : hh_T} {Q : Option Value ⊕ Nat → hh_T → Prop} (H : gm_G 431 0 [some (.int y0), some (.int (Int32.ofInt (-3)))] [] h (pV (fun h1 => gm_sub (hh_tg h1 a0) 0 = true ∧ (∀ r3, r3 = hh_r h1 a0 0 → (∃ a4, r3 = some a4 ∧ ((hh_tg h1 a4 = 104 ∨ 200 ≤ hh_tg h1 a4) ∧ (∃ n5, gm_ix x2 n5 (hh_ln h1 a4) ∧ (∀ r7, r7 = hh_r h1 a4 n5 → (gm_G 11 0 [some (va_rf r7), some (va_rf r_3)] [] h1 (pI (fun v9 h8 => gm_G 431 0 [some (.int v9), some (.int (Int32.ofInt (-5)))] [] h8 (pV (fun h10 => gm_sub (hh_tg h10 a0) 0 = true ∧ (∀ r12, r12 = hh_r h10 a0 0 → (∃ a13, r12 = some a13 ∧ ((hh_tg h10 a13 = 104 ∨ 200 ≤ hh_tg h10 a13) ∧ (∃ n14, gm_ix x2 n14 (hh_ln h10 a13) ∧ (∀ r16, r16 = hh_r h10 a13 n14 → (∃ a17, r_3 = some a17 ∧ ((hh_tg h10 a17 = 5 ∧ (gm_G 28 0 [some (.ref a17), some (va_rf r16)] [] h10 (pV (fun h18 => gm_sub (hh_tg h18 a0) 0 = true ∧ (∀ r20, r20 = hh_r h18 a0 0 → (∃ a21, r20 = some a21 ∧ ((hh_tg h18 a21 = 104 ∨ 200 ≤ hh_tg h18 a21) ∧ (∃ n22, gm_ix x2 n22 (hh_ln h18 a21) ∧ (∀ r24, r24 = hh_r h18 a21 n22 → (gm_sub (hh_tg h18 a17) 3 = true ∧ (gm_G 15 0 [some (va_rf r24), some (.int (hh_i h18 a17 3))] [] h18 (pV (fun h26 => gm_G 486 115 [some (.ref a0), none, none, some (.ref a17)] [] h26 Q) (fun e27 h28 => hh_tg h28 e27 = 21 ∧ gm_G 486 124 [some (.ref a0)] [.ref e27] h28 Q)))))))))) (fun e29 h30 => hh_tg h30 e29 = 21 ∧ gm_G 486 124 [some (.ref a0)] [.ref e29] h30 Q)))) ∨ (hh_tg h10 a17 = 7 ∧ (gm_G 28 0 [some (.ref a17), some (va_rf r16)] [] h10 (pV (fun h31 => gm_sub (hh_tg h31 a0) 0 = true ∧ (∀ r33, r33 = hh_r h31 a0 0 → (∃ a34, r33 = some a34 ∧ ((hh_tg h31 a34 = 104 ∨ 200 ≤ hh_tg h31 a34) ∧ (∃ n35, gm_ix x2 n35 (hh_ln h31 a34) ∧ (∀ r37, r37 = hh_r h31 a34 n35 → (gm_sub (hh_tg h31 a17) 3 = true ∧ (gm_G 15 0 [some (va_rf r37), some (.int (hh_i h31 a17 3))] [] h31 (pV (fun h39 => gm_G 486 115 [some (.ref a0), none, none, some (.ref a17)] [] h39 Q) (fun e40 h41 => hh_tg h41 e40 = 21 ∧ gm_G 486 124 [some (.ref a0)] [.ref e40] h41 Q)))))))))) (fun e42 h43 => hh_tg h43 e42 = 21 ∧ gm_G 486 124 [some (.ref a0)] [.ref e42] h43 Q)))))))))))) (fun e44 h45 => hh_tg h45 e44 = 21 ∧ gm_G 486 124 [some (.ref a0)] [.ref e44] h45 Q))) (fun e46 h47 => hh_tg h47 e46 = 21 ∧ gm_G 486 124 [some (.ref a0)] [.ref e46] h47 Q))))))))) (fun e48 h49 => hh_tg h49 e48 = 21 ∧ gm_G 486 124 [some (.ref a0)] [.ref e48] h49 Q))) : gm_G 486 72 [some (.ref a0), none, some (.int x2), some (va_rf r_3)] [.int y0] h Q := by
  refine g_iconst rfl rfl rfl (pc' := 74) ?_
  refine g_call rfl (y := 431) (n := 2) (pc' := 77) (fun _ => rfl) rfl rfl ⟨(Nat.le_of_ble_eq_true rfl), (Nat.le_of_ble_eq_true rfl), (Nat.le_of_ble_eq_true rfl)⟩ rfl (gm_G.mono H (pV_elim (fun h1 H' => ?_) (fun e48 h49 H => ?_)))
  · show gm_G _ 77 _ _ _ _
    replace H := H'
    clear H'
    refine g_aload (r := some _) rfl rfl rfl (pc' := 78) ?_
    obtain ⟨ht2, H⟩ := H
    refine g_getRv rfl rfl rfl rfl ht2 (pc' := 81) rfl (fun r3 hr3 => ?_)
    replace H := H r3 hr3
    refine g_iload rfl rfl rfl (pc' := 82) ?_
    obtain ⟨a4, rfl, H⟩ := H
    obtain ⟨ht6, H⟩ := H
    obtain ⟨n5, hn5, H⟩ := H
    refine g_aaloadv rfl ht6 hn5 (pc' := 83) rfl (fun r7 hr7 => ?_)
    replace H := H r7 hr7
    refine g_aload (r := _) rfl rfl rfl (pc' := 84) ?_
    refine g_call rfl (y := 11) (n := 2) (pc' := 87) (fun _ => rfl) (by cases r7 <;> cases r_3 <;> rfl) rfl ⟨(Nat.le_of_ble_eq_true rfl), (Nat.le_of_ble_eq_true rfl), (Nat.le_of_ble_eq_true rfl)⟩ rfl (gm_G.mono H (pI_elim (fun v9 h8 H' => ?_) (fun e46 h47 H => ?_)))
    · show gm_G _ 87 _ _ _ _
      replace H := H'
      clear H'
      refine g_iconst rfl rfl rfl (pc' := 89) ?_
      refine g_call rfl (y := 431) (n := 2) (pc' := 92) (fun _ => rfl) rfl rfl ⟨(Nat.le_of_ble_eq_true rfl), (Nat.le_of_ble_eq_true rfl), (Nat.le_of_ble_eq_true rfl)⟩ rfl (gm_G.mono H (pV_elim (fun h10 H' => ?_) (fun e44 h45 H => ?_)))
      · show gm_G _ 92 _ _ _ _
        replace H := H'
        clear H'
        refine g_aload (r := _) rfl rfl rfl (pc' := 93) ?_
        refine g_aload (r := some _) rfl rfl rfl (pc' := 94) ?_
        obtain ⟨ht11, H⟩ := H
        refine g_getRv rfl rfl rfl rfl ht11 (pc' := 97) rfl (fun r12 hr12 => ?_)
        replace H := H r12 hr12
        refine g_iload rfl rfl rfl (pc' := 98) ?_
        obtain ⟨a13, rfl, H⟩ := H
        obtain ⟨ht15, H⟩ := H
        obtain ⟨n14, hn14, H⟩ := H
        refine g_aaloadv rfl ht15 hn14 (pc' := 99) rfl (fun r16 hr16 => ?_)
        replace H := H r16 hr16
        obtain ⟨a17, rfl, H⟩ := H
        rcases H with ⟨ht, H⟩ | ⟨ht, H⟩
        · refine g_call rfl (y := 28) (n := 2) (pc' := 102) (g_vt ht rfl rfl) (by cases r16 <;> rfl) rfl ⟨(Nat.le_of_ble_eq_true rfl), (Nat.le_of_ble_eq_true rfl), (Nat.le_of_ble_eq_true rfl)⟩ rfl (gm_G.mono H (pV_elim (fun h18 H' => ?_) (fun e29 h30 H => ?_)))
          · show gm_G _ 102 _ _ _ _
            replace H := H'
            clear H'
            refine g_aload (r := some _) rfl rfl rfl (pc' := 103) ?_
            obtain ⟨ht19, H⟩ := H
            refine g_getRv rfl rfl rfl rfl ht19 (pc' := 106) rfl (fun r20 hr20 => ?_)
            replace H := H r20 hr20
            refine g_iload rfl rfl rfl (pc' := 107) ?_
            obtain ⟨a21, rfl, H⟩ := H
            obtain ⟨ht23, H⟩ := H
            obtain ⟨n22, hn22, H⟩ := H
            refine g_aaloadv rfl ht23 hn22 (pc' := 108) rfl (fun r24 hr24 => ?_)
            replace H := H r24 hr24
            refine g_aload (r := some _) rfl rfl rfl (pc' := 109) ?_
            obtain ⟨ht25, H⟩ := H
            refine g_getI rfl rfl rfl rfl ht25 (pc' := 112) rfl ?_
            refine g_call rfl (y := 15) (n := 2) (pc' := 115) (fun _ => rfl) (by cases r24 <;> rfl) rfl ⟨(Nat.le_of_ble_eq_true rfl), (Nat.le_of_ble_eq_true rfl), (Nat.le_of_ble_eq_true rfl)⟩ rfl (gm_G.mono H (pV_elim (fun h26 H' => ?_) (fun e27 h28 H => ?_)))
            · show gm_G _ 115 _ _ _ _
              replace H := H'
              clear H'
              exact g_weak (show gm_Lle [some _, none, none, some _] _ from ⟨rfl, ⟨rfl, trivial⟩⟩) H
            · exact ⟨H.1, g_weak (show gm_Lle [some _] _ from ⟨rfl, trivial⟩) H.2⟩
          · exact ⟨H.1, g_weak (show gm_Lle [some _] _ from ⟨rfl, trivial⟩) H.2⟩
        · refine g_call rfl (y := 28) (n := 2) (pc' := 102) (g_vt ht rfl rfl) (by cases r16 <;> rfl) rfl ⟨(Nat.le_of_ble_eq_true rfl), (Nat.le_of_ble_eq_true rfl), (Nat.le_of_ble_eq_true rfl)⟩ rfl (gm_G.mono H (pV_elim (fun h31 H' => ?_) (fun e42 h43 H => ?_)))
          · show gm_G _ 102 _ _ _ _
            replace H := H'
            clear H'
            refine g_aload (r := some _) rfl rfl rfl (pc' := 103) ?_
            obtain ⟨ht32, H⟩ := H
            refine g_getRv rfl rfl rfl rfl ht32 (pc' := 106) rfl (fun r33 hr33 => ?_)
            replace H := H r33 hr33
            refine g_iload rfl rfl rfl (pc' := 107) ?_
            obtain ⟨a34, rfl, H⟩ := H
            obtain ⟨ht36, H⟩ := H
            obtain ⟨n35, hn35, H⟩ := H
            refine g_aaloadv rfl ht36 hn35 (pc' := 108) rfl (fun r37 hr37 => ?_)
            replace H := H r37 hr37
            refine g_aload (r := some _) rfl rfl rfl (pc' := 109) ?_
            obtain ⟨ht38, H⟩ := H
            refine g_getI rfl rfl rfl rfl ht38 (pc' := 112) rfl ?_
            refine g_call rfl (y := 15) (n := 2) (pc' := 115) (fun _ => rfl) (by cases r37 <;> rfl) rfl ⟨(Nat.le_of_ble_eq_true rfl), (Nat.le_of_ble_eq_true rfl), (Nat.le_of_ble_eq_true rfl)⟩ rfl (gm_G.mono H (pV_elim (fun h39 H' => ?_) (fun e40 h41 H => ?_)))
            · show gm_G _ 115 _ _ _ _
              replace H := H'
              clear H'
              exact g_weak (show gm_Lle [some _, none, none, some _] _ from ⟨rfl, ⟨rfl, trivial⟩⟩) H
            · exact ⟨H.1, g_weak (show gm_Lle [some _] _ from ⟨rfl, trivial⟩) H.2⟩
          · exact ⟨H.1, g_weak (show gm_Lle [some _] _ from ⟨rfl, trivial⟩) H.2⟩
      · exact ⟨H.1, g_weak (show gm_Lle [some _] _ from ⟨rfl, trivial⟩) H.2⟩
    · exact ⟨H.1, g_weak (show gm_Lle [some _] _ from ⟨rfl, trivial⟩) H.2⟩
  · exact ⟨H.1, g_weak (show gm_Lle [some _] _ from ⟨rfl, trivial⟩) H.2⟩
set_option maxRecDepth 20000 in
theorem w_486_115 {a0 : Nat} {r_3 : Option Nat} {h : hh_T} {Q : Option Value ⊕ Nat → hh_T → Prop} (H : ∃ a1, r_3 = some a1 ∧ (gm_sub (hh_tg h a1) 3 = true ∧ (hh_tg h a0 = 1 ∧ (gm_G 4 0 [some (.ref a0), some (.int (hh_i h a1 2))] [] h (pI (fun v5 h4 => Q (.inl (some (.int v5))) h4) (fun e6 h7 => hh_tg h7 e6 = 21 ∧ gm_G 486 124 [some (.ref a0)] [.ref e6] h7 Q)))))) : gm_G 486 115 [some (.ref a0), none, none, some (va_rf r_3)] [] h Q := by
  refine g_aload (r := some _) rfl rfl rfl (pc' := 116) ?_
  refine g_aload (r := _) rfl rfl rfl (pc' := 117) ?_
  obtain ⟨a1, rfl, H⟩ := H
  obtain ⟨ht2, H⟩ := H
  refine g_getI rfl rfl rfl rfl ht2 (pc' := 120) rfl ?_
  obtain ⟨ht3, H⟩ := H
  refine g_call rfl (y := 4) (n := 2) (pc' := 123) (g_vt ht3 rfl rfl) rfl rfl ⟨(Nat.le_of_ble_eq_true rfl), (Nat.le_of_ble_eq_true rfl), (Nat.le_of_ble_eq_true rfl)⟩ rfl (gm_G.mono H (pI_elim (fun v5 h4 H' => ?_) (fun e6 h7 H => ?_)))
  · show gm_G _ 123 _ _ _ _
    replace H := H'
    clear H'
    exact g_ireturn rfl (Or.inl rfl) H
  · exact ⟨H.1, g_weak (show gm_Lle [some _] _ from ⟨rfl, trivial⟩) H.2⟩
set_option maxRecDepth 20000 in
theorem w_486_124 {a0 : Nat} {ex : Nat} {h : hh_T} {Q : Option Value ⊕ Nat → hh_T → Prop} (H : hh_tg h a0 = 1 ∧ (gm_G 1 0 [some (.ref a0), some (.ref ex)] [] h (pI (fun v3 h2 => Q (.inl (some (.int v3))) h2) (fun e4 h5 => hh_tg h5 e4 = 21 ∧ Q (.inr e4) h5)))) : gm_G 486 124 [some (.ref a0)] [.ref ex] h Q := by
  refine g_astore (r := some _) rfl rfl rfl (pc' := 125) ?_
  refine g_aload (r := some _) rfl rfl rfl (pc' := 126) ?_
  refine g_aload (r := some _) rfl rfl rfl (pc' := 127) ?_
  obtain ⟨ht1, H⟩ := H
  refine g_call rfl (y := 1) (n := 2) (pc' := 130) (g_vt ht1 rfl rfl) rfl rfl ⟨(Nat.le_of_ble_eq_true rfl), (Nat.le_of_ble_eq_true rfl), (Nat.le_of_ble_eq_true rfl)⟩ rfl (gm_G.mono H (pI_elim (fun v3 h2 H' => ?_) (fun e4 h5 H => ?_)))
  · show gm_G _ 130 _ _ _ _
    replace H := H'
    clear H'
    exact g_ireturn rfl (Or.inl rfl) H
  · exact H
set_option maxRecDepth 20000 in
theorem w_487_0 {a0 : Nat} {x1 : Int32} {x2 : Int32} {x3 : Int32} {h : hh_T} {Q : Option Value ⊕ Nat → hh_T → Prop} (H : hh_tg h a0 = 1 ∧ (gm_G 456 0 [some (.ref a0)] [] h (pV (fun h2 => gm_G 5 0 [some (.int x3), some (.int (Int32.ofNat 0)), some (.int (Int32.ofNat 9))] [] h2 (pI (fun v4 h3 => gm_G 452 0 [some (.int v4)] [] h3 (pV (fun h5 => hh_tg h5 a0 = 1 ∧ (gm_G 455 0 [some (.ref a0), some (.int x1)] [] h5 (pR (fun r8 h7 => gm_G 448 0 [some (va_rf r8), some (.int x2)] [] h7 (pR (fun r10 h9 => gm_G 487 25 [some (.ref a0), none, none, some (.int x3), some (va_rf r10)] [] h9 Q) (fun e11 h12 => hh_tg h12 e11 = 21 ∧ gm_G 487 176 [some (.ref a0)] [.ref e11] h12 Q))) (fun e13 h14 => hh_tg h14 e13 = 21 ∧ gm_G 487 176 [some (.ref a0)] [.ref e13] h14 Q)))) (fun e15 h16 => hh_tg h16 e15 = 21 ∧ gm_G 487 176 [some (.ref a0)] [.ref e15] h16 Q))) (fun e17 h18 => hh_tg h18 e17 = 21 ∧ gm_G 487 176 [some (.ref a0)] [.ref e17] h18 Q))) (fun e19 h20 => hh_tg h20 e19 = 21 ∧ gm_G 487 176 [some (.ref a0)] [.ref e19] h20 Q)))) : gm_G 487 0 [some (.ref a0), some (.int x1), some (.int x2), some (.int x3)] [] h Q := by
  refine g_aload (r := some _) rfl rfl rfl (pc' := 1) ?_
  obtain ⟨ht1, H⟩ := H
  refine g_call rfl (y := 456) (n := 1) (pc' := 4) (g_vt ht1 rfl rfl) rfl rfl ⟨(Nat.le_of_ble_eq_true rfl), (Nat.le_of_ble_eq_true rfl), (Nat.le_of_ble_eq_true rfl)⟩ rfl (gm_G.mono H (pV_elim (fun h2 H' => ?_) (fun e19 h20 H => ?_)))
  · show gm_G _ 4 _ _ _ _
    replace H := H'
    clear H'
    refine g_iload rfl rfl rfl (pc' := 5) ?_
    refine g_iconst rfl rfl rfl (pc' := 6) ?_
    refine g_iconst rfl rfl rfl (pc' := 8) ?_
    refine g_call rfl (y := 5) (n := 3) (pc' := 11) (fun _ => rfl) rfl rfl ⟨(Nat.le_of_ble_eq_true rfl), (Nat.le_of_ble_eq_true rfl), (Nat.le_of_ble_eq_true rfl)⟩ rfl (gm_G.mono H (pI_elim (fun v4 h3 H' => ?_) (fun e17 h18 H => ?_)))
    · show gm_G _ 11 _ _ _ _
      replace H := H'
      clear H'
      refine g_call rfl (y := 452) (n := 1) (pc' := 14) (fun _ => rfl) rfl rfl ⟨(Nat.le_of_ble_eq_true rfl), (Nat.le_of_ble_eq_true rfl), (Nat.le_of_ble_eq_true rfl)⟩ rfl (gm_G.mono H (pV_elim (fun h5 H' => ?_) (fun e15 h16 H => ?_)))
      · show gm_G _ 14 _ _ _ _
        replace H := H'
        clear H'
        refine g_aload (r := some _) rfl rfl rfl (pc' := 15) ?_
        refine g_iload rfl rfl rfl (pc' := 16) ?_
        obtain ⟨ht6, H⟩ := H
        refine g_call rfl (y := 455) (n := 2) (pc' := 19) (g_vt ht6 rfl rfl) rfl rfl ⟨(Nat.le_of_ble_eq_true rfl), (Nat.le_of_ble_eq_true rfl), (Nat.le_of_ble_eq_true rfl)⟩ rfl (gm_G.mono H (pR_elim (fun r8 h7 H' => ?_) (fun e13 h14 H => ?_)))
        · show gm_G _ 19 _ _ _ _
          replace H := H'
          clear H'
          refine g_iload rfl rfl rfl (pc' := 20) ?_
          refine g_call rfl (y := 448) (n := 2) (pc' := 23) (fun _ => rfl) (by cases r8 <;> rfl) rfl ⟨(Nat.le_of_ble_eq_true rfl), (Nat.le_of_ble_eq_true rfl), (Nat.le_of_ble_eq_true rfl)⟩ rfl (gm_G.mono H (pR_elim (fun r10 h9 H' => ?_) (fun e11 h12 H => ?_)))
          · show gm_G _ 23 _ _ _ _
            replace H := H'
            clear H'
            refine g_astore (r := _) rfl rfl rfl (pc' := 25) ?_
            exact g_weak (show gm_Lle [some _, none, none, some _, some _] _ from ⟨rfl, ⟨rfl, ⟨rfl, trivial⟩⟩⟩) H
          · exact ⟨H.1, g_weak (show gm_Lle [some _] _ from ⟨rfl, trivial⟩) H.2⟩
        · exact ⟨H.1, g_weak (show gm_Lle [some _] _ from ⟨rfl, trivial⟩) H.2⟩
      · exact ⟨H.1, g_weak (show gm_Lle [some _] _ from ⟨rfl, trivial⟩) H.2⟩
    · exact ⟨H.1, g_weak (show gm_Lle [some _] _ from ⟨rfl, trivial⟩) H.2⟩
  · exact ⟨H.1, g_weak (show gm_Lle [some _] _ from ⟨rfl, trivial⟩) H.2⟩
set_option maxRecDepth 20000 in
theorem w_487_25 {a0 : Nat} {x3 : Int32} {r_4 : Option Nat} {h : hh_T} {Q : Option Value ⊕ Nat → hh_T → Prop} (H : (¬ (0 ≤ x3.toInt ∧ x3.toInt ≤ 8) → (gm_G 230 0 [some (va_rf r_4)] [] h (pI (fun v2 h1 => hh_tg h1 a0 = 1 ∧ (gm_G 4 0 [some (.ref a0), some (.int v2)] [] h1 (pI (fun v5 h4 => Q (.inl (some (.int v5))) h4) (fun e6 h7 => hh_tg h7 e6 = 21 ∧ gm_G 487 176 [some (.ref a0)] [.ref e6] h7 Q)))) (fun e8 h9 => hh_tg h9 e8 = 21 ∧ gm_G 487 176 [some (.ref a0)] [.ref e8] h9 Q)))) ∧ (x3.toInt = 0 → (∃ a10, r_4 = some a10 ∧ (gm_sub (hh_tg h a10) 25 = true ∧ (hh_tg h a0 = 1 ∧ (gm_G 4 0 [some (.ref a0), some (.int (hh_i h a10 1))] [] h (pI (fun v14 h13 => Q (.inl (some (.int v14))) h13) (fun e15 h16 => hh_tg h16 e15 = 21 ∧ gm_G 487 176 [some (.ref a0)] [.ref e15] h16 Q))))))) ∧ (x3.toInt = 1 → (∃ a17, r_4 = some a17 ∧ (gm_sub (hh_tg h a17) 25 = true ∧ (hh_tg h a0 = 1 ∧ (gm_G 4 0 [some (.ref a0), some (.int (hh_i h a17 2))] [] h (pI (fun v21 h20 => Q (.inl (some (.int v21))) h20) (fun e22 h23 => hh_tg h23 e22 = 21 ∧ gm_G 487 176 [some (.ref a0)] [.ref e22] h23 Q))))))) ∧ (x3.toInt = 2 → (∃ a24, r_4 = some a24 ∧ (gm_sub (hh_tg h a24) 25 = true ∧ (hh_tg h a0 = 1 ∧ (gm_G 4 0 [some (.ref a0), some (.int (hh_i h a24 3))] [] h (pI (fun v28 h27 => Q (.inl (some (.int v28))) h27) (fun e29 h30 => hh_tg h30 e29 = 21 ∧ gm_G 487 176 [some (.ref a0)] [.ref e29] h30 Q))))))) ∧ (x3.toInt = 3 → (∃ a31, r_4 = some a31 ∧ (gm_sub (hh_tg h a31) 25 = true ∧ (hh_tg h a0 = 1 ∧ (gm_G 4 0 [some (.ref a0), some (.int (hh_i h a31 4))] [] h (pI (fun v35 h34 => Q (.inl (some (.int v35))) h34) (fun e36 h37 => hh_tg h37 e36 = 21 ∧ gm_G 487 176 [some (.ref a0)] [.ref e36] h37 Q))))))) ∧ (x3.toInt = 4 → (∃ a38, r_4 = some a38 ∧ (gm_sub (hh_tg h a38) 25 = true ∧ (hh_tg h a0 = 1 ∧ (gm_G 4 0 [some (.ref a0), some (.int (hh_i h a38 5))] [] h (pI (fun v42 h41 => Q (.inl (some (.int v42))) h41) (fun e43 h44 => hh_tg h44 e43 = 21 ∧ gm_G 487 176 [some (.ref a0)] [.ref e43] h44 Q))))))) ∧ (x3.toInt = 5 → (gm_G 487 126 [some (.ref a0), none, none, none, some (va_rf r_4)] [] h Q)) ∧ (x3.toInt = 6 → (∃ a45, r_4 = some a45 ∧ (gm_sub (hh_tg h a45) 25 = true ∧ (hh_tg h a0 = 1 ∧ (gm_G 4 0 [some (.ref a0), some (.int (hh_i h a45 7))] [] h (pI (fun v49 h48 => Q (.inl (some (.int v49))) h48) (fun e50 h51 => hh_tg h51 e50 = 21 ∧ gm_G 487 176 [some (.ref a0)] [.ref e50] h51 Q))))))) ∧ (x3.toInt = 7 → (∃ a52, r_4 = some a52 ∧ (gm_sub (hh_tg h a52) 25 = true ∧ (hh_tg h a0 = 1 ∧ (gm_G 4 0 [some (.ref a0), some (.int (hh_i h a52 8))] [] h (pI (fun v56 h55 => Q (.inl (some (.int v56))) h55) (fun e57 h58 => hh_tg h58 e57 = 21 ∧ gm_G 487 176 [some (.ref a0)] [.ref e57] h58 Q))))))) ∧ (x3.toInt = 8 → (∃ a59, r_4 = some a59 ∧ (gm_sub (hh_tg h a59) 25 = true ∧ (hh_tg h a0 = 1 ∧ (gm_G 4 0 [some (.ref a0), some (.int (hh_i h a59 9))] [] h (pI (fun v63 h62 => Q (.inl (some (.int v63))) h62) (fun e64 h65 => hh_tg h65 e64 = 21 ∧ gm_G 487 176 [some (.ref a0)] [.ref e64] h65 Q)))))))) : gm_G 487 25 [some (.ref a0), none, none, some (.int x3), some (va_rf r_4)] [] h Q := by
  refine g_iload rfl rfl rfl (pc' := 26) ?_
  refine g_switch rfl ⟨fun hc => ?_, fun hc => ?_⟩
  · replace H := H.1 (fun hq => by omega)
    refine g_aload (r := some _) rfl rfl rfl (pc' := 167) ?_
    refine g_aload (r := _) rfl rfl rfl (pc' := 169) ?_
    refine g_call rfl (y := 230) (n := 1) (pc' := 172) (fun _ => rfl) (by cases r_4 <;> rfl) rfl ⟨(Nat.le_of_ble_eq_true rfl), (Nat.le_of_ble_eq_true rfl), (Nat.le_of_ble_eq_true rfl)⟩ rfl (gm_G.mono H (pI_elim (fun v2 h1 H' => ?_) (fun e8 h9 H => ?_)))
    · show gm_G _ 172 _ _ _ _
      replace H := H'
      clear H'
      obtain ⟨ht3, H⟩ := H
      refine g_call rfl (y := 4) (n := 2) (pc' := 175) (g_vt ht3 rfl rfl) rfl rfl ⟨(Nat.le_of_ble_eq_true rfl), (Nat.le_of_ble_eq_true rfl), (Nat.le_of_ble_eq_true rfl)⟩ rfl (gm_G.mono H (pI_elim (fun v5 h4 H' => ?_) (fun e6 h7 H => ?_)))
      · show gm_G _ 175 _ _ _ _
        replace H := H'
        clear H'
        exact g_ireturn rfl (Or.inl rfl) H
      · exact ⟨H.1, g_weak (show gm_Lle [some _] _ from ⟨rfl, trivial⟩) H.2⟩
    · exact ⟨H.1, g_weak (show gm_Lle [some _] _ from ⟨rfl, trivial⟩) H.2⟩
  · replace H := H.2
    have hq : x3.toInt = 0 ∨ x3.toInt = 1 ∨ x3.toInt = 2 ∨ x3.toInt = 3 ∨ x3.toInt = 4 ∨ x3.toInt = 5 ∨ x3.toInt = 6 ∨ x3.toInt = 7 ∨ x3.toInt = 8 := by omega
    rcases hq with hq | hq | hq | hq | hq | hq | hq | hq | hq
    · replace H := (H.1) hq
      refine ⟨76, by rw [hq]; rfl, ?_⟩
      show gm_G _ 76 _ _ _ _
      refine g_aload (r := some _) rfl rfl rfl (pc' := 77) ?_
      refine g_aload (r := _) rfl rfl rfl (pc' := 79) ?_
      obtain ⟨a10, rfl, H⟩ := H
      obtain ⟨ht11, H⟩ := H
      refine g_getI rfl rfl rfl rfl ht11 (pc' := 82) rfl ?_
      obtain ⟨ht12, H⟩ := H
      refine g_call rfl (y := 4) (n := 2) (pc' := 85) (g_vt ht12 rfl rfl) rfl rfl ⟨(Nat.le_of_ble_eq_true rfl), (Nat.le_of_ble_eq_true rfl), (Nat.le_of_ble_eq_true rfl)⟩ rfl (gm_G.mono H (pI_elim (fun v14 h13 H' => ?_) (fun e15 h16 H => ?_)))
      · show gm_G _ 85 _ _ _ _
        replace H := H'
        clear H'
        exact g_ireturn rfl (Or.inl rfl) H
      · exact ⟨H.1, g_weak (show gm_Lle [some _] _ from ⟨rfl, trivial⟩) H.2⟩
    · replace H := (H.2.1) hq
      refine ⟨86, by rw [hq]; rfl, ?_⟩
      show gm_G _ 86 _ _ _ _
      refine g_aload (r := some _) rfl rfl rfl (pc' := 87) ?_
      refine g_aload (r := _) rfl rfl rfl (pc' := 89) ?_
      obtain ⟨a17, rfl, H⟩ := H
      obtain ⟨ht18, H⟩ := H
      refine g_getI rfl rfl rfl rfl ht18 (pc' := 92) rfl ?_
      obtain ⟨ht19, H⟩ := H
      refine g_call rfl (y := 4) (n := 2) (pc' := 95) (g_vt ht19 rfl rfl) rfl rfl ⟨(Nat.le_of_ble_eq_true rfl), (Nat.le_of_ble_eq_true rfl), (Nat.le_of_ble_eq_true rfl)⟩ rfl (gm_G.mono H (pI_elim (fun v21 h20 H' => ?_) (fun e22 h23 H => ?_)))
      · show gm_G _ 95 _ _ _ _
        replace H := H'
        clear H'
        exact g_ireturn rfl (Or.inl rfl) H
      · exact ⟨H.1, g_weak (show gm_Lle [some _] _ from ⟨rfl, trivial⟩) H.2⟩
    · replace H := (H.2.2.1) hq
      refine ⟨96, by rw [hq]; rfl, ?_⟩
      show gm_G _ 96 _ _ _ _
      refine g_aload (r := some _) rfl rfl rfl (pc' := 97) ?_
      refine g_aload (r := _) rfl rfl rfl (pc' := 99) ?_
      obtain ⟨a24, rfl, H⟩ := H
      obtain ⟨ht25, H⟩ := H
      refine g_getI rfl rfl rfl rfl ht25 (pc' := 102) rfl ?_
      obtain ⟨ht26, H⟩ := H
      refine g_call rfl (y := 4) (n := 2) (pc' := 105) (g_vt ht26 rfl rfl) rfl rfl ⟨(Nat.le_of_ble_eq_true rfl), (Nat.le_of_ble_eq_true rfl), (Nat.le_of_ble_eq_true rfl)⟩ rfl (gm_G.mono H (pI_elim (fun v28 h27 H' => ?_) (fun e29 h30 H => ?_)))
      · show gm_G _ 105 _ _ _ _
        replace H := H'
        clear H'
        exact g_ireturn rfl (Or.inl rfl) H
      · exact ⟨H.1, g_weak (show gm_Lle [some _] _ from ⟨rfl, trivial⟩) H.2⟩
    · replace H := (H.2.2.2.1) hq
      refine ⟨106, by rw [hq]; rfl, ?_⟩
      show gm_G _ 106 _ _ _ _
      refine g_aload (r := some _) rfl rfl rfl (pc' := 107) ?_
      refine g_aload (r := _) rfl rfl rfl (pc' := 109) ?_
      obtain ⟨a31, rfl, H⟩ := H
      obtain ⟨ht32, H⟩ := H
      refine g_getI rfl rfl rfl rfl ht32 (pc' := 112) rfl ?_
      obtain ⟨ht33, H⟩ := H
      refine g_call rfl (y := 4) (n := 2) (pc' := 115) (g_vt ht33 rfl rfl) rfl rfl ⟨(Nat.le_of_ble_eq_true rfl), (Nat.le_of_ble_eq_true rfl), (Nat.le_of_ble_eq_true rfl)⟩ rfl (gm_G.mono H (pI_elim (fun v35 h34 H' => ?_) (fun e36 h37 H => ?_)))
      · show gm_G _ 115 _ _ _ _
        replace H := H'
        clear H'
        exact g_ireturn rfl (Or.inl rfl) H
      · exact ⟨H.1, g_weak (show gm_Lle [some _] _ from ⟨rfl, trivial⟩) H.2⟩
    · replace H := (H.2.2.2.2.1) hq
      refine ⟨116, by rw [hq]; rfl, ?_⟩
      show gm_G _ 116 _ _ _ _
      refine g_aload (r := some _) rfl rfl rfl (pc' := 117) ?_
      refine g_aload (r := _) rfl rfl rfl (pc' := 119) ?_
      obtain ⟨a38, rfl, H⟩ := H
      obtain ⟨ht39, H⟩ := H
      refine g_getI rfl rfl rfl rfl ht39 (pc' := 122) rfl ?_
      obtain ⟨ht40, H⟩ := H
      refine g_call rfl (y := 4) (n := 2) (pc' := 125) (g_vt ht40 rfl rfl) rfl rfl ⟨(Nat.le_of_ble_eq_true rfl), (Nat.le_of_ble_eq_true rfl), (Nat.le_of_ble_eq_true rfl)⟩ rfl (gm_G.mono H (pI_elim (fun v42 h41 H' => ?_) (fun e43 h44 H => ?_)))
      · show gm_G _ 125 _ _ _ _
        replace H := H'
        clear H'
        exact g_ireturn rfl (Or.inl rfl) H
      · exact ⟨H.1, g_weak (show gm_Lle [some _] _ from ⟨rfl, trivial⟩) H.2⟩
    · replace H := (H.2.2.2.2.2.1) hq
      refine ⟨126, by rw [hq]; rfl, ?_⟩
      show gm_G _ 126 _ _ _ _
      exact g_weak (show gm_Lle [some _, none, none, none, some _] _ from ⟨rfl, ⟨rfl, trivial⟩⟩) H
    · replace H := (H.2.2.2.2.2.2.1) hq
      refine ⟨136, by rw [hq]; rfl, ?_⟩
      show gm_G _ 136 _ _ _ _
      refine g_aload (r := some _) rfl rfl rfl (pc' := 137) ?_
      refine g_aload (r := _) rfl rfl rfl (pc' := 139) ?_
      obtain ⟨a45, rfl, H⟩ := H
      obtain ⟨ht46, H⟩ := H
      refine g_getI rfl rfl rfl rfl ht46 (pc' := 142) rfl ?_
      obtain ⟨ht47, H⟩ := H
      refine g_call rfl (y := 4) (n := 2) (pc' := 145) (g_vt ht47 rfl rfl) rfl rfl ⟨(Nat.le_of_ble_eq_true rfl), (Nat.le_of_ble_eq_true rfl), (Nat.le_of_ble_eq_true rfl)⟩ rfl (gm_G.mono H (pI_elim (fun v49 h48 H' => ?_) (fun e50 h51 H => ?_)))
      · show gm_G _ 145 _ _ _ _
        replace H := H'
        clear H'
        exact g_ireturn rfl (Or.inl rfl) H
      · exact ⟨H.1, g_weak (show gm_Lle [some _] _ from ⟨rfl, trivial⟩) H.2⟩
    · replace H := (H.2.2.2.2.2.2.2.1) hq
      refine ⟨146, by rw [hq]; rfl, ?_⟩
      show gm_G _ 146 _ _ _ _
      refine g_aload (r := some _) rfl rfl rfl (pc' := 147) ?_
      refine g_aload (r := _) rfl rfl rfl (pc' := 149) ?_
      obtain ⟨a52, rfl, H⟩ := H
      obtain ⟨ht53, H⟩ := H
      refine g_getI rfl rfl rfl rfl ht53 (pc' := 152) rfl ?_
      obtain ⟨ht54, H⟩ := H
      refine g_call rfl (y := 4) (n := 2) (pc' := 155) (g_vt ht54 rfl rfl) rfl rfl ⟨(Nat.le_of_ble_eq_true rfl), (Nat.le_of_ble_eq_true rfl), (Nat.le_of_ble_eq_true rfl)⟩ rfl (gm_G.mono H (pI_elim (fun v56 h55 H' => ?_) (fun e57 h58 H => ?_)))
      · show gm_G _ 155 _ _ _ _
        replace H := H'
        clear H'
        exact g_ireturn rfl (Or.inl rfl) H
      · exact ⟨H.1, g_weak (show gm_Lle [some _] _ from ⟨rfl, trivial⟩) H.2⟩
    · replace H := (H.2.2.2.2.2.2.2.2) hq
      refine ⟨156, by rw [hq]; rfl, ?_⟩
      show gm_G _ 156 _ _ _ _
      refine g_aload (r := some _) rfl rfl rfl (pc' := 157) ?_
      refine g_aload (r := _) rfl rfl rfl (pc' := 159) ?_
      obtain ⟨a59, rfl, H⟩ := H
      obtain ⟨ht60, H⟩ := H
      refine g_getI rfl rfl rfl rfl ht60 (pc' := 162) rfl ?_
      obtain ⟨ht61, H⟩ := H
      refine g_call rfl (y := 4) (n := 2) (pc' := 165) (g_vt ht61 rfl rfl) rfl rfl ⟨(Nat.le_of_ble_eq_true rfl), (Nat.le_of_ble_eq_true rfl), (Nat.le_of_ble_eq_true rfl)⟩ rfl (gm_G.mono H (pI_elim (fun v63 h62 H' => ?_) (fun e64 h65 H => ?_)))
      · show gm_G _ 165 _ _ _ _
        replace H := H'
        clear H'
        exact g_ireturn rfl (Or.inl rfl) H
      · exact ⟨H.1, g_weak (show gm_Lle [some _] _ from ⟨rfl, trivial⟩) H.2⟩
set_option maxRecDepth 20000 in
theorem w_487_126 {a0 : Nat} {r_4 : Option Nat} {h : hh_T} {Q : Option Value ⊕ Nat → hh_T → Prop} (H : ∃ a1, r_4 = some a1 ∧ (gm_sub (hh_tg h a1) 25 = true ∧ (hh_tg h a0 = 1 ∧ (gm_G 4 0 [some (.ref a0), some (.int (hh_i h a1 6))] [] h (pI (fun v5 h4 => Q (.inl (some (.int v5))) h4) (fun e6 h7 => hh_tg h7 e6 = 21 ∧ gm_G 487 176 [some (.ref a0)] [.ref e6] h7 Q)))))) : gm_G 487 126 [some (.ref a0), none, none, none, some (va_rf r_4)] [] h Q := by
  refine g_aload (r := some _) rfl rfl rfl (pc' := 127) ?_
  refine g_aload (r := _) rfl rfl rfl (pc' := 129) ?_
  obtain ⟨a1, rfl, H⟩ := H
  obtain ⟨ht2, H⟩ := H
  refine g_getI rfl rfl rfl rfl ht2 (pc' := 132) rfl ?_
  obtain ⟨ht3, H⟩ := H
  refine g_call rfl (y := 4) (n := 2) (pc' := 135) (g_vt ht3 rfl rfl) rfl rfl ⟨(Nat.le_of_ble_eq_true rfl), (Nat.le_of_ble_eq_true rfl), (Nat.le_of_ble_eq_true rfl)⟩ rfl (gm_G.mono H (pI_elim (fun v5 h4 H' => ?_) (fun e6 h7 H => ?_)))
  · show gm_G _ 135 _ _ _ _
    replace H := H'
    clear H'
    exact g_ireturn rfl (Or.inl rfl) H
  · exact ⟨H.1, g_weak (show gm_Lle [some _] _ from ⟨rfl, trivial⟩) H.2⟩
set_option maxRecDepth 20000 in
theorem w_487_176 {a0 : Nat} {ex : Nat} {h : hh_T} {Q : Option Value ⊕ Nat → hh_T → Prop} (H : hh_tg h a0 = 1 ∧ (gm_G 1 0 [some (.ref a0), some (.ref ex)] [] h (pI (fun v3 h2 => Q (.inl (some (.int v3))) h2) (fun e4 h5 => hh_tg h5 e4 = 21 ∧ Q (.inr e4) h5)))) : gm_G 487 176 [some (.ref a0)] [.ref ex] h Q := by
  refine g_astore (r := some _) rfl rfl rfl (pc' := 178) ?_
  refine g_aload (r := some _) rfl rfl rfl (pc' := 179) ?_
  refine g_aload (r := some _) rfl rfl rfl (pc' := 181) ?_
  obtain ⟨ht1, H⟩ := H
  refine g_call rfl (y := 1) (n := 2) (pc' := 184) (g_vt ht1 rfl rfl) rfl rfl ⟨(Nat.le_of_ble_eq_true rfl), (Nat.le_of_ble_eq_true rfl), (Nat.le_of_ble_eq_true rfl)⟩ rfl (gm_G.mono H (pI_elim (fun v3 h2 H' => ?_) (fun e4 h5 H => ?_)))
  · show gm_G _ 184 _ _ _ _
    replace H := H'
    clear H'
    exact g_ireturn rfl (Or.inl rfl) H
  · exact H
set_option maxRecDepth 20000 in
theorem w_488_0 {a0 : Nat} {x1 : Int32} {h : hh_T} {Q : Option Value ⊕ Nat → hh_T → Prop} (H : hh_tg h a0 = 1 ∧ (gm_G 453 0 [some (.ref a0), some (.int x1)] [] h (pR (fun r3 h2 => ∃ a4, r3 = some a4 ∧ (gm_sub (hh_tg h2 a4) 23 = true ∧ ((¬ (hh_i h2 a4 2) = Int32.ofNat 0 → (gm_G 488 18 [some (.ref a0), none, some (.ref a4)] [.int (Int32.ofNat 0)] h2 Q)) ∧ ((hh_i h2 a4 2) = Int32.ofNat 0 → (gm_G 488 18 [some (.ref a0), none, some (.ref a4)] [.int (Int32.ofNat 1)] h2 Q))))) (fun e6 h7 => hh_tg h7 e6 = 21 ∧ Q (.inr e6) h7)))) : gm_G 488 0 [some (.ref a0), some (.int x1)] [] h Q := by
  refine g_aload (r := some _) rfl rfl rfl (pc' := 1) ?_
  refine g_iload rfl rfl rfl (pc' := 2) ?_
  obtain ⟨ht1, H⟩ := H
  refine g_call rfl (y := 453) (n := 2) (pc' := 5) (g_vt ht1 rfl rfl) rfl rfl ⟨(Nat.le_of_ble_eq_true rfl), (Nat.le_of_ble_eq_true rfl), (Nat.le_of_ble_eq_true rfl)⟩ rfl (gm_G.mono H (pR_elim (fun r3 h2 H' => ?_) (fun e6 h7 H => ?_)))
  · show gm_G _ 5 _ _ _ _
    replace H := H'
    clear H'
    refine g_astore (r := _) rfl rfl rfl (pc' := 6) ?_
    refine g_aload (r := _) rfl rfl rfl (pc' := 7) ?_
    obtain ⟨a4, rfl, H⟩ := H
    obtain ⟨ht5, H⟩ := H
    refine g_getI rfl rfl rfl rfl ht5 (pc' := 10) rfl ?_
    refine g_if_ne rfl (pc' := 13) (pt := 17) rfl rfl ⟨fun hc => ?_, fun hc => ?_⟩
    · replace H := H.1 hc
      refine g_iconst rfl rfl rfl (pc' := 18) ?_
      exact g_weak (show gm_Lle [some _, none, some _] _ from ⟨rfl, ⟨rfl, trivial⟩⟩) H
    · replace H := H.2 hc
      refine g_iconst rfl rfl rfl (pc' := 14) ?_
      refine g_goto rfl (pc' := 18) rfl ?_
      exact g_weak (show gm_Lle [some _, none, some _] _ from ⟨rfl, ⟨rfl, trivial⟩⟩) H
  · exact H
set_option maxRecDepth 20000 in
theorem w_488_18 {a0 : Nat} {r_2 : Option Nat} {y0 : Int32} {h : hh_T} {Q : Option Value ⊕ Nat → hh_T → Prop} (H : gm_G 431 0 [some (.int y0), some (.int (Int32.ofInt (-10)))] [] h (pV (fun h1 => gm_sub (hh_tg h1 a0) 0 = true ∧ (∀ r3, r3 = hh_r h1 a0 33 → (∃ a4, r3 = some a4 ∧ (hh_tg h1 a4 = 23 ∧ (gm_G 311 0 [some (.ref a4), some (va_rf r_2), some (.int (Int32.ofNat 3))] [] h1 (pI (fun v7 h6 => (¬ v7 = Int32.ofNat 0 → (gm_G 488 40 [none, none, some (va_rf r_2)] [.int (Int32.ofNat 0)] h6 Q)) ∧ (v7 = Int32.ofNat 0 → (gm_G 488 40 [none, none, some (va_rf r_2)] [.int (Int32.ofNat 1)] h6 Q))) (fun e8 h9 => hh_tg h9 e8 = 21 ∧ Q (.inr e8) h9))))))) (fun e10 h11 => hh_tg h11 e10 = 21 ∧ Q (.inr e10) h11))) : gm_G 488 18 [some (.ref a0), none, some (va_rf r_2)] [.int y0] h Q := by
  refine g_iconst rfl rfl rfl (pc' := 20) ?_
  refine g_call rfl (y := 431) (n := 2) (pc' := 23) (fun _ => rfl) rfl rfl ⟨(Nat.le_of_ble_eq_true rfl), (Nat.le_of_ble_eq_true rfl), (Nat.le_of_ble_eq_true rfl)⟩ rfl (gm_G.mono H (pV_elim (fun h1 H' => ?_) (fun e10 h11 H => ?_)))
  · show gm_G _ 23 _ _ _ _
    replace H := H'
    clear H'
    refine g_aload (r := some _) rfl rfl rfl (pc' := 24) ?_
    obtain ⟨ht2, H⟩ := H
    refine g_getRv rfl rfl rfl rfl ht2 (pc' := 27) rfl (fun r3 hr3 => ?_)
    replace H := H r3 hr3
    refine g_aload (r := _) rfl rfl rfl (pc' := 28) ?_
    refine g_iconst rfl rfl rfl (pc' := 29) ?_
    obtain ⟨a4, rfl, H⟩ := H
    obtain ⟨ht5, H⟩ := H
    refine g_call rfl (y := 311) (n := 3) (pc' := 32) (g_vt ht5 rfl rfl) (by cases r_2 <;> rfl) rfl ⟨(Nat.le_of_ble_eq_true rfl), (Nat.le_of_ble_eq_true rfl), (Nat.le_of_ble_eq_true rfl)⟩ rfl (gm_G.mono H (pI_elim (fun v7 h6 H' => ?_) (fun e8 h9 H => ?_)))
    · show gm_G _ 32 _ _ _ _
      replace H := H'
      clear H'
      refine g_if_ne rfl (pc' := 35) (pt := 39) rfl rfl ⟨fun hc => ?_, fun hc => ?_⟩
      · replace H := H.1 hc
        refine g_iconst rfl rfl rfl (pc' := 40) ?_
        exact g_weak (show gm_Lle [none, none, some _] _ from ⟨rfl, trivial⟩) H
      · replace H := H.2 hc
        refine g_iconst rfl rfl rfl (pc' := 36) ?_
        refine g_goto rfl (pc' := 40) rfl ?_
        exact g_weak (show gm_Lle [none, none, some _] _ from ⟨rfl, trivial⟩) H
    · exact H
  · exact H
set_option maxRecDepth 20000 in
theorem w_488_40 {a0 : Nat} {r_2 : Option Nat} {y0 : Int32} {h : hh_T} {Q : Option Value ⊕ Nat → hh_T → Prop} (H : gm_G 431 0 [some (.int y0), some (.int (Int32.ofInt (-6)))] [] h (pV (fun h1 => Q (.inl (some (va_rf r_2))) h1) (fun e2 h3 => hh_tg h3 e2 = 21 ∧ Q (.inr e2) h3))) : gm_G 488 40 [none, none, some (va_rf r_2)] [.int y0] h Q := by
  refine g_iconst rfl rfl rfl (pc' := 42) ?_
  refine g_call rfl (y := 431) (n := 2) (pc' := 45) (fun _ => rfl) rfl rfl ⟨(Nat.le_of_ble_eq_true rfl), (Nat.le_of_ble_eq_true rfl), (Nat.le_of_ble_eq_true rfl)⟩ rfl (gm_G.mono H (pV_elim (fun h1 H' => ?_) (fun e2 h3 H => ?_)))
  · show gm_G _ 45 _ _ _ _
    replace H := H'
    clear H'
    refine g_aload (r := _) rfl rfl rfl (pc' := 46) ?_
    exact g_areturn (r := _) rfl H
  · exact H
set_option maxRecDepth 20000 in
theorem w_489_0 {a0 : Nat} {x1 : Int32} {h : hh_T} {Q : Option Value ⊕ Nat → hh_T → Prop} (H : hh_tg h a0 = 1 ∧ (gm_G 456 0 [some (.ref a0)] [] h (pV (fun h2 => hh_tg h2 a0 = 1 ∧ (gm_G 228 0 [some (.ref a0), some (.int x1)] [] h2 (pI (fun v5 h4 => gm_G 452 0 [some (.int v5)] [] h4 (pV (fun h6 => gm_sub (hh_tg h6 a0) 0 = true ∧ (∀ r8, r8 = hh_r h6 a0 0 → (∃ a9, r8 = some a9 ∧ ((hh_tg h6 a9 = 104 ∨ 200 ≤ hh_tg h6 a9) ∧ (∃ n10, gm_ix x1 n10 (hh_ln h6 a9) ∧ (∀ r12, r12 = hh_r h6 a9 n10 → (∃ a13, r12 = some a13 ∧ (gm_sub (hh_tg h6 a13) 21 = true ∧ (∀ r15, r15 = hh_r h6 a13 5 → ((r15 = none → (gm_G 489 38 [some (.ref a0), some (.int x1), some (va_rf none)] [] h6 Q)) ∧ (∀ a16, r15 = some a16 → ((hh_tg h6 a16 = 5 ∧ (gm_G 33 0 [some (.ref a16)] [] h6 (pI (fun v18 h17 => (¬ v18 = (Int32.ofNat 1) → (gm_G 489 38 [some (.ref a0), some (.int x1), some (.ref a16)] [] h17 Q)) ∧ (v18 = (Int32.ofNat 1) → (gm_G 489 39 [some (.ref a0), some (.int x1), some (.ref a16)] [.int (Int32.ofNat 1)] h17 Q))) (fun e19 h20 => hh_tg h20 e19 = 21 ∧ gm_G 489 178 [some (.ref a0)] [.ref e19] h20 Q)))) ∨ (hh_tg h6 a16 = 7 ∧ (gm_G 44 0 [some (.ref a16)] [] h6 (pI (fun v22 h21 => (¬ v22 = (Int32.ofNat 1) → (gm_G 489 38 [some (.ref a0), some (.int x1), some (.ref a16)] [] h21 Q)) ∧ (v22 = (Int32.ofNat 1) → (gm_G 489 39 [some (.ref a0), some (.int x1), some (.ref a16)] [.int (Int32.ofNat 1)] h21 Q))) (fun e23 h24 => hh_tg h24 e23 = 21 ∧ gm_G 489 178 [some (.ref a0)] [.ref e23] h24 Q)))))))))))))))) (fun e25 h26 => hh_tg h26 e25 = 21 ∧ gm_G 489 178 [some (.ref a0)] [.ref e25] h26 Q))) (fun e27 h28 => hh_tg h28 e27 = 21 ∧ gm_G 489 178 [some (.ref a0)] [.ref e27] h28 Q)))) (fun e29 h30 => hh_tg h30 e29 = 21 ∧ gm_G 489 178 [some (.ref a0)] [.ref e29] h30 Q)))) : gm_G 489 0 [some (.ref a0), some (.int x1)] [] h Q := by
  refine g_aload (r := some _) rfl rfl rfl (pc' := 1) ?_
  obtain ⟨ht1, H⟩ := H
  refine g_call rfl (y := 456) (n := 1) (pc' := 4) (g_vt ht1 rfl rfl) rfl rfl ⟨(Nat.le_of_ble_eq_true rfl), (Nat.le_of_ble_eq_true rfl), (Nat.le_of_ble_eq_true rfl)⟩ rfl (gm_G.mono H (pV_elim (fun h2 H' => ?_) (fun e29 h30 H => ?_)))
  · show gm_G _ 4 _ _ _ _
    replace H := H'
    clear H'
    refine g_aload (r := some _) rfl rfl rfl (pc' := 5) ?_
    refine g_iload rfl rfl rfl (pc' := 6) ?_
    obtain ⟨ht3, H⟩ := H
    refine g_call rfl (y := 228) (n := 2) (pc' := 9) (g_vt ht3 rfl rfl) rfl rfl ⟨(Nat.le_of_ble_eq_true rfl), (Nat.le_of_ble_eq_true rfl), (Nat.le_of_ble_eq_true rfl)⟩ rfl (gm_G.mono H (pI_elim (fun v5 h4 H' => ?_) (fun e27 h28 H => ?_)))
    · show gm_G _ 9 _ _ _ _
      replace H := H'
      clear H'
      refine g_call rfl (y := 452) (n := 1) (pc' := 12) (fun _ => rfl) rfl rfl ⟨(Nat.le_of_ble_eq_true rfl), (Nat.le_of_ble_eq_true rfl), (Nat.le_of_ble_eq_true rfl)⟩ rfl (gm_G.mono H (pV_elim (fun h6 H' => ?_) (fun e25 h26 H => ?_)))
      · show gm_G _ 12 _ _ _ _
        replace H := H'
        clear H'
        refine g_aload (r := some _) rfl rfl rfl (pc' := 13) ?_
        obtain ⟨ht7, H⟩ := H
        refine g_getRv rfl rfl rfl rfl ht7 (pc' := 16) rfl (fun r8 hr8 => ?_)
        replace H := H r8 hr8
        refine g_iload rfl rfl rfl (pc' := 17) ?_
        obtain ⟨a9, rfl, H⟩ := H
        obtain ⟨ht11, H⟩ := H
        obtain ⟨n10, hn10, H⟩ := H
        refine g_aaloadv rfl ht11 hn10 (pc' := 18) rfl (fun r12 hr12 => ?_)
        replace H := H r12 hr12
        obtain ⟨a13, rfl, H⟩ := H
        obtain ⟨ht14, H⟩ := H
        refine g_getRv rfl rfl rfl rfl ht14 (pc' := 21) rfl (fun r15 hr15 => ?_)
        replace H := H r15 hr15
        refine g_astore (r := _) rfl rfl rfl (pc' := 22) ?_
        refine g_aload (r := _) rfl rfl rfl (pc' := 23) ?_
        refine g_ifnull rfl (pc' := 26) (pt := 38) rfl rfl ⟨fun hc => ?_, fun a16 hc => ?_⟩
        · replace H := H.1 hc
          subst hc
          exact g_weak (show gm_Lle [some _, some _, some _] _ from ⟨rfl, ⟨rfl, ⟨rfl, trivial⟩⟩⟩) H
        · replace H := H.2 a16 hc
          subst hc
          refine g_aload (r := some _) rfl rfl rfl (pc' := 27) ?_
          rcases H with ⟨ht, H⟩ | ⟨ht, H⟩
          · refine g_call rfl (y := 33) (n := 1) (pc' := 30) (g_vt ht rfl rfl) rfl rfl ⟨(Nat.le_of_ble_eq_true rfl), (Nat.le_of_ble_eq_true rfl), (Nat.le_of_ble_eq_true rfl)⟩ rfl (gm_G.mono H (pI_elim (fun v18 h17 H' => ?_) (fun e19 h20 H => ?_)))
            · show gm_G _ 30 _ _ _ _
              replace H := H'
              clear H'
              refine g_iconst rfl rfl rfl (pc' := 31) ?_
              refine g_ic_ne rfl (pc' := 34) (pt := 38) rfl rfl ⟨fun hc => ?_, fun hc => ?_⟩
              · replace H := H.1 hc
                exact g_weak (show gm_Lle [some _, some _, some _] _ from ⟨rfl, ⟨rfl, ⟨rfl, trivial⟩⟩⟩) H
              · replace H := H.2 hc
                refine g_iconst rfl rfl rfl (pc' := 35) ?_
                refine g_goto rfl (pc' := 39) rfl ?_
                exact g_weak (show gm_Lle [some _, some _, some _] _ from ⟨rfl, ⟨rfl, ⟨rfl, trivial⟩⟩⟩) H
            · exact ⟨H.1, g_weak (show gm_Lle [some _] _ from ⟨rfl, trivial⟩) H.2⟩
          · refine g_call rfl (y := 44) (n := 1) (pc' := 30) (g_vt ht rfl rfl) rfl rfl ⟨(Nat.le_of_ble_eq_true rfl), (Nat.le_of_ble_eq_true rfl), (Nat.le_of_ble_eq_true rfl)⟩ rfl (gm_G.mono H (pI_elim (fun v22 h21 H' => ?_) (fun e23 h24 H => ?_)))
            · show gm_G _ 30 _ _ _ _
              replace H := H'
              clear H'
              refine g_iconst rfl rfl rfl (pc' := 31) ?_
              refine g_ic_ne rfl (pc' := 34) (pt := 38) rfl rfl ⟨fun hc => ?_, fun hc => ?_⟩
              · replace H := H.1 hc
                exact g_weak (show gm_Lle [some _, some _, some _] _ from ⟨rfl, ⟨rfl, ⟨rfl, trivial⟩⟩⟩) H
              · replace H := H.2 hc
                refine g_iconst rfl rfl rfl (pc' := 35) ?_
                refine g_goto rfl (pc' := 39) rfl ?_
                exact g_weak (show gm_Lle [some _, some _, some _] _ from ⟨rfl, ⟨rfl, ⟨rfl, trivial⟩⟩⟩) H
            · exact ⟨H.1, g_weak (show gm_Lle [some _] _ from ⟨rfl, trivial⟩) H.2⟩
      · exact ⟨H.1, g_weak (show gm_Lle [some _] _ from ⟨rfl, trivial⟩) H.2⟩
    · exact ⟨H.1, g_weak (show gm_Lle [some _] _ from ⟨rfl, trivial⟩) H.2⟩
  · exact ⟨H.1, g_weak (show gm_Lle [some _] _ from ⟨rfl, trivial⟩) H.2⟩
set_option maxRecDepth 20000 in
theorem w_489_38 {a0 : Nat} {x1 : Int32} {r_2 : Option Nat} {h : hh_T} {Q : Option Value ⊕ Nat → hh_T → Prop} (H : gm_G 489 39 [some (.ref a0), some (.int x1), some (va_rf r_2)] [.int (Int32.ofNat 0)] h Q) : gm_G 489 38 [some (.ref a0), some (.int x1), some (va_rf r_2)] [] h Q := by
  refine g_iconst rfl rfl rfl (pc' := 39) ?_
  exact g_weak (show gm_Lle [some _, some _, some _] _ from ⟨rfl, ⟨rfl, ⟨rfl, trivial⟩⟩⟩) H
set_option maxRecDepth 20000 in
theorem w_489_39 {a0 : Nat} {x1 : Int32} {r_2 : Option Nat} {y0 : Int32} {h : hh_T} {Q : Option Value ⊕ Nat → hh_T → Prop} (H : gm_G 431 0 [some (.int y0), some (.int (Int32.ofInt (-10)))] [] h (pV (fun h1 => (∀ b, r_2 = some b → gm_sub (hh_tg h1 b) 4 = true) ∧ (gm_G 489 52 [some (.ref a0), some (.int x1), some (va_rf r_2), some (va_rf r_2), some (.int (Int32.ofNat 0))] [] h1 Q)) (fun e2 h3 => hh_tg h3 e2 = 21 ∧ gm_G 489 178 [some (.ref a0)] [.ref e2] h3 Q))) : gm_G 489 39 [some (.ref a0), some (.int x1), some (va_rf r_2)] [.int y0] h Q := by
  refine g_iconst rfl rfl rfl (pc' := 41) ?_
  refine g_call rfl (y := 431) (n := 2) (pc' := 44) (fun _ => rfl) rfl rfl ⟨(Nat.le_of_ble_eq_true rfl), (Nat.le_of_ble_eq_true rfl), (Nat.le_of_ble_eq_true rfl)⟩ rfl (gm_G.mono H (pV_elim (fun h1 H' => ?_) (fun e2 h3 H => ?_)))
  · show gm_G _ 44 _ _ _ _
    replace H := H'
    clear H'
    refine g_aload (r := _) rfl rfl rfl (pc' := 45) ?_
    obtain ⟨Hc, H⟩ := H
    refine g_cast rfl Hc (pc' := 48) rfl ?_
    refine g_astore (r := _) rfl gm_sto_rf2 rfl (pc' := 49) ?_
    refine g_iconst rfl rfl rfl (pc' := 50) ?_
    refine g_istore rfl gm_sto_rf3 rfl (pc' := 52) ?_
    exact g_weak (show gm_Lle [some _, some _, some _, some _, some _] _ from ⟨rfl, ⟨rfl, ⟨rfl, ⟨rfl, ⟨rfl, trivial⟩⟩⟩⟩⟩) H
  · exact ⟨H.1, g_weak (show gm_Lle [some _] _ from ⟨rfl, trivial⟩) H.2⟩
set_option maxRecDepth 20000 in
theorem w_489_52 {a0 : Nat} {x1 : Int32} {r_2 : Option Nat} {r_3 : Option Nat} {x4 : Int32} {h : hh_T} {Q : Option Value ⊕ Nat → hh_T → Prop} (H : ∃ a1, r_2 = some a1 ∧ (gm_sub (hh_tg h a1) 3 = true ∧ ((¬ x4 < (hh_i h a1 4) → (gm_sub (hh_tg h a0) 0 = true ∧ (∀ r4, r4 = hh_r h a0 0 → (∃ a5, r4 = some a5 ∧ ((hh_tg h a5 = 104 ∨ 200 ≤ hh_tg h a5) ∧ (∃ n6, gm_ix x1 n6 (hh_ln h a5) ∧ (∀ r8, r8 = hh_r h a5 n6 → ((hh_tg h a1 = 5 ∧ (gm_G 30 0 [some (.ref a1), some (va_rf r8)] [] h (pI (fun v10 h9 => gm_G 489 116 [some (.ref a0), some (.int x1), some (.ref a1), none, some (.int v10)] [] h9 Q) (fun e11 h12 => hh_tg h12 e11 = 21 ∧ gm_G 489 178 [some (.ref a0)] [.ref e11] h12 Q)))) ∨ (hh_tg h a1 = 7 ∧ (gm_G 30 0 [some (.ref a1), some (va_rf r8)] [] h (pI (fun v14 h13 => gm_G 489 116 [some (.ref a0), some (.int x1), some (.ref a1), none, some (.int v14)] [] h13 Q) (fun e15 h16 => hh_tg h16 e15 = 21 ∧ gm_G 489 178 [some (.ref a0)] [.ref e15] h16 Q)))))))))))) ∧ (x4 < (hh_i h a1 4) → (∀ r17, r17 = hh_r h a1 6 → (∃ a18, r17 = some a18 ∧ ((hh_tg h a18 = 104 ∨ 200 ≤ hh_tg h a18) ∧ (∃ n19, gm_ix x4 n19 (hh_ln h a18) ∧ (∀ r21, r21 = hh_r h a18 n19 → ((r21 = none → (gm_G 489 98 [some (.ref a0), some (.int x1), some (.ref a1), some (va_rf r_3), some (.int x4)] [] h Q)) ∧ (∀ a22, r21 = some a22 → (gm_sub (hh_tg h a0) 0 = true ∧ (∀ r24, r24 = hh_r h a0 0 → (∃ a25, r24 = some a25 ∧ ((hh_tg h a25 = 104 ∨ 200 ≤ hh_tg h a25) ∧ (∃ n26, gm_ix x1 n26 (hh_ln h a25) ∧ (∀ r28, r28 = hh_r h a25 n26 → (∀ r29, r29 = hh_r h a1 6 → (∃ a30, r29 = some a30 ∧ ((hh_tg h a30 = 104 ∨ 200 ≤ hh_tg h a30) ∧ (∃ n31, gm_ix x4 n31 (hh_ln h a30) ∧ (∀ r33, r33 = hh_r h a30 n31 → (∃ a34, r33 = some a34 ∧ (gm_sub (hh_tg h a34) 31 = true ∧ (∃ a36, r_3 = some a36 ∧ (hh_tg h a36 = 5 ∧ (gm_G 248 0 [some (.ref a36), some (va_rf r28), some (.int x4), some (.int (hh_i h a34 1))] [] h (pI (fun v39 h38 => gm_G 431 0 [some (.int v39), some (.int (Int32.ofInt (-5)))] [] h38 (pV (fun h40 => gm_G 489 98 [some (.ref a0), some (.int x1), some (.ref a1), some (.ref a36), some (.int x4)] [] h40 Q) (fun e41 h42 => hh_tg h42 e41 = 21 ∧ gm_G 489 178 [some (.ref a0)] [.ref e41] h42 Q))) (fun e43 h44 => hh_tg h44 e43 = 21 ∧ gm_G 489 178 [some (.ref a0)] [.ref e43] h44 Q))))))))))))))))))))))))))))) : gm_G 489 52 [some (.ref a0), some (.int x1), some (va_rf r_2), some (va_rf r_3), some (.int x4)] [] h Q := by
  refine g_iload rfl rfl rfl (pc' := 54) ?_
  refine g_aload (r := _) rfl rfl rfl (pc' := 55) ?_
  obtain ⟨a1, rfl, H⟩ := H
  obtain ⟨ht2, H⟩ := H
  refine g_getI rfl rfl rfl rfl ht2 (pc' := 58) rfl ?_
  refine g_ic_ge rfl (pc' := 61) (pt := 104) rfl rfl ⟨fun hc => ?_, fun hc => ?_⟩
  · replace H := H.1 hc
    refine g_aload (r := some _) rfl rfl rfl (pc' := 105) ?_
    refine g_aload (r := some _) rfl rfl rfl (pc' := 106) ?_
    obtain ⟨ht3, H⟩ := H
    refine g_getRv rfl rfl rfl rfl ht3 (pc' := 109) rfl (fun r4 hr4 => ?_)
    replace H := H r4 hr4
    refine g_iload rfl rfl rfl (pc' := 110) ?_
    obtain ⟨a5, rfl, H⟩ := H
    obtain ⟨ht7, H⟩ := H
    obtain ⟨n6, hn6, H⟩ := H
    refine g_aaloadv rfl ht7 hn6 (pc' := 111) rfl (fun r8 hr8 => ?_)
    replace H := H r8 hr8
    rcases H with ⟨ht, H⟩ | ⟨ht, H⟩
    · refine g_call rfl (y := 30) (n := 2) (pc' := 114) (g_vt ht rfl rfl) (by cases r8 <;> rfl) rfl ⟨(Nat.le_of_ble_eq_true rfl), (Nat.le_of_ble_eq_true rfl), (Nat.le_of_ble_eq_true rfl)⟩ rfl (gm_G.mono H (pI_elim (fun v10 h9 H' => ?_) (fun e11 h12 H => ?_)))
      · show gm_G _ 114 _ _ _ _
        replace H := H'
        clear H'
        refine g_istore rfl gm_sto_rf3 rfl (pc' := 116) ?_
        exact g_weak (show gm_Lle [some _, some _, some _, none, some _] _ from ⟨rfl, ⟨rfl, ⟨rfl, ⟨rfl, trivial⟩⟩⟩⟩) H
      · exact ⟨H.1, g_weak (show gm_Lle [some _] _ from ⟨rfl, trivial⟩) H.2⟩
    · refine g_call rfl (y := 30) (n := 2) (pc' := 114) (g_vt ht rfl rfl) (by cases r8 <;> rfl) rfl ⟨(Nat.le_of_ble_eq_true rfl), (Nat.le_of_ble_eq_true rfl), (Nat.le_of_ble_eq_true rfl)⟩ rfl (gm_G.mono H (pI_elim (fun v14 h13 H' => ?_) (fun e15 h16 H => ?_)))
      · show gm_G _ 114 _ _ _ _
        replace H := H'
        clear H'
        refine g_istore rfl gm_sto_rf3 rfl (pc' := 116) ?_
        exact g_weak (show gm_Lle [some _, some _, some _, none, some _] _ from ⟨rfl, ⟨rfl, ⟨rfl, ⟨rfl, trivial⟩⟩⟩⟩) H
      · exact ⟨H.1, g_weak (show gm_Lle [some _] _ from ⟨rfl, trivial⟩) H.2⟩
  · replace H := H.2 hc
    refine g_aload (r := some _) rfl rfl rfl (pc' := 62) ?_
    refine g_getRv rfl rfl rfl rfl ht2 (pc' := 65) rfl (fun r17 hr17 => ?_)
    replace H := H r17 hr17
    refine g_iload rfl rfl rfl (pc' := 67) ?_
    obtain ⟨a18, rfl, H⟩ := H
    obtain ⟨ht20, H⟩ := H
    obtain ⟨n19, hn19, H⟩ := H
    refine g_aaloadv rfl ht20 hn19 (pc' := 68) rfl (fun r21 hr21 => ?_)
    replace H := H r21 hr21
    refine g_ifnull rfl (pc' := 71) (pt := 98) rfl rfl ⟨fun hc => ?_, fun a22 hc => ?_⟩
    · replace H := H.1 hc
      subst hc
      exact g_weak (show gm_Lle [some _, some _, some _, some _, some _] _ from ⟨rfl, ⟨rfl, ⟨rfl, ⟨rfl, ⟨rfl, trivial⟩⟩⟩⟩⟩) H
    · replace H := H.2 a22 hc
      subst hc
      refine g_aload (r := _) rfl rfl rfl (pc' := 72) ?_
      refine g_aload (r := some _) rfl rfl rfl (pc' := 73) ?_
      obtain ⟨ht23, H⟩ := H
      refine g_getRv rfl rfl rfl rfl ht23 (pc' := 76) rfl (fun r24 hr24 => ?_)
      replace H := H r24 hr24
      refine g_iload rfl rfl rfl (pc' := 77) ?_
      obtain ⟨a25, rfl, H⟩ := H
      obtain ⟨ht27, H⟩ := H
      obtain ⟨n26, hn26, H⟩ := H
      refine g_aaloadv rfl ht27 hn26 (pc' := 78) rfl (fun r28 hr28 => ?_)
      replace H := H r28 hr28
      refine g_iload rfl rfl rfl (pc' := 80) ?_
      refine g_aload (r := some _) rfl rfl rfl (pc' := 81) ?_
      refine g_getRv rfl rfl rfl rfl ht2 (pc' := 84) rfl (fun r29 hr29 => ?_)
      replace H := H r29 hr29
      refine g_iload rfl rfl rfl (pc' := 86) ?_
      obtain ⟨a30, rfl, H⟩ := H
      obtain ⟨ht32, H⟩ := H
      obtain ⟨n31, hn31, H⟩ := H
      refine g_aaloadv rfl ht32 hn31 (pc' := 87) rfl (fun r33 hr33 => ?_)
      replace H := H r33 hr33
      obtain ⟨a34, rfl, H⟩ := H
      obtain ⟨ht35, H⟩ := H
      refine g_getI rfl rfl rfl rfl ht35 (pc' := 90) rfl ?_
      obtain ⟨a36, rfl, H⟩ := H
      obtain ⟨ht37, H⟩ := H
      refine g_call rfl (y := 248) (n := 4) (pc' := 93) (g_vt ht37 rfl rfl) (by cases r28 <;> rfl) rfl ⟨(Nat.le_of_ble_eq_true rfl), (Nat.le_of_ble_eq_true rfl), (Nat.le_of_ble_eq_true rfl)⟩ rfl (gm_G.mono H (pI_elim (fun v39 h38 H' => ?_) (fun e43 h44 H => ?_)))
      · show gm_G _ 93 _ _ _ _
        replace H := H'
        clear H'
        refine g_iconst rfl rfl rfl (pc' := 95) ?_
        refine g_call rfl (y := 431) (n := 2) (pc' := 98) (fun _ => rfl) rfl rfl ⟨(Nat.le_of_ble_eq_true rfl), (Nat.le_of_ble_eq_true rfl), (Nat.le_of_ble_eq_true rfl)⟩ rfl (gm_G.mono H (pV_elim (fun h40 H' => ?_) (fun e41 h42 H => ?_)))
        · show gm_G _ 98 _ _ _ _
          replace H := H'
          clear H'
          exact g_weak (show gm_Lle [some _, some _, some _, some _, some _] _ from ⟨rfl, ⟨rfl, ⟨rfl, ⟨rfl, ⟨rfl, trivial⟩⟩⟩⟩⟩) H
        · exact ⟨H.1, g_weak (show gm_Lle [some _] _ from ⟨rfl, trivial⟩) H.2⟩
      · exact ⟨H.1, g_weak (show gm_Lle [some _] _ from ⟨rfl, trivial⟩) H.2⟩
set_option maxRecDepth 20000 in
theorem w_489_98 {a0 : Nat} {x1 : Int32} {r_2 : Option Nat} {r_3 : Option Nat} {x4 : Int32} {h : hh_T} {Q : Option Value ⊕ Nat → hh_T → Prop} (H : gm_G 489 52 [some (.ref a0), some (.int x1), some (va_rf r_2), some (va_rf r_3), some (.int (x4 + (Int32.ofNat 1)))] [] h Q) : gm_G 489 98 [some (.ref a0), some (.int x1), some (va_rf r_2), some (va_rf r_3), some (.int x4)] [] h Q := by
  refine g_iinc (c := (Int32.ofNat 1)) rfl rfl rfl gm_sto_rf3 rfl (pc' := 101) ?_
  refine g_goto rfl (pc' := 52) rfl ?_
  exact g_weak (show gm_Lle [some _, some _, some _, some _, some _] _ from ⟨rfl, ⟨rfl, ⟨rfl, ⟨rfl, ⟨rfl, trivial⟩⟩⟩⟩⟩) H
set_option maxRecDepth 20000 in
theorem w_489_116 {a0 : Nat} {x1 : Int32} {r_2 : Option Nat} {x4 : Int32} {h : hh_T} {Q : Option Value ⊕ Nat → hh_T → Prop} (H : ∃ a1, r_2 = some a1 ∧ (gm_sub (hh_tg h a1) 3 = true ∧ ((¬ x4 < ((hh_i h a1 2) - (Int32.ofNat 1)) → (∀ h3, h3 = hh_wi h a1 2 ((hh_i h a1 2) - (Int32.ofNat 1)) → (gm_sub (hh_tg h3 a0) 0 = true ∧ (∀ r5, r5 = hh_r h3 a0 0 → (∃ a6, r5 = some a6 ∧ ((hh_tg h3 a6 = 104 ∨ 200 ≤ hh_tg h3 a6) ∧ (∃ n7, gm_ix x1 n7 (hh_ln h3 a6) ∧ (∀ r9, r9 = hh_r h3 a6 n7 → (∃ a10, r9 = some a10 ∧ (gm_sub (hh_tg h3 a10) 21 = true ∧ (∀ h12, h12 = hh_wr h3 a10 5 none → (hh_tg h12 a0 = 1 ∧ (gm_G 4 0 [some (.ref a0), some (.int (hh_i h12 a1 2))] [] h12 (pI (fun v15 h14 => Q (.inl (some (.int v15))) h14) (fun e16 h17 => hh_tg h17 e16 = 21 ∧ gm_G 489 178 [some (.ref a0)] [.ref e16] h17 Q))))))))))))))) ∧ (x4 < ((hh_i h a1 2) - (Int32.ofNat 1)) → (∀ r18, r18 = hh_r h a1 1 → (∀ r19, r19 = hh_r h a1 1 → (∃ a20, r19 = some a20 ∧ ((hh_tg h a20 = 104 ∨ 200 ≤ hh_tg h a20) ∧ (∃ n21, gm_ix (x4 + (Int32.ofNat 1)) n21 (hh_ln h a20) ∧ (∀ r23, r23 = hh_r h a20 n21 → (∃ a24, r18 = some a24 ∧ (200 ≤ hh_tg h a24 ∧ (∀ b, r23 = some b → gm_as (hh_tg h a24) (hh_tg h b) = true) ∧ (∃ n25, gm_ix x4 n25 (hh_ln h a24) ∧ (∀ h26, h26 = hh_wr h a24 n25 r23 → (gm_G 489 116 [some (.ref a0), some (.int x1), some (.ref a1), none, some (.int (x4 + (Int32.ofNat 1)))] [] h26 Q))))))))))))))) : gm_G 489 116 [some (.ref a0), some (.int x1), some (va_rf r_2), none, some (.int x4)] [] h Q := by
  refine g_iload rfl rfl rfl (pc' := 118) ?_
  refine g_aload (r := _) rfl rfl rfl (pc' := 119) ?_
  obtain ⟨a1, rfl, H⟩ := H
  obtain ⟨ht2, H⟩ := H
  refine g_getI rfl rfl rfl rfl ht2 (pc' := 122) rfl ?_
  refine g_iconst rfl rfl rfl (pc' := 123) ?_
  refine g_isub rfl rfl (pc' := 124) ?_
  refine g_ic_ge rfl (pc' := 127) (pt := 149) rfl rfl ⟨fun hc => ?_, fun hc => ?_⟩
  · replace H := H.1 hc
    refine g_aload (r := some _) rfl rfl rfl (pc' := 150) ?_
    refine g_dup_a (r := some _) rfl rfl (pc' := 151) ?_
    refine g_getI rfl rfl rfl rfl ht2 (pc' := 154) rfl ?_
    refine g_iconst rfl rfl rfl (pc' := 155) ?_
    refine g_isub rfl rfl (pc' := 156) ?_
    refine g_putI rfl rfl rfl rfl ht2  (pc' := 159) rfl ?_
    replace H := H _ rfl
    refine g_aload (r := some _) rfl rfl rfl (pc' := 160) ?_
    obtain ⟨ht4, H⟩ := H
    refine g_getRv rfl rfl rfl rfl ht4 (pc' := 163) rfl (fun r5 hr5 => ?_)
    replace H := H r5 hr5
    refine g_iload rfl rfl rfl (pc' := 164) ?_
    obtain ⟨a6, rfl, H⟩ := H
    obtain ⟨ht8, H⟩ := H
    obtain ⟨n7, hn7, H⟩ := H
    refine g_aaloadv rfl ht8 hn7 (pc' := 165) rfl (fun r9 hr9 => ?_)
    replace H := H r9 hr9
    refine g_null rfl rfl (pc' := 166) ?_
    obtain ⟨a10, rfl, H⟩ := H
    obtain ⟨ht11, H⟩ := H
    refine g_putR rfl rfl rfl rfl ht11  (pc' := 169) rfl ?_
    replace H := H _ rfl
    refine g_aload (r := some _) rfl rfl rfl (pc' := 170) ?_
    refine g_aload (r := some _) rfl rfl rfl (pc' := 171) ?_
    refine g_getI rfl rfl rfl rfl ht2 (pc' := 174) rfl ?_
    obtain ⟨ht13, H⟩ := H
    refine g_call rfl (y := 4) (n := 2) (pc' := 177) (g_vt ht13 rfl rfl) rfl rfl ⟨(Nat.le_of_ble_eq_true rfl), (Nat.le_of_ble_eq_true rfl), (Nat.le_of_ble_eq_true rfl)⟩ rfl (gm_G.mono H (pI_elim (fun v15 h14 H' => ?_) (fun e16 h17 H => ?_)))
    · show gm_G _ 177 _ _ _ _
      replace H := H'
      clear H'
      exact g_ireturn rfl (Or.inl rfl) H
    · exact ⟨H.1, g_weak (show gm_Lle [some _] _ from ⟨rfl, trivial⟩) H.2⟩
  · replace H := H.2 hc
    refine g_aload (r := some _) rfl rfl rfl (pc' := 128) ?_
    refine g_getRv rfl rfl rfl rfl ht2 (pc' := 131) rfl (fun r18 hr18 => ?_)
    replace H := H r18 hr18
    refine g_iload rfl rfl rfl (pc' := 133) ?_
    refine g_aload (r := some _) rfl rfl rfl (pc' := 134) ?_
    refine g_getRv rfl rfl rfl rfl ht2 (pc' := 137) rfl (fun r19 hr19 => ?_)
    replace H := H r19 hr19
    refine g_iload rfl rfl rfl (pc' := 139) ?_
    refine g_iconst rfl rfl rfl (pc' := 140) ?_
    refine g_iadd rfl rfl (pc' := 141) ?_
    obtain ⟨a20, rfl, H⟩ := H
    obtain ⟨ht22, H⟩ := H
    obtain ⟨n21, hn21, H⟩ := H
    refine g_aaloadv rfl ht22 hn21 (pc' := 142) rfl (fun r23 hr23 => ?_)
    replace H := H r23 hr23
    obtain ⟨a24, rfl, H⟩ := H
    obtain ⟨Ha, Hb, H⟩ := H
    obtain ⟨n25, hn25, H⟩ := H
    refine g_aastore (r := _) rfl Ha Hb hn25 (pc' := 143) rfl ?_
    replace H := H _ rfl
    refine g_iinc (c := (Int32.ofNat 1)) rfl rfl rfl rfl rfl (pc' := 146) ?_
    refine g_goto rfl (pc' := 116) rfl ?_
    exact g_weak (show gm_Lle [some _, some _, some _, none, some _] _ from ⟨rfl, ⟨rfl, ⟨rfl, ⟨rfl, trivial⟩⟩⟩⟩) H
set_option maxRecDepth 20000 in
theorem w_489_178 {a0 : Nat} {ex : Nat} {h : hh_T} {Q : Option Value ⊕ Nat → hh_T → Prop} (H : hh_tg h a0 = 1 ∧ (gm_G 1 0 [some (.ref a0), some (.ref ex)] [] h (pI (fun v3 h2 => Q (.inl (some (.int v3))) h2) (fun e4 h5 => hh_tg h5 e4 = 21 ∧ Q (.inr e4) h5)))) : gm_G 489 178 [some (.ref a0)] [.ref ex] h Q := by
  refine g_astore (r := some _) rfl rfl rfl (pc' := 179) ?_
  refine g_aload (r := some _) rfl rfl rfl (pc' := 180) ?_
  refine g_aload (r := some _) rfl rfl rfl (pc' := 181) ?_
  obtain ⟨ht1, H⟩ := H
  refine g_call rfl (y := 1) (n := 2) (pc' := 184) (g_vt ht1 rfl rfl) rfl rfl ⟨(Nat.le_of_ble_eq_true rfl), (Nat.le_of_ble_eq_true rfl), (Nat.le_of_ble_eq_true rfl)⟩ rfl (gm_G.mono H (pI_elim (fun v3 h2 H' => ?_) (fun e4 h5 H => ?_)))
  · show gm_G _ 184 _ _ _ _
    replace H := H'
    clear H'
    exact g_ireturn rfl (Or.inl rfl) H
  · exact H
set_option maxRecDepth 20000 in
theorem w_490_0 {a0 : Nat} {x1 : Int32} {x2 : Int32} {h : hh_T} {Q : Option Value ⊕ Nat → hh_T → Prop} (H : hh_tg h a0 = 1 ∧ (gm_G 456 0 [some (.ref a0)] [] h (pV (fun h2 => hh_tg h2 a0 = 1 ∧ (gm_G 455 0 [some (.ref a0), some (.int x1)] [] h2 (pR (fun r5 h4 => hh_tg h4 a0 = 1 ∧ (gm_G 455 0 [some (.ref a0), some (.int x2)] [] h4 (pR (fun r8 h7 => gm_sub (hh_tg h7 a0) 0 = true ∧ (∀ r10, r10 = hh_r h7 a0 60 → (∃ a11, r10 = some a11 ∧ (gm_sub (hh_tg h7 a11) 12 = true ∧ (∀ h13, h13 = hh_wi h7 a11 1 (Int32.ofNat 0) → (gm_G 490 28 [some (.ref a0), none, none, some (va_rf r5), some (va_rf r8), some (.int (Int32.ofNat 0))] [] h13 Q)))))) (fun e14 h15 => hh_tg h15 e14 = 21 ∧ gm_G 490 182 [some (.ref a0)] [.ref e14] h15 Q)))) (fun e16 h17 => hh_tg h17 e16 = 21 ∧ gm_G 490 182 [some (.ref a0)] [.ref e16] h17 Q)))) (fun e18 h19 => hh_tg h19 e18 = 21 ∧ gm_G 490 182 [some (.ref a0)] [.ref e18] h19 Q)))) : gm_G 490 0 [some (.ref a0), some (.int x1), some (.int x2)] [] h Q := by
  refine g_aload (r := some _) rfl rfl rfl (pc' := 1) ?_
  obtain ⟨ht1, H⟩ := H
  refine g_call rfl (y := 456) (n := 1) (pc' := 4) (g_vt ht1 rfl rfl) rfl rfl ⟨(Nat.le_of_ble_eq_true rfl), (Nat.le_of_ble_eq_true rfl), (Nat.le_of_ble_eq_true rfl)⟩ rfl (gm_G.mono H (pV_elim (fun h2 H' => ?_) (fun e18 h19 H => ?_)))
  · show gm_G _ 4 _ _ _ _
    replace H := H'
    clear H'
    refine g_aload (r := some _) rfl rfl rfl (pc' := 5) ?_
    refine g_iload rfl rfl rfl (pc' := 6) ?_
    obtain ⟨ht3, H⟩ := H
    refine g_call rfl (y := 455) (n := 2) (pc' := 9) (g_vt ht3 rfl rfl) rfl rfl ⟨(Nat.le_of_ble_eq_true rfl), (Nat.le_of_ble_eq_true rfl), (Nat.le_of_ble_eq_true rfl)⟩ rfl (gm_G.mono H (pR_elim (fun r5 h4 H' => ?_) (fun e16 h17 H => ?_)))
    · show gm_G _ 9 _ _ _ _
      replace H := H'
      clear H'
      refine g_astore (r := _) rfl rfl rfl (pc' := 10) ?_
      refine g_aload (r := some _) rfl rfl rfl (pc' := 11) ?_
      refine g_iload rfl rfl rfl (pc' := 12) ?_
      obtain ⟨ht6, H⟩ := H
      refine g_call rfl (y := 455) (n := 2) (pc' := 15) (g_vt ht6 rfl rfl) rfl rfl ⟨(Nat.le_of_ble_eq_true rfl), (Nat.le_of_ble_eq_true rfl), (Nat.le_of_ble_eq_true rfl)⟩ rfl (gm_G.mono H (pR_elim (fun r8 h7 H' => ?_) (fun e14 h15 H => ?_)))
      · show gm_G _ 15 _ _ _ _
        replace H := H'
        clear H'
        refine g_astore (r := _) rfl gm_sto_rf3 rfl (pc' := 17) ?_
        refine g_aload (r := some _) rfl rfl rfl (pc' := 18) ?_
        obtain ⟨ht9, H⟩ := H
        refine g_getRv rfl rfl rfl rfl ht9 (pc' := 21) rfl (fun r10 hr10 => ?_)
        replace H := H r10 hr10
        refine g_iconst rfl rfl rfl (pc' := 22) ?_
        obtain ⟨a11, rfl, H⟩ := H
        obtain ⟨ht12, H⟩ := H
        refine g_putI rfl rfl rfl rfl ht12  (pc' := 25) rfl ?_
        replace H := H _ rfl
        refine g_iconst rfl rfl rfl (pc' := 26) ?_
        refine g_istore rfl gm_sto_rf4 rfl (pc' := 28) ?_
        exact g_weak (show gm_Lle [some _, none, none, some _, some _, some _] _ from ⟨rfl, ⟨rfl, ⟨rfl, ⟨rfl, trivial⟩⟩⟩⟩) H
      · exact ⟨H.1, g_weak (show gm_Lle [some _] _ from ⟨rfl, trivial⟩) H.2⟩
    · exact ⟨H.1, g_weak (show gm_Lle [some _] _ from ⟨rfl, trivial⟩) H.2⟩
  · exact ⟨H.1, g_weak (show gm_Lle [some _] _ from ⟨rfl, trivial⟩) H.2⟩
set_option maxRecDepth 20000 in
theorem w_490_28 {a0 : Nat} {r_3 : Option Nat} {r_4 : Option Nat} {x5 : Int32} {h : hh_T} {Q : Option Value ⊕ Nat → hh_T → Prop} (H : (¬ x5 < (Int32.ofNat 16) → (gm_sub (hh_tg h a0) 0 = true ∧ (∀ r2, r2 = hh_r h a0 59 → (∀ r3, r3 = hh_r h a0 60 → (∃ a4, r2 = some a4 ∧ (hh_tg h a4 = 13 ∧ (gm_G 65 0 [some (.ref a4), some (va_rf r3)] [] h (pV (fun h6 => gm_sub (hh_tg h6 a0) 0 = true ∧ (∀ r8, r8 = hh_r h6 a0 59 → (∃ a9, r8 = some a9 ∧ (gm_sub (hh_tg h6 a9) 12 = true ∧ (hh_tg h6 a0 = 1 ∧ (gm_G 4 0 [some (.ref a0), some (.int ((hh_i h6 a9 1) / (Int32.ofNat 2)))] [] h6 (pI (fun v13 h12 => Q (.inl (some (.int v13))) h12) (fun e14 h15 => hh_tg h15 e14 = 21 ∧ gm_G 490 182 [some (.ref a0)] [.ref e14] h15 Q)))))))) (fun e16 h17 => hh_tg h17 e16 = 21 ∧ gm_G 490 182 [some (.ref a0)] [.ref e16] h17 Q))))))))) ∧ (x5 < (Int32.ofNat 16) → (∃ a18, r_3 = some a18 ∧ (gm_sub (hh_tg h a18) 24 = true ∧ (∀ r20, r20 = hh_r h a18 2 → (∃ a21, r20 = some a21 ∧ ((hh_tg h a21 = 104 ∨ 200 ≤ hh_tg h a21) ∧ (∃ n22, gm_ix x5 n22 (hh_ln h a21) ∧ (∀ r24, r24 = hh_r h a21 n22 → (∃ a25, r_4 = some a25 ∧ (gm_sub (hh_tg h a25) 24 = true ∧ (∀ r27, r27 = hh_r h a25 2 → (∃ a28, r27 = some a28 ∧ ((hh_tg h a28 = 104 ∨ 200 ≤ hh_tg h a28) ∧ (∃ n29, gm_ix x5 n29 (hh_ln h a28) ∧ (∀ r31, r31 = hh_r h a28 n29 → ((∀ a32, r24 = some a32 → ((∀ a33, r31 = some a33 → (gm_sub (hh_tg h a32) 25 = true ∧ (gm_sub (hh_tg h a33) 25 = true ∧ (((hh_i h a32 8) = (hh_i h a33 8) → ((hh_tg h a32 = 27 ∧ (gm_G 193 0 [some (.ref a32), some (.ref a33)] [] h (pI (fun v37 h36 => (v37 = Int32.ofNat 0 → (gm_G 490 122 [some (.ref a0), none, none, some (.ref a18), some (.ref a25), some (.int x5)] [] h36 Q)) ∧ (¬ v37 = Int32.ofNat 0 → (gm_G 227 0 [some (.ref a32), some (.ref a33)] [] h36 (pI (fun v39 h38 => (v39 = Int32.ofNat 0 → (gm_G 490 122 [some (.ref a0), none, none, some (.ref a18), some (.ref a25), some (.int x5)] [] h38 Q)) ∧ (¬ v39 = Int32.ofNat 0 → (gm_G 490 123 [some (.ref a0), none, none, some (.ref a18), some (.ref a25), some (.int x5)] [.int (Int32.ofNat 0)] h38 Q))) (fun e40 h41 => hh_tg h41 e40 = 21 ∧ gm_G 490 182 [some (.ref a0)] [.ref e40] h41 Q))))) (fun e42 h43 => hh_tg h43 e42 = 21 ∧ gm_G 490 182 [some (.ref a0)] [.ref e42] h43 Q)))) ∨ (hh_tg h a32 = 28 ∧ (gm_G 318 0 [some (.ref a32), some (.ref a33)] [] h (pI (fun v45 h44 => (v45 = Int32.ofNat 0 → (gm_G 490 122 [some (.ref a0), none, none, some (.ref a18), some (.ref a25), some (.int x5)] [] h44 Q)) ∧ (¬ v45 = Int32.ofNat 0 → (gm_G 227 0 [some (.ref a32), some (.ref a33)] [] h44 (pI (fun v47 h46 => (v47 = Int32.ofNat 0 → (gm_G 490 122 [some (.ref a0), none, none, some (.ref a18), some (.ref a25), some (.int x5)] [] h46 Q)) ∧ (¬ v47 = Int32.ofNat 0 → (gm_G 490 123 [some (.ref a0), none, none, some (.ref a18), some (.ref a25), some (.int x5)] [.int (Int32.ofNat 0)] h46 Q))) (fun e48 h49 => hh_tg h49 e48 = 21 ∧ gm_G 490 182 [some (.ref a0)] [.ref e48] h49 Q))))) (fun e50 h51 => hh_tg h51 e50 = 21 ∧ gm_G 490 182 [some (.ref a0)] [.ref e50] h51 Q)))) ∨ (hh_tg h a32 = 29 ∧ (gm_G 321 0 [some (.ref a32), some (.ref a33)] [] h (pI (fun v53 h52 => (v53 = Int32.ofNat 0 → (gm_G 490 122 [some (.ref a0), none, none, some (.ref a18), some (.ref a25), some (.int x5)] [] h52 Q)) ∧ (¬ v53 = Int32.ofNat 0 → (gm_G 227 0 [some (.ref a32), some (.ref a33)] [] h52 (pI (fun v55 h54 => (v55 = Int32.ofNat 0 → (gm_G 490 122 [some (.ref a0), none, none, some (.ref a18), some (.ref a25), some (.int x5)] [] h54 Q)) ∧ (¬ v55 = Int32.ofNat 0 → (gm_G 490 123 [some (.ref a0), none, none, some (.ref a18), some (.ref a25), some (.int x5)] [.int (Int32.ofNat 0)] h54 Q))) (fun e56 h57 => hh_tg h57 e56 = 21 ∧ gm_G 490 182 [some (.ref a0)] [.ref e56] h57 Q))))) (fun e58 h59 => hh_tg h59 e58 = 21 ∧ gm_G 490 182 [some (.ref a0)] [.ref e58] h59 Q)))))) ∧ (¬ (hh_i h a32 8) = (hh_i h a33 8) → (gm_G 490 123 [some (.ref a0), none, none, some (.ref a18), some (.ref a25), some (.int x5)] [.int (Int32.ofNat 3)] h Q)))))) ∧ (r31 = none → (gm_G 490 123 [some (.ref a0), none, none, some (.ref a18), some (.ref a25), some (.int x5)] [.int (Int32.ofNat 2)] h Q)))) ∧ (r24 = none → ((∀ a60, r31 = some a60 → (gm_G 490 123 [some (.ref a0), none, none, some (.ref a18), some (.ref a25), some (.int x5)] [.int (Int32.ofNat 1)] h Q)) ∧ (r31 = none → (gm_G 490 123 [some (.ref a0), none, none, some (.ref a18), some (.ref a25), some (.int x5)] [.int (Int32.ofNat 0)] h Q))))))))))))))))))))) : gm_G 490 28 [some (.ref a0), none, none, some (va_rf r_3), some (va_rf r_4), some (.int x5)] [] h Q := by
  refine g_iload rfl rfl rfl (pc' := 30) ?_
  refine g_iconst rfl rfl rfl (pc' := 32) ?_
  refine g_ic_ge rfl (pc' := 35) (pt := 157) rfl rfl ⟨fun hc => ?_, fun hc => ?_⟩
  · replace H := H.1 hc
    refine g_aload (r := some _) rfl rfl rfl (pc' := 158) ?_
    obtain ⟨ht1, H⟩ := H
    refine g_getRv rfl rfl rfl rfl ht1 (pc' := 161) rfl (fun r2 hr2 => ?_)
    replace H := H r2 hr2
    refine g_aload (r := some _) rfl rfl rfl (pc' := 162) ?_
    refine g_getRv rfl rfl rfl rfl ht1 (pc' := 165) rfl (fun r3 hr3 => ?_)
    replace H := H r3 hr3
    obtain ⟨a4, rfl, H⟩ := H
    obtain ⟨ht5, H⟩ := H
    refine g_call rfl (y := 65) (n := 2) (pc' := 168) (g_vt ht5 rfl rfl) (by cases r3 <;> rfl) rfl ⟨(Nat.le_of_ble_eq_true rfl), (Nat.le_of_ble_eq_true rfl), (Nat.le_of_ble_eq_true rfl)⟩ rfl (gm_G.mono H (pV_elim (fun h6 H' => ?_) (fun e16 h17 H => ?_)))
    · show gm_G _ 168 _ _ _ _
      replace H := H'
      clear H'
      refine g_aload (r := some _) rfl rfl rfl (pc' := 169) ?_
      refine g_aload (r := some _) rfl rfl rfl (pc' := 170) ?_
      obtain ⟨ht7, H⟩ := H
      refine g_getRv rfl rfl rfl rfl ht7 (pc' := 173) rfl (fun r8 hr8 => ?_)
      replace H := H r8 hr8
      obtain ⟨a9, rfl, H⟩ := H
      obtain ⟨ht10, H⟩ := H
      refine g_getI rfl rfl rfl rfl ht10 (pc' := 176) rfl ?_
      refine g_iconst rfl rfl rfl (pc' := 177) ?_
      refine g_idiv rfl (by decide) (pc' := 178) rfl ?_
      obtain ⟨ht11, H⟩ := H
      refine g_call rfl (y := 4) (n := 2) (pc' := 181) (g_vt ht11 rfl rfl) rfl rfl ⟨(Nat.le_of_ble_eq_true rfl), (Nat.le_of_ble_eq_true rfl), (Nat.le_of_ble_eq_true rfl)⟩ rfl (gm_G.mono H (pI_elim (fun v13 h12 H' => ?_) (fun e14 h15 H => ?_)))
      · show gm_G _ 181 _ _ _ _
        replace H := H'
        clear H'
        exact g_ireturn rfl (Or.inl rfl) H
      · exact ⟨H.1, g_weak (show gm_Lle [some _] _ from ⟨rfl, trivial⟩) H.2⟩
    · exact ⟨H.1, g_weak (show gm_Lle [some _] _ from ⟨rfl, trivial⟩) H.2⟩
  · replace H := H.2 hc
    refine g_aload (r := _) rfl rfl rfl (pc' := 36) ?_
    obtain ⟨a18, rfl, H⟩ := H
    obtain ⟨ht19, H⟩ := H
    refine g_getRv rfl rfl rfl rfl ht19 (pc' := 39) rfl (fun r20 hr20 => ?_)
    replace H := H r20 hr20
    refine g_iload rfl rfl rfl (pc' := 41) ?_
    obtain ⟨a21, rfl, H⟩ := H
    obtain ⟨ht23, H⟩ := H
    obtain ⟨n22, hn22, H⟩ := H
    refine g_aaloadv rfl ht23 hn22 (pc' := 42) rfl (fun r24 hr24 => ?_)
    replace H := H r24 hr24
    refine g_astore (r := _) rfl rfl rfl (pc' := 44) ?_
    refine g_aload (r := _) rfl rfl rfl (pc' := 46) ?_
    obtain ⟨a25, rfl, H⟩ := H
    obtain ⟨ht26, H⟩ := H
    refine g_getRv rfl rfl rfl rfl ht26 (pc' := 49) rfl (fun r27 hr27 => ?_)
    replace H := H r27 hr27
    refine g_iload rfl rfl rfl (pc' := 51) ?_
    obtain ⟨a28, rfl, H⟩ := H
    obtain ⟨ht30, H⟩ := H
    obtain ⟨n29, hn29, H⟩ := H
    refine g_aaloadv rfl ht30 hn29 (pc' := 52) rfl (fun r31 hr31 => ?_)
    replace H := H r31 hr31
    refine g_astore (r := _) rfl gm_sto_rf6 rfl (pc' := 54) ?_
    refine g_aload (r := _) rfl rfl rfl (pc' := 56) ?_
    refine g_ifnonnull rfl (pc' := 59) (pt := 72) rfl rfl ⟨fun a32 hc => ?_, fun hc => ?_⟩
    · replace H := H.1 a32 hc
      subst hc
      refine g_aload (r := _) rfl rfl rfl (pc' := 74) ?_
      refine g_ifnonnull rfl (pc' := 77) (pt := 81) rfl rfl ⟨fun a33 hc => ?_, fun hc => ?_⟩
      · replace H := H.1 a33 hc
        subst hc
        refine g_aload (r := some _) rfl rfl rfl (pc' := 83) ?_
        obtain ⟨ht34, H⟩ := H
        refine g_getI rfl rfl rfl rfl ht34 (pc' := 86) rfl ?_
        refine g_aload (r := some _) rfl rfl rfl (pc' := 88) ?_
        obtain ⟨ht35, H⟩ := H
        refine g_getI rfl rfl rfl rfl ht35 (pc' := 91) rfl ?_
        refine g_ic_eq rfl (pc' := 94) (pt := 98) rfl rfl ⟨fun hc => ?_, fun hc => ?_⟩
        · replace H := H.1 hc
          refine g_aload (r := some _) rfl rfl rfl (pc' := 100) ?_
          refine g_aload (r := some _) rfl rfl rfl (pc' := 102) ?_
          rcases H with ⟨ht, H⟩ | ⟨ht, H⟩ | ⟨ht, H⟩
          · refine g_call rfl (y := 193) (n := 2) (pc' := 105) (g_vt ht rfl rfl) rfl rfl ⟨(Nat.le_of_ble_eq_true rfl), (Nat.le_of_ble_eq_true rfl), (Nat.le_of_ble_eq_true rfl)⟩ rfl (gm_G.mono H (pI_elim (fun v37 h36 H' => ?_) (fun e42 h43 H => ?_)))
            · show gm_G _ 105 _ _ _ _
              replace H := H'
              clear H'
              refine g_if_eq rfl (pc' := 108) (pt := 122) rfl rfl ⟨fun hc => ?_, fun hc => ?_⟩
              · replace H := H.1 hc
                exact g_weak (show gm_Lle [some _, none, none, some _, some _, some _] _ from ⟨rfl, ⟨rfl, ⟨rfl, ⟨rfl, trivial⟩⟩⟩⟩) H
              · replace H := H.2 hc
                refine g_aload (r := some _) rfl rfl rfl (pc' := 110) ?_
                refine g_aload (r := some _) rfl rfl rfl (pc' := 112) ?_
                refine g_call rfl (y := 227) (n := 2) (pc' := 115) (fun _ => rfl) rfl rfl ⟨(Nat.le_of_ble_eq_true rfl), (Nat.le_of_ble_eq_true rfl), (Nat.le_of_ble_eq_true rfl)⟩ rfl (gm_G.mono H (pI_elim (fun v39 h38 H' => ?_) (fun e40 h41 H => ?_)))
                · show gm_G _ 115 _ _ _ _
                  replace H := H'
                  clear H'
                  refine g_if_eq rfl (pc' := 118) (pt := 122) rfl rfl ⟨fun hc => ?_, fun hc => ?_⟩
                  · replace H := H.1 hc
                    exact g_weak (show gm_Lle [some _, none, none, some _, some _, some _] _ from ⟨rfl, ⟨rfl, ⟨rfl, ⟨rfl, trivial⟩⟩⟩⟩) H
                  · replace H := H.2 hc
                    refine g_iconst rfl rfl rfl (pc' := 119) ?_
                    refine g_goto rfl (pc' := 123) rfl ?_
                    exact g_weak (show gm_Lle [some _, none, none, some _, some _, some _] _ from ⟨rfl, ⟨rfl, ⟨rfl, ⟨rfl, trivial⟩⟩⟩⟩) H
                · exact ⟨H.1, g_weak (show gm_Lle [some _] _ from ⟨rfl, trivial⟩) H.2⟩
            · exact ⟨H.1, g_weak (show gm_Lle [some _] _ from ⟨rfl, trivial⟩) H.2⟩
          · refine g_call rfl (y := 318) (n := 2) (pc' := 105) (g_vt ht rfl rfl) rfl rfl ⟨(Nat.le_of_ble_eq_true rfl), (Nat.le_of_ble_eq_true rfl), (Nat.le_of_ble_eq_true rfl)⟩ rfl (gm_G.mono H (pI_elim (fun v45 h44 H' => ?_) (fun e50 h51 H => ?_)))
            · show gm_G _ 105 _ _ _ _
              replace H := H'
              clear H'
              refine g_if_eq rfl (pc' := 108) (pt := 122) rfl rfl ⟨fun hc => ?_, fun hc => ?_⟩
              · replace H := H.1 hc
                exact g_weak (show gm_Lle [some _, none, none, some _, some _, some _] _ from ⟨rfl, ⟨rfl, ⟨rfl, ⟨rfl, trivial⟩⟩⟩⟩) H
              · replace H := H.2 hc
                refine g_aload (r := some _) rfl rfl rfl (pc' := 110) ?_
                refine g_aload (r := some _) rfl rfl rfl (pc' := 112) ?_
                refine g_call rfl (y := 227) (n := 2) (pc' := 115) (fun _ => rfl) rfl rfl ⟨(Nat.le_of_ble_eq_true rfl), (Nat.le_of_ble_eq_true rfl), (Nat.le_of_ble_eq_true rfl)⟩ rfl (gm_G.mono H (pI_elim (fun v47 h46 H' => ?_) (fun e48 h49 H => ?_)))
                · show gm_G _ 115 _ _ _ _
                  replace H := H'
                  clear H'
                  refine g_if_eq rfl (pc' := 118) (pt := 122) rfl rfl ⟨fun hc => ?_, fun hc => ?_⟩
                  · replace H := H.1 hc
                    exact g_weak (show gm_Lle [some _, none, none, some _, some _, some _] _ from ⟨rfl, ⟨rfl, ⟨rfl, ⟨rfl, trivial⟩⟩⟩⟩) H
                  · replace H := H.2 hc
                    refine g_iconst rfl rfl rfl (pc' := 119) ?_
                    refine g_goto rfl (pc' := 123) rfl ?_
                    exact g_weak (show gm_Lle [some _, none, none, some _, some _, some _] _ from ⟨rfl, ⟨rfl, ⟨rfl, ⟨rfl, trivial⟩⟩⟩⟩) H
                · exact ⟨H.1, g_weak (show gm_Lle [some _] _ from ⟨rfl, trivial⟩) H.2⟩
            · exact ⟨H.1, g_weak (show gm_Lle [some _] _ from ⟨rfl, trivial⟩) H.2⟩
          · refine g_call rfl (y := 321) (n := 2) (pc' := 105) (g_vt ht rfl rfl) rfl rfl ⟨(Nat.le_of_ble_eq_true rfl), (Nat.le_of_ble_eq_true rfl), (Nat.le_of_ble_eq_true rfl)⟩ rfl (gm_G.mono H (pI_elim (fun v53 h52 H' => ?_) (fun e58 h59 H => ?_)))
            · show gm_G _ 105 _ _ _ _
              replace H := H'
              clear H'
              refine g_if_eq rfl (pc' := 108) (pt := 122) rfl rfl ⟨fun hc => ?_, fun hc => ?_⟩
              · replace H := H.1 hc
                exact g_weak (show gm_Lle [some _, none, none, some _, some _, some _] _ from ⟨rfl, ⟨rfl, ⟨rfl, ⟨rfl, trivial⟩⟩⟩⟩) H
              · replace H := H.2 hc
                refine g_aload (r := some _) rfl rfl rfl (pc' := 110) ?_
                refine g_aload (r := some _) rfl rfl rfl (pc' := 112) ?_
                refine g_call rfl (y := 227) (n := 2) (pc' := 115) (fun _ => rfl) rfl rfl ⟨(Nat.le_of_ble_eq_true rfl), (Nat.le_of_ble_eq_true rfl), (Nat.le_of_ble_eq_true rfl)⟩ rfl (gm_G.mono H (pI_elim (fun v55 h54 H' => ?_) (fun e56 h57 H => ?_)))
                · show gm_G _ 115 _ _ _ _
                  replace H := H'
                  clear H'
                  refine g_if_eq rfl (pc' := 118) (pt := 122) rfl rfl ⟨fun hc => ?_, fun hc => ?_⟩
                  · replace H := H.1 hc
                    exact g_weak (show gm_Lle [some _, none, none, some _, some _, some _] _ from ⟨rfl, ⟨rfl, ⟨rfl, ⟨rfl, trivial⟩⟩⟩⟩) H
                  · replace H := H.2 hc
                    refine g_iconst rfl rfl rfl (pc' := 119) ?_
                    refine g_goto rfl (pc' := 123) rfl ?_
                    exact g_weak (show gm_Lle [some _, none, none, some _, some _, some _] _ from ⟨rfl, ⟨rfl, ⟨rfl, ⟨rfl, trivial⟩⟩⟩⟩) H
                · exact ⟨H.1, g_weak (show gm_Lle [some _] _ from ⟨rfl, trivial⟩) H.2⟩
            · exact ⟨H.1, g_weak (show gm_Lle [some _] _ from ⟨rfl, trivial⟩) H.2⟩
        · replace H := H.2 hc
          refine g_iconst rfl rfl rfl (pc' := 95) ?_
          refine g_goto rfl (pc' := 123) rfl ?_
          exact g_weak (show gm_Lle [some _, none, none, some _, some _, some _] _ from ⟨rfl, ⟨rfl, ⟨rfl, ⟨rfl, trivial⟩⟩⟩⟩) H
      · replace H := H.2 hc
        subst hc
        refine g_iconst rfl rfl rfl (pc' := 78) ?_
        refine g_goto rfl (pc' := 123) rfl ?_
        exact g_weak (show gm_Lle [some _, none, none, some _, some _, some _] _ from ⟨rfl, ⟨rfl, ⟨rfl, ⟨rfl, trivial⟩⟩⟩⟩) H
    · replace H := H.2 hc
      subst hc
      refine g_aload (r := _) rfl rfl rfl (pc' := 61) ?_
      refine g_ifnonnull rfl (pc' := 64) (pt := 68) rfl rfl ⟨fun a60 hc => ?_, fun hc => ?_⟩
      · replace H := H.1 a60 hc
        subst hc
        refine g_iconst rfl rfl rfl (pc' := 69) ?_
        refine g_goto rfl (pc' := 123) rfl ?_
        exact g_weak (show gm_Lle [some _, none, none, some _, some _, some _] _ from ⟨rfl, ⟨rfl, ⟨rfl, ⟨rfl, trivial⟩⟩⟩⟩) H
      · replace H := H.2 hc
        subst hc
        refine g_iconst rfl rfl rfl (pc' := 65) ?_
        refine g_goto rfl (pc' := 123) rfl ?_
        exact g_weak (show gm_Lle [some _, none, none, some _, some _, some _] _ from ⟨rfl, ⟨rfl, ⟨rfl, ⟨rfl, trivial⟩⟩⟩⟩) H
set_option maxRecDepth 20000 in
theorem w_490_122 {a0 : Nat} {r_3 : Option Nat} {r_4 : Option Nat} {x5 : Int32} {h : hh_T} {Q : Option Value ⊕ Nat → hh_T → Prop} (H : gm_G 490 123 [some (.ref a0), none, none, some (va_rf r_3), some (va_rf r_4), some (.int x5)] [.int (Int32.ofNat 4)] h Q) : gm_G 490 122 [some (.ref a0), none, none, some (va_rf r_3), some (va_rf r_4), some (.int x5)] [] h Q := by
  refine g_iconst rfl rfl rfl (pc' := 123) ?_
  exact g_weak (show gm_Lle [some _, none, none, some _, some _, some _] _ from ⟨rfl, ⟨rfl, ⟨rfl, ⟨rfl, trivial⟩⟩⟩⟩) H
set_option maxRecDepth 20000 in
theorem w_490_123 {a0 : Nat} {r_3 : Option Nat} {r_4 : Option Nat} {x5 : Int32} {y0 : Int32} {h : hh_T} {Q : Option Value ⊕ Nat → hh_T → Prop} (H : (¬ y0 = Int32.ofNat 0 → (gm_sub (hh_tg h a0) 0 = true ∧ (∀ r2, r2 = hh_r h a0 60 → (∃ a3, r2 = some a3 ∧ (hh_tg h a3 = 13 ∧ (gm_G 459 0 [some (.ref a3), some (.int y0)] [] h (pV (fun h5 => gm_sub (hh_tg h5 a0) 0 = true ∧ (∀ r7, r7 = hh_r h5 a0 60 → (∃ a8, r7 = some a8 ∧ (hh_tg h5 a8 = 13 ∧ (gm_G 459 0 [some (.ref a8), some (.int x5)] [] h5 (pV (fun h10 => gm_G 490 151 [some (.ref a0), none, none, some (va_rf r_3), some (va_rf r_4), some (.int x5)] [] h10 Q) (fun e11 h12 => hh_tg h12 e11 = 21 ∧ gm_G 490 182 [some (.ref a0)] [.ref e11] h12 Q))))))) (fun e13 h14 => hh_tg h14 e13 = 21 ∧ gm_G 490 182 [some (.ref a0)] [.ref e13] h14 Q)))))))) ∧ (y0 = Int32.ofNat 0 → (gm_G 490 151 [some (.ref a0), none, none, some (va_rf r_3), some (va_rf r_4), some (.int x5)] [] h Q))) : gm_G 490 123 [some (.ref a0), none, none, some (va_rf r_3), some (va_rf r_4), some (.int x5)] [.int y0] h Q := by
  refine g_istore rfl rfl rfl (pc' := 125) ?_
  refine g_iload rfl rfl rfl (pc' := 127) ?_
  refine g_if_ne rfl (pc' := 130) (pt := 133) rfl rfl ⟨fun hc => ?_, fun hc => ?_⟩
  · replace H := H.1 hc
    refine g_aload (r := some _) rfl rfl rfl (pc' := 134) ?_
    obtain ⟨ht1, H⟩ := H
    refine g_getRv rfl rfl rfl rfl ht1 (pc' := 137) rfl (fun r2 hr2 => ?_)
    replace H := H r2 hr2
    refine g_iload rfl rfl rfl (pc' := 139) ?_
    obtain ⟨a3, rfl, H⟩ := H
    obtain ⟨ht4, H⟩ := H
    refine g_call rfl (y := 459) (n := 2) (pc' := 142) (g_vt ht4 rfl rfl) rfl rfl ⟨(Nat.le_of_ble_eq_true rfl), (Nat.le_of_ble_eq_true rfl), (Nat.le_of_ble_eq_true rfl)⟩ rfl (gm_G.mono H (pV_elim (fun h5 H' => ?_) (fun e13 h14 H => ?_)))
    · show gm_G _ 142 _ _ _ _
      replace H := H'
      clear H'
      refine g_aload (r := some _) rfl rfl rfl (pc' := 143) ?_
      obtain ⟨ht6, H⟩ := H
      refine g_getRv rfl rfl rfl rfl ht6 (pc' := 146) rfl (fun r7 hr7 => ?_)
      replace H := H r7 hr7
      refine g_iload rfl rfl rfl (pc' := 148) ?_
      obtain ⟨a8, rfl, H⟩ := H
      obtain ⟨ht9, H⟩ := H
      refine g_call rfl (y := 459) (n := 2) (pc' := 151) (g_vt ht9 rfl rfl) rfl rfl ⟨(Nat.le_of_ble_eq_true rfl), (Nat.le_of_ble_eq_true rfl), (Nat.le_of_ble_eq_true rfl)⟩ rfl (gm_G.mono H (pV_elim (fun h10 H' => ?_) (fun e11 h12 H => ?_)))
      · show gm_G _ 151 _ _ _ _
        replace H := H'
        clear H'
        exact g_weak (show gm_Lle [some _, none, none, some _, some _, some _] _ from ⟨rfl, ⟨rfl, ⟨rfl, ⟨rfl, trivial⟩⟩⟩⟩) H
      · exact ⟨H.1, g_weak (show gm_Lle [some _] _ from ⟨rfl, trivial⟩) H.2⟩
    · exact ⟨H.1, g_weak (show gm_Lle [some _] _ from ⟨rfl, trivial⟩) H.2⟩
  · replace H := H.2 hc
    refine g_goto rfl (pc' := 151) rfl ?_
    exact g_weak (show gm_Lle [some _, none, none, some _, some _, some _] _ from ⟨rfl, ⟨rfl, ⟨rfl, ⟨rfl, trivial⟩⟩⟩⟩) H
set_option maxRecDepth 20000 in
theorem w_490_151 {a0 : Nat} {r_3 : Option Nat} {r_4 : Option Nat} {x5 : Int32} {h : hh_T} {Q : Option Value ⊕ Nat → hh_T → Prop} (H : gm_G 490 28 [some (.ref a0), none, none, some (va_rf r_3), some (va_rf r_4), some (.int (x5 + (Int32.ofNat 1)))] [] h Q) : gm_G 490 151 [some (.ref a0), none, none, some (va_rf r_3), some (va_rf r_4), some (.int x5)] [] h Q := by
  refine g_iinc (c := (Int32.ofNat 1)) rfl rfl rfl gm_sto_rf4 rfl (pc' := 154) ?_
  refine g_goto rfl (pc' := 28) rfl ?_
  exact g_weak (show gm_Lle [some _, none, none, some _, some _, some _] _ from ⟨rfl, ⟨rfl, ⟨rfl, ⟨rfl, trivial⟩⟩⟩⟩) H
set_option maxRecDepth 20000 in
theorem w_490_182 {a0 : Nat} {ex : Nat} {h : hh_T} {Q : Option Value ⊕ Nat → hh_T → Prop} (H : hh_tg h a0 = 1 ∧ (gm_G 1 0 [some (.ref a0), some (.ref ex)] [] h (pI (fun v3 h2 => Q (.inl (some (.int v3))) h2) (fun e4 h5 => hh_tg h5 e4 = 21 ∧ Q (.inr e4) h5)))) : gm_G 490 182 [some (.ref a0)] [.ref ex] h Q := by
  refine g_astore (r := some _) rfl rfl rfl (pc' := 183) ?_
  refine g_aload (r := some _) rfl rfl rfl (pc' := 184) ?_
  refine g_aload (r := some _) rfl rfl rfl (pc' := 185) ?_
  obtain ⟨ht1, H⟩ := H
  refine g_call rfl (y := 1) (n := 2) (pc' := 188) (g_vt ht1 rfl rfl) rfl rfl ⟨(Nat.le_of_ble_eq_true rfl), (Nat.le_of_ble_eq_true rfl), (Nat.le_of_ble_eq_true rfl)⟩ rfl (gm_G.mono H (pI_elim (fun v3 h2 H' => ?_) (fun e4 h5 H => ?_)))
  · show gm_G _ 188 _ _ _ _
    replace H := H'
    clear H'
    exact g_ireturn rfl (Or.inl rfl) H
  · exact H
set_option maxRecDepth 20000 in
theorem w_491_0 {a0 : Nat}  {h : hh_T} {Q : Option Value ⊕ Nat → hh_T → Prop} (H : hh_tg h a0 = 1 ∧ (gm_G 243 0 [some (.ref a0)] [] h (pV (fun h2 => hh_tg h2 a0 = 1 ∧ (gm_G 456 0 [some (.ref a0)] [] h2 (pV (fun h4 => gm_G 491 10 [some (.ref a0), some (.int (Int32.ofNat 0))] [] h4 Q) (fun e5 h6 => hh_tg h6 e5 = 21 ∧ gm_G 491 189 [some (.ref a0)] [.ref e5] h6 Q)))) (fun e7 h8 => hh_tg h8 e7 = 21 ∧ Q (.inr e7) h8)))) : gm_G 491 0 [some (.ref a0)] [] h Q := by
  refine g_aload (r := some _) rfl rfl rfl (pc' := 1) ?_
  obtain ⟨ht1, H⟩ := H
  refine g_call rfl (y := 243) (n := 1) (pc' := 4) (g_vt ht1 rfl rfl) rfl rfl ⟨(Nat.le_of_ble_eq_true rfl), (Nat.le_of_ble_eq_true rfl), (Nat.le_of_ble_eq_true rfl)⟩ rfl (gm_G.mono H (pV_elim (fun h2 H' => ?_) (fun e7 h8 H => ?_)))
  · show gm_G _ 4 _ _ _ _
    replace H := H'
    clear H'
    refine g_aload (r := some _) rfl rfl rfl (pc' := 5) ?_
    obtain ⟨ht3, H⟩ := H
    refine g_call rfl (y := 456) (n := 1) (pc' := 8) (g_vt ht3 rfl rfl) rfl rfl ⟨(Nat.le_of_ble_eq_true rfl), (Nat.le_of_ble_eq_true rfl), (Nat.le_of_ble_eq_true rfl)⟩ rfl (gm_G.mono H (pV_elim (fun h4 H' => ?_) (fun e5 h6 H => ?_)))
    · show gm_G _ 8 _ _ _ _
      replace H := H'
      clear H'
      refine g_iconst rfl rfl rfl (pc' := 9) ?_
      refine g_istore rfl rfl rfl (pc' := 10) ?_
      exact g_weak (show gm_Lle [some _, some _] _ from ⟨rfl, ⟨rfl, trivial⟩⟩) H
    · exact ⟨H.1, g_weak (show gm_Lle [some _] _ from ⟨rfl, trivial⟩) H.2⟩
  · exact H
set_option maxRecDepth 20000 in
theorem w_491_10 {a0 : Nat} {x1 : Int32} {h : hh_T} {Q : Option Value ⊕ Nat → hh_T → Prop} (H : gm_sub (hh_tg h a0) 0 = true ∧ (∀ r2, r2 = hh_r h a0 58 → (∃ a3, r2 = some a3 ∧ (gm_sub (hh_tg h a3) 12 = true ∧ ((¬ Int32.ofNat 0 < (hh_i h a3 1) → (gm_G 491 88 [some (.ref a0)] [] h Q)) ∧ (Int32.ofNat 0 < (hh_i h a3 1) → (∀ r5, r5 = hh_r h a0 58 → (∃ a6, r5 = some a6 ∧ (gm_sub (hh_tg h a6) 12 = true ∧ (((hh_i h a6 1) < x1 → (gm_G 491 88 [some (.ref a0)] [] h Q)) ∧ (¬ (hh_i h a6 1) < x1 → (∀ r8, r8 = hh_r h a0 58 → (∀ r9, r9 = hh_r h a0 58 → (∀ r10, r10 = hh_r h a0 58 → (∃ a11, r10 = some a11 ∧ (gm_sub (hh_tg h a11) 12 = true ∧ (gm_G 18 0 [some (va_rf r9), some (.int x1), some (.int (hh_i h a11 1))] [] h (pI (fun v14 h13 => gm_G 233 0 [some (va_rf r8), some (.int x1), some (.int v14)] [] h13 (pL (fun v16 h15 => ((lg_cmp v16 (Int64.ofNat 0)) = Int32.ofNat 0 → (gm_G 491 64 [some (.ref a0), some (.int x1)] [.int (Int32.ofNat 0)] h15 Q)) ∧ (¬ (lg_cmp v16 (Int64.ofNat 0)) = Int32.ofNat 0 → (gm_G 491 64 [some (.ref a0), some (.int x1)] [.int (Int32.ofNat 1)] h15 Q))) (fun e17 h18 => hh_tg h18 e17 = 21 ∧ gm_G 491 189 [some (.ref a0)] [.ref e17] h18 Q))) (fun e19 h20 => hh_tg h20 e19 = 21 ∧ gm_G 491 189 [some (.ref a0)] [.ref e19] h20 Q))))))))))))))))))) : gm_G 491 10 [some (.ref a0), some (.int x1)] [] h Q := by
  refine g_aload (r := some _) rfl rfl rfl (pc' := 11) ?_
  obtain ⟨ht1, H⟩ := H
  refine g_getRv rfl rfl rfl rfl ht1 (pc' := 14) rfl (fun r2 hr2 => ?_)
  replace H := H r2 hr2
  obtain ⟨a3, rfl, H⟩ := H
  obtain ⟨ht4, H⟩ := H
  refine g_getI rfl rfl rfl rfl ht4 (pc' := 17) rfl ?_
  refine g_if_le rfl (pc' := 20) (pt := 88) rfl rfl ⟨fun hc => ?_, fun hc => ?_⟩
  · replace H := H.1 hc
    exact g_weak (show gm_Lle [some _] _ from ⟨rfl, trivial⟩) H
  · replace H := H.2 hc
    refine g_iload rfl rfl rfl (pc' := 21) ?_
    refine g_aload (r := some _) rfl rfl rfl (pc' := 22) ?_
    refine g_getRv rfl rfl rfl rfl ht1 (pc' := 25) rfl (fun r5 hr5 => ?_)
    replace H := H r5 hr5
    obtain ⟨a6, rfl, H⟩ := H
    obtain ⟨ht7, H⟩ := H
    refine g_getI rfl rfl rfl rfl ht7 (pc' := 28) rfl ?_
    refine g_ic_gt rfl (pc' := 31) (pt := 88) rfl rfl ⟨fun hc => ?_, fun hc => ?_⟩
    · replace H := H.1 hc
      exact g_weak (show gm_Lle [some _] _ from ⟨rfl, trivial⟩) H
    · replace H := H.2 hc
      refine g_aload (r := some _) rfl rfl rfl (pc' := 32) ?_
      refine g_getRv rfl rfl rfl rfl ht1 (pc' := 35) rfl (fun r8 hr8 => ?_)
      replace H := H r8 hr8
      refine g_iload rfl rfl rfl (pc' := 36) ?_
      refine g_aload (r := some _) rfl rfl rfl (pc' := 37) ?_
      refine g_getRv rfl rfl rfl rfl ht1 (pc' := 40) rfl (fun r9 hr9 => ?_)
      replace H := H r9 hr9
      refine g_iload rfl rfl rfl (pc' := 41) ?_
      refine g_aload (r := some _) rfl rfl rfl (pc' := 42) ?_
      refine g_getRv rfl rfl rfl rfl ht1 (pc' := 45) rfl (fun r10 hr10 => ?_)
      replace H := H r10 hr10
      obtain ⟨a11, rfl, H⟩ := H
      obtain ⟨ht12, H⟩ := H
      refine g_getI rfl rfl rfl rfl ht12 (pc' := 48) rfl ?_
      refine g_call rfl (y := 18) (n := 3) (pc' := 51) (fun _ => rfl) (by cases r9 <;> rfl) rfl ⟨(Nat.le_of_ble_eq_true rfl), (Nat.le_of_ble_eq_true rfl), (Nat.le_of_ble_eq_true rfl)⟩ rfl (gm_G.mono H (pI_elim (fun v14 h13 H' => ?_) (fun e19 h20 H => ?_)))
      · show gm_G _ 51 _ _ _ _
        replace H := H'
        clear H'
        refine g_call rfl (y := 233) (n := 3) (pc' := 54) (fun _ => rfl) (by cases r8 <;> rfl) rfl ⟨(Nat.le_of_ble_eq_true rfl), (Nat.le_of_ble_eq_true rfl), (Nat.le_of_ble_eq_true rfl)⟩ rfl (gm_G.mono H (pL_elim (fun v16 h15 H' => ?_) (fun e17 h18 H => ?_)))
        · show gm_G _ 54 _ _ _ _
          replace H := H'
          clear H'
          refine g_lconst rfl rfl rfl (pc' := 55) ?_
          refine g_lcmp rfl rfl (pc' := 56) ?_
          refine g_if_eq rfl (pc' := 59) (pt := 63) rfl rfl ⟨fun hc => ?_, fun hc => ?_⟩
          · replace H := H.1 hc
            refine g_iconst rfl rfl rfl (pc' := 64) ?_
            exact g_weak (show gm_Lle [some _, some _] _ from ⟨rfl, ⟨rfl, trivial⟩⟩) H
          · replace H := H.2 hc
            refine g_iconst rfl rfl rfl (pc' := 60) ?_
            refine g_goto rfl (pc' := 64) rfl ?_
            exact g_weak (show gm_Lle [some _, some _] _ from ⟨rfl, ⟨rfl, trivial⟩⟩) H
        · exact ⟨H.1, g_weak (show gm_Lle [some _] _ from ⟨rfl, trivial⟩) H.2⟩
      · exact ⟨H.1, g_weak (show gm_Lle [some _] _ from ⟨rfl, trivial⟩) H.2⟩
set_option maxRecDepth 20000 in
theorem w_491_64 {a0 : Nat} {x1 : Int32} {y0 : Int32} {h : hh_T} {Q : Option Value ⊕ Nat → hh_T → Prop} (H : gm_G 457 0 [some (.int y0)] [] h (pV (fun h1 => gm_sub (hh_tg h1 a0) 0 = true ∧ (∀ r3, r3 = hh_r h1 a0 58 → (∀ r4, r4 = hh_r h1 a0 58 → (∃ a5, r4 = some a5 ∧ (gm_sub (hh_tg h1 a5) 12 = true ∧ (gm_G 18 0 [some (va_rf r3), some (.int x1), some (.int (hh_i h1 a5 1))] [] h1 (pI (fun v8 h7 => gm_G 491 10 [some (.ref a0), some (.int (v8 + (Int32.ofNat 1)))] [] h7 Q) (fun e9 h10 => hh_tg h10 e9 = 21 ∧ gm_G 491 189 [some (.ref a0)] [.ref e9] h10 Q)))))))) (fun e11 h12 => hh_tg h12 e11 = 21 ∧ gm_G 491 189 [some (.ref a0)] [.ref e11] h12 Q))) : gm_G 491 64 [some (.ref a0), some (.int x1)] [.int y0] h Q := by
  refine g_call rfl (y := 457) (n := 1) (pc' := 67) (fun _ => rfl) rfl rfl ⟨(Nat.le_of_ble_eq_true rfl), (Nat.le_of_ble_eq_true rfl), (Nat.le_of_ble_eq_true rfl)⟩ rfl (gm_G.mono H (pV_elim (fun h1 H' => ?_) (fun e11 h12 H => ?_)))
  · show gm_G _ 67 _ _ _ _
    replace H := H'
    clear H'
    refine g_aload (r := some _) rfl rfl rfl (pc' := 68) ?_
    obtain ⟨ht2, H⟩ := H
    refine g_getRv rfl rfl rfl rfl ht2 (pc' := 71) rfl (fun r3 hr3 => ?_)
    replace H := H r3 hr3
    refine g_iload rfl rfl rfl (pc' := 72) ?_
    refine g_aload (r := some _) rfl rfl rfl (pc' := 73) ?_
    refine g_getRv rfl rfl rfl rfl ht2 (pc' := 76) rfl (fun r4 hr4 => ?_)
    replace H := H r4 hr4
    obtain ⟨a5, rfl, H⟩ := H
    obtain ⟨ht6, H⟩ := H
    refine g_getI rfl rfl rfl rfl ht6 (pc' := 79) rfl ?_
    refine g_call rfl (y := 18) (n := 3) (pc' := 82) (fun _ => rfl) (by cases r3 <;> rfl) rfl ⟨(Nat.le_of_ble_eq_true rfl), (Nat.le_of_ble_eq_true rfl), (Nat.le_of_ble_eq_true rfl)⟩ rfl (gm_G.mono H (pI_elim (fun v8 h7 H' => ?_) (fun e9 h10 H => ?_)))
    · show gm_G _ 82 _ _ _ _
      replace H := H'
      clear H'
      refine g_iconst rfl rfl rfl (pc' := 83) ?_
      refine g_iadd rfl rfl (pc' := 84) ?_
      refine g_istore rfl rfl rfl (pc' := 85) ?_
      refine g_goto rfl (pc' := 10) rfl ?_
      exact g_weak (show gm_Lle [some _, some _] _ from ⟨rfl, ⟨rfl, trivial⟩⟩) H
    · exact ⟨H.1, g_weak (show gm_Lle [some _] _ from ⟨rfl, trivial⟩) H.2⟩
  · exact ⟨H.1, g_weak (show gm_Lle [some _] _ from ⟨rfl, trivial⟩) H.2⟩
set_option maxRecDepth 20000 in
theorem w_491_88 {a0 : Nat}  {h : hh_T} {Q : Option Value ⊕ Nat → hh_T → Prop} (H : gm_sub (hh_tg h a0) 0 = true ∧ (∀ r2, r2 = hh_r h a0 33 → (∃ a3, r2 = some a3 ∧ (hh_tg h a3 = 23 ∧ (gm_G 178 0 [some (.ref a3), some (.int (Int32.ofNat 0))] [] h (pR (fun r6 h5 => gm_G 491 99 [some (.ref a0), some (va_rf r6), some (.int (Int32.ofNat 0))] [] h5 Q) (fun e7 h8 => hh_tg h8 e7 = 21 ∧ gm_G 491 189 [some (.ref a0)] [.ref e7] h8 Q))))))) : gm_G 491 88 [some (.ref a0)] [] h Q := by
  refine g_aload (r := some _) rfl rfl rfl (pc' := 89) ?_
  obtain ⟨ht1, H⟩ := H
  refine g_getRv rfl rfl rfl rfl ht1 (pc' := 92) rfl (fun r2 hr2 => ?_)
  replace H := H r2 hr2
  refine g_iconst rfl rfl rfl (pc' := 93) ?_
  obtain ⟨a3, rfl, H⟩ := H
  obtain ⟨ht4, H⟩ := H
  refine g_call rfl (y := 178) (n := 2) (pc' := 96) (g_vt ht4 rfl rfl) rfl rfl ⟨(Nat.le_of_ble_eq_true rfl), (Nat.le_of_ble_eq_true rfl), (Nat.le_of_ble_eq_true rfl)⟩ rfl (gm_G.mono H (pR_elim (fun r6 h5 H' => ?_) (fun e7 h8 H => ?_)))
  · show gm_G _ 96 _ _ _ _
    replace H := H'
    clear H'
    refine g_astore (r := _) rfl rfl rfl (pc' := 97) ?_
    refine g_iconst rfl rfl rfl (pc' := 98) ?_
    refine g_istore rfl gm_sto_rf1 rfl (pc' := 99) ?_
    exact g_weak (show gm_Lle [some _, some _, some _] _ from ⟨rfl, ⟨rfl, ⟨rfl, trivial⟩⟩⟩) H
  · exact ⟨H.1, g_weak (show gm_Lle [some _] _ from ⟨rfl, trivial⟩) H.2⟩
set_option maxRecDepth 20000 in
theorem w_491_99 {a0 : Nat} {r_1 : Option Nat} {x2 : Int32} {h : hh_T} {Q : Option Value ⊕ Nat → hh_T → Prop} (H : gm_sub (hh_tg h a0) 0 = true ∧ (∀ r2, r2 = hh_r h a0 58 → (∃ a3, r2 = some a3 ∧ (gm_sub (hh_tg h a3) 12 = true ∧ ((¬ x2 < (hh_i h a3 1) → (∃ a5, r_1 = some a5 ∧ (gm_sub (hh_tg h a5) 23 = true ∧ (hh_tg h a0 = 1 ∧ (gm_G 4 0 [some (.ref a0), some (.int (hh_i h a5 0))] [] h (pI (fun v9 h8 => Q (.inl (some (.int v9))) h8) (fun e10 h11 => hh_tg h11 e10 = 21 ∧ gm_G 491 189 [some (.ref a0)] [.ref e10] h11 Q))))))) ∧ (x2 < (hh_i h a3 1) → (∀ r12, r12 = hh_r h a0 33 → (∃ a13, r_1 = some a13 ∧ (gm_sub (hh_tg h a13) 23 = true ∧ (∀ r15, r15 = hh_r h a0 58 → (∀ r16, r16 = hh_r h a0 58 → (∀ r17, r17 = hh_r h a0 58 → (∃ a18, r17 = some a18 ∧ (gm_sub (hh_tg h a18) 12 = true ∧ (gm_G 18 0 [some (va_rf r16), some (.int x2), some (.int (hh_i h a18 1))] [] h (pI (fun v21 h20 => gm_G 233 0 [some (va_rf r15), some (.int x2), some (.int v21)] [] h20 (pL (fun v23 h22 => ∃ a24, r12 = some a24 ∧ (hh_tg h22 a24 = 23 ∧ (gm_G 174 0 [some (.ref a24), some (.int (hh_i h a13 0)), some (.long v23), none] [] h22 (pR (fun r27 h26 => (r27 = none → (gm_G 491 154 [some (.ref a0), some (va_rf none), some (.int x2)] [.int (Int32.ofNat 0)] h26 Q)) ∧ (∀ a28, r27 = some a28 → (gm_G 491 154 [some (.ref a0), some (.ref a28), some (.int x2)] [.int (Int32.ofNat 1)] h26 Q))) (fun e29 h30 => hh_tg h30 e29 = 21 ∧ gm_G 491 189 [some (.ref a0)] [.ref e29] h30 Q))))) (fun e31 h32 => hh_tg h32 e31 = 21 ∧ gm_G 491 189 [some (.ref a0)] [.ref e31] h32 Q))) (fun e33 h34 => hh_tg h34 e33 = 21 ∧ gm_G 491 189 [some (.ref a0)] [.ref e33] h34 Q))))))))))))))))) : gm_G 491 99 [some (.ref a0), some (va_rf r_1), some (.int x2)] [] h Q := by
  refine g_iload rfl rfl rfl (pc' := 100) ?_
  refine g_aload (r := some _) rfl rfl rfl (pc' := 101) ?_
  obtain ⟨ht1, H⟩ := H
  refine g_getRv rfl rfl rfl rfl ht1 (pc' := 104) rfl (fun r2 hr2 => ?_)
  replace H := H r2 hr2
  obtain ⟨a3, rfl, H⟩ := H
  obtain ⟨ht4, H⟩ := H
  refine g_getI rfl rfl rfl rfl ht4 (pc' := 107) rfl ?_
  refine g_ic_ge rfl (pc' := 110) (pt := 180) rfl rfl ⟨fun hc => ?_, fun hc => ?_⟩
  · replace H := H.1 hc
    refine g_aload (r := some _) rfl rfl rfl (pc' := 181) ?_
    refine g_aload (r := _) rfl rfl rfl (pc' := 182) ?_
    obtain ⟨a5, rfl, H⟩ := H
    obtain ⟨ht6, H⟩ := H
    refine g_getI rfl rfl rfl rfl ht6 (pc' := 185) rfl ?_
    obtain ⟨ht7, H⟩ := H
    refine g_call rfl (y := 4) (n := 2) (pc' := 188) (g_vt ht7 rfl rfl) rfl rfl ⟨(Nat.le_of_ble_eq_true rfl), (Nat.le_of_ble_eq_true rfl), (Nat.le_of_ble_eq_true rfl)⟩ rfl (gm_G.mono H (pI_elim (fun v9 h8 H' => ?_) (fun e10 h11 H => ?_)))
    · show gm_G _ 188 _ _ _ _
      replace H := H'
      clear H'
      exact g_ireturn rfl (Or.inl rfl) H
    · exact ⟨H.1, g_weak (show gm_Lle [some _] _ from ⟨rfl, trivial⟩) H.2⟩
  · replace H := H.2 hc
    refine g_aload (r := some _) rfl rfl rfl (pc' := 111) ?_
    refine g_getRv rfl rfl rfl rfl ht1 (pc' := 114) rfl (fun r12 hr12 => ?_)
    replace H := H r12 hr12
    refine g_aload (r := _) rfl rfl rfl (pc' := 115) ?_
    obtain ⟨a13, rfl, H⟩ := H
    obtain ⟨ht14, H⟩ := H
    refine g_getI rfl rfl rfl rfl ht14 (pc' := 118) rfl ?_
    refine g_aload (r := some _) rfl rfl rfl (pc' := 119) ?_
    refine g_getRv rfl rfl rfl rfl ht1 (pc' := 122) rfl (fun r15 hr15 => ?_)
    replace H := H r15 hr15
    refine g_iload rfl rfl rfl (pc' := 123) ?_
    refine g_aload (r := some _) rfl rfl rfl (pc' := 124) ?_
    refine g_getRv rfl rfl rfl rfl ht1 (pc' := 127) rfl (fun r16 hr16 => ?_)
    replace H := H r16 hr16
    refine g_iload rfl rfl rfl (pc' := 128) ?_
    refine g_aload (r := some _) rfl rfl rfl (pc' := 129) ?_
    refine g_getRv rfl rfl rfl rfl ht1 (pc' := 132) rfl (fun r17 hr17 => ?_)
    replace H := H r17 hr17
    obtain ⟨a18, rfl, H⟩ := H
    obtain ⟨ht19, H⟩ := H
    refine g_getI rfl rfl rfl rfl ht19 (pc' := 135) rfl ?_
    refine g_call rfl (y := 18) (n := 3) (pc' := 138) (fun _ => rfl) (by cases r16 <;> rfl) rfl ⟨(Nat.le_of_ble_eq_true rfl), (Nat.le_of_ble_eq_true rfl), (Nat.le_of_ble_eq_true rfl)⟩ rfl (gm_G.mono H (pI_elim (fun v21 h20 H' => ?_) (fun e33 h34 H => ?_)))
    · show gm_G _ 138 _ _ _ _
      replace H := H'
      clear H'
      refine g_call rfl (y := 233) (n := 3) (pc' := 141) (fun _ => rfl) (by cases r15 <;> rfl) rfl ⟨(Nat.le_of_ble_eq_true rfl), (Nat.le_of_ble_eq_true rfl), (Nat.le_of_ble_eq_true rfl)⟩ rfl (gm_G.mono H (pL_elim (fun v23 h22 H' => ?_) (fun e31 h32 H => ?_)))
      · show gm_G _ 141 _ _ _ _
        replace H := H'
        clear H'
        obtain ⟨a24, rfl, H⟩ := H
        obtain ⟨ht25, H⟩ := H
        refine g_call rfl (y := 174) (n := 3) (pc' := 144) (g_vt ht25 rfl rfl) rfl rfl ⟨(Nat.le_of_ble_eq_true rfl), (Nat.le_of_ble_eq_true rfl), (Nat.le_of_ble_eq_true rfl)⟩ rfl (gm_G.mono H (pR_elim (fun r27 h26 H' => ?_) (fun e29 h30 H => ?_)))
        · show gm_G _ 144 _ _ _ _
          replace H := H'
          clear H'
          refine g_astore (r := _) rfl rfl rfl (pc' := 145) ?_
          refine g_aload (r := _) rfl rfl rfl (pc' := 146) ?_
          refine g_ifnull rfl (pc' := 149) (pt := 153) rfl rfl ⟨fun hc => ?_, fun a28 hc => ?_⟩
          · replace H := H.1 hc
            subst hc
            refine g_iconst rfl rfl rfl (pc' := 154) ?_
            exact g_weak (show gm_Lle [some _, some _, some _] _ from ⟨rfl, ⟨rfl, ⟨rfl, trivial⟩⟩⟩) H
          · replace H := H.2 a28 hc
            subst hc
            refine g_iconst rfl rfl rfl (pc' := 150) ?_
            refine g_goto rfl (pc' := 154) rfl ?_
            exact g_weak (show gm_Lle [some _, some _, some _] _ from ⟨rfl, ⟨rfl, ⟨rfl, trivial⟩⟩⟩) H
        · exact ⟨H.1, g_weak (show gm_Lle [some _] _ from ⟨rfl, trivial⟩) H.2⟩
      · exact ⟨H.1, g_weak (show gm_Lle [some _] _ from ⟨rfl, trivial⟩) H.2⟩
    · exact ⟨H.1, g_weak (show gm_Lle [some _] _ from ⟨rfl, trivial⟩) H.2⟩
set_option maxRecDepth 20000 in
theorem w_491_154 {a0 : Nat} {r_1 : Option Nat} {x2 : Int32} {y0 : Int32} {h : hh_T} {Q : Option Value ⊕ Nat → hh_T → Prop} (H : gm_G 431 0 [some (.int y0), some (.int (Int32.ofInt (-2)))] [] h (pV (fun h1 => gm_sub (hh_tg h1 a0) 0 = true ∧ (∀ r3, r3 = hh_r h1 a0 58 → (∀ r4, r4 = hh_r h1 a0 58 → (∃ a5, r4 = some a5 ∧ (gm_sub (hh_tg h1 a5) 12 = true ∧ (gm_G 18 0 [some (va_rf r3), some (.int x2), some (.int (hh_i h1 a5 1))] [] h1 (pI (fun v8 h7 => gm_G 491 99 [some (.ref a0), some (va_rf r_1), some (.int (v8 + (Int32.ofNat 1)))] [] h7 Q) (fun e9 h10 => hh_tg h10 e9 = 21 ∧ gm_G 491 189 [some (.ref a0)] [.ref e9] h10 Q)))))))) (fun e11 h12 => hh_tg h12 e11 = 21 ∧ gm_G 491 189 [some (.ref a0)] [.ref e11] h12 Q))) : gm_G 491 154 [some (.ref a0), some (va_rf r_1), some (.int x2)] [.int y0] h Q := by
  refine g_iconst rfl rfl rfl (pc' := 156) ?_
  refine g_call rfl (y := 431) (n := 2) (pc' := 159) (fun _ => rfl) rfl rfl ⟨(Nat.le_of_ble_eq_true rfl), (Nat.le_of_ble_eq_true rfl), (Nat.le_of_ble_eq_true rfl)⟩ rfl (gm_G.mono H (pV_elim (fun h1 H' => ?_) (fun e11 h12 H => ?_)))
  · show gm_G _ 159 _ _ _ _
    replace H := H'
    clear H'
    refine g_aload (r := some _) rfl rfl rfl (pc' := 160) ?_
    obtain ⟨ht2, H⟩ := H
    refine g_getRv rfl rfl rfl rfl ht2 (pc' := 163) rfl (fun r3 hr3 => ?_)
    replace H := H r3 hr3
    refine g_iload rfl rfl rfl (pc' := 164) ?_
    refine g_aload (r := some _) rfl rfl rfl (pc' := 165) ?_
    refine g_getRv rfl rfl rfl rfl ht2 (pc' := 168) rfl (fun r4 hr4 => ?_)
    replace H := H r4 hr4
    obtain ⟨a5, rfl, H⟩ := H
    obtain ⟨ht6, H⟩ := H
    refine g_getI rfl rfl rfl rfl ht6 (pc' := 171) rfl ?_
    refine g_call rfl (y := 18) (n := 3) (pc' := 174) (fun _ => rfl) (by cases r3 <;> rfl) rfl ⟨(Nat.le_of_ble_eq_true rfl), (Nat.le_of_ble_eq_true rfl), (Nat.le_of_ble_eq_true rfl)⟩ rfl (gm_G.mono H (pI_elim (fun v8 h7 H' => ?_) (fun e9 h10 H => ?_)))
    · show gm_G _ 174 _ _ _ _
      replace H := H'
      clear H'
      refine g_iconst rfl rfl rfl (pc' := 175) ?_
      refine g_iadd rfl rfl (pc' := 176) ?_
      refine g_istore rfl gm_sto_rf1 rfl (pc' := 177) ?_
      refine g_goto rfl (pc' := 99) rfl ?_
      exact g_weak (show gm_Lle [some _, some _, some _] _ from ⟨rfl, ⟨rfl, ⟨rfl, trivial⟩⟩⟩) H
    · exact ⟨H.1, g_weak (show gm_Lle [some _] _ from ⟨rfl, trivial⟩) H.2⟩
  · exact ⟨H.1, g_weak (show gm_Lle [some _] _ from ⟨rfl, trivial⟩) H.2⟩
set_option maxRecDepth 20000 in
theorem w_491_189 {a0 : Nat} {ex : Nat} {h : hh_T} {Q : Option Value ⊕ Nat → hh_T → Prop} (H : hh_tg h a0 = 1 ∧ (gm_G 1 0 [some (.ref a0), some (.ref ex)] [] h (pI (fun v3 h2 => Q (.inl (some (.int v3))) h2) (fun e4 h5 => hh_tg h5 e4 = 21 ∧ Q (.inr e4) h5)))) : gm_G 491 189 [some (.ref a0)] [.ref ex] h Q := by
  refine g_astore (r := some _) rfl rfl rfl (pc' := 190) ?_
  refine g_aload (r := some _) rfl rfl rfl (pc' := 191) ?_
  refine g_aload (r := some _) rfl rfl rfl (pc' := 192) ?_
  obtain ⟨ht1, H⟩ := H
  refine g_call rfl (y := 1) (n := 2) (pc' := 195) (g_vt ht1 rfl rfl) rfl rfl ⟨(Nat.le_of_ble_eq_true rfl), (Nat.le_of_ble_eq_true rfl), (Nat.le_of_ble_eq_true rfl)⟩ rfl (gm_G.mono H (pI_elim (fun v3 h2 H' => ?_) (fun e4 h5 H => ?_)))
  · show gm_G _ 195 _ _ _ _
    replace H := H'
    clear H'
    exact g_ireturn rfl (Or.inl rfl) H
  · exact H
set_option maxRecDepth 20000 in
theorem w_492_0 {a0 : Nat} {x1 : Int32} {h : hh_T} {Q : Option Value ⊕ Nat → hh_T → Prop} (H : hh_tg h a0 = 1 ∧ (gm_G 455 0 [some (.ref a0), some (.int x1)] [] h (pR (fun r3 h2 => ∃ a4, r3 = some a4 ∧ (gm_sub (hh_tg h2 a4) 24 = true ∧ (∀ r6, r6 = hh_r h2 a4 2 → (∃ a7, r6 = some a7 ∧ ((hh_tg h2 a7 = 104 ∨ 200 ≤ hh_tg h2 a7) ∧ (0 < hh_ln h2 a7 ∧ (∀ r10, r10 = hh_r h2 a7 0 → (∃ a11, r10 = some a11 ∧ (gm_sub (hh_tg h2 a11) 25 = true ∧ ((¬ (hh_i h2 a11 1) = (Int32.ofNat 2) → (gm_G 492 24 [none, none, some (.ref a4)] [.int (Int32.ofNat 0)] h2 Q)) ∧ ((hh_i h2 a11 1) = (Int32.ofNat 2) → (gm_G 492 24 [none, none, some (.ref a4)] [.int (Int32.ofNat 1)] h2 Q)))))))))))) (fun e13 h14 => hh_tg h14 e13 = 21 ∧ Q (.inr e13) h14)))) : gm_G 492 0 [some (.ref a0), some (.int x1)] [] h Q := by
  refine g_aload (r := some _) rfl rfl rfl (pc' := 1) ?_
  refine g_iload rfl rfl rfl (pc' := 2) ?_
  obtain ⟨ht1, H⟩ := H
  refine g_call rfl (y := 455) (n := 2) (pc' := 5) (g_vt ht1 rfl rfl) rfl rfl ⟨(Nat.le_of_ble_eq_true rfl), (Nat.le_of_ble_eq_true rfl), (Nat.le_of_ble_eq_true rfl)⟩ rfl (gm_G.mono H (pR_elim (fun r3 h2 H' => ?_) (fun e13 h14 H => ?_)))
  · show gm_G _ 5 _ _ _ _
    replace H := H'
    clear H'
    refine g_astore (r := _) rfl rfl rfl (pc' := 6) ?_
    refine g_aload (r := _) rfl rfl rfl (pc' := 7) ?_
    obtain ⟨a4, rfl, H⟩ := H
    obtain ⟨ht5, H⟩ := H
    refine g_getRv rfl rfl rfl rfl ht5 (pc' := 10) rfl (fun r6 hr6 => ?_)
    replace H := H r6 hr6
    refine g_iconst rfl rfl rfl (pc' := 11) ?_
    obtain ⟨a7, rfl, H⟩ := H
    obtain ⟨ht9, H⟩ := H
    obtain ⟨hn8, H⟩ := H
    refine g_aaloadv rfl ht9 ⟨rfl, by decide, hn8⟩ (pc' := 12) rfl (fun r10 hr10 => ?_)
    replace H := H r10 hr10
    obtain ⟨a11, rfl, H⟩ := H
    obtain ⟨ht12, H⟩ := H
    refine g_getI rfl rfl rfl rfl ht12 (pc' := 15) rfl ?_
    refine g_iconst rfl rfl rfl (pc' := 16) ?_
    refine g_ic_ne rfl (pc' := 19) (pt := 23) rfl rfl ⟨fun hc => ?_, fun hc => ?_⟩
    · replace H := H.1 hc
      refine g_iconst rfl rfl rfl (pc' := 24) ?_
      exact g_weak (show gm_Lle [none, none, some _] _ from ⟨rfl, trivial⟩) H
    · replace H := H.2 hc
      refine g_iconst rfl rfl rfl (pc' := 20) ?_
      refine g_goto rfl (pc' := 24) rfl ?_
      exact g_weak (show gm_Lle [none, none, some _] _ from ⟨rfl, trivial⟩) H
  · exact H
set_option maxRecDepth 20000 in
theorem w_492_24 {a0 : Nat} {r_2 : Option Nat} {y0 : Int32} {h : hh_T} {Q : Option Value ⊕ Nat → hh_T → Prop} (H : gm_G 431 0 [some (.int y0), some (.int (Int32.ofInt (-10)))] [] h (pV (fun h1 => Q (.inl (some (va_rf r_2))) h1) (fun e2 h3 => hh_tg h3 e2 = 21 ∧ Q (.inr e2) h3))) : gm_G 492 24 [none, none, some (va_rf r_2)] [.int y0] h Q := by
  refine g_iconst rfl rfl rfl (pc' := 26) ?_
  refine g_call rfl (y := 431) (n := 2) (pc' := 29) (fun _ => rfl) rfl rfl ⟨(Nat.le_of_ble_eq_true rfl), (Nat.le_of_ble_eq_true rfl), (Nat.le_of_ble_eq_true rfl)⟩ rfl (gm_G.mono H (pV_elim (fun h1 H' => ?_) (fun e2 h3 H => ?_)))
  · show gm_G _ 29 _ _ _ _
    replace H := H'
    clear H'
    refine g_aload (r := _) rfl rfl rfl (pc' := 30) ?_
    exact g_areturn (r := _) rfl H
  · exact H
set_option maxRecDepth 20000 in
theorem w_493_0  {x0 : Int32} {h : hh_T} {Q : Option Value ⊕ Nat → hh_T → Prop} (H : gm_G 5 0 [some (.int x0), some (.int (Int32.ofNat 0)), some (.int (Int32.ofNat 7))] [] h (pI (fun v2 h1 => gm_G 452 0 [some (.int v2)] [] h1 (pV (fun h3 => Q (.inl none) h3) (fun e4 h5 => hh_tg h5 e4 = 21 ∧ Q (.inr e4) h5))) (fun e6 h7 => hh_tg h7 e6 = 21 ∧ Q (.inr e6) h7))) : gm_G 493 0 [some (.int x0)] [] h Q := by
  refine g_iload rfl rfl rfl (pc' := 1) ?_
  refine g_iconst rfl rfl rfl (pc' := 2) ?_
  refine g_iconst rfl rfl rfl (pc' := 4) ?_
  refine g_call rfl (y := 5) (n := 3) (pc' := 7) (fun _ => rfl) rfl rfl ⟨(Nat.le_of_ble_eq_true rfl), (Nat.le_of_ble_eq_true rfl), (Nat.le_of_ble_eq_true rfl)⟩ rfl (gm_G.mono H (pI_elim (fun v2 h1 H' => ?_) (fun e6 h7 H => ?_)))
  · show gm_G _ 7 _ _ _ _
    replace H := H'
    clear H'
    refine g_call rfl (y := 452) (n := 1) (pc' := 10) (fun _ => rfl) rfl rfl ⟨(Nat.le_of_ble_eq_true rfl), (Nat.le_of_ble_eq_true rfl), (Nat.le_of_ble_eq_true rfl)⟩ rfl (gm_G.mono H (pV_elim (fun h3 H' => ?_) (fun e4 h5 H => ?_)))
    · show gm_G _ 10 _ _ _ _
      replace H := H'
      clear H'
      exact g_return rfl H
    · exact H
  · exact H
set_option maxRecDepth 20000 in
theorem w_494_0 {a0 : Nat} {x1 : Int32} {x2 : Int32} {x3 : Int32} {x4 : Int32} {h : hh_T} {Q : Option Value ⊕ Nat → hh_T → Prop} (H : hh_tg h a0 = 1 ∧ (gm_G 456 0 [some (.ref a0)] [] h (pV (fun h2 => gm_G 5 0 [some (.int x3), some (.int (Int32.ofNat 0)), some (.int (Int32.ofNat 7))] [] h2 (pI (fun v4 h3 => (v4 = Int32.ofNat 0 → (gm_G 494 29 [some (.ref a0), some (.int x1), some (.int x2), some (.int x3), some (.int x4)] [] h3 Q)) ∧ (¬ v4 = Int32.ofNat 0 → (gm_G 5 0 [some (.int x4), some (.int (Int32.ofNat 1)), some (.int (Int32.ofNat 7))] [] h3 (pI (fun v6 h5 => (v6 = Int32.ofNat 0 → (gm_G 494 29 [some (.ref a0), some (.int x1), some (.int x2), some (.int x3), some (.int x4)] [] h5 Q)) ∧ (¬ v6 = Int32.ofNat 0 → (gm_G 494 30 [some (.ref a0), some (.int x1), some (.int x2), some (.int x3), some (.int x4)] [.int (Int32.ofNat 1)] h5 Q))) (fun e7 h8 => hh_tg h8 e7 = 21 ∧ gm_G 494 62 [some (.ref a0)] [.ref e7] h8 Q))))) (fun e9 h10 => hh_tg h10 e9 = 21 ∧ gm_G 494 62 [some (.ref a0)] [.ref e9] h10 Q))) (fun e11 h12 => hh_tg h12 e11 = 21 ∧ gm_G 494 62 [some (.ref a0)] [.ref e11] h12 Q)))) : gm_G 494 0 [some (.ref a0), some (.int x1), some (.int x2), some (.int x3), some (.int x4)] [] h Q := by
  refine g_aload (r := some _) rfl rfl rfl (pc' := 1) ?_
  obtain ⟨ht1, H⟩ := H
  refine g_call rfl (y := 456) (n := 1) (pc' := 4) (g_vt ht1 rfl rfl) rfl rfl ⟨(Nat.le_of_ble_eq_true rfl), (Nat.le_of_ble_eq_true rfl), (Nat.le_of_ble_eq_true rfl)⟩ rfl (gm_G.mono H (pV_elim (fun h2 H' => ?_) (fun e11 h12 H => ?_)))
  · show gm_G _ 4 _ _ _ _
    replace H := H'
    clear H'
    refine g_iload rfl rfl rfl (pc' := 5) ?_
    refine g_iconst rfl rfl rfl (pc' := 6) ?_
    refine g_iconst rfl rfl rfl (pc' := 8) ?_
    refine g_call rfl (y := 5) (n := 3) (pc' := 11) (fun _ => rfl) rfl rfl ⟨(Nat.le_of_ble_eq_true rfl), (Nat.le_of_ble_eq_true rfl), (Nat.le_of_ble_eq_true rfl)⟩ rfl (gm_G.mono H (pI_elim (fun v4 h3 H' => ?_) (fun e9 h10 H => ?_)))
    · show gm_G _ 11 _ _ _ _
      replace H := H'
      clear H'
      refine g_if_eq rfl (pc' := 14) (pt := 29) rfl rfl ⟨fun hc => ?_, fun hc => ?_⟩
      · replace H := H.1 hc
        exact g_weak (show gm_Lle [some _, some _, some _, some _, some _] _ from ⟨rfl, ⟨rfl, ⟨rfl, ⟨rfl, ⟨rfl, trivial⟩⟩⟩⟩⟩) H
      · replace H := H.2 hc
        refine g_iload rfl rfl rfl (pc' := 16) ?_
        refine g_iconst rfl rfl rfl (pc' := 17) ?_
        refine g_iconst rfl rfl rfl (pc' := 19) ?_
        refine g_call rfl (y := 5) (n := 3) (pc' := 22) (fun _ => rfl) rfl rfl ⟨(Nat.le_of_ble_eq_true rfl), (Nat.le_of_ble_eq_true rfl), (Nat.le_of_ble_eq_true rfl)⟩ rfl (gm_G.mono H (pI_elim (fun v6 h5 H' => ?_) (fun e7 h8 H => ?_)))
        · show gm_G _ 22 _ _ _ _
          replace H := H'
          clear H'
          refine g_if_eq rfl (pc' := 25) (pt := 29) rfl rfl ⟨fun hc => ?_, fun hc => ?_⟩
          · replace H := H.1 hc
            exact g_weak (show gm_Lle [some _, some _, some _, some _, some _] _ from ⟨rfl, ⟨rfl, ⟨rfl, ⟨rfl, ⟨rfl, trivial⟩⟩⟩⟩⟩) H
          · replace H := H.2 hc
            refine g_iconst rfl rfl rfl (pc' := 26) ?_
            refine g_goto rfl (pc' := 30) rfl ?_
            exact g_weak (show gm_Lle [some _, some _, some _, some _, some _] _ from ⟨rfl, ⟨rfl, ⟨rfl, ⟨rfl, ⟨rfl, trivial⟩⟩⟩⟩⟩) H
        · exact ⟨H.1, g_weak (show gm_Lle [some _] _ from ⟨rfl, trivial⟩) H.2⟩
    · exact ⟨H.1, g_weak (show gm_Lle [some _] _ from ⟨rfl, trivial⟩) H.2⟩
  · exact ⟨H.1, g_weak (show gm_Lle [some _] _ from ⟨rfl, trivial⟩) H.2⟩
set_option maxRecDepth 20000 in
theorem w_494_29 {a0 : Nat} {x1 : Int32} {x2 : Int32} {x3 : Int32} {x4 : Int32} {h : hh_T} {Q : Option Value ⊕ Nat → hh_T → Prop} (H : gm_G 494 30 [some (.ref a0), some (.int x1), some (.int x2), some (.int x3), some (.int x4)] [.int (Int32.ofNat 0)] h Q) : gm_G 494 29 [some (.ref a0), some (.int x1), some (.int x2), some (.int x3), some (.int x4)] [] h Q := by
  refine g_iconst rfl rfl rfl (pc' := 30) ?_
  exact g_weak (show gm_Lle [some _, some _, some _, some _, some _] _ from ⟨rfl, ⟨rfl, ⟨rfl, ⟨rfl, ⟨rfl, trivial⟩⟩⟩⟩⟩) H
set_option maxRecDepth 20000 in
theorem w_494_30 {a0 : Nat} {x1 : Int32} {x2 : Int32} {x3 : Int32} {x4 : Int32} {y0 : Int32} {h : hh_T} {Q : Option Value ⊕ Nat → hh_T → Prop} (H : gm_G 452 0 [some (.int y0)] [] h (pV (fun h1 => hh_tg h1 a0 = 1 ∧ (gm_G 455 0 [some (.ref a0), some (.int x1)] [] h1 (pR (fun r4 h3 => gm_G 448 0 [some (va_rf r4), some (.int x2)] [] h3 (pR (fun r6 h5 => hh_tg h5 a0 = 1 ∧ (gm_G 393 0 [some (.ref a0), some (va_rf r6), some (.int x3), some (.int x4)] [] h5 (pI (fun v9 h8 => (v9 = Int32.ofNat 0 → (gm_G 494 58 [some (.ref a0)] [.int (Int32.ofNat 0), .ref a0] h8 Q)) ∧ (¬ v9 = Int32.ofNat 0 → (gm_G 494 58 [some (.ref a0)] [.int (Int32.ofNat 1), .ref a0] h8 Q))) (fun e10 h11 => hh_tg h11 e10 = 21 ∧ gm_G 494 62 [some (.ref a0)] [.ref e10] h11 Q)))) (fun e12 h13 => hh_tg h13 e12 = 21 ∧ gm_G 494 62 [some (.ref a0)] [.ref e12] h13 Q))) (fun e14 h15 => hh_tg h15 e14 = 21 ∧ gm_G 494 62 [some (.ref a0)] [.ref e14] h15 Q)))) (fun e16 h17 => hh_tg h17 e16 = 21 ∧ gm_G 494 62 [some (.ref a0)] [.ref e16] h17 Q))) : gm_G 494 30 [some (.ref a0), some (.int x1), some (.int x2), some (.int x3), some (.int x4)] [.int y0] h Q := by
  refine g_call rfl (y := 452) (n := 1) (pc' := 33) (fun _ => rfl) rfl rfl ⟨(Nat.le_of_ble_eq_true rfl), (Nat.le_of_ble_eq_true rfl), (Nat.le_of_ble_eq_true rfl)⟩ rfl (gm_G.mono H (pV_elim (fun h1 H' => ?_) (fun e16 h17 H => ?_)))
  · show gm_G _ 33 _ _ _ _
    replace H := H'
    clear H'
    refine g_aload (r := some _) rfl rfl rfl (pc' := 34) ?_
    refine g_aload (r := some _) rfl rfl rfl (pc' := 35) ?_
    refine g_aload (r := some _) rfl rfl rfl (pc' := 36) ?_
    refine g_iload rfl rfl rfl (pc' := 37) ?_
    obtain ⟨ht2, H⟩ := H
    refine g_call rfl (y := 455) (n := 2) (pc' := 40) (g_vt ht2 rfl rfl) rfl rfl ⟨(Nat.le_of_ble_eq_true rfl), (Nat.le_of_ble_eq_true rfl), (Nat.le_of_ble_eq_true rfl)⟩ rfl (gm_G.mono H (pR_elim (fun r4 h3 H' => ?_) (fun e14 h15 H => ?_)))
    · show gm_G _ 40 _ _ _ _
      replace H := H'
      clear H'
      refine g_iload rfl rfl rfl (pc' := 41) ?_
      refine g_call rfl (y := 448) (n := 2) (pc' := 44) (fun _ => rfl) (by cases r4 <;> rfl) rfl ⟨(Nat.le_of_ble_eq_true rfl), (Nat.le_of_ble_eq_true rfl), (Nat.le_of_ble_eq_true rfl)⟩ rfl (gm_G.mono H (pR_elim (fun r6 h5 H' => ?_) (fun e12 h13 H => ?_)))
      · show gm_G _ 44 _ _ _ _
        replace H := H'
        clear H'
        refine g_iload rfl rfl rfl (pc' := 45) ?_
        refine g_iload rfl rfl rfl (pc' := 47) ?_
        obtain ⟨ht7, H⟩ := H
        refine g_call rfl (y := 393) (n := 4) (pc' := 50) (g_vt ht7 rfl rfl) (by cases r6 <;> rfl) rfl ⟨(Nat.le_of_ble_eq_true rfl), (Nat.le_of_ble_eq_true rfl), (Nat.le_of_ble_eq_true rfl)⟩ rfl (gm_G.mono H (pI_elim (fun v9 h8 H' => ?_) (fun e10 h11 H => ?_)))
        · show gm_G _ 50 _ _ _ _
          replace H := H'
          clear H'
          refine g_if_eq rfl (pc' := 53) (pt := 57) rfl rfl ⟨fun hc => ?_, fun hc => ?_⟩
          · replace H := H.1 hc
            refine g_iconst rfl rfl rfl (pc' := 58) ?_
            exact g_weak (show gm_Lle [some _] _ from ⟨rfl, trivial⟩) H
          · replace H := H.2 hc
            refine g_iconst rfl rfl rfl (pc' := 54) ?_
            refine g_goto rfl (pc' := 58) rfl ?_
            exact g_weak (show gm_Lle [some _] _ from ⟨rfl, trivial⟩) H
        · exact ⟨H.1, g_weak (show gm_Lle [some _] _ from ⟨rfl, trivial⟩) H.2⟩
      · exact ⟨H.1, g_weak (show gm_Lle [some _] _ from ⟨rfl, trivial⟩) H.2⟩
    · exact ⟨H.1, g_weak (show gm_Lle [some _] _ from ⟨rfl, trivial⟩) H.2⟩
  · exact ⟨H.1, g_weak (show gm_Lle [some _] _ from ⟨rfl, trivial⟩) H.2⟩
set_option maxRecDepth 20000 in
theorem w_494_58 {a0 : Nat} {y0 : Int32} {q1 : Option Nat} {h : hh_T} {Q : Option Value ⊕ Nat → hh_T → Prop} (H : ∃ a1, q1 = some a1 ∧ (hh_tg h a1 = 1 ∧ (gm_G 4 0 [some (.ref a1), some (.int y0)] [] h (pI (fun v4 h3 => Q (.inl (some (.int v4))) h3) (fun e5 h6 => hh_tg h6 e5 = 21 ∧ gm_G 494 62 [some (.ref a0)] [.ref e5] h6 Q))))) : gm_G 494 58 [some (.ref a0)] [.int y0, va_rf q1] h Q := by
  obtain ⟨a1, rfl, H⟩ := H
  obtain ⟨ht2, H⟩ := H
  refine g_call rfl (y := 4) (n := 2) (pc' := 61) (g_vt ht2 rfl rfl) rfl rfl ⟨(Nat.le_of_ble_eq_true rfl), (Nat.le_of_ble_eq_true rfl), (Nat.le_of_ble_eq_true rfl)⟩ rfl (gm_G.mono H (pI_elim (fun v4 h3 H' => ?_) (fun e5 h6 H => ?_)))
  · show gm_G _ 61 _ _ _ _
    replace H := H'
    clear H'
    exact g_ireturn rfl (Or.inl rfl) H
  · exact ⟨H.1, g_weak (show gm_Lle [some _] _ from ⟨rfl, trivial⟩) H.2⟩
set_option maxRecDepth 20000 in
theorem w_494_62 {a0 : Nat} {ex : Nat} {h : hh_T} {Q : Option Value ⊕ Nat → hh_T → Prop} (H : hh_tg h a0 = 1 ∧ (gm_G 1 0 [some (.ref a0), some (.ref ex)] [] h (pI (fun v3 h2 => Q (.inl (some (.int v3))) h2) (fun e4 h5 => hh_tg h5 e4 = 21 ∧ Q (.inr e4) h5)))) : gm_G 494 62 [some (.ref a0)] [.ref ex] h Q := by
  refine g_astore (r := some _) rfl rfl rfl (pc' := 64) ?_
  refine g_aload (r := some _) rfl rfl rfl (pc' := 65) ?_
  refine g_aload (r := some _) rfl rfl rfl (pc' := 67) ?_
  obtain ⟨ht1, H⟩ := H
  refine g_call rfl (y := 1) (n := 2) (pc' := 70) (g_vt ht1 rfl rfl) rfl rfl ⟨(Nat.le_of_ble_eq_true rfl), (Nat.le_of_ble_eq_true rfl), (Nat.le_of_ble_eq_true rfl)⟩ rfl (gm_G.mono H (pI_elim (fun v3 h2 H' => ?_) (fun e4 h5 H => ?_)))
  · show gm_G _ 70 _ _ _ _
    replace H := H'
    clear H'
    exact g_ireturn rfl (Or.inl rfl) H
  · exact H
set_option maxRecDepth 20000 in
theorem w_495_0 {a0 : Nat} {x1 : Int32} {x2 : Int32} {h : hh_T} {Q : Option Value ⊕ Nat → hh_T → Prop} (H : hh_tg h a0 = 1 ∧ (gm_G 456 0 [some (.ref a0)] [] h (pV (fun h2 => gm_G 5 0 [some (.int x2), some (.int (Int32.ofNat 0)), some (.int (Int32.ofNat 4))] [] h2 (pI (fun v4 h3 => gm_G 452 0 [some (.int v4)] [] h3 (pV (fun h5 => gm_sub (hh_tg h5 a0) 0 = true ∧ (∀ r7, r7 = hh_r h5 a0 33 → (hh_tg h5 a0 = 1 ∧ (gm_G 453 0 [some (.ref a0), some (.int x1)] [] h5 (pR (fun r10 h9 => ∃ a11, r7 = some a11 ∧ (hh_tg h9 a11 = 23 ∧ (gm_G 311 0 [some (.ref a11), some (va_rf r10), some (.int x2)] [] h9 (pI (fun v14 h13 => hh_tg h13 a0 = 1 ∧ (gm_G 4 0 [some (.ref a0), some (.int v14)] [] h13 (pI (fun v17 h16 => Q (.inl (some (.int v17))) h16) (fun e18 h19 => hh_tg h19 e18 = 21 ∧ gm_G 495 31 [some (.ref a0)] [.ref e18] h19 Q)))) (fun e20 h21 => hh_tg h21 e20 = 21 ∧ gm_G 495 31 [some (.ref a0)] [.ref e20] h21 Q))))) (fun e22 h23 => hh_tg h23 e22 = 21 ∧ gm_G 495 31 [some (.ref a0)] [.ref e22] h23 Q)))))) (fun e24 h25 => hh_tg h25 e24 = 21 ∧ gm_G 495 31 [some (.ref a0)] [.ref e24] h25 Q))) (fun e26 h27 => hh_tg h27 e26 = 21 ∧ gm_G 495 31 [some (.ref a0)] [.ref e26] h27 Q))) (fun e28 h29 => hh_tg h29 e28 = 21 ∧ gm_G 495 31 [some (.ref a0)] [.ref e28] h29 Q)))) : gm_G 495 0 [some (.ref a0), some (.int x1), some (.int x2)] [] h Q := by
  refine g_aload (r := some _) rfl rfl rfl (pc' := 1) ?_
  obtain ⟨ht1, H⟩ := H
  refine g_call rfl (y := 456) (n := 1) (pc' := 4) (g_vt ht1 rfl rfl) rfl rfl ⟨(Nat.le_of_ble_eq_true rfl), (Nat.le_of_ble_eq_true rfl), (Nat.le_of_ble_eq_true rfl)⟩ rfl (gm_G.mono H (pV_elim (fun h2 H' => ?_) (fun e28 h29 H => ?_)))
  · show gm_G _ 4 _ _ _ _
    replace H := H'
    clear H'
    refine g_iload rfl rfl rfl (pc' := 5) ?_
    refine g_iconst rfl rfl rfl (pc' := 6) ?_
    refine g_iconst rfl rfl rfl (pc' := 7) ?_
    refine g_call rfl (y := 5) (n := 3) (pc' := 10) (fun _ => rfl) rfl rfl ⟨(Nat.le_of_ble_eq_true rfl), (Nat.le_of_ble_eq_true rfl), (Nat.le_of_ble_eq_true rfl)⟩ rfl (gm_G.mono H (pI_elim (fun v4 h3 H' => ?_) (fun e26 h27 H => ?_)))
    · show gm_G _ 10 _ _ _ _
      replace H := H'
      clear H'
      refine g_call rfl (y := 452) (n := 1) (pc' := 13) (fun _ => rfl) rfl rfl ⟨(Nat.le_of_ble_eq_true rfl), (Nat.le_of_ble_eq_true rfl), (Nat.le_of_ble_eq_true rfl)⟩ rfl (gm_G.mono H (pV_elim (fun h5 H' => ?_) (fun e24 h25 H => ?_)))
      · show gm_G _ 13 _ _ _ _
        replace H := H'
        clear H'
        refine g_aload (r := some _) rfl rfl rfl (pc' := 14) ?_
        refine g_aload (r := some _) rfl rfl rfl (pc' := 15) ?_
        obtain ⟨ht6, H⟩ := H
        refine g_getRv rfl rfl rfl rfl ht6 (pc' := 18) rfl (fun r7 hr7 => ?_)
        replace H := H r7 hr7
        refine g_aload (r := some _) rfl rfl rfl (pc' := 19) ?_
        refine g_iload rfl rfl rfl (pc' := 20) ?_
        obtain ⟨ht8, H⟩ := H
        refine g_call rfl (y := 453) (n := 2) (pc' := 23) (g_vt ht8 rfl rfl) rfl rfl ⟨(Nat.le_of_ble_eq_true rfl), (Nat.le_of_ble_eq_true rfl), (Nat.le_of_ble_eq_true rfl)⟩ rfl (gm_G.mono H (pR_elim (fun r10 h9 H' => ?_) (fun e22 h23 H => ?_)))
        · show gm_G _ 23 _ _ _ _
          replace H := H'
          clear H'
          refine g_iload rfl rfl rfl (pc' := 24) ?_
          obtain ⟨a11, rfl, H⟩ := H
          obtain ⟨ht12, H⟩ := H
          refine g_call rfl (y := 311) (n := 3) (pc' := 27) (g_vt ht12 rfl rfl) (by cases r10 <;> rfl) rfl ⟨(Nat.le_of_ble_eq_true rfl), (Nat.le_of_ble_eq_true rfl), (Nat.le_of_ble_eq_true rfl)⟩ rfl (gm_G.mono H (pI_elim (fun v14 h13 H' => ?_) (fun e20 h21 H => ?_)))
          · show gm_G _ 27 _ _ _ _
            replace H := H'
            clear H'
            obtain ⟨ht15, H⟩ := H
            refine g_call rfl (y := 4) (n := 2) (pc' := 30) (g_vt ht15 rfl rfl) rfl rfl ⟨(Nat.le_of_ble_eq_true rfl), (Nat.le_of_ble_eq_true rfl), (Nat.le_of_ble_eq_true rfl)⟩ rfl (gm_G.mono H (pI_elim (fun v17 h16 H' => ?_) (fun e18 h19 H => ?_)))
            · show gm_G _ 30 _ _ _ _
              replace H := H'
              clear H'
              exact g_ireturn rfl (Or.inl rfl) H
            · exact ⟨H.1, g_weak (show gm_Lle [some _] _ from ⟨rfl, trivial⟩) H.2⟩
          · exact ⟨H.1, g_weak (show gm_Lle [some _] _ from ⟨rfl, trivial⟩) H.2⟩
        · exact ⟨H.1, g_weak (show gm_Lle [some _] _ from ⟨rfl, trivial⟩) H.2⟩
      · exact ⟨H.1, g_weak (show gm_Lle [some _] _ from ⟨rfl, trivial⟩) H.2⟩
    · exact ⟨H.1, g_weak (show gm_Lle [some _] _ from ⟨rfl, trivial⟩) H.2⟩
  · exact ⟨H.1, g_weak (show gm_Lle [some _] _ from ⟨rfl, trivial⟩) H.2⟩
set_option maxRecDepth 20000 in
theorem w_495_31 {a0 : Nat} {ex : Nat} {h : hh_T} {Q : Option Value ⊕ Nat → hh_T → Prop} (H : hh_tg h a0 = 1 ∧ (gm_G 1 0 [some (.ref a0), some (.ref ex)] [] h (pI (fun v3 h2 => Q (.inl (some (.int v3))) h2) (fun e4 h5 => hh_tg h5 e4 = 21 ∧ Q (.inr e4) h5)))) : gm_G 495 31 [some (.ref a0)] [.ref ex] h Q := by
  refine g_astore (r := some _) rfl rfl rfl (pc' := 32) ?_
  refine g_aload (r := some _) rfl rfl rfl (pc' := 33) ?_
  refine g_aload (r := some _) rfl rfl rfl (pc' := 34) ?_
  obtain ⟨ht1, H⟩ := H
  refine g_call rfl (y := 1) (n := 2) (pc' := 37) (g_vt ht1 rfl rfl) rfl rfl ⟨(Nat.le_of_ble_eq_true rfl), (Nat.le_of_ble_eq_true rfl), (Nat.le_of_ble_eq_true rfl)⟩ rfl (gm_G.mono H (pI_elim (fun v3 h2 H' => ?_) (fun e4 h5 H => ?_)))
  · show gm_G _ 37 _ _ _ _
    replace H := H'
    clear H'
    exact g_ireturn rfl (Or.inl rfl) H
  · exact H
set_option maxRecDepth 20000 in
theorem w_496_0 {a0 : Nat} {r_1 : Option Nat} {h : hh_T} {Q : Option Value ⊕ Nat → hh_T → Prop} (H : gm_G 496 2 [some (.ref a0), some (va_rf r_1), some (.int (Int32.ofNat 0))] [] h Q) : gm_G 496 0 [some (.ref a0), some (va_rf r_1)] [] h Q := by
  refine g_iconst rfl rfl rfl (pc' := 1) ?_
  refine g_istore rfl gm_sto_rf1 rfl (pc' := 2) ?_
  exact g_weak (show gm_Lle [some _, some _, some _] _ from ⟨rfl, ⟨rfl, ⟨rfl, trivial⟩⟩⟩) H
set_option maxRecDepth 20000 in
theorem w_496_2 {a0 : Nat} {r_1 : Option Nat} {x2 : Int32} {h : hh_T} {Q : Option Value ⊕ Nat → hh_T → Prop} (H : ∃ a1, r_1 = some a1 ∧ (gm_sub (hh_tg h a1) 22 = true ∧ ((¬ x2 < (hh_i h a1 2) → (gm_G 496 28 [some (.ref a0), some (.ref a1), some (.int (Int32.ofNat 0))] [] h Q)) ∧ (x2 < (hh_i h a1 2) → (∀ r3, r3 = hh_r h a1 0 → (∃ a4, r3 = some a4 ∧ ((hh_tg h a4 = 104 ∨ 200 ≤ hh_tg h a4) ∧ (∃ n5, gm_ix x2 n5 (hh_ln h a4) ∧ (∀ r7, r7 = hh_r h a4 n5 → (hh_tg h a0 = 1 ∧ (gm_G 450 0 [some (.ref a0), some (va_rf r7)] [] h (pV (fun h9 => gm_G 496 2 [some (.ref a0), some (.ref a1), some (.int (x2 + (Int32.ofNat 1)))] [] h9 Q) (fun e10 h11 => hh_tg h11 e10 = 21 ∧ Q (.inr e10) h11))))))))))))) : gm_G 496 2 [some (.ref a0), some (va_rf r_1), some (.int x2)] [] h Q := by
  refine g_iload rfl rfl rfl (pc' := 3) ?_
  refine g_aload (r := _) rfl rfl rfl (pc' := 4) ?_
  obtain ⟨a1, rfl, H⟩ := H
  obtain ⟨ht2, H⟩ := H
  refine g_getI rfl rfl rfl rfl ht2 (pc' := 7) rfl ?_
  refine g_ic_ge rfl (pc' := 10) (pt := 26) rfl rfl ⟨fun hc => ?_, fun hc => ?_⟩
  · replace H := H.1 hc
    refine g_iconst rfl rfl rfl (pc' := 27) ?_
    refine g_istore rfl rfl rfl (pc' := 28) ?_
    exact g_weak (show gm_Lle [some _, some _, some _] _ from ⟨rfl, ⟨rfl, ⟨rfl, trivial⟩⟩⟩) H
  · replace H := H.2 hc
    refine g_aload (r := some _) rfl rfl rfl (pc' := 11) ?_
    refine g_aload (r := some _) rfl rfl rfl (pc' := 12) ?_
    refine g_getRv rfl rfl rfl rfl ht2 (pc' := 15) rfl (fun r3 hr3 => ?_)
    replace H := H r3 hr3
    refine g_iload rfl rfl rfl (pc' := 16) ?_
    obtain ⟨a4, rfl, H⟩ := H
    obtain ⟨ht6, H⟩ := H
    obtain ⟨n5, hn5, H⟩ := H
    refine g_aaloadv rfl ht6 hn5 (pc' := 17) rfl (fun r7 hr7 => ?_)
    replace H := H r7 hr7
    obtain ⟨ht8, H⟩ := H
    refine g_call rfl (y := 450) (n := 2) (pc' := 20) (g_vt ht8 rfl rfl) (by cases r7 <;> rfl) rfl ⟨(Nat.le_of_ble_eq_true rfl), (Nat.le_of_ble_eq_true rfl), (Nat.le_of_ble_eq_true rfl)⟩ rfl (gm_G.mono H (pV_elim (fun h9 H' => ?_) (fun e10 h11 H => ?_)))
    · show gm_G _ 20 _ _ _ _
      replace H := H'
      clear H'
      refine g_iinc (c := (Int32.ofNat 1)) rfl rfl rfl rfl rfl (pc' := 23) ?_
      refine g_goto rfl (pc' := 2) rfl ?_
      exact g_weak (show gm_Lle [some _, some _, some _] _ from ⟨rfl, ⟨rfl, ⟨rfl, trivial⟩⟩⟩) H
    · exact H
set_option maxRecDepth 20000 in
theorem w_496_28 {a0 : Nat} {r_1 : Option Nat} {x2 : Int32} {h : hh_T} {Q : Option Value ⊕ Nat → hh_T → Prop} (H : ∃ a1, r_1 = some a1 ∧ (gm_sub (hh_tg h a1) 22 = true ∧ ((¬ x2 < (hh_i h a1 3) → (gm_sub (hh_tg h a0) 0 = true ∧ (∀ r4, r4 = hh_r h a0 40 → (∀ h5, h5 = hh_wr h a1 7 r4 → (∀ h6, h6 = hh_wr h5 a0 40 (some a1) → (Q (.inl none) h6)))))) ∧ (x2 < (hh_i h a1 3) → (∀ r7, r7 = hh_r h a1 1 → (∃ a8, r7 = some a8 ∧ ((hh_tg h a8 = 104 ∨ 200 ≤ hh_tg h a8) ∧ (∃ n9, gm_ix x2 n9 (hh_ln h a8) ∧ (∀ r11, r11 = hh_r h a8 n9 → (hh_tg h a0 = 1 ∧ (gm_G 451 0 [some (.ref a0), some (va_rf r11)] [] h (pV (fun h13 => gm_G 496 28 [some (.ref a0), some (.ref a1), some (.int (x2 + (Int32.ofNat 1)))] [] h13 Q) (fun e14 h15 => hh_tg h15 e14 = 21 ∧ Q (.inr e14) h15))))))))))))) : gm_G 496 28 [some (.ref a0), some (va_rf r_1), some (.int x2)] [] h Q := by
  refine g_iload rfl rfl rfl (pc' := 29) ?_
  refine g_aload (r := _) rfl rfl rfl (pc' := 30) ?_
  obtain ⟨a1, rfl, H⟩ := H
  obtain ⟨ht2, H⟩ := H
  refine g_getI rfl rfl rfl rfl ht2 (pc' := 33) rfl ?_
  refine g_ic_ge rfl (pc' := 36) (pt := 52) rfl rfl ⟨fun hc => ?_, fun hc => ?_⟩
  · replace H := H.1 hc
    refine g_aload (r := some _) rfl rfl rfl (pc' := 53) ?_
    refine g_aload (r := some _) rfl rfl rfl (pc' := 54) ?_
    obtain ⟨ht3, H⟩ := H
    refine g_getRv rfl rfl rfl rfl ht3 (pc' := 57) rfl (fun r4 hr4 => ?_)
    replace H := H r4 hr4
    refine g_putR rfl rfl rfl rfl ht2  (pc' := 60) rfl ?_
    replace H := H _ rfl
    refine g_aload (r := some _) rfl rfl rfl (pc' := 61) ?_
    refine g_aload (r := some _) rfl rfl rfl (pc' := 62) ?_
    refine g_putR (x := some _) rfl rfl rfl rfl ht3  (pc' := 65) rfl ?_
    replace H := H _ rfl
    exact g_return rfl H
  · replace H := H.2 hc
    refine g_aload (r := some _) rfl rfl rfl (pc' := 37) ?_
    refine g_aload (r := some _) rfl rfl rfl (pc' := 38) ?_
    refine g_getRv rfl rfl rfl rfl ht2 (pc' := 41) rfl (fun r7 hr7 => ?_)
    replace H := H r7 hr7
    refine g_iload rfl rfl rfl (pc' := 42) ?_
    obtain ⟨a8, rfl, H⟩ := H
    obtain ⟨ht10, H⟩ := H
    obtain ⟨n9, hn9, H⟩ := H
    refine g_aaloadv rfl ht10 hn9 (pc' := 43) rfl (fun r11 hr11 => ?_)
    replace H := H r11 hr11
    obtain ⟨ht12, H⟩ := H
    refine g_call rfl (y := 451) (n := 2) (pc' := 46) (g_vt ht12 rfl rfl) (by cases r11 <;> rfl) rfl ⟨(Nat.le_of_ble_eq_true rfl), (Nat.le_of_ble_eq_true rfl), (Nat.le_of_ble_eq_true rfl)⟩ rfl (gm_G.mono H (pV_elim (fun h13 H' => ?_) (fun e14 h15 H => ?_)))
    · show gm_G _ 46 _ _ _ _
      replace H := H'
      clear H'
      refine g_iinc (c := (Int32.ofNat 1)) rfl rfl rfl rfl rfl (pc' := 49) ?_
      refine g_goto rfl (pc' := 28) rfl ?_
      exact g_weak (show gm_Lle [some _, some _, some _] _ from ⟨rfl, ⟨rfl, ⟨rfl, trivial⟩⟩⟩) H
    · exact H
