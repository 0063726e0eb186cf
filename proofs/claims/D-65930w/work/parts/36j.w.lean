/-! STAGE 2, 7: the component, label by label (printed) -/
set_option maxRecDepth 20000 in
theorem w_596_145 {a0 : Nat} {r_1 : Option Nat} {r_2 : Option Nat} {x4 : Int32} {x5 : Int32} {r_6 : Option Nat} {q0 : Option Nat} {h : hh_T} {Q : Option Value ⊕ Nat → hh_T → Prop} (H : (∀ a1, r_6 = some a1 → ((q0 = none → (gm_G 596 198 [some (.ref a0), some (va_rf r_1), some (va_rf r_2), none, some (.int x4), some (.int x5), some (.ref a1), some (va_rf none)] [] h Q)) ∧ (∀ a2, q0 = some a2 → (gm_sub (hh_tg h a2) 25 = true ∧ (gm_sub (hh_tg h a1) 25 = true ∧ (((hh_i h a2 8) = (hh_i h a1 8) → (gm_G 596 198 [some (.ref a0), some (va_rf r_1), some (va_rf r_2), none, some (.int x4), some (.int x5), some (.ref a1), some (.ref a2)] [] h Q)) ∧ (¬ (hh_i h a2 8) = (hh_i h a1 8) → (gm_G 596 198 [some (.ref a0), some (va_rf r_1), some (va_rf r_2), none, some (.int x4), some (.int x5), some (.ref a1), some (va_rf none)] [] h Q)))))))) ∧ (r_6 = none → ((q0 = none → (gm_G 596 390 [some (.ref a0), some (va_rf r_1), some (va_rf r_2), none, some (.int x4), some (.int x5)] [] h Q)) ∧ (∀ a5, q0 = some a5 → (gm_sub (hh_tg h a0) 0 = true ∧ (∀ r7, r7 = hh_r h a0 54 → (∃ a8, r7 = some a8 ∧ (hh_tg h a8 = 13 ∧ (gm_G 459 0 [some (.ref a8), some (.int (Int32.ofNat 4))] [] h (pV (fun h10 => gm_sub (hh_tg h10 a0) 0 = true ∧ (∀ r12, r12 = hh_r h10 a0 54 → (∃ a13, r12 = some a13 ∧ (hh_tg h10 a13 = 13 ∧ (gm_G 459 0 [some (.ref a13), some (.int x5)] [] h10 (pV (fun h15 => gm_G 596 390 [some (.ref a0), some (va_rf r_1), some (va_rf r_2), none, some (.int x4), some (.int x5)] [] h15 Q) (fun e16 h17 => hh_tg h17 e16 = 21 ∧ Q (.inr e16) h17))))))) (fun e18 h19 => hh_tg h19 e18 = 21 ∧ Q (.inr e18) h19))))))))))) : gm_G 596 145 [some (.ref a0), some (va_rf r_1), some (va_rf r_2), none, some (.int x4), some (.int x5), some (va_rf r_6)] [va_rf q0] h Q := by
  refine g_astore (r := _) rfl gm_sto_rf6 rfl (pc' := 147) ?_
  refine g_aload (r := _) rfl rfl rfl (pc' := 149) ?_
  refine g_ifnonnull rfl (pc' := 152) (pt := 177) rfl rfl ⟨fun a1 hc => ?_, fun hc => ?_⟩
  · replace H := H.1 a1 hc
    subst hc
    refine g_aload (r := _) rfl rfl rfl (pc' := 179) ?_
    refine g_ifnull rfl (pc' := 182) (pt := 198) rfl rfl ⟨fun hc => ?_, fun a2 hc => ?_⟩
    · replace H := H.1 hc
      subst hc
      exact g_weak (show gm_Lle [some _, some _, some _, none, some _, some _, some _, some _] _ from ⟨rfl, ⟨rfl, ⟨rfl, ⟨rfl, ⟨rfl, ⟨rfl, ⟨rfl, trivial⟩⟩⟩⟩⟩⟩⟩) H
    · replace H := H.2 a2 hc
      subst hc
      refine g_aload (r := some _) rfl rfl rfl (pc' := 184) ?_
      obtain ⟨ht3, H⟩ := H
      refine g_getI rfl rfl rfl rfl ht3 (pc' := 187) rfl ?_
      refine g_aload (r := some _) rfl rfl rfl (pc' := 189) ?_
      obtain ⟨ht4, H⟩ := H
      refine g_getI rfl rfl rfl rfl ht4 (pc' := 192) rfl ?_
      refine g_ic_eq rfl (pc' := 195) (pt := 198) rfl rfl ⟨fun hc => ?_, fun hc => ?_⟩
      · replace H := H.1 hc
        exact g_weak (show gm_Lle [some _, some _, some _, none, some _, some _, some _, some _] _ from ⟨rfl, ⟨rfl, ⟨rfl, ⟨rfl, ⟨rfl, ⟨rfl, ⟨rfl, trivial⟩⟩⟩⟩⟩⟩⟩) H
      · replace H := H.2 hc
        refine g_null rfl rfl (pc' := 196) ?_
        refine g_astore (r := _) rfl rfl rfl (pc' := 198) ?_
        exact g_weak (show gm_Lle [some _, some _, some _, none, some _, some _, some _, some _] _ from ⟨rfl, ⟨rfl, ⟨rfl, ⟨rfl, ⟨rfl, ⟨rfl, ⟨rfl, trivial⟩⟩⟩⟩⟩⟩⟩) H
  · replace H := H.2 hc
    subst hc
    refine g_aload (r := _) rfl rfl rfl (pc' := 154) ?_
    refine g_ifnull rfl (pc' := 157) (pt := 390) rfl rfl ⟨fun hc => ?_, fun a5 hc => ?_⟩
    · replace H := H.1 hc
      subst hc
      exact g_weak (show gm_Lle [some _, some _, some _, none, some _, some _] _ from ⟨rfl, ⟨rfl, ⟨rfl, ⟨rfl, ⟨rfl, trivial⟩⟩⟩⟩⟩) H
    · replace H := H.2 a5 hc
      subst hc
      refine g_aload (r := some _) rfl rfl rfl (pc' := 158) ?_
      obtain ⟨ht6, H⟩ := H
      refine g_getRv rfl rfl rfl rfl ht6 (pc' := 161) rfl (fun r7 hr7 => ?_)
      replace H := H r7 hr7
      refine g_iconst rfl rfl rfl (pc' := 162) ?_
      obtain ⟨a8, rfl, H⟩ := H
      obtain ⟨ht9, H⟩ := H
      refine g_call rfl (y := 459) (n := 2) (pc' := 165) (g_vt ht9 rfl rfl) rfl rfl ⟨(Nat.le_of_ble_eq_true rfl), (Nat.le_of_ble_eq_true rfl), (Nat.le_of_ble_eq_true rfl)⟩ rfl (gm_G.mono H (pV_elim (fun h10 H' => ?_) (fun e18 h19 H => ?_)))
      · show gm_G _ 165 _ _ _ _
        replace H := H'
        clear H'
        refine g_aload (r := some _) rfl rfl rfl (pc' := 166) ?_
        obtain ⟨ht11, H⟩ := H
        refine g_getRv rfl rfl rfl rfl ht11 (pc' := 169) rfl (fun r12 hr12 => ?_)
        replace H := H r12 hr12
        refine g_iload rfl rfl rfl (pc' := 171) ?_
        obtain ⟨a13, rfl, H⟩ := H
        obtain ⟨ht14, H⟩ := H
        refine g_call rfl (y := 459) (n := 2) (pc' := 174) (g_vt ht14 rfl rfl) rfl rfl ⟨(Nat.le_of_ble_eq_true rfl), (Nat.le_of_ble_eq_true rfl), (Nat.le_of_ble_eq_true rfl)⟩ rfl (gm_G.mono H (pV_elim (fun h15 H' => ?_) (fun e16 h17 H => ?_)))
        · show gm_G _ 174 _ _ _ _
          replace H := H'
          clear H'
          refine g_goto rfl (pc' := 390) rfl ?_
          exact g_weak (show gm_Lle [some _, some _, some _, none, some _, some _] _ from ⟨rfl, ⟨rfl, ⟨rfl, ⟨rfl, ⟨rfl, trivial⟩⟩⟩⟩⟩) H
        · exact H
      · exact H
set_option maxRecDepth 20000 in
theorem w_596_198 {a0 : Nat} {r_1 : Option Nat} {r_2 : Option Nat} {x4 : Int32} {x5 : Int32} {r_6 : Option Nat} {r_7 : Option Nat} {h : hh_T} {Q : Option Value ⊕ Nat → hh_T → Prop} (H : (r_7 = none → (gm_G 596 213 [some (.ref a0), some (va_rf r_1), some (va_rf r_2), none, some (.int x4), some (.int x5), some (va_rf r_6), some (va_rf none)] [] h Q)) ∧ (∀ a1, r_7 = some a1 → (∃ a2, r_6 = some a2 ∧ ((hh_tg h a2 = 27 ∧ (gm_G 193 0 [some (.ref a2), some (.ref a1)] [] h (pI (fun v4 h3 => (¬ v4 = Int32.ofNat 0 → (gm_G 596 221 [some (.ref a0), some (va_rf r_1), some (va_rf r_2), none, some (.int x4), some (.int x5), some (.ref a2), some (.ref a1)] [] h3 Q)) ∧ (v4 = Int32.ofNat 0 → (gm_G 596 213 [some (.ref a0), some (va_rf r_1), some (va_rf r_2), none, some (.int x4), some (.int x5), some (.ref a2), some (.ref a1)] [] h3 Q))) (fun e5 h6 => hh_tg h6 e5 = 21 ∧ Q (.inr e5) h6)))) ∨ (hh_tg h a2 = 28 ∧ (gm_G 318 0 [some (.ref a2), some (.ref a1)] [] h (pI (fun v8 h7 => (¬ v8 = Int32.ofNat 0 → (gm_G 596 221 [some (.ref a0), some (va_rf r_1), some (va_rf r_2), none, some (.int x4), some (.int x5), some (.ref a2), some (.ref a1)] [] h7 Q)) ∧ (v8 = Int32.ofNat 0 → (gm_G 596 213 [some (.ref a0), some (va_rf r_1), some (va_rf r_2), none, some (.int x4), some (.int x5), some (.ref a2), some (.ref a1)] [] h7 Q))) (fun e9 h10 => hh_tg h10 e9 = 21 ∧ Q (.inr e9) h10)))) ∨ (hh_tg h a2 = 29 ∧ (gm_G 321 0 [some (.ref a2), some (.ref a1)] [] h (pI (fun v12 h11 => (¬ v12 = Int32.ofNat 0 → (gm_G 596 221 [some (.ref a0), some (va_rf r_1), some (va_rf r_2), none, some (.int x4), some (.int x5), some (.ref a2), some (.ref a1)] [] h11 Q)) ∧ (v12 = Int32.ofNat 0 → (gm_G 596 213 [some (.ref a0), some (va_rf r_1), some (va_rf r_2), none, some (.int x4), some (.int x5), some (.ref a2), some (.ref a1)] [] h11 Q))) (fun e13 h14 => hh_tg h14 e13 = 21 ∧ Q (.inr e13) h14)))))))) : gm_G 596 198 [some (.ref a0), some (va_rf r_1), some (va_rf r_2), none, some (.int x4), some (.int x5), some (va_rf r_6), some (va_rf r_7)] [] h Q := by
  refine g_aload (r := _) rfl rfl rfl (pc' := 200) ?_
  refine g_ifnull rfl (pc' := 203) (pt := 213) rfl rfl ⟨fun hc => ?_, fun a1 hc => ?_⟩
  · replace H := H.1 hc
    subst hc
    exact g_weak (show gm_Lle [some _, some _, some _, none, some _, some _, some _, some _] _ from ⟨rfl, ⟨rfl, ⟨rfl, ⟨rfl, ⟨rfl, ⟨rfl, ⟨rfl, trivial⟩⟩⟩⟩⟩⟩⟩) H
  · replace H := H.2 a1 hc
    subst hc
    refine g_aload (r := _) rfl rfl rfl (pc' := 205) ?_
    refine g_aload (r := some _) rfl rfl rfl (pc' := 207) ?_
    obtain ⟨a2, rfl, H⟩ := H
    rcases H with ⟨ht, H⟩ | ⟨ht, H⟩ | ⟨ht, H⟩
    · refine g_call rfl (y := 193) (n := 2) (pc' := 210) (g_vt ht rfl rfl) rfl rfl ⟨(Nat.le_of_ble_eq_true rfl), (Nat.le_of_ble_eq_true rfl), (Nat.le_of_ble_eq_true rfl)⟩ rfl (gm_G.mono H (pI_elim (fun v4 h3 H' => ?_) (fun e5 h6 H => ?_)))
      · show gm_G _ 210 _ _ _ _
        replace H := H'
        clear H'
        refine g_if_ne rfl (pc' := 213) (pt := 221) rfl rfl ⟨fun hc => ?_, fun hc => ?_⟩
        · replace H := H.1 hc
          exact g_weak (show gm_Lle [some _, some _, some _, none, some _, some _, some _, some _] _ from ⟨rfl, ⟨rfl, ⟨rfl, ⟨rfl, ⟨rfl, ⟨rfl, ⟨rfl, trivial⟩⟩⟩⟩⟩⟩⟩) H
        · replace H := H.2 hc
          exact g_weak (show gm_Lle [some _, some _, some _, none, some _, some _, some _, some _] _ from ⟨rfl, ⟨rfl, ⟨rfl, ⟨rfl, ⟨rfl, ⟨rfl, ⟨rfl, trivial⟩⟩⟩⟩⟩⟩⟩) H
      · exact H
    · refine g_call rfl (y := 318) (n := 2) (pc' := 210) (g_vt ht rfl rfl) rfl rfl ⟨(Nat.le_of_ble_eq_true rfl), (Nat.le_of_ble_eq_true rfl), (Nat.le_of_ble_eq_true rfl)⟩ rfl (gm_G.mono H (pI_elim (fun v8 h7 H' => ?_) (fun e9 h10 H => ?_)))
      · show gm_G _ 210 _ _ _ _
        replace H := H'
        clear H'
        refine g_if_ne rfl (pc' := 213) (pt := 221) rfl rfl ⟨fun hc => ?_, fun hc => ?_⟩
        · replace H := H.1 hc
          exact g_weak (show gm_Lle [some _, some _, some _, none, some _, some _, some _, some _] _ from ⟨rfl, ⟨rfl, ⟨rfl, ⟨rfl, ⟨rfl, ⟨rfl, ⟨rfl, trivial⟩⟩⟩⟩⟩⟩⟩) H
        · replace H := H.2 hc
          exact g_weak (show gm_Lle [some _, some _, some _, none, some _, some _, some _, some _] _ from ⟨rfl, ⟨rfl, ⟨rfl, ⟨rfl, ⟨rfl, ⟨rfl, ⟨rfl, trivial⟩⟩⟩⟩⟩⟩⟩) H
      · exact H
    · refine g_call rfl (y := 321) (n := 2) (pc' := 210) (g_vt ht rfl rfl) rfl rfl ⟨(Nat.le_of_ble_eq_true rfl), (Nat.le_of_ble_eq_true rfl), (Nat.le_of_ble_eq_true rfl)⟩ rfl (gm_G.mono H (pI_elim (fun v12 h11 H' => ?_) (fun e13 h14 H => ?_)))
      · show gm_G _ 210 _ _ _ _
        replace H := H'
        clear H'
        refine g_if_ne rfl (pc' := 213) (pt := 221) rfl rfl ⟨fun hc => ?_, fun hc => ?_⟩
        · replace H := H.1 hc
          exact g_weak (show gm_Lle [some _, some _, some _, none, some _, some _, some _, some _] _ from ⟨rfl, ⟨rfl, ⟨rfl, ⟨rfl, ⟨rfl, ⟨rfl, ⟨rfl, trivial⟩⟩⟩⟩⟩⟩⟩) H
        · replace H := H.2 hc
          exact g_weak (show gm_Lle [some _, some _, some _, none, some _, some _, some _, some _] _ from ⟨rfl, ⟨rfl, ⟨rfl, ⟨rfl, ⟨rfl, ⟨rfl, ⟨rfl, trivial⟩⟩⟩⟩⟩⟩⟩) H
      · exact H
set_option maxRecDepth 20000 in
theorem w_596_213 {a0 : Nat} {r_1 : Option Nat} {r_2 : Option Nat} {x4 : Int32} {x5 : Int32} {r_6 : Option Nat} {r_7 : Option Nat} {h : hh_T} {Q : Option Value ⊕ Nat → hh_T → Prop} (H : hh_tg h a0 = 1 ∧ (gm_G 550 0 [some (.ref a0), some (.int x5), some (va_rf r_6)] [] h (pV (fun h2 => gm_G 596 221 [some (.ref a0), some (va_rf r_1), some (va_rf r_2), none, some (.int x4), some (.int x5), some (va_rf r_6), some (va_rf r_7)] [] h2 Q) (fun e3 h4 => hh_tg h4 e3 = 21 ∧ Q (.inr e3) h4)))) : gm_G 596 213 [some (.ref a0), some (va_rf r_1), some (va_rf r_2), none, some (.int x4), some (.int x5), some (va_rf r_6), some (va_rf r_7)] [] h Q := by
  refine g_aload (r := some _) rfl rfl rfl (pc' := 214) ?_
  refine g_iload rfl rfl rfl (pc' := 216) ?_
  refine g_aload (r := _) rfl rfl rfl (pc' := 218) ?_
  obtain ⟨ht1, H⟩ := H
  refine g_call rfl (y := 550) (n := 3) (pc' := 221) (g_vt ht1 rfl rfl) (by cases r_6 <;> rfl) rfl ⟨(Nat.le_of_ble_eq_true rfl), (Nat.le_of_ble_eq_true rfl), (Nat.le_of_ble_eq_true rfl)⟩ rfl (gm_G.mono H (pV_elim (fun h2 H' => ?_) (fun e3 h4 H => ?_)))
  · show gm_G _ 221 _ _ _ _
    replace H := H'
    clear H'
    exact g_weak (show gm_Lle [some _, some _, some _, none, some _, some _, some _, some _] _ from ⟨rfl, ⟨rfl, ⟨rfl, ⟨rfl, ⟨rfl, ⟨rfl, ⟨rfl, trivial⟩⟩⟩⟩⟩⟩⟩) H
  · exact H
set_option maxRecDepth 20000 in
theorem w_596_221 {a0 : Nat} {r_1 : Option Nat} {r_2 : Option Nat} {x4 : Int32} {x5 : Int32} {r_6 : Option Nat} {r_7 : Option Nat} {h : hh_T} {Q : Option Value ⊕ Nat → hh_T → Prop} (H : ∃ a1, r_6 = some a1 ∧ ((hh_tg h a1 = 27 ∧ (gm_G 194 0 [some (.ref a1)] [] h (pR (fun r3 h2 => (∀ a4, r3 = some a4 → (gm_G 596 239 [some (.ref a0), some (va_rf r_1), some (va_rf r_2), none, some (.int x4), some (.int x5), none, some (va_rf r_7), some (.ref a4), some (.int (Int32.ofNat 0))] [] h2 Q)) ∧ (r3 = none → (gm_G 596 390 [some (.ref a0), some (va_rf r_1), some (va_rf r_2), none, some (.int x4), some (.int x5)] [] h2 Q))) (fun e5 h6 => hh_tg h6 e5 = 21 ∧ Q (.inr e5) h6)))) ∨ (hh_tg h a1 = 28 ∧ (gm_G 191 0 [some (.ref a1)] [] h (pR (fun r8 h7 => (∀ a9, r8 = some a9 → (gm_G 596 239 [some (.ref a0), some (va_rf r_1), some (va_rf r_2), none, some (.int x4), some (.int x5), none, some (va_rf r_7), some (.ref a9), some (.int (Int32.ofNat 0))] [] h7 Q)) ∧ (r8 = none → (gm_G 596 390 [some (.ref a0), some (va_rf r_1), some (va_rf r_2), none, some (.int x4), some (.int x5)] [] h7 Q))) (fun e10 h11 => hh_tg h11 e10 = 21 ∧ Q (.inr e10) h11)))) ∨ (hh_tg h a1 = 29 ∧ (gm_G 191 0 [some (.ref a1)] [] h (pR (fun r13 h12 => (∀ a14, r13 = some a14 → (gm_G 596 239 [some (.ref a0), some (va_rf r_1), some (va_rf r_2), none, some (.int x4), some (.int x5), none, some (va_rf r_7), some (.ref a14), some (.int (Int32.ofNat 0))] [] h12 Q)) ∧ (r13 = none → (gm_G 596 390 [some (.ref a0), some (va_rf r_1), some (va_rf r_2), none, some (.int x4), some (.int x5)] [] h12 Q))) (fun e15 h16 => hh_tg h16 e15 = 21 ∧ Q (.inr e15) h16)))))) : gm_G 596 221 [some (.ref a0), some (va_rf r_1), some (va_rf r_2), none, some (.int x4), some (.int x5), some (va_rf r_6), some (va_rf r_7)] [] h Q := by
  refine g_aload (r := _) rfl rfl rfl (pc' := 223) ?_
  obtain ⟨a1, rfl, H⟩ := H
  rcases H with ⟨ht, H⟩ | ⟨ht, H⟩ | ⟨ht, H⟩
  · refine g_call rfl (y := 194) (n := 1) (pc' := 226) (g_vt ht rfl rfl) rfl rfl ⟨(Nat.le_of_ble_eq_true rfl), (Nat.le_of_ble_eq_true rfl), (Nat.le_of_ble_eq_true rfl)⟩ rfl (gm_G.mono H (pR_elim (fun r3 h2 H' => ?_) (fun e5 h6 H => ?_)))
    · show gm_G _ 226 _ _ _ _
      replace H := H'
      clear H'
      refine g_astore (r := _) rfl gm_sto_rf7 rfl (pc' := 228) ?_
      refine g_aload (r := _) rfl rfl rfl (pc' := 230) ?_
      refine g_ifnonnull rfl (pc' := 233) (pt := 236) rfl rfl ⟨fun a4 hc => ?_, fun hc => ?_⟩
      · replace H := H.1 a4 hc
        subst hc
        refine g_iconst rfl rfl rfl (pc' := 237) ?_
        refine g_istore rfl rfl rfl (pc' := 239) ?_
        exact g_weak (show gm_Lle [some _, some _, some _, none, some _, some _, none, some _, some _, some _] _ from ⟨rfl, ⟨rfl, ⟨rfl, ⟨rfl, ⟨rfl, ⟨rfl, ⟨rfl, ⟨rfl, trivial⟩⟩⟩⟩⟩⟩⟩⟩) H
      · replace H := H.2 hc
        subst hc
        refine g_goto rfl (pc' := 390) rfl ?_
        exact g_weak (show gm_Lle [some _, some _, some _, none, some _, some _] _ from ⟨rfl, ⟨rfl, ⟨rfl, ⟨rfl, ⟨rfl, trivial⟩⟩⟩⟩⟩) H
    · exact H
  · refine g_call rfl (y := 191) (n := 1) (pc' := 226) (g_vt ht rfl rfl) rfl rfl ⟨(Nat.le_of_ble_eq_true rfl), (Nat.le_of_ble_eq_true rfl), (Nat.le_of_ble_eq_true rfl)⟩ rfl (gm_G.mono H (pR_elim (fun r8 h7 H' => ?_) (fun e10 h11 H => ?_)))
    · show gm_G _ 226 _ _ _ _
      replace H := H'
      clear H'
      refine g_astore (r := _) rfl gm_sto_rf7 rfl (pc' := 228) ?_
      refine g_aload (r := _) rfl rfl rfl (pc' := 230) ?_
      refine g_ifnonnull rfl (pc' := 233) (pt := 236) rfl rfl ⟨fun a9 hc => ?_, fun hc => ?_⟩
      · replace H := H.1 a9 hc
        subst hc
        refine g_iconst rfl rfl rfl (pc' := 237) ?_
        refine g_istore rfl rfl rfl (pc' := 239) ?_
        exact g_weak (show gm_Lle [some _, some _, some _, none, some _, some _, none, some _, some _, some _] _ from ⟨rfl, ⟨rfl, ⟨rfl, ⟨rfl, ⟨rfl, ⟨rfl, ⟨rfl, ⟨rfl, trivial⟩⟩⟩⟩⟩⟩⟩⟩) H
      · replace H := H.2 hc
        subst hc
        refine g_goto rfl (pc' := 390) rfl ?_
        exact g_weak (show gm_Lle [some _, some _, some _, none, some _, some _] _ from ⟨rfl, ⟨rfl, ⟨rfl, ⟨rfl, ⟨rfl, trivial⟩⟩⟩⟩⟩) H
    · exact H
  · refine g_call rfl (y := 191) (n := 1) (pc' := 226) (g_vt ht rfl rfl) rfl rfl ⟨(Nat.le_of_ble_eq_true rfl), (Nat.le_of_ble_eq_true rfl), (Nat.le_of_ble_eq_true rfl)⟩ rfl (gm_G.mono H (pR_elim (fun r13 h12 H' => ?_) (fun e15 h16 H => ?_)))
    · show gm_G _ 226 _ _ _ _
      replace H := H'
      clear H'
      refine g_astore (r := _) rfl gm_sto_rf7 rfl (pc' := 228) ?_
      refine g_aload (r := _) rfl rfl rfl (pc' := 230) ?_
      refine g_ifnonnull rfl (pc' := 233) (pt := 236) rfl rfl ⟨fun a14 hc => ?_, fun hc => ?_⟩
      · replace H := H.1 a14 hc
        subst hc
        refine g_iconst rfl rfl rfl (pc' := 237) ?_
        refine g_istore rfl rfl rfl (pc' := 239) ?_
        exact g_weak (show gm_Lle [some _, some _, some _, none, some _, some _, none, some _, some _, some _] _ from ⟨rfl, ⟨rfl, ⟨rfl, ⟨rfl, ⟨rfl, ⟨rfl, ⟨rfl, ⟨rfl, trivial⟩⟩⟩⟩⟩⟩⟩⟩) H
      · replace H := H.2 hc
        subst hc
        refine g_goto rfl (pc' := 390) rfl ?_
        exact g_weak (show gm_Lle [some _, some _, some _, none, some _, some _] _ from ⟨rfl, ⟨rfl, ⟨rfl, ⟨rfl, ⟨rfl, trivial⟩⟩⟩⟩⟩) H
    · exact H
set_option maxRecDepth 20000 in
theorem w_596_239 {a0 : Nat} {r_1 : Option Nat} {r_2 : Option Nat} {x4 : Int32} {x5 : Int32} {r_7 : Option Nat} {r_8 : Option Nat} {x9 : Int32} {h : hh_T} {Q : Option Value ⊕ Nat → hh_T → Prop} (H : (¬ x9 < (Int32.ofNat 8) → (gm_G 596 390 [some (.ref a0), some (va_rf r_1), some (va_rf r_2), none, some (.int x4), some (.int x5)] [] h Q)) ∧ (x9 < (Int32.ofNat 8) → ((r_7 = none → (gm_G 596 259 [some (.ref a0), some (va_rf r_1), some (va_rf r_2), none, some (.int x4), some (.int x5), none, some (va_rf none), some (va_rf r_8), some (.int x9)] [] h Q)) ∧ (∀ a1, r_7 = some a1 → ((hh_tg h a1 = 27 ∧ (gm_G 194 0 [some (.ref a1)] [] h (pR (fun r3 h2 => (∀ a4, r3 = some a4 → ((hh_tg h2 a1 = 27 ∧ (gm_G 194 0 [some (.ref a1)] [] h2 (pR (fun r6 h5 => ∃ a7, r6 = some a7 ∧ ((hh_tg h5 a7 = 104 ∨ 200 ≤ hh_tg h5 a7) ∧ (∃ n8, gm_ix x9 n8 (hh_ln h5 a7) ∧ (∀ r10, r10 = hh_r h5 a7 n8 → (gm_G 596 271 [some (.ref a0), some (va_rf r_1), some (va_rf r_2), none, some (.int x4), some (.int x5), none, some (.ref a1), some (va_rf r_8), some (.int x9)] [va_rf r10] h5 Q))))) (fun e11 h12 => hh_tg h12 e11 = 21 ∧ Q (.inr e11) h12)))) ∨ (hh_tg h2 a1 = 28 ∧ (gm_G 191 0 [some (.ref a1)] [] h2 (pR (fun r14 h13 => ∃ a15, r14 = some a15 ∧ ((hh_tg h13 a15 = 104 ∨ 200 ≤ hh_tg h13 a15) ∧ (∃ n16, gm_ix x9 n16 (hh_ln h13 a15) ∧ (∀ r18, r18 = hh_r h13 a15 n16 → (gm_G 596 271 [some (.ref a0), some (va_rf r_1), some (va_rf r_2), none, some (.int x4), some (.int x5), none, some (.ref a1), some (va_rf r_8), some (.int x9)] [va_rf r18] h13 Q))))) (fun e19 h20 => hh_tg h20 e19 = 21 ∧ Q (.inr e19) h20)))) ∨ (hh_tg h2 a1 = 29 ∧ (gm_G 191 0 [some (.ref a1)] [] h2 (pR (fun r22 h21 => ∃ a23, r22 = some a23 ∧ ((hh_tg h21 a23 = 104 ∨ 200 ≤ hh_tg h21 a23) ∧ (∃ n24, gm_ix x9 n24 (hh_ln h21 a23) ∧ (∀ r26, r26 = hh_r h21 a23 n24 → (gm_G 596 271 [some (.ref a0), some (va_rf r_1), some (va_rf r_2), none, some (.int x4), some (.int x5), none, some (.ref a1), some (va_rf r_8), some (.int x9)] [va_rf r26] h21 Q))))) (fun e27 h28 => hh_tg h28 e27 = 21 ∧ Q (.inr e27) h28)))))) ∧ (r3 = none → (gm_G 596 259 [some (.ref a0), some (va_rf r_1), some (va_rf r_2), none, some (.int x4), some (.int x5), none, some (.ref a1), some (va_rf r_8), some (.int x9)] [] h2 Q))) (fun e29 h30 => hh_tg h30 e29 = 21 ∧ Q (.inr e29) h30)))) ∨ (hh_tg h a1 = 28 ∧ (gm_G 191 0 [some (.ref a1)] [] h (pR (fun r32 h31 => (∀ a33, r32 = some a33 → ((hh_tg h31 a1 = 27 ∧ (gm_G 194 0 [some (.ref a1)] [] h31 (pR (fun r35 h34 => ∃ a36, r35 = some a36 ∧ ((hh_tg h34 a36 = 104 ∨ 200 ≤ hh_tg h34 a36) ∧ (∃ n37, gm_ix x9 n37 (hh_ln h34 a36) ∧ (∀ r39, r39 = hh_r h34 a36 n37 → (gm_G 596 271 [some (.ref a0), some (va_rf r_1), some (va_rf r_2), none, some (.int x4), some (.int x5), none, some (.ref a1), some (va_rf r_8), some (.int x9)] [va_rf r39] h34 Q))))) (fun e40 h41 => hh_tg h41 e40 = 21 ∧ Q (.inr e40) h41)))) ∨ (hh_tg h31 a1 = 28 ∧ (gm_G 191 0 [some (.ref a1)] [] h31 (pR (fun r43 h42 => ∃ a44, r43 = some a44 ∧ ((hh_tg h42 a44 = 104 ∨ 200 ≤ hh_tg h42 a44) ∧ (∃ n45, gm_ix x9 n45 (hh_ln h42 a44) ∧ (∀ r47, r47 = hh_r h42 a44 n45 → (gm_G 596 271 [some (.ref a0), some (va_rf r_1), some (va_rf r_2), none, some (.int x4), some (.int x5), none, some (.ref a1), some (va_rf r_8), some (.int x9)] [va_rf r47] h42 Q))))) (fun e48 h49 => hh_tg h49 e48 = 21 ∧ Q (.inr e48) h49)))) ∨ (hh_tg h31 a1 = 29 ∧ (gm_G 191 0 [some (.ref a1)] [] h31 (pR (fun r51 h50 => ∃ a52, r51 = some a52 ∧ ((hh_tg h50 a52 = 104 ∨ 200 ≤ hh_tg h50 a52) ∧ (∃ n53, gm_ix x9 n53 (hh_ln h50 a52) ∧ (∀ r55, r55 = hh_r h50 a52 n53 → (gm_G 596 271 [some (.ref a0), some (va_rf r_1), some (va_rf r_2), none, some (.int x4), some (.int x5), none, some (.ref a1), some (va_rf r_8), some (.int x9)] [va_rf r55] h50 Q))))) (fun e56 h57 => hh_tg h57 e56 = 21 ∧ Q (.inr e56) h57)))))) ∧ (r32 = none → (gm_G 596 259 [some (.ref a0), some (va_rf r_1), some (va_rf r_2), none, some (.int x4), some (.int x5), none, some (.ref a1), some (va_rf r_8), some (.int x9)] [] h31 Q))) (fun e58 h59 => hh_tg h59 e58 = 21 ∧ Q (.inr e58) h59)))) ∨ (hh_tg h a1 = 29 ∧ (gm_G 191 0 [some (.ref a1)] [] h (pR (fun r61 h60 => (∀ a62, r61 = some a62 → ((hh_tg h60 a1 = 27 ∧ (gm_G 194 0 [some (.ref a1)] [] h60 (pR (fun r64 h63 => ∃ a65, r64 = some a65 ∧ ((hh_tg h63 a65 = 104 ∨ 200 ≤ hh_tg h63 a65) ∧ (∃ n66, gm_ix x9 n66 (hh_ln h63 a65) ∧ (∀ r68, r68 = hh_r h63 a65 n66 → (gm_G 596 271 [some (.ref a0), some (va_rf r_1), some (va_rf r_2), none, some (.int x4), some (.int x5), none, some (.ref a1), some (va_rf r_8), some (.int x9)] [va_rf r68] h63 Q))))) (fun e69 h70 => hh_tg h70 e69 = 21 ∧ Q (.inr e69) h70)))) ∨ (hh_tg h60 a1 = 28 ∧ (gm_G 191 0 [some (.ref a1)] [] h60 (pR (fun r72 h71 => ∃ a73, r72 = some a73 ∧ ((hh_tg h71 a73 = 104 ∨ 200 ≤ hh_tg h71 a73) ∧ (∃ n74, gm_ix x9 n74 (hh_ln h71 a73) ∧ (∀ r76, r76 = hh_r h71 a73 n74 → (gm_G 596 271 [some (.ref a0), some (va_rf r_1), some (va_rf r_2), none, some (.int x4), some (.int x5), none, some (.ref a1), some (va_rf r_8), some (.int x9)] [va_rf r76] h71 Q))))) (fun e77 h78 => hh_tg h78 e77 = 21 ∧ Q (.inr e77) h78)))) ∨ (hh_tg h60 a1 = 29 ∧ (gm_G 191 0 [some (.ref a1)] [] h60 (pR (fun r80 h79 => ∃ a81, r80 = some a81 ∧ ((hh_tg h79 a81 = 104 ∨ 200 ≤ hh_tg h79 a81) ∧ (∃ n82, gm_ix x9 n82 (hh_ln h79 a81) ∧ (∀ r84, r84 = hh_r h79 a81 n82 → (gm_G 596 271 [some (.ref a0), some (va_rf r_1), some (va_rf r_2), none, some (.int x4), some (.int x5), none, some (.ref a1), some (va_rf r_8), some (.int x9)] [va_rf r84] h79 Q))))) (fun e85 h86 => hh_tg h86 e85 = 21 ∧ Q (.inr e85) h86)))))) ∧ (r61 = none → (gm_G 596 259 [some (.ref a0), some (va_rf r_1), some (va_rf r_2), none, some (.int x4), some (.int x5), none, some (.ref a1), some (va_rf r_8), some (.int x9)] [] h60 Q))) (fun e87 h88 => hh_tg h88 e87 = 21 ∧ Q (.inr e87) h88))))))))) : gm_G 596 239 [some (.ref a0), some (va_rf r_1), some (va_rf r_2), none, some (.int x4), some (.int x5), none, some (va_rf r_7), some (va_rf r_8), some (.int x9)] [] h Q := by
  refine g_iload rfl rfl rfl (pc' := 241) ?_
  refine g_iconst rfl rfl rfl (pc' := 243) ?_
  refine g_ic_ge rfl (pc' := 246) (pt := 390) rfl rfl ⟨fun hc => ?_, fun hc => ?_⟩
  · replace H := H.1 hc
    exact g_weak (show gm_Lle [some _, some _, some _, none, some _, some _] _ from ⟨rfl, ⟨rfl, ⟨rfl, ⟨rfl, ⟨rfl, trivial⟩⟩⟩⟩⟩) H
  · replace H := H.2 hc
    refine g_aload (r := _) rfl rfl rfl (pc' := 248) ?_
    refine g_ifnull rfl (pc' := 251) (pt := 259) rfl rfl ⟨fun hc => ?_, fun a1 hc => ?_⟩
    · replace H := H.1 hc
      subst hc
      exact g_weak (show gm_Lle [some _, some _, some _, none, some _, some _, none, some _, some _, some _] _ from ⟨rfl, ⟨rfl, ⟨rfl, ⟨rfl, ⟨rfl, ⟨rfl, ⟨rfl, ⟨rfl, trivial⟩⟩⟩⟩⟩⟩⟩⟩) H
    · replace H := H.2 a1 hc
      subst hc
      refine g_aload (r := some _) rfl rfl rfl (pc' := 253) ?_
      rcases H with ⟨ht, H⟩ | ⟨ht, H⟩ | ⟨ht, H⟩
      · refine g_call rfl (y := 194) (n := 1) (pc' := 256) (g_vt ht rfl rfl) rfl rfl ⟨(Nat.le_of_ble_eq_true rfl), (Nat.le_of_ble_eq_true rfl), (Nat.le_of_ble_eq_true rfl)⟩ rfl (gm_G.mono H (pR_elim (fun r3 h2 H' => ?_) (fun e29 h30 H => ?_)))
        · show gm_G _ 256 _ _ _ _
          replace H := H'
          clear H'
          refine g_ifnonnull rfl (pc' := 259) (pt := 263) rfl rfl ⟨fun a4 hc => ?_, fun hc => ?_⟩
          · replace H := H.1 a4 hc
            subst hc
            refine g_aload (r := some _) rfl rfl rfl (pc' := 265) ?_
            rcases H with ⟨ht, H⟩ | ⟨ht, H⟩ | ⟨ht, H⟩
            · refine g_call rfl (y := 194) (n := 1) (pc' := 268) (g_vt ht rfl rfl) rfl rfl ⟨(Nat.le_of_ble_eq_true rfl), (Nat.le_of_ble_eq_true rfl), (Nat.le_of_ble_eq_true rfl)⟩ rfl (gm_G.mono H (pR_elim (fun r6 h5 H' => ?_) (fun e11 h12 H => ?_)))
              · show gm_G _ 268 _ _ _ _
                replace H := H'
                clear H'
                refine g_iload rfl rfl rfl (pc' := 270) ?_
                obtain ⟨a7, rfl, H⟩ := H
                obtain ⟨ht9, H⟩ := H
                obtain ⟨n8, hn8, H⟩ := H
                refine g_aaloadv rfl ht9 hn8 (pc' := 271) rfl (fun r10 hr10 => ?_)
                replace H := H r10 hr10
                exact g_weak (show gm_Lle [some _, some _, some _, none, some _, some _, none, some _, some _, some _] _ from ⟨rfl, ⟨rfl, ⟨rfl, ⟨rfl, ⟨rfl, ⟨rfl, ⟨rfl, ⟨rfl, trivial⟩⟩⟩⟩⟩⟩⟩⟩) H
              · exact H
            · refine g_call rfl (y := 191) (n := 1) (pc' := 268) (g_vt ht rfl rfl) rfl rfl ⟨(Nat.le_of_ble_eq_true rfl), (Nat.le_of_ble_eq_true rfl), (Nat.le_of_ble_eq_true rfl)⟩ rfl (gm_G.mono H (pR_elim (fun r14 h13 H' => ?_) (fun e19 h20 H => ?_)))
              · show gm_G _ 268 _ _ _ _
                replace H := H'
                clear H'
                refine g_iload rfl rfl rfl (pc' := 270) ?_
                obtain ⟨a15, rfl, H⟩ := H
                obtain ⟨ht17, H⟩ := H
                obtain ⟨n16, hn16, H⟩ := H
                refine g_aaloadv rfl ht17 hn16 (pc' := 271) rfl (fun r18 hr18 => ?_)
                replace H := H r18 hr18
                exact g_weak (show gm_Lle [some _, some _, some _, none, some _, some _, none, some _, some _, some _] _ from ⟨rfl, ⟨rfl, ⟨rfl, ⟨rfl, ⟨rfl, ⟨rfl, ⟨rfl, ⟨rfl, trivial⟩⟩⟩⟩⟩⟩⟩⟩) H
              · exact H
            · refine g_call rfl (y := 191) (n := 1) (pc' := 268) (g_vt ht rfl rfl) rfl rfl ⟨(Nat.le_of_ble_eq_true rfl), (Nat.le_of_ble_eq_true rfl), (Nat.le_of_ble_eq_true rfl)⟩ rfl (gm_G.mono H (pR_elim (fun r22 h21 H' => ?_) (fun e27 h28 H => ?_)))
              · show gm_G _ 268 _ _ _ _
                replace H := H'
                clear H'
                refine g_iload rfl rfl rfl (pc' := 270) ?_
                obtain ⟨a23, rfl, H⟩ := H
                obtain ⟨ht25, H⟩ := H
                obtain ⟨n24, hn24, H⟩ := H
                refine g_aaloadv rfl ht25 hn24 (pc' := 271) rfl (fun r26 hr26 => ?_)
                replace H := H r26 hr26
                exact g_weak (show gm_Lle [some _, some _, some _, none, some _, some _, none, some _, some _, some _] _ from ⟨rfl, ⟨rfl, ⟨rfl, ⟨rfl, ⟨rfl, ⟨rfl, ⟨rfl, ⟨rfl, trivial⟩⟩⟩⟩⟩⟩⟩⟩) H
              · exact H
          · replace H := H.2 hc
            subst hc
            exact g_weak (show gm_Lle [some _, some _, some _, none, some _, some _, none, some _, some _, some _] _ from ⟨rfl, ⟨rfl, ⟨rfl, ⟨rfl, ⟨rfl, ⟨rfl, ⟨rfl, ⟨rfl, trivial⟩⟩⟩⟩⟩⟩⟩⟩) H
        · exact H
      · refine g_call rfl (y := 191) (n := 1) (pc' := 256) (g_vt ht rfl rfl) rfl rfl ⟨(Nat.le_of_ble_eq_true rfl), (Nat.le_of_ble_eq_true rfl), (Nat.le_of_ble_eq_true rfl)⟩ rfl (gm_G.mono H (pR_elim (fun r32 h31 H' => ?_) (fun e58 h59 H => ?_)))
        · show gm_G _ 256 _ _ _ _
          replace H := H'
          clear H'
          refine g_ifnonnull rfl (pc' := 259) (pt := 263) rfl rfl ⟨fun a33 hc => ?_, fun hc => ?_⟩
          · replace H := H.1 a33 hc
            subst hc
            refine g_aload (r := some _) rfl rfl rfl (pc' := 265) ?_
            rcases H with ⟨ht, H⟩ | ⟨ht, H⟩ | ⟨ht, H⟩
            · refine g_call rfl (y := 194) (n := 1) (pc' := 268) (g_vt ht rfl rfl) rfl rfl ⟨(Nat.le_of_ble_eq_true rfl), (Nat.le_of_ble_eq_true rfl), (Nat.le_of_ble_eq_true rfl)⟩ rfl (gm_G.mono H (pR_elim (fun r35 h34 H' => ?_) (fun e40 h41 H => ?_)))
              · show gm_G _ 268 _ _ _ _
                replace H := H'
                clear H'
                refine g_iload rfl rfl rfl (pc' := 270) ?_
                obtain ⟨a36, rfl, H⟩ := H
                obtain ⟨ht38, H⟩ := H
                obtain ⟨n37, hn37, H⟩ := H
                refine g_aaloadv rfl ht38 hn37 (pc' := 271) rfl (fun r39 hr39 => ?_)
                replace H := H r39 hr39
                exact g_weak (show gm_Lle [some _, some _, some _, none, some _, some _, none, some _, some _, some _] _ from ⟨rfl, ⟨rfl, ⟨rfl, ⟨rfl, ⟨rfl, ⟨rfl, ⟨rfl, ⟨rfl, trivial⟩⟩⟩⟩⟩⟩⟩⟩) H
              · exact H
            · refine g_call rfl (y := 191) (n := 1) (pc' := 268) (g_vt ht rfl rfl) rfl rfl ⟨(Nat.le_of_ble_eq_true rfl), (Nat.le_of_ble_eq_true rfl), (Nat.le_of_ble_eq_true rfl)⟩ rfl (gm_G.mono H (pR_elim (fun r43 h42 H' => ?_) (fun e48 h49 H => ?_)))
              · show gm_G _ 268 _ _ _ _
                replace H := H'
                clear H'
                refine g_iload rfl rfl rfl (pc' := 270) ?_
                obtain ⟨a44, rfl, H⟩ := H
                obtain ⟨ht46, H⟩ := H
                obtain ⟨n45, hn45, H⟩ := H
                refine g_aaloadv rfl ht46 hn45 (pc' := 271) rfl (fun r47 hr47 => ?_)
                replace H := H r47 hr47
                exact g_weak (show gm_Lle [some _, some _, some _, none, some _, some _, none, some _, some _, some _] _ from ⟨rfl, ⟨rfl, ⟨rfl, ⟨rfl, ⟨rfl, ⟨rfl, ⟨rfl, ⟨rfl, trivial⟩⟩⟩⟩⟩⟩⟩⟩) H
              · exact H
            · refine g_call rfl (y := 191) (n := 1) (pc' := 268) (g_vt ht rfl rfl) rfl rfl ⟨(Nat.le_of_ble_eq_true rfl), (Nat.le_of_ble_eq_true rfl), (Nat.le_of_ble_eq_true rfl)⟩ rfl (gm_G.mono H (pR_elim (fun r51 h50 H' => ?_) (fun e56 h57 H => ?_)))
              · show gm_G _ 268 _ _ _ _
                replace H := H'
                clear H'
                refine g_iload rfl rfl rfl (pc' := 270) ?_
                obtain ⟨a52, rfl, H⟩ := H
                obtain ⟨ht54, H⟩ := H
                obtain ⟨n53, hn53, H⟩ := H
                refine g_aaloadv rfl ht54 hn53 (pc' := 271) rfl (fun r55 hr55 => ?_)
                replace H := H r55 hr55
                exact g_weak (show gm_Lle [some _, some _, some _, none, some _, some _, none, some _, some _, some _] _ from ⟨rfl, ⟨rfl, ⟨rfl, ⟨rfl, ⟨rfl, ⟨rfl, ⟨rfl, ⟨rfl, trivial⟩⟩⟩⟩⟩⟩⟩⟩) H
              · exact H
          · replace H := H.2 hc
            subst hc
            exact g_weak (show gm_Lle [some _, some _, some _, none, some _, some _, none, some _, some _, some _] _ from ⟨rfl, ⟨rfl, ⟨rfl, ⟨rfl, ⟨rfl, ⟨rfl, ⟨rfl, ⟨rfl, trivial⟩⟩⟩⟩⟩⟩⟩⟩) H
        · exact H
      · refine g_call rfl (y := 191) (n := 1) (pc' := 256) (g_vt ht rfl rfl) rfl rfl ⟨(Nat.le_of_ble_eq_true rfl), (Nat.le_of_ble_eq_true rfl), (Nat.le_of_ble_eq_true rfl)⟩ rfl (gm_G.mono H (pR_elim (fun r61 h60 H' => ?_) (fun e87 h88 H => ?_)))
        · show gm_G _ 256 _ _ _ _
          replace H := H'
          clear H'
          refine g_ifnonnull rfl (pc' := 259) (pt := 263) rfl rfl ⟨fun a62 hc => ?_, fun hc => ?_⟩
          · replace H := H.1 a62 hc
            subst hc
            refine g_aload (r := some _) rfl rfl rfl (pc' := 265) ?_
            rcases H with ⟨ht, H⟩ | ⟨ht, H⟩ | ⟨ht, H⟩
            · refine g_call rfl (y := 194) (n := 1) (pc' := 268) (g_vt ht rfl rfl) rfl rfl ⟨(Nat.le_of_ble_eq_true rfl), (Nat.le_of_ble_eq_true rfl), (Nat.le_of_ble_eq_true rfl)⟩ rfl (gm_G.mono H (pR_elim (fun r64 h63 H' => ?_) (fun e69 h70 H => ?_)))
              · show gm_G _ 268 _ _ _ _
                replace H := H'
                clear H'
                refine g_iload rfl rfl rfl (pc' := 270) ?_
                obtain ⟨a65, rfl, H⟩ := H
                obtain ⟨ht67, H⟩ := H
                obtain ⟨n66, hn66, H⟩ := H
                refine g_aaloadv rfl ht67 hn66 (pc' := 271) rfl (fun r68 hr68 => ?_)
                replace H := H r68 hr68
                exact g_weak (show gm_Lle [some _, some _, some _, none, some _, some _, none, some _, some _, some _] _ from ⟨rfl, ⟨rfl, ⟨rfl, ⟨rfl, ⟨rfl, ⟨rfl, ⟨rfl, ⟨rfl, trivial⟩⟩⟩⟩⟩⟩⟩⟩) H
              · exact H
            · refine g_call rfl (y := 191) (n := 1) (pc' := 268) (g_vt ht rfl rfl) rfl rfl ⟨(Nat.le_of_ble_eq_true rfl), (Nat.le_of_ble_eq_true rfl), (Nat.le_of_ble_eq_true rfl)⟩ rfl (gm_G.mono H (pR_elim (fun r72 h71 H' => ?_) (fun e77 h78 H => ?_)))
              · show gm_G _ 268 _ _ _ _
                replace H := H'
                clear H'
                refine g_iload rfl rfl rfl (pc' := 270) ?_
                obtain ⟨a73, rfl, H⟩ := H
                obtain ⟨ht75, H⟩ := H
                obtain ⟨n74, hn74, H⟩ := H
                refine g_aaloadv rfl ht75 hn74 (pc' := 271) rfl (fun r76 hr76 => ?_)
                replace H := H r76 hr76
                exact g_weak (show gm_Lle [some _, some _, some _, none, some _, some _, none, some _, some _, some _] _ from ⟨rfl, ⟨rfl, ⟨rfl, ⟨rfl, ⟨rfl, ⟨rfl, ⟨rfl, ⟨rfl, trivial⟩⟩⟩⟩⟩⟩⟩⟩) H
              · exact H
            · refine g_call rfl (y := 191) (n := 1) (pc' := 268) (g_vt ht rfl rfl) rfl rfl ⟨(Nat.le_of_ble_eq_true rfl), (Nat.le_of_ble_eq_true rfl), (Nat.le_of_ble_eq_true rfl)⟩ rfl (gm_G.mono H (pR_elim (fun r80 h79 H' => ?_) (fun e85 h86 H => ?_)))
              · show gm_G _ 268 _ _ _ _
                replace H := H'
                clear H'
                refine g_iload rfl rfl rfl (pc' := 270) ?_
                obtain ⟨a81, rfl, H⟩ := H
                obtain ⟨ht83, H⟩ := H
                obtain ⟨n82, hn82, H⟩ := H
                refine g_aaloadv rfl ht83 hn82 (pc' := 271) rfl (fun r84 hr84 => ?_)
                replace H := H r84 hr84
                exact g_weak (show gm_Lle [some _, some _, some _, none, some _, some _, none, some _, some _, some _] _ from ⟨rfl, ⟨rfl, ⟨rfl, ⟨rfl, ⟨rfl, ⟨rfl, ⟨rfl, ⟨rfl, trivial⟩⟩⟩⟩⟩⟩⟩⟩) H
              · exact H
          · replace H := H.2 hc
            subst hc
            exact g_weak (show gm_Lle [some _, some _, some _, none, some _, some _, none, some _, some _, some _] _ from ⟨rfl, ⟨rfl, ⟨rfl, ⟨rfl, ⟨rfl, ⟨rfl, ⟨rfl, ⟨rfl, trivial⟩⟩⟩⟩⟩⟩⟩⟩) H
        · exact H
set_option maxRecDepth 20000 in
theorem w_596_259 {a0 : Nat} {r_1 : Option Nat} {r_2 : Option Nat} {x4 : Int32} {x5 : Int32} {r_7 : Option Nat} {r_8 : Option Nat} {x9 : Int32} {h : hh_T} {Q : Option Value ⊕ Nat → hh_T → Prop} (H : gm_G 596 271 [some (.ref a0), some (va_rf r_1), some (va_rf r_2), none, some (.int x4), some (.int x5), none, some (va_rf r_7), some (va_rf r_8), some (.int x9)] [va_rf none] h Q) : gm_G 596 259 [some (.ref a0), some (va_rf r_1), some (va_rf r_2), none, some (.int x4), some (.int x5), none, some (va_rf r_7), some (va_rf r_8), some (.int x9)] [] h Q := by
  refine g_null rfl rfl (pc' := 260) ?_
  refine g_goto rfl (pc' := 271) rfl ?_
  exact g_weak (show gm_Lle [some _, some _, some _, none, some _, some _, none, some _, some _, some _] _ from ⟨rfl, ⟨rfl, ⟨rfl, ⟨rfl, ⟨rfl, ⟨rfl, ⟨rfl, ⟨rfl, trivial⟩⟩⟩⟩⟩⟩⟩⟩) H
set_option maxRecDepth 20000 in
theorem w_596_271 {a0 : Nat} {r_1 : Option Nat} {r_2 : Option Nat} {x4 : Int32} {x5 : Int32} {r_7 : Option Nat} {r_8 : Option Nat} {x9 : Int32} {q0 : Option Nat} {h : hh_T} {Q : Option Value ⊕ Nat → hh_T → Prop} (H : ∃ a1, r_8 = some a1 ∧ ((hh_tg h a1 = 104 ∨ 200 ≤ hh_tg h a1) ∧ (∃ n2, gm_ix x9 n2 (hh_ln h a1) ∧ (∀ r4, r4 = hh_r h a1 n2 → ((¬ r4 = q0 → (gm_sub (hh_tg h a0) 0 = true ∧ (∀ r6, r6 = hh_r h a0 54 → (∃ n7, gm_ix x9 n7 (hh_ln h a1) ∧ (∀ r8, r8 = hh_r h a1 n7 → ((∀ a9, r8 = some a9 → (gm_G 596 303 [some (.ref a0), some (va_rf r_1), some (va_rf r_2), none, some (.int x4), some (.int x5), none, some (va_rf r_7), some (.ref a1), some (.int x9)] [.int (Int32.ofNat 2), va_rf r6] h Q)) ∧ (r8 = none → (gm_G 596 303 [some (.ref a0), some (va_rf r_1), some (va_rf r_2), none, some (.int x4), some (.int x5), none, some (va_rf r_7), some (.ref a1), some (.int x9)] [.int (Int32.ofNat 3), va_rf r6] h Q)))))))) ∧ (r4 = q0 → (gm_G 596 384 [some (.ref a0), some (va_rf r_1), some (va_rf r_2), none, some (.int x4), some (.int x5), none, some (va_rf r_7), some (.ref a1), some (.int x9)] [] h Q))))))) : gm_G 596 271 [some (.ref a0), some (va_rf r_1), some (va_rf r_2), none, some (.int x4), some (.int x5), none, some (va_rf r_7), some (va_rf r_8), some (.int x9)] [va_rf q0] h Q := by
  refine g_astore (r := _) rfl rfl rfl (pc' := 273) ?_
  refine g_aload (r := _) rfl rfl rfl (pc' := 275) ?_
  refine g_iload rfl rfl rfl (pc' := 277) ?_
  obtain ⟨a1, rfl, H⟩ := H
  obtain ⟨ht3, H⟩ := H
  obtain ⟨n2, hn2, H⟩ := H
  refine g_aaloadv rfl ht3 hn2 (pc' := 278) rfl (fun r4 hr4 => ?_)
  replace H := H r4 hr4
  refine g_aload (r := _) rfl rfl rfl (pc' := 280) ?_
  refine g_ac_ne (r1 := _) (r2 := _) rfl (pc' := 283) (pt := 286) rfl rfl ⟨fun hc => ?_, fun hc => ?_⟩
  · replace H := H.1 hc
    refine g_aload (r := some _) rfl rfl rfl (pc' := 287) ?_
    obtain ⟨ht5, H⟩ := H
    refine g_getRv rfl rfl rfl rfl ht5 (pc' := 290) rfl (fun r6 hr6 => ?_)
    replace H := H r6 hr6
    refine g_aload (r := some _) rfl rfl rfl (pc' := 292) ?_
    refine g_iload rfl rfl rfl (pc' := 294) ?_
    obtain ⟨n7, hn7, H⟩ := H
    refine g_aaloadv rfl ht3 hn7 (pc' := 295) rfl (fun r8 hr8 => ?_)
    replace H := H r8 hr8
    refine g_ifnonnull rfl (pc' := 298) (pt := 302) rfl rfl ⟨fun a9 hc => ?_, fun hc => ?_⟩
    · replace H := H.1 a9 hc
      subst hc
      refine g_iconst rfl rfl rfl (pc' := 303) ?_
      exact g_weak (show gm_Lle [some _, some _, some _, none, some _, some _, none, some _, some _, some _] _ from ⟨rfl, ⟨rfl, ⟨rfl, ⟨rfl, ⟨rfl, ⟨rfl, ⟨rfl, ⟨rfl, trivial⟩⟩⟩⟩⟩⟩⟩⟩) H
    · replace H := H.2 hc
      subst hc
      refine g_iconst rfl rfl rfl (pc' := 299) ?_
      refine g_goto rfl (pc' := 303) rfl ?_
      exact g_weak (show gm_Lle [some _, some _, some _, none, some _, some _, none, some _, some _, some _] _ from ⟨rfl, ⟨rfl, ⟨rfl, ⟨rfl, ⟨rfl, ⟨rfl, ⟨rfl, ⟨rfl, trivial⟩⟩⟩⟩⟩⟩⟩⟩) H
  · replace H := H.2 hc
    refine g_goto rfl (pc' := 384) rfl ?_
    exact g_weak (show gm_Lle [some _, some _, some _, none, some _, some _, none, some _, some _, some _] _ from ⟨rfl, ⟨rfl, ⟨rfl, ⟨rfl, ⟨rfl, ⟨rfl, ⟨rfl, ⟨rfl, trivial⟩⟩⟩⟩⟩⟩⟩⟩) H
set_option maxRecDepth 20000 in
theorem w_596_303 {a0 : Nat} {r_1 : Option Nat} {r_2 : Option Nat} {x4 : Int32} {x5 : Int32} {r_7 : Option Nat} {r_8 : Option Nat} {x9 : Int32} {y0 : Int32} {q1 : Option Nat} {h : hh_T} {Q : Option Value ⊕ Nat → hh_T → Prop} (H : ∃ a1, q1 = some a1 ∧ (hh_tg h a1 = 13 ∧ (gm_G 459 0 [some (.ref a1), some (.int y0)] [] h (pV (fun h3 => gm_sub (hh_tg h3 a0) 0 = true ∧ (∀ r5, r5 = hh_r h3 a0 54 → (∃ a6, r5 = some a6 ∧ (hh_tg h3 a6 = 13 ∧ (gm_G 459 0 [some (.ref a6), some (.int x5)] [] h3 (pV (fun h8 => gm_sub (hh_tg h8 a0) 0 = true ∧ (∀ r10, r10 = hh_r h8 a0 54 → (∃ a11, r10 = some a11 ∧ (hh_tg h8 a11 = 13 ∧ (gm_G 459 0 [some (.ref a11), some (.int x9)] [] h8 (pV (fun h13 => ∃ a14, r_8 = some a14 ∧ ((hh_tg h13 a14 = 104 ∨ 200 ≤ hh_tg h13 a14) ∧ (∃ n15, gm_ix x9 n15 (hh_ln h13 a14) ∧ (∀ r17, r17 = hh_r h13 a14 n15 → ((∀ a18, r17 = some a18 → ((x4 = Int32.ofNat 0 → (gm_G 596 354 [some (.ref a0), some (va_rf r_1), some (va_rf r_2), none, some (.int x4), some (.int x5), none, some (va_rf r_7), some (.ref a14), some (.int x9)] [] h13 Q)) ∧ (¬ x4 = Int32.ofNat 0 → (∃ n19, gm_ix x9 n19 (hh_ln h13 a14) ∧ (∀ r20, r20 = hh_r h13 a14 n19 → (gm_sub (hh_tg h13 a0) 0 = true ∧ (∀ r22, r22 = hh_r h13 a0 55 → (hh_tg h13 a0 = 1 ∧ (gm_G 592 0 [some (.ref a0), some (va_rf r20), some (va_rf r22), some (.int (Int32.ofNat 0))] [] h13 (pV (fun h24 => gm_G 596 354 [some (.ref a0), some (va_rf r_1), some (va_rf r_2), none, some (.int x4), some (.int x5), none, some (va_rf r_7), some (.ref a14), some (.int x9)] [] h24 Q) (fun e25 h26 => hh_tg h26 e25 = 21 ∧ Q (.inr e25) h26))))))))))) ∧ (r17 = none → (gm_G 596 384 [some (.ref a0), some (va_rf r_1), some (va_rf r_2), none, some (.int x4), some (.int x5), none, some (va_rf r_7), some (.ref a14), some (.int x9)] [] h13 Q))))))) (fun e27 h28 => hh_tg h28 e27 = 21 ∧ Q (.inr e27) h28))))))) (fun e29 h30 => hh_tg h30 e29 = 21 ∧ Q (.inr e29) h30))))))) (fun e31 h32 => hh_tg h32 e31 = 21 ∧ Q (.inr e31) h32))))) : gm_G 596 303 [some (.ref a0), some (va_rf r_1), some (va_rf r_2), none, some (.int x4), some (.int x5), none, some (va_rf r_7), some (va_rf r_8), some (.int x9)] [.int y0, va_rf q1] h Q := by
  obtain ⟨a1, rfl, H⟩ := H
  obtain ⟨ht2, H⟩ := H
  refine g_call rfl (y := 459) (n := 2) (pc' := 306) (g_vt ht2 rfl rfl) rfl rfl ⟨(Nat.le_of_ble_eq_true rfl), (Nat.le_of_ble_eq_true rfl), (Nat.le_of_ble_eq_true rfl)⟩ rfl (gm_G.mono H (pV_elim (fun h3 H' => ?_) (fun e31 h32 H => ?_)))
  · show gm_G _ 306 _ _ _ _
    replace H := H'
    clear H'
    refine g_aload (r := some _) rfl rfl rfl (pc' := 307) ?_
    obtain ⟨ht4, H⟩ := H
    refine g_getRv rfl rfl rfl rfl ht4 (pc' := 310) rfl (fun r5 hr5 => ?_)
    replace H := H r5 hr5
    refine g_iload rfl rfl rfl (pc' := 312) ?_
    obtain ⟨a6, rfl, H⟩ := H
    obtain ⟨ht7, H⟩ := H
    refine g_call rfl (y := 459) (n := 2) (pc' := 315) (g_vt ht7 rfl rfl) rfl rfl ⟨(Nat.le_of_ble_eq_true rfl), (Nat.le_of_ble_eq_true rfl), (Nat.le_of_ble_eq_true rfl)⟩ rfl (gm_G.mono H (pV_elim (fun h8 H' => ?_) (fun e29 h30 H => ?_)))
    · show gm_G _ 315 _ _ _ _
      replace H := H'
      clear H'
      refine g_aload (r := some _) rfl rfl rfl (pc' := 316) ?_
      obtain ⟨ht9, H⟩ := H
      refine g_getRv rfl rfl rfl rfl ht9 (pc' := 319) rfl (fun r10 hr10 => ?_)
      replace H := H r10 hr10
      refine g_iload rfl rfl rfl (pc' := 321) ?_
      obtain ⟨a11, rfl, H⟩ := H
      obtain ⟨ht12, H⟩ := H
      refine g_call rfl (y := 459) (n := 2) (pc' := 324) (g_vt ht12 rfl rfl) rfl rfl ⟨(Nat.le_of_ble_eq_true rfl), (Nat.le_of_ble_eq_true rfl), (Nat.le_of_ble_eq_true rfl)⟩ rfl (gm_G.mono H (pV_elim (fun h13 H' => ?_) (fun e27 h28 H => ?_)))
      · show gm_G _ 324 _ _ _ _
        replace H := H'
        clear H'
        refine g_aload (r := _) rfl rfl rfl (pc' := 326) ?_
        refine g_iload rfl rfl rfl (pc' := 328) ?_
        obtain ⟨a14, rfl, H⟩ := H
        obtain ⟨ht16, H⟩ := H
        obtain ⟨n15, hn15, H⟩ := H
        refine g_aaloadv rfl ht16 hn15 (pc' := 329) rfl (fun r17 hr17 => ?_)
        replace H := H r17 hr17
        refine g_ifnonnull rfl (pc' := 332) (pt := 335) rfl rfl ⟨fun a18 hc => ?_, fun hc => ?_⟩
        · replace H := H.1 a18 hc
          subst hc
          refine g_iload rfl rfl rfl (pc' := 337) ?_
          refine g_if_eq rfl (pc' := 340) (pt := 354) rfl rfl ⟨fun hc => ?_, fun hc => ?_⟩
          · replace H := H.1 hc
            exact g_weak (show gm_Lle [some _, some _, some _, none, some _, some _, none, some _, some _, some _] _ from ⟨rfl, ⟨rfl, ⟨rfl, ⟨rfl, ⟨rfl, ⟨rfl, ⟨rfl, ⟨rfl, trivial⟩⟩⟩⟩⟩⟩⟩⟩) H
          · replace H := H.2 hc
            refine g_aload (r := some _) rfl rfl rfl (pc' := 341) ?_
            refine g_aload (r := some _) rfl rfl rfl (pc' := 343) ?_
            refine g_iload rfl rfl rfl (pc' := 345) ?_
            obtain ⟨n19, hn19, H⟩ := H
            refine g_aaloadv rfl ht16 hn19 (pc' := 346) rfl (fun r20 hr20 => ?_)
            replace H := H r20 hr20
            refine g_aload (r := some _) rfl rfl rfl (pc' := 347) ?_
            obtain ⟨ht21, H⟩ := H
            refine g_getRv rfl rfl rfl rfl ht21 (pc' := 350) rfl (fun r22 hr22 => ?_)
            replace H := H r22 hr22
            refine g_iconst rfl rfl rfl (pc' := 351) ?_
            obtain ⟨ht23, H⟩ := H
            refine g_call rfl (y := 592) (n := 4) (pc' := 354) (g_vt ht23 rfl rfl) (by cases r20 <;> cases r22 <;> rfl) rfl ⟨(Nat.le_of_ble_eq_true rfl), (Nat.le_of_ble_eq_true rfl), (Nat.le_of_ble_eq_true rfl)⟩ rfl (gm_G.mono H (pV_elim (fun h24 H' => ?_) (fun e25 h26 H => ?_)))
            · show gm_G _ 354 _ _ _ _
              replace H := H'
              clear H'
              exact g_weak (show gm_Lle [some _, some _, some _, none, some _, some _, none, some _, some _, some _] _ from ⟨rfl, ⟨rfl, ⟨rfl, ⟨rfl, ⟨rfl, ⟨rfl, ⟨rfl, ⟨rfl, trivial⟩⟩⟩⟩⟩⟩⟩⟩) H
            · exact H
        · replace H := H.2 hc
          subst hc
          refine g_goto rfl (pc' := 384) rfl ?_
          exact g_weak (show gm_Lle [some _, some _, some _, none, some _, some _, none, some _, some _, some _] _ from ⟨rfl, ⟨rfl, ⟨rfl, ⟨rfl, ⟨rfl, ⟨rfl, ⟨rfl, ⟨rfl, trivial⟩⟩⟩⟩⟩⟩⟩⟩) H
      · exact H
    · exact H
  · exact H
set_option maxRecDepth 20000 in
theorem w_596_354 {a0 : Nat} {r_1 : Option Nat} {r_2 : Option Nat} {x4 : Int32} {x5 : Int32} {r_7 : Option Nat} {r_8 : Option Nat} {x9 : Int32} {h : hh_T} {Q : Option Value ⊕ Nat → hh_T → Prop} (H : gm_G 596 357 [some (.ref a0), some (va_rf r_1), some (va_rf r_2), none, some (.int x4), some (.int x5), none, some (va_rf r_7), some (va_rf r_8), some (.int x9), none, some (.int (Int32.ofNat 0))] [] h Q) : gm_G 596 354 [some (.ref a0), some (va_rf r_1), some (va_rf r_2), none, some (.int x4), some (.int x5), none, some (va_rf r_7), some (va_rf r_8), some (.int x9)] [] h Q := by
  refine g_iconst rfl rfl rfl (pc' := 355) ?_
  refine g_istore rfl rfl rfl (pc' := 357) ?_
  exact g_weak (show gm_Lle [some _, some _, some _, none, some _, some _, none, some _, some _, some _, none, some _] _ from ⟨rfl, ⟨rfl, ⟨rfl, ⟨rfl, ⟨rfl, ⟨rfl, ⟨rfl, ⟨rfl, ⟨rfl, trivial⟩⟩⟩⟩⟩⟩⟩⟩⟩) H
set_option maxRecDepth 20000 in
theorem w_596_357 {a0 : Nat} {r_1 : Option Nat} {r_2 : Option Nat} {x4 : Int32} {x5 : Int32} {r_7 : Option Nat} {r_8 : Option Nat} {x9 : Int32} {x11 : Int32} {h : hh_T} {Q : Option Value ⊕ Nat → hh_T → Prop} (H : (¬ x11 < (Int32.ofNat 32) → (gm_G 596 384 [some (.ref a0), some (va_rf r_1), some (va_rf r_2), none, some (.int x4), some (.int x5), none, some (va_rf r_7), some (va_rf r_8), some (.int x9)] [] h Q)) ∧ (x11 < (Int32.ofNat 32) → (gm_sub (hh_tg h a0) 0 = true ∧ (∀ r2, r2 = hh_r h a0 54 → (∀ r3, r3 = hh_r h a0 55 → (∃ a4, r3 = some a4 ∧ ((hh_tg h a4 = 101 ∨ hh_tg h a4 = 102) ∧ (∃ n5, gm_ix x11 n5 (hh_ln h a4) ∧ (∃ a7, r2 = some a7 ∧ (hh_tg h a7 = 13 ∧ (gm_G 459 0 [some (.ref a7), some (.int (hh_i h a4 n5))] [] h (pV (fun h9 => gm_G 596 357 [some (.ref a0), some (va_rf r_1), some (va_rf r_2), none, some (.int x4), some (.int x5), none, some (va_rf r_7), some (va_rf r_8), some (.int x9), none, some (.int (x11 + (Int32.ofNat 1)))] [] h9 Q) (fun e10 h11 => hh_tg h11 e10 = 21 ∧ Q (.inr e10) h11))))))))))))) : gm_G 596 357 [some (.ref a0), some (va_rf r_1), some (va_rf r_2), none, some (.int x4), some (.int x5), none, some (va_rf r_7), some (va_rf r_8), some (.int x9), none, some (.int x11)] [] h Q := by
  refine g_iload rfl rfl rfl (pc' := 359) ?_
  refine g_iconst rfl rfl rfl (pc' := 361) ?_
  refine g_ic_ge rfl (pc' := 364) (pt := 384) rfl rfl ⟨fun hc => ?_, fun hc => ?_⟩
  · replace H := H.1 hc
    exact g_weak (show gm_Lle [some _, some _, some _, none, some _, some _, none, some _, some _, some _] _ from ⟨rfl, ⟨rfl, ⟨rfl, ⟨rfl, ⟨rfl, ⟨rfl, ⟨rfl, ⟨rfl, trivial⟩⟩⟩⟩⟩⟩⟩⟩) H
  · replace H := H.2 hc
    refine g_aload (r := some _) rfl rfl rfl (pc' := 365) ?_
    obtain ⟨ht1, H⟩ := H
    refine g_getRv rfl rfl rfl rfl ht1 (pc' := 368) rfl (fun r2 hr2 => ?_)
    replace H := H r2 hr2
    refine g_aload (r := some _) rfl rfl rfl (pc' := 369) ?_
    refine g_getRv rfl rfl rfl rfl ht1 (pc' := 372) rfl (fun r3 hr3 => ?_)
    replace H := H r3 hr3
    refine g_iload rfl rfl rfl (pc' := 374) ?_
    obtain ⟨a4, rfl, H⟩ := H
    obtain ⟨ht6, H⟩ := H
    obtain ⟨n5, hn5, H⟩ := H
    refine g_baload rfl ht6 hn5 (pc' := 375) rfl ?_
    obtain ⟨a7, rfl, H⟩ := H
    obtain ⟨ht8, H⟩ := H
    refine g_call rfl (y := 459) (n := 2) (pc' := 378) (g_vt ht8 rfl rfl) rfl rfl ⟨(Nat.le_of_ble_eq_true rfl), (Nat.le_of_ble_eq_true rfl), (Nat.le_of_ble_eq_true rfl)⟩ rfl (gm_G.mono H (pV_elim (fun h9 H' => ?_) (fun e10 h11 H => ?_)))
    · show gm_G _ 378 _ _ _ _
      replace H := H'
      clear H'
      refine g_iinc (c := (Int32.ofNat 1)) rfl rfl rfl rfl rfl (pc' := 381) ?_
      refine g_goto rfl (pc' := 357) rfl ?_
      exact g_weak (show gm_Lle [some _, some _, some _, none, some _, some _, none, some _, some _, some _, none, some _] _ from ⟨rfl, ⟨rfl, ⟨rfl, ⟨rfl, ⟨rfl, ⟨rfl, ⟨rfl, ⟨rfl, ⟨rfl, trivial⟩⟩⟩⟩⟩⟩⟩⟩⟩) H
    · exact H
set_option maxRecDepth 20000 in
theorem w_596_384 {a0 : Nat} {r_1 : Option Nat} {r_2 : Option Nat} {x4 : Int32} {x5 : Int32} {r_7 : Option Nat} {r_8 : Option Nat} {x9 : Int32} {h : hh_T} {Q : Option Value ⊕ Nat → hh_T → Prop} (H : gm_G 596 239 [some (.ref a0), some (va_rf r_1), some (va_rf r_2), none, some (.int x4), some (.int x5), none, some (va_rf r_7), some (va_rf r_8), some (.int (x9 + (Int32.ofNat 1)))] [] h Q) : gm_G 596 384 [some (.ref a0), some (va_rf r_1), some (va_rf r_2), none, some (.int x4), some (.int x5), none, some (va_rf r_7), some (va_rf r_8), some (.int x9)] [] h Q := by
  refine g_iinc (c := (Int32.ofNat 1)) rfl rfl rfl gm_sto_rf8 rfl (pc' := 387) ?_
  refine g_goto rfl (pc' := 239) rfl ?_
  exact g_weak (show gm_Lle [some _, some _, some _, none, some _, some _, none, some _, some _, some _] _ from ⟨rfl, ⟨rfl, ⟨rfl, ⟨rfl, ⟨rfl, ⟨rfl, ⟨rfl, ⟨rfl, trivial⟩⟩⟩⟩⟩⟩⟩⟩) H
set_option maxRecDepth 20000 in
theorem w_596_390 {a0 : Nat} {r_1 : Option Nat} {r_2 : Option Nat} {x4 : Int32} {x5 : Int32} {h : hh_T} {Q : Option Value ⊕ Nat → hh_T → Prop} (H : gm_G 596 108 [some (.ref a0), some (va_rf r_1), some (va_rf r_2), none, some (.int x4), some (.int (x5 + (Int32.ofNat 1)))] [] h Q) : gm_G 596 390 [some (.ref a0), some (va_rf r_1), some (va_rf r_2), none, some (.int x4), some (.int x5)] [] h Q := by
  refine g_iinc (c := (Int32.ofNat 1)) rfl rfl rfl rfl rfl (pc' := 393) ?_
  refine g_goto rfl (pc' := 108) rfl ?_
  exact g_weak (show gm_Lle [some _, some _, some _, none, some _, some _] _ from ⟨rfl, ⟨rfl, ⟨rfl, ⟨rfl, ⟨rfl, trivial⟩⟩⟩⟩⟩) H
set_option maxRecDepth 20000 in
theorem w_596_461 {a0 : Nat}  {h : hh_T} {Q : Option Value ⊕ Nat → hh_T → Prop} (H : Q (.inl none) h) : gm_G 596 461 [] [] h Q := by
  exact g_return rfl H
set_option maxRecDepth 20000 in
theorem w_597_0 {a0 : Nat} {r_1 : Option Nat} {x2 : Int32} {h : hh_T} {Q : Option Value ⊕ Nat → hh_T → Prop} (H : hh_tg h a0 = 42 ∧ (gm_G 207 0 [some (.ref a0), some (va_rf r_1)] [] h (pR (fun r3 h2 => gm_sub (hh_tg h2 a0) 41 = true ∧ (∃ a5, r3 = some a5 ∧ (gm_sub (hh_tg h2 a5) 25 = true ∧ (((hh_i h2 a0 5) = (hh_i h2 a5 6) → (gm_G 597 22 [some (.ref a0), some (va_rf r_1), some (.int x2), some (.ref a5)] [.int (Int32.ofNat 0)] h2 Q)) ∧ (¬ (hh_i h2 a0 5) = (hh_i h2 a5 6) → (gm_G 597 22 [some (.ref a0), some (va_rf r_1), some (.int x2), some (.ref a5)] [.int (Int32.ofNat 1)] h2 Q)))))) (fun e7 h8 => hh_tg h8 e7 = 21 ∧ Q (.inr e7) h8)))) : gm_G 597 0 [some (.ref a0), some (va_rf r_1), some (.int x2)] [] h Q := by
  refine g_aload (r := some _) rfl rfl rfl (pc' := 1) ?_
  refine g_aload (r := _) rfl rfl rfl (pc' := 2) ?_
  obtain ⟨ht1, H⟩ := H
  refine g_call rfl (y := 207) (n := 2) (pc' := 5) (g_vt ht1 rfl rfl) (by cases r_1 <;> rfl) rfl ⟨(Nat.le_of_ble_eq_true rfl), (Nat.le_of_ble_eq_true rfl), (Nat.le_of_ble_eq_true rfl)⟩ rfl (gm_G.mono H (pR_elim (fun r3 h2 H' => ?_) (fun e7 h8 H => ?_)))
  · show gm_G _ 5 _ _ _ _
    replace H := H'
    clear H'
    refine g_astore (r := _) rfl rfl rfl (pc' := 6) ?_
    refine g_aload (r := some _) rfl rfl rfl (pc' := 7) ?_
    obtain ⟨ht4, H⟩ := H
    refine g_getI rfl rfl rfl rfl ht4 (pc' := 10) rfl ?_
    refine g_aload (r := _) rfl rfl rfl (pc' := 11) ?_
    obtain ⟨a5, rfl, H⟩ := H
    obtain ⟨ht6, H⟩ := H
    refine g_getI rfl rfl rfl rfl ht6 (pc' := 14) rfl ?_
    refine g_ic_eq rfl (pc' := 17) (pt := 21) rfl rfl ⟨fun hc => ?_, fun hc => ?_⟩
    · replace H := H.1 hc
      refine g_iconst rfl rfl rfl (pc' := 22) ?_
      exact g_weak (show gm_Lle [some _, some _, some _, some _] _ from ⟨rfl, ⟨rfl, ⟨rfl, ⟨rfl, trivial⟩⟩⟩⟩) H
    · replace H := H.2 hc
      refine g_iconst rfl rfl rfl (pc' := 18) ?_
      refine g_goto rfl (pc' := 22) rfl ?_
      exact g_weak (show gm_Lle [some _, some _, some _, some _] _ from ⟨rfl, ⟨rfl, ⟨rfl, ⟨rfl, trivial⟩⟩⟩⟩) H
  · exact H
set_option maxRecDepth 20000 in
theorem w_597_22 {a0 : Nat} {r_1 : Option Nat} {x2 : Int32} {r_3 : Option Nat} {y0 : Int32} {h : hh_T} {Q : Option Value ⊕ Nat → hh_T → Prop} (H : gm_G 431 0 [some (.int y0), some (.int (Int32.ofInt (-1)))] [] h (pV (fun h1 => gm_sub (hh_tg h1 a0) 41 = true ∧ (gm_G 597 40 [some (.ref a0), some (va_rf r_1), some (.int x2), some (va_rf r_3), some (.int ((((hh_i h1 a0 5) + (Int32.ofNat 32)) - (Int32.ofNat 1)) / (Int32.ofNat 32)))] [] h1 Q)) (fun e3 h4 => hh_tg h4 e3 = 21 ∧ Q (.inr e3) h4))) : gm_G 597 22 [some (.ref a0), some (va_rf r_1), some (.int x2), some (va_rf r_3)] [.int y0] h Q := by
  refine g_iconst rfl rfl rfl (pc' := 23) ?_
  refine g_call rfl (y := 431) (n := 2) (pc' := 26) (fun _ => rfl) rfl rfl ⟨(Nat.le_of_ble_eq_true rfl), (Nat.le_of_ble_eq_true rfl), (Nat.le_of_ble_eq_true rfl)⟩ rfl (gm_G.mono H (pV_elim (fun h1 H' => ?_) (fun e3 h4 H => ?_)))
  · show gm_G _ 26 _ _ _ _
    replace H := H'
    clear H'
    refine g_aload (r := some _) rfl rfl rfl (pc' := 27) ?_
    obtain ⟨ht2, H⟩ := H
    refine g_getI rfl rfl rfl rfl ht2 (pc' := 30) rfl ?_
    refine g_iconst rfl rfl rfl (pc' := 32) ?_
    refine g_iadd rfl rfl (pc' := 33) ?_
    refine g_iconst rfl rfl rfl (pc' := 34) ?_
    refine g_isub rfl rfl (pc' := 35) ?_
    refine g_iconst rfl rfl rfl (pc' := 37) ?_
    refine g_idiv rfl (by decide) (pc' := 38) rfl ?_
    refine g_istore rfl gm_sto_rf3 rfl (pc' := 40) ?_
    exact g_weak (show gm_Lle [some _, some _, some _, some _, some _] _ from ⟨rfl, ⟨rfl, ⟨rfl, ⟨rfl, ⟨rfl, trivial⟩⟩⟩⟩⟩) H
  · exact H
set_option maxRecDepth 20000 in
theorem w_597_40 {a0 : Nat} {r_1 : Option Nat} {x2 : Int32} {r_3 : Option Nat} {x4 : Int32} {h : hh_T} {Q : Option Value ⊕ Nat → hh_T → Prop} (H : (¬ x4 < (Int32.ofNat 8) → (gm_sub (hh_tg h a0) 41 = true ∧ (∃ a2, r_3 = some a2 ∧ (gm_sub (hh_tg h a2) 25 = true ∧ ((¬ (hh_i h a0 5) < (hh_i h a2 6) → (gm_G 597 172 [some (.ref a0), some (va_rf r_1), some (.int x2)] [] h Q)) ∧ ((hh_i h a0 5) < (hh_i h a2 6) → ((((hh_i h a0 5) - (hh_i h a0 5) / (Int32.ofNat 32) * (Int32.ofNat 32)) = Int32.ofNat 0 → (gm_G 597 172 [some (.ref a0), some (va_rf r_1), some (.int x2)] [] h Q)) ∧ (¬ ((hh_i h a0 5) - (hh_i h a0 5) / (Int32.ofNat 32) * (Int32.ofNat 32)) = Int32.ofNat 0 → (gm_sub (hh_tg h a2) 26 = true ∧ (∀ r5, r5 = hh_r h a2 12 → (∃ a6, r5 = some a6 ∧ ((hh_tg h a6 = 104 ∨ 200 ≤ hh_tg h a6) ∧ (∃ n7, gm_ix ((hh_i h a0 5) / (Int32.ofNat 32)) n7 (hh_ln h a6) ∧ (∀ r9, r9 = hh_r h a6 n7 → ((r9 = none → (gm_G 597 172 [some (.ref a0), some (va_rf r_1), some (.int x2)] [] h Q)) ∧ (∀ a10, r9 = some a10 → (∀ r11, r11 = hh_r h a0 6 → (∀ r12, r12 = hh_r h a2 12 → (∃ a13, r12 = some a13 ∧ ((hh_tg h a13 = 104 ∨ 200 ≤ hh_tg h a13) ∧ (∃ n14, gm_ix ((hh_i h a0 5) / (Int32.ofNat 32)) n14 (hh_ln h a13) ∧ (∀ r16, r16 = hh_r h a13 n14 → (∀ r17, r17 = hh_r h a0 6 → (∃ a18, r17 = some a18 ∧ (gm_sub (hh_tg h a18) 0 = true ∧ (∀ r20, r20 = hh_r h a18 46 → (∃ a21, r11 = some a21 ∧ (hh_tg h a21 = 1 ∧ (gm_G 592 0 [some (.ref a21), some (va_rf r16), some (va_rf r20), some (.int ((Int32.ofNat 32) * ((hh_i h a0 5) / (Int32.ofNat 32))))] [] h (pV (fun h23 => gm_sub (hh_tg h23 a0) 41 = true ∧ (gm_G 597 136 [some (.ref a0), some (va_rf r_1), some (.int x2), none, some (.int ((hh_i h a0 5) / (Int32.ofNat 32))), some (.int (hh_i h23 a0 5))] [] h23 Q)) (fun e25 h26 => hh_tg h26 e25 = 21 ∧ Q (.inr e25) h26))))))))))))))))))))))))))))))) ∧ (x4 < (Int32.ofNat 8) → (gm_sub (hh_tg h a0) 41 = true ∧ (∀ r28, r28 = hh_r h a0 6 → (∃ a29, r28 = some a29 ∧ (gm_sub (hh_tg h a29) 0 = true ∧ (∀ r31, r31 = hh_r h a29 48 → (∃ a32, r31 = some a32 ∧ (hh_tg h a32 = 102 ∧ (∃ n33, gm_ix x4 n33 (hh_ln h a32) ∧ (∀ h34, h34 = hh_wi h a32 n33 (Int32.ofNat 1) → (gm_G 597 40 [some (.ref a0), some (va_rf r_1), some (.int x2), some (va_rf r_3), some (.int (x4 + (Int32.ofNat 1)))] [] h34 Q)))))))))))) : gm_G 597 40 [some (.ref a0), some (va_rf r_1), some (.int x2), some (va_rf r_3), some (.int x4)] [] h Q := by
  refine g_iload rfl rfl rfl (pc' := 42) ?_
  refine g_iconst rfl rfl rfl (pc' := 44) ?_
  refine g_ic_ge rfl (pc' := 47) (pt := 64) rfl rfl ⟨fun hc => ?_, fun hc => ?_⟩
  · replace H := H.1 hc
    refine g_aload (r := some _) rfl rfl rfl (pc' := 65) ?_
    obtain ⟨ht1, H⟩ := H
    refine g_getI rfl rfl rfl rfl ht1 (pc' := 68) rfl ?_
    refine g_iconst rfl rfl rfl (pc' := 70) ?_
    refine g_idiv rfl (by decide) (pc' := 71) rfl ?_
    refine g_istore rfl gm_sto_rf3 rfl (pc' := 73) ?_
    refine g_aload (r := some _) rfl rfl rfl (pc' := 74) ?_
    refine g_getI rfl rfl rfl rfl ht1 (pc' := 77) rfl ?_
    refine g_aload (r := _) rfl rfl rfl (pc' := 78) ?_
    obtain ⟨a2, rfl, H⟩ := H
    obtain ⟨ht3, H⟩ := H
    refine g_getI rfl rfl rfl rfl ht3 (pc' := 81) rfl ?_
    refine g_ic_ge rfl (pc' := 84) (pt := 172) rfl rfl ⟨fun hc => ?_, fun hc => ?_⟩
    · replace H := H.1 hc
      exact g_weak (show gm_Lle [some _, some _, some _] _ from ⟨rfl, ⟨rfl, ⟨rfl, trivial⟩⟩⟩) H
    · replace H := H.2 hc
      refine g_aload (r := some _) rfl rfl rfl (pc' := 85) ?_
      refine g_getI rfl rfl rfl rfl ht1 (pc' := 88) rfl ?_
      refine g_iconst rfl rfl rfl (pc' := 90) ?_
      refine g_irem rfl (by decide) (pc' := 91) rfl ?_
      refine g_if_eq rfl (pc' := 94) (pt := 172) rfl rfl ⟨fun hc => ?_, fun hc => ?_⟩
      · replace H := H.1 hc
        exact g_weak (show gm_Lle [some _, some _, some _] _ from ⟨rfl, ⟨rfl, ⟨rfl, trivial⟩⟩⟩) H
      · replace H := H.2 hc
        refine g_aload (r := some _) rfl rfl rfl (pc' := 95) ?_
        obtain ⟨ht4, H⟩ := H
        refine g_getRv rfl rfl rfl rfl ht4 (pc' := 98) rfl (fun r5 hr5 => ?_)
        replace H := H r5 hr5
        refine g_iload rfl rfl rfl (pc' := 100) ?_
        obtain ⟨a6, rfl, H⟩ := H
        obtain ⟨ht8, H⟩ := H
        obtain ⟨n7, hn7, H⟩ := H
        refine g_aaloadv rfl ht8 hn7 (pc' := 101) rfl (fun r9 hr9 => ?_)
        replace H := H r9 hr9
        refine g_ifnull rfl (pc' := 104) (pt := 172) rfl rfl ⟨fun hc => ?_, fun a10 hc => ?_⟩
        · replace H := H.1 hc
          subst hc
          exact g_weak (show gm_Lle [some _, some _, some _] _ from ⟨rfl, ⟨rfl, ⟨rfl, trivial⟩⟩⟩) H
        · replace H := H.2 a10 hc
          subst hc
          refine g_aload (r := some _) rfl rfl rfl (pc' := 105) ?_
          refine g_getRv rfl rfl rfl rfl ht1 (pc' := 108) rfl (fun r11 hr11 => ?_)
          replace H := H r11 hr11
          refine g_aload (r := some _) rfl rfl rfl (pc' := 109) ?_
          refine g_getRv rfl rfl rfl rfl ht4 (pc' := 112) rfl (fun r12 hr12 => ?_)
          replace H := H r12 hr12
          refine g_iload rfl rfl rfl (pc' := 114) ?_
          obtain ⟨a13, rfl, H⟩ := H
          obtain ⟨ht15, H⟩ := H
          obtain ⟨n14, hn14, H⟩ := H
          refine g_aaloadv rfl ht15 hn14 (pc' := 115) rfl (fun r16 hr16 => ?_)
          replace H := H r16 hr16
          refine g_aload (r := some _) rfl rfl rfl (pc' := 116) ?_
          refine g_getRv rfl rfl rfl rfl ht1 (pc' := 119) rfl (fun r17 hr17 => ?_)
          replace H := H r17 hr17
          obtain ⟨a18, rfl, H⟩ := H
          obtain ⟨ht19, H⟩ := H
          refine g_getRv rfl rfl rfl rfl ht19 (pc' := 122) rfl (fun r20 hr20 => ?_)
          replace H := H r20 hr20
          refine g_iconst rfl rfl rfl (pc' := 124) ?_
          refine g_iload rfl rfl rfl (pc' := 126) ?_
          refine g_imul rfl rfl (pc' := 127) ?_
          obtain ⟨a21, rfl, H⟩ := H
          obtain ⟨ht22, H⟩ := H
          refine g_call rfl (y := 592) (n := 4) (pc' := 130) (g_vt ht22 rfl rfl) (by cases r16 <;> cases r20 <;> rfl) rfl ⟨(Nat.le_of_ble_eq_true rfl), (Nat.le_of_ble_eq_true rfl), (Nat.le_of_ble_eq_true rfl)⟩ rfl (gm_G.mono H (pV_elim (fun h23 H' => ?_) (fun e25 h26 H => ?_)))
          · show gm_G _ 130 _ _ _ _
            replace H := H'
            clear H'
            refine g_aload (r := some _) rfl rfl rfl (pc' := 131) ?_
            obtain ⟨ht24, H⟩ := H
            refine g_getI rfl rfl rfl rfl ht24 (pc' := 134) rfl ?_
            refine g_istore rfl rfl rfl (pc' := 136) ?_
            exact g_weak (show gm_Lle [some _, some _, some _, none, some _, some _] _ from ⟨rfl, ⟨rfl, ⟨rfl, ⟨rfl, ⟨rfl, trivial⟩⟩⟩⟩⟩) H
          · exact H
  · replace H := H.2 hc
    refine g_aload (r := some _) rfl rfl rfl (pc' := 48) ?_
    obtain ⟨ht27, H⟩ := H
    refine g_getRv rfl rfl rfl rfl ht27 (pc' := 51) rfl (fun r28 hr28 => ?_)
    replace H := H r28 hr28
    obtain ⟨a29, rfl, H⟩ := H
    obtain ⟨ht30, H⟩ := H
    refine g_getRv rfl rfl rfl rfl ht30 (pc' := 54) rfl (fun r31 hr31 => ?_)
    replace H := H r31 hr31
    refine g_iload rfl rfl rfl (pc' := 56) ?_
    refine g_iconst rfl rfl rfl (pc' := 57) ?_
    obtain ⟨a32, rfl, H⟩ := H
    obtain ⟨ht35, H⟩ := H
    obtain ⟨n33, hn33, H⟩ := H
    refine g_zastore rfl ht35 hn33 (by decide) (pc' := 58) rfl ?_
    replace H := H _ rfl
    refine g_iinc (c := (Int32.ofNat 1)) rfl rfl rfl gm_sto_rf3 rfl (pc' := 61) ?_
    refine g_goto rfl (pc' := 40) rfl ?_
    exact g_weak (show gm_Lle [some _, some _, some _, some _, some _] _ from ⟨rfl, ⟨rfl, ⟨rfl, ⟨rfl, ⟨rfl, trivial⟩⟩⟩⟩⟩) H
set_option maxRecDepth 20000 in
theorem w_597_136 {a0 : Nat} {r_1 : Option Nat} {x2 : Int32} {x4 : Int32} {x5 : Int32} {h : hh_T} {Q : Option Value ⊕ Nat → hh_T → Prop} (H : (¬ x5 < ((Int32.ofNat 32) * (x4 + (Int32.ofNat 1))) → (hh_tg h a0 = 42 ∧ (gm_G 564 0 [some (.ref a0), some (va_rf r_1), some (.int x4)] [] h (pV (fun h2 => gm_G 597 172 [some (.ref a0), some (va_rf r_1), some (.int x2)] [] h2 Q) (fun e3 h4 => hh_tg h4 e3 = 21 ∧ Q (.inr e3) h4))))) ∧ (x5 < ((Int32.ofNat 32) * (x4 + (Int32.ofNat 1))) → (gm_sub (hh_tg h a0) 41 = true ∧ (∀ r6, r6 = hh_r h a0 6 → (∃ a7, r6 = some a7 ∧ (gm_sub (hh_tg h a7) 0 = true ∧ (∀ r9, r9 = hh_r h a7 46 → (∃ a10, r9 = some a10 ∧ (hh_tg h a10 = 101 ∧ (∃ n11, gm_ix x5 n11 (hh_ln h a10) ∧ (∀ h12, h12 = hh_wi h a10 n11 ((Int32.ofNat 0).toInt8.toInt32) → (gm_G 597 136 [some (.ref a0), some (va_rf r_1), some (.int x2), none, some (.int x4), some (.int (x5 + (Int32.ofNat 1)))] [] h12 Q)))))))))))) : gm_G 597 136 [some (.ref a0), some (va_rf r_1), some (.int x2), none, some (.int x4), some (.int x5)] [] h Q := by
  refine g_iload rfl rfl rfl (pc' := 138) ?_
  refine g_iconst rfl rfl rfl (pc' := 140) ?_
  refine g_iload rfl rfl rfl (pc' := 142) ?_
  refine g_iconst rfl rfl rfl (pc' := 143) ?_
  refine g_iadd rfl rfl (pc' := 144) ?_
  refine g_imul rfl rfl (pc' := 145) ?_
  refine g_ic_ge rfl (pc' := 148) (pt := 165) rfl rfl ⟨fun hc => ?_, fun hc => ?_⟩
  · replace H := H.1 hc
    refine g_aload (r := some _) rfl rfl rfl (pc' := 166) ?_
    refine g_aload (r := _) rfl rfl rfl (pc' := 167) ?_
    refine g_iload rfl rfl rfl (pc' := 169) ?_
    obtain ⟨ht1, H⟩ := H
    refine g_call rfl (y := 564) (n := 3) (pc' := 172) (g_vt ht1 rfl rfl) (by cases r_1 <;> rfl) rfl ⟨(Nat.le_of_ble_eq_true rfl), (Nat.le_of_ble_eq_true rfl), (Nat.le_of_ble_eq_true rfl)⟩ rfl (gm_G.mono H (pV_elim (fun h2 H' => ?_) (fun e3 h4 H => ?_)))
    · show gm_G _ 172 _ _ _ _
      replace H := H'
      clear H'
      exact g_weak (show gm_Lle [some _, some _, some _] _ from ⟨rfl, ⟨rfl, ⟨rfl, trivial⟩⟩⟩) H
    · exact H
  · replace H := H.2 hc
    refine g_aload (r := some _) rfl rfl rfl (pc' := 149) ?_
    obtain ⟨ht5, H⟩ := H
    refine g_getRv rfl rfl rfl rfl ht5 (pc' := 152) rfl (fun r6 hr6 => ?_)
    replace H := H r6 hr6
    obtain ⟨a7, rfl, H⟩ := H
    obtain ⟨ht8, H⟩ := H
    refine g_getRv rfl rfl rfl rfl ht8 (pc' := 155) rfl (fun r9 hr9 => ?_)
    replace H := H r9 hr9
    refine g_iload rfl rfl rfl (pc' := 157) ?_
    refine g_iconst rfl rfl rfl (pc' := 158) ?_
    obtain ⟨a10, rfl, H⟩ := H
    obtain ⟨ht13, H⟩ := H
    obtain ⟨n11, hn11, H⟩ := H
    refine g_bastore rfl ht13 hn11  (pc' := 159) rfl ?_
    replace H := H _ rfl
    refine g_iinc (c := (Int32.ofNat 1)) rfl rfl rfl rfl rfl (pc' := 162) ?_
    refine g_goto rfl (pc' := 136) rfl ?_
    exact g_weak (show gm_Lle [some _, some _, some _, none, some _, some _] _ from ⟨rfl, ⟨rfl, ⟨rfl, ⟨rfl, ⟨rfl, trivial⟩⟩⟩⟩⟩) H
set_option maxRecDepth 20000 in
theorem w_597_172 {a0 : Nat} {r_1 : Option Nat} {x2 : Int32} {h : hh_T} {Q : Option Value ⊕ Nat → hh_T → Prop} (H : gm_sub (hh_tg h a0) 41 = true ∧ (hh_tg h a0 = 42 ∧ (gm_G 591 0 [some (.ref a0), some (va_rf r_1), some (.int (hh_i h a0 5)), some (.int x2)] [] h (pV (fun h3 => Q (.inl none) h3) (fun e4 h5 => hh_tg h5 e4 = 21 ∧ Q (.inr e4) h5))))) : gm_G 597 172 [some (.ref a0), some (va_rf r_1), some (.int x2)] [] h Q := by
  refine g_aload (r := some _) rfl rfl rfl (pc' := 173) ?_
  refine g_aload (r := _) rfl rfl rfl (pc' := 174) ?_
  refine g_aload (r := some _) rfl rfl rfl (pc' := 175) ?_
  obtain ⟨ht1, H⟩ := H
  refine g_getI rfl rfl rfl rfl ht1 (pc' := 178) rfl ?_
  refine g_iload rfl rfl rfl (pc' := 179) ?_
  obtain ⟨ht2, H⟩ := H
  refine g_call rfl (y := 591) (n := 4) (pc' := 182) (g_vt ht2 rfl rfl) (by cases r_1 <;> rfl) rfl ⟨(Nat.le_of_ble_eq_true rfl), (Nat.le_of_ble_eq_true rfl), (Nat.le_of_ble_eq_true rfl)⟩ rfl (gm_G.mono H (pV_elim (fun h3 H' => ?_) (fun e4 h5 H => ?_)))
  · show gm_G _ 182 _ _ _ _
    replace H := H'
    clear H'
    exact g_return rfl H
  · exact H
set_option maxRecDepth 20000 in
theorem w_598_0 {a0 : Nat} {r_1 : Option Nat} {x2 : Int32} {h : hh_T} {Q : Option Value ⊕ Nat → hh_T → Prop} (H : hh_tg h a0 = 45 ∧ (gm_G 207 0 [some (.ref a0), some (va_rf r_1)] [] h (pR (fun r3 h2 => gm_sub (hh_tg h2 a0) 44 = true ∧ (∀ r5, r5 = hh_r h2 a0 6 → (∃ a6, r5 = some a6 ∧ (100 ≤ hh_tg h2 a6 ∧ (gm_G 598 40 [some (.ref a0), some (va_rf r_1), some (.int x2), some (va_rf r3), some (.int ((hh_i h2 a0 5) + (Int32.ofNat (hh_ln h2 a6)))), some (.int ((hh_i h2 a0 5) / (Int32.ofNat 32))), some (.int ((((hh_i h2 a0 5) + (Int32.ofNat (hh_ln h2 a6))) - (Int32.ofNat 1)) / (Int32.ofNat 32))), some (.int ((hh_i h2 a0 5) / (Int32.ofNat 32)))] [] h2 Q))))) (fun e7 h8 => hh_tg h8 e7 = 21 ∧ Q (.inr e7) h8)))) : gm_G 598 0 [some (.ref a0), some (va_rf r_1), some (.int x2)] [] h Q := by
  refine g_aload (r := some _) rfl rfl rfl (pc' := 1) ?_
  refine g_aload (r := _) rfl rfl rfl (pc' := 2) ?_
  obtain ⟨ht1, H⟩ := H
  refine g_call rfl (y := 207) (n := 2) (pc' := 5) (g_vt ht1 rfl rfl) (by cases r_1 <;> rfl) rfl ⟨(Nat.le_of_ble_eq_true rfl), (Nat.le_of_ble_eq_true rfl), (Nat.le_of_ble_eq_true rfl)⟩ rfl (gm_G.mono H (pR_elim (fun r3 h2 H' => ?_) (fun e7 h8 H => ?_)))
  · show gm_G _ 5 _ _ _ _
    replace H := H'
    clear H'
    refine g_astore (r := _) rfl rfl rfl (pc' := 6) ?_
    refine g_aload (r := some _) rfl rfl rfl (pc' := 7) ?_
    obtain ⟨ht4, H⟩ := H
    refine g_getI rfl rfl rfl rfl ht4 (pc' := 10) rfl ?_
    refine g_aload (r := some _) rfl rfl rfl (pc' := 11) ?_
    refine g_getRv rfl rfl rfl rfl ht4 (pc' := 14) rfl (fun r5 hr5 => ?_)
    replace H := H r5 hr5
    obtain ⟨a6, rfl, H⟩ := H
    obtain ⟨Hp, H⟩ := H
    refine g_alen rfl Hp (pc' := 15) rfl ?_
    refine g_iadd rfl rfl (pc' := 16) ?_
    refine g_istore rfl gm_sto_rf3 rfl (pc' := 18) ?_
    refine g_aload (r := some _) rfl rfl rfl (pc' := 19) ?_
    refine g_getI rfl rfl rfl rfl ht4 (pc' := 22) rfl ?_
    refine g_iconst rfl rfl rfl (pc' := 24) ?_
    refine g_idiv rfl (by decide) (pc' := 25) rfl ?_
    refine g_istore rfl rfl rfl (pc' := 27) ?_
    refine g_iload rfl rfl rfl (pc' := 29) ?_
    refine g_iconst rfl rfl rfl (pc' := 30) ?_
    refine g_isub rfl rfl (pc' := 31) ?_
    refine g_iconst rfl rfl rfl (pc' := 33) ?_
    refine g_idiv rfl (by decide) (pc' := 34) rfl ?_
    refine g_istore rfl rfl rfl (pc' := 36) ?_
    refine g_iload rfl rfl rfl (pc' := 38) ?_
    refine g_istore rfl rfl rfl (pc' := 40) ?_
    exact g_weak (show gm_Lle [some _, some _, some _, some _, some _, some _, some _, some _] _ from ⟨rfl, ⟨rfl, ⟨rfl, ⟨rfl, ⟨rfl, ⟨rfl, ⟨rfl, ⟨rfl, trivial⟩⟩⟩⟩⟩⟩⟩⟩) H
  · exact H
set_option maxRecDepth 20000 in
theorem w_598_40 {a0 : Nat} {r_1 : Option Nat} {x2 : Int32} {r_3 : Option Nat} {x4 : Int32} {x5 : Int32} {x6 : Int32} {x7 : Int32} {h : hh_T} {Q : Option Value ⊕ Nat → hh_T → Prop} (H : (x6 < x7 → (gm_G 598 122 [some (.ref a0), some (va_rf r_1), some (.int x2), some (va_rf r_3), some (.int x4), some (.int x5), some (.int x6), some (.int (Int32.ofNat 0))] [] h Q)) ∧ (¬ x6 < x7 → (gm_sub (hh_tg h a0) 44 = true ∧ ((((Int32.ofNat 32) * x7) < (hh_i h a0 5) → (gm_G 598 75 [some (.ref a0), some (va_rf r_1), some (.int x2), some (va_rf r_3), some (.int x4), some (.int x5), some (.int x6), some (.int x7)] [] h Q)) ∧ (¬ ((Int32.ofNat 32) * x7) < (hh_i h a0 5) → ((x4 < ((Int32.ofNat 32) * (x7 + (Int32.ofNat 1))) → (gm_G 598 75 [some (.ref a0), some (va_rf r_1), some (.int x2), some (va_rf r_3), some (.int x4), some (.int x5), some (.int x6), some (.int x7)] [] h Q)) ∧ (¬ x4 < ((Int32.ofNat 32) * (x7 + (Int32.ofNat 1))) → (gm_G 598 76 [some (.ref a0), some (va_rf r_1), some (.int x2), some (va_rf r_3), some (.int x4), some (.int x5), some (.int x6), some (.int x7)] [.int (Int32.ofNat 1)] h Q)))))))) : gm_G 598 40 [some (.ref a0), some (va_rf r_1), some (.int x2), some (va_rf r_3), some (.int x4), some (.int x5), some (.int x6), some (.int x7)] [] h Q := by
  refine g_iload rfl rfl rfl (pc' := 42) ?_
  refine g_iload rfl rfl rfl (pc' := 44) ?_
  refine g_ic_gt rfl (pc' := 47) (pt := 119) rfl rfl ⟨fun hc => ?_, fun hc => ?_⟩
  · replace H := H.1 hc
    refine g_iconst rfl rfl rfl (pc' := 120) ?_
    refine g_istore rfl rfl rfl (pc' := 122) ?_
    exact g_weak (show gm_Lle [some _, some _, some _, some _, some _, some _, some _, some _] _ from ⟨rfl, ⟨rfl, ⟨rfl, ⟨rfl, ⟨rfl, ⟨rfl, ⟨rfl, ⟨rfl, trivial⟩⟩⟩⟩⟩⟩⟩⟩) H
  · replace H := H.2 hc
    refine g_aload (r := some _) rfl rfl rfl (pc' := 48) ?_
    obtain ⟨ht1, H⟩ := H
    refine g_getI rfl rfl rfl rfl ht1 (pc' := 51) rfl ?_
    refine g_iconst rfl rfl rfl (pc' := 53) ?_
    refine g_iload rfl rfl rfl (pc' := 55) ?_
    refine g_imul rfl rfl (pc' := 56) ?_
    refine g_ic_gt rfl (pc' := 59) (pt := 75) rfl rfl ⟨fun hc => ?_, fun hc => ?_⟩
    · replace H := H.1 hc
      exact g_weak (show gm_Lle [some _, some _, some _, some _, some _, some _, some _, some _] _ from ⟨rfl, ⟨rfl, ⟨rfl, ⟨rfl, ⟨rfl, ⟨rfl, ⟨rfl, ⟨rfl, trivial⟩⟩⟩⟩⟩⟩⟩⟩) H
    · replace H := H.2 hc
      refine g_iload rfl rfl rfl (pc' := 61) ?_
      refine g_iconst rfl rfl rfl (pc' := 63) ?_
      refine g_iload rfl rfl rfl (pc' := 65) ?_
      refine g_iconst rfl rfl rfl (pc' := 66) ?_
      refine g_iadd rfl rfl (pc' := 67) ?_
      refine g_imul rfl rfl (pc' := 68) ?_
      refine g_ic_lt rfl (pc' := 71) (pt := 75) rfl rfl ⟨fun hc => ?_, fun hc => ?_⟩
      · replace H := H.1 hc
        exact g_weak (show gm_Lle [some _, some _, some _, some _, some _, some _, some _, some _] _ from ⟨rfl, ⟨rfl, ⟨rfl, ⟨rfl, ⟨rfl, ⟨rfl, ⟨rfl, ⟨rfl, trivial⟩⟩⟩⟩⟩⟩⟩⟩) H
      · replace H := H.2 hc
        refine g_iconst rfl rfl rfl (pc' := 72) ?_
        refine g_goto rfl (pc' := 76) rfl ?_
        exact g_weak (show gm_Lle [some _, some _, some _, some _, some _, some _, some _, some _] _ from ⟨rfl, ⟨rfl, ⟨rfl, ⟨rfl, ⟨rfl, ⟨rfl, ⟨rfl, ⟨rfl, trivial⟩⟩⟩⟩⟩⟩⟩⟩) H
set_option maxRecDepth 20000 in
theorem w_598_75 {a0 : Nat} {r_1 : Option Nat} {x2 : Int32} {r_3 : Option Nat} {x4 : Int32} {x5 : Int32} {x6 : Int32} {x7 : Int32} {h : hh_T} {Q : Option Value ⊕ Nat → hh_T → Prop} (H : gm_G 598 76 [some (.ref a0), some (va_rf r_1), some (.int x2), some (va_rf r_3), some (.int x4), some (.int x5), some (.int x6), some (.int x7)] [.int (Int32.ofNat 0)] h Q) : gm_G 598 75 [some (.ref a0), some (va_rf r_1), some (.int x2), some (va_rf r_3), some (.int x4), some (.int x5), some (.int x6), some (.int x7)] [] h Q := by
  refine g_iconst rfl rfl rfl (pc' := 76) ?_
  exact g_weak (show gm_Lle [some _, some _, some _, some _, some _, some _, some _, some _] _ from ⟨rfl, ⟨rfl, ⟨rfl, ⟨rfl, ⟨rfl, ⟨rfl, ⟨rfl, ⟨rfl, trivial⟩⟩⟩⟩⟩⟩⟩⟩) H
set_option maxRecDepth 20000 in
theorem w_598_76 {a0 : Nat} {r_1 : Option Nat} {x2 : Int32} {r_3 : Option Nat} {x4 : Int32} {x5 : Int32} {x6 : Int32} {x7 : Int32} {y0 : Int32} {h : hh_T} {Q : Option Value ⊕ Nat → hh_T → Prop} (H : gm_sub (hh_tg h a0) 44 = true ∧ (∀ r2, r2 = hh_r h a0 7 → ((y0 = Int32.ofNat 0 → (∃ a3, r_3 = some a3 ∧ (gm_sub (hh_tg h a3) 26 = true ∧ (∀ r5, r5 = hh_r h a3 12 → (∃ a6, r5 = some a6 ∧ ((hh_tg h a6 = 104 ∨ 200 ≤ hh_tg h a6) ∧ (∃ n7, gm_ix x7 n7 (hh_ln h a6) ∧ (∀ r9, r9 = hh_r h a6 n7 → (gm_G 598 98 [some (.ref a0), some (va_rf r_1), some (.int x2), some (.ref a3), some (.int x4), some (.int x5), some (.int x6), some (.int x7)] [va_rf r9, va_rf r2] h Q))))))))) ∧ (¬ y0 = Int32.ofNat 0 → (gm_G 598 98 [some (.ref a0), some (va_rf r_1), some (.int x2), some (va_rf r_3), some (.int x4), some (.int x5), some (.int x6), some (.int x7)] [va_rf none, va_rf r2] h Q))))) : gm_G 598 76 [some (.ref a0), some (va_rf r_1), some (.int x2), some (va_rf r_3), some (.int x4), some (.int x5), some (.int x6), some (.int x7)] [.int y0] h Q := by
  refine g_istore rfl rfl rfl (pc' := 78) ?_
  refine g_aload (r := some _) rfl rfl rfl (pc' := 79) ?_
  obtain ⟨ht1, H⟩ := H
  refine g_getRv rfl rfl rfl rfl ht1 (pc' := 82) rfl (fun r2 hr2 => ?_)
  replace H := H r2 hr2
  refine g_iload rfl rfl rfl (pc' := 84) ?_
  refine g_if_eq rfl (pc' := 87) (pt := 91) rfl rfl ⟨fun hc => ?_, fun hc => ?_⟩
  · replace H := H.1 hc
    refine g_aload (r := _) rfl rfl rfl (pc' := 92) ?_
    obtain ⟨a3, rfl, H⟩ := H
    obtain ⟨ht4, H⟩ := H
    refine g_getRv rfl rfl rfl rfl ht4 (pc' := 95) rfl (fun r5 hr5 => ?_)
    replace H := H r5 hr5
    refine g_iload rfl rfl rfl (pc' := 97) ?_
    obtain ⟨a6, rfl, H⟩ := H
    obtain ⟨ht8, H⟩ := H
    obtain ⟨n7, hn7, H⟩ := H
    refine g_aaloadv rfl ht8 hn7 (pc' := 98) rfl (fun r9 hr9 => ?_)
    replace H := H r9 hr9
    exact g_weak (show gm_Lle [some _, some _, some _, some _, some _, some _, some _, some _] _ from ⟨rfl, ⟨rfl, ⟨rfl, ⟨rfl, ⟨rfl, ⟨rfl, ⟨rfl, ⟨rfl, trivial⟩⟩⟩⟩⟩⟩⟩⟩) H
  · replace H := H.2 hc
    refine g_null rfl rfl (pc' := 88) ?_
    refine g_goto rfl (pc' := 98) rfl ?_
    exact g_weak (show gm_Lle [some _, some _, some _, some _, some _, some _, some _, some _] _ from ⟨rfl, ⟨rfl, ⟨rfl, ⟨rfl, ⟨rfl, ⟨rfl, ⟨rfl, ⟨rfl, trivial⟩⟩⟩⟩⟩⟩⟩⟩) H
set_option maxRecDepth 20000 in
theorem w_598_98 {a0 : Nat} {r_1 : Option Nat} {x2 : Int32} {r_3 : Option Nat} {x4 : Int32} {x5 : Int32} {x6 : Int32} {x7 : Int32} {q0 : Option Nat} {q1 : Option Nat} {h : hh_T} {Q : Option Value ⊕ Nat → hh_T → Prop} (H : gm_sub (hh_tg h a0) 44 = true ∧ (∀ r2, r2 = hh_r h a0 7 → (∃ a3, r2 = some a3 ∧ (gm_sub (hh_tg h a3) 0 = true ∧ (∀ r5, r5 = hh_r h a3 46 → (∃ a6, q1 = some a6 ∧ (hh_tg h a6 = 1 ∧ (gm_G 592 0 [some (.ref a6), some (va_rf q0), some (va_rf r5), some (.int ((Int32.ofNat 32) * x7))] [] h (pV (fun h8 => gm_G 598 40 [some (.ref a0), some (va_rf r_1), some (.int x2), some (va_rf r_3), some (.int x4), some (.int x5), some (.int x6), some (.int (x7 + (Int32.ofNat 1)))] [] h8 Q) (fun e9 h10 => hh_tg h10 e9 = 21 ∧ Q (.inr e9) h10)))))))))) : gm_G 598 98 [some (.ref a0), some (va_rf r_1), some (.int x2), some (va_rf r_3), some (.int x4), some (.int x5), some (.int x6), some (.int x7)] [va_rf q0, va_rf q1] h Q := by
  refine g_aload (r := some _) rfl rfl rfl (pc' := 99) ?_
  obtain ⟨ht1, H⟩ := H
  refine g_getRv rfl rfl rfl rfl ht1 (pc' := 102) rfl (fun r2 hr2 => ?_)
  replace H := H r2 hr2
  obtain ⟨a3, rfl, H⟩ := H
  obtain ⟨ht4, H⟩ := H
  refine g_getRv rfl rfl rfl rfl ht4 (pc' := 105) rfl (fun r5 hr5 => ?_)
  replace H := H r5 hr5
  refine g_iconst rfl rfl rfl (pc' := 107) ?_
  refine g_iload rfl rfl rfl (pc' := 109) ?_
  refine g_imul rfl rfl (pc' := 110) ?_
  obtain ⟨a6, rfl, H⟩ := H
  obtain ⟨ht7, H⟩ := H
  refine g_call rfl (y := 592) (n := 4) (pc' := 113) (g_vt ht7 rfl rfl) (by cases q0 <;> cases r5 <;> rfl) rfl ⟨(Nat.le_of_ble_eq_true rfl), (Nat.le_of_ble_eq_true rfl), (Nat.le_of_ble_eq_true rfl)⟩ rfl (gm_G.mono H (pV_elim (fun h8 H' => ?_) (fun e9 h10 H => ?_)))
  · show gm_G _ 113 _ _ _ _
    replace H := H'
    clear H'
    refine g_iinc (c := (Int32.ofNat 1)) rfl rfl rfl rfl rfl (pc' := 116) ?_
    refine g_goto rfl (pc' := 40) rfl ?_
    exact g_weak (show gm_Lle [some _, some _, some _, some _, some _, some _, some _, some _] _ from ⟨rfl, ⟨rfl, ⟨rfl, ⟨rfl, ⟨rfl, ⟨rfl, ⟨rfl, ⟨rfl, trivial⟩⟩⟩⟩⟩⟩⟩⟩) H
  · exact H
set_option maxRecDepth 20000 in
theorem w_598_122 {a0 : Nat} {r_1 : Option Nat} {x2 : Int32} {r_3 : Option Nat} {x4 : Int32} {x5 : Int32} {x6 : Int32} {x7 : Int32} {h : hh_T} {Q : Option Value ⊕ Nat → hh_T → Prop} (H : gm_sub (hh_tg h a0) 44 = true ∧ (∀ r2, r2 = hh_r h a0 6 → (∃ a3, r2 = some a3 ∧ (100 ≤ hh_tg h a3 ∧ ((¬ x7 < (Int32.ofNat (hh_ln h a3)) → (gm_G 598 164 [some (.ref a0), some (va_rf r_1), some (.int x2), some (va_rf r_3), some (.int x4), none, some (.int x6), some (.int x5)] [] h Q)) ∧ (x7 < (Int32.ofNat (hh_ln h a3)) → (∀ r4, r4 = hh_r h a0 7 → (∃ a5, r4 = some a5 ∧ (gm_sub (hh_tg h a5) 0 = true ∧ (∀ r7, r7 = hh_r h a5 46 → (∀ r8, r8 = hh_r h a0 6 → (∃ a9, r8 = some a9 ∧ ((hh_tg h a9 = 101 ∨ hh_tg h a9 = 102) ∧ (∃ n10, gm_ix x7 n10 (hh_ln h a9) ∧ (∃ a12, r7 = some a12 ∧ (hh_tg h a12 = 101 ∧ (∃ n13, gm_ix ((hh_i h a0 5) + x7) n13 (hh_ln h a12) ∧ (∀ h14, h14 = hh_wi h a12 n13 ((hh_i h a9 n10).toInt8.toInt32) → (gm_G 598 122 [some (.ref a0), some (va_rf r_1), some (.int x2), some (va_rf r_3), some (.int x4), some (.int x5), some (.int x6), some (.int (x7 + (Int32.ofNat 1)))] [] h14 Q))))))))))))))))))) : gm_G 598 122 [some (.ref a0), some (va_rf r_1), some (.int x2), some (va_rf r_3), some (.int x4), some (.int x5), some (.int x6), some (.int x7)] [] h Q := by
  refine g_iload rfl rfl rfl (pc' := 124) ?_
  refine g_aload (r := some _) rfl rfl rfl (pc' := 125) ?_
  obtain ⟨ht1, H⟩ := H
  refine g_getRv rfl rfl rfl rfl ht1 (pc' := 128) rfl (fun r2 hr2 => ?_)
  replace H := H r2 hr2
  obtain ⟨a3, rfl, H⟩ := H
  obtain ⟨Hp, H⟩ := H
  refine g_alen rfl Hp (pc' := 129) rfl ?_
  refine g_ic_ge rfl (pc' := 132) (pt := 160) rfl rfl ⟨fun hc => ?_, fun hc => ?_⟩
  · replace H := H.1 hc
    refine g_iload rfl rfl rfl (pc' := 162) ?_
    refine g_istore rfl rfl rfl (pc' := 164) ?_
    exact g_weak (show gm_Lle [some _, some _, some _, some _, some _, none, some _, some _] _ from ⟨rfl, ⟨rfl, ⟨rfl, ⟨rfl, ⟨rfl, ⟨rfl, ⟨rfl, trivial⟩⟩⟩⟩⟩⟩⟩) H
  · replace H := H.2 hc
    refine g_aload (r := some _) rfl rfl rfl (pc' := 133) ?_
    refine g_getRv rfl rfl rfl rfl ht1 (pc' := 136) rfl (fun r4 hr4 => ?_)
    replace H := H r4 hr4
    obtain ⟨a5, rfl, H⟩ := H
    obtain ⟨ht6, H⟩ := H
    refine g_getRv rfl rfl rfl rfl ht6 (pc' := 139) rfl (fun r7 hr7 => ?_)
    replace H := H r7 hr7
    refine g_aload (r := some _) rfl rfl rfl (pc' := 140) ?_
    refine g_getI rfl rfl rfl rfl ht1 (pc' := 143) rfl ?_
    refine g_iload rfl rfl rfl (pc' := 145) ?_
    refine g_iadd rfl rfl (pc' := 146) ?_
    refine g_aload (r := some _) rfl rfl rfl (pc' := 147) ?_
    refine g_getRv rfl rfl rfl rfl ht1 (pc' := 150) rfl (fun r8 hr8 => ?_)
    replace H := H r8 hr8
    refine g_iload rfl rfl rfl (pc' := 152) ?_
    obtain ⟨a9, rfl, H⟩ := H
    obtain ⟨ht11, H⟩ := H
    obtain ⟨n10, hn10, H⟩ := H
    refine g_baload rfl ht11 hn10 (pc' := 153) rfl ?_
    obtain ⟨a12, rfl, H⟩ := H
    obtain ⟨ht15, H⟩ := H
    obtain ⟨n13, hn13, H⟩ := H
    refine g_bastore rfl ht15 hn13  (pc' := 154) rfl ?_
    replace H := H _ rfl
    refine g_iinc (c := (Int32.ofNat 1)) rfl rfl rfl rfl rfl (pc' := 157) ?_
    refine g_goto rfl (pc' := 122) rfl ?_
    exact g_weak (show gm_Lle [some _, some _, some _, some _, some _, some _, some _, some _] _ from ⟨rfl, ⟨rfl, ⟨rfl, ⟨rfl, ⟨rfl, ⟨rfl, ⟨rfl, ⟨rfl, trivial⟩⟩⟩⟩⟩⟩⟩⟩) H
set_option maxRecDepth 20000 in
theorem w_598_164 {a0 : Nat} {r_1 : Option Nat} {x2 : Int32} {r_3 : Option Nat} {x4 : Int32} {x6 : Int32} {x7 : Int32} {h : hh_T} {Q : Option Value ⊕ Nat → hh_T → Prop} (H : (x6 < x7 → (∃ a1, r_3 = some a1 ∧ (gm_sub (hh_tg h a1) 25 = true ∧ ((¬ x4 < (hh_i h a1 6) → (gm_G 598 204 [none, none, some (.int x2)] [.int x4, va_rf r_1, .ref a0] h Q)) ∧ (x4 < (hh_i h a1 6) → (gm_G 598 204 [none, none, some (.int x2)] [.int (hh_i h a1 6), va_rf r_1, .ref a0] h Q)))))) ∧ (¬ x6 < x7 → (hh_tg h a0 = 45 ∧ (gm_G 564 0 [some (.ref a0), some (va_rf r_1), some (.int x7)] [] h (pV (fun h4 => gm_G 598 164 [some (.ref a0), some (va_rf r_1), some (.int x2), some (va_rf r_3), some (.int x4), none, some (.int x6), some (.int (x7 + (Int32.ofNat 1)))] [] h4 Q) (fun e5 h6 => hh_tg h6 e5 = 21 ∧ Q (.inr e5) h6)))))) : gm_G 598 164 [some (.ref a0), some (va_rf r_1), some (.int x2), some (va_rf r_3), some (.int x4), none, some (.int x6), some (.int x7)] [] h Q := by
  refine g_iload rfl rfl rfl (pc' := 166) ?_
  refine g_iload rfl rfl rfl (pc' := 168) ?_
  refine g_ic_gt rfl (pc' := 171) (pt := 184) rfl rfl ⟨fun hc => ?_, fun hc => ?_⟩
  · replace H := H.1 hc
    refine g_aload (r := some _) rfl rfl rfl (pc' := 185) ?_
    refine g_aload (r := _) rfl rfl rfl (pc' := 186) ?_
    refine g_aload (r := _) rfl rfl rfl (pc' := 187) ?_
    obtain ⟨a1, rfl, H⟩ := H
    obtain ⟨ht2, H⟩ := H
    refine g_getI rfl rfl rfl rfl ht2 (pc' := 190) rfl ?_
    refine g_iload rfl rfl rfl (pc' := 192) ?_
    refine g_ic_le rfl (pc' := 195) (pt := 202) rfl rfl ⟨fun hc => ?_, fun hc => ?_⟩
    · replace H := H.1 hc
      refine g_iload rfl rfl rfl (pc' := 204) ?_
      exact g_weak (show gm_Lle [none, none, some _] _ from ⟨rfl, trivial⟩) H
    · replace H := H.2 hc
      refine g_aload (r := some _) rfl rfl rfl (pc' := 196) ?_
      refine g_getI rfl rfl rfl rfl ht2 (pc' := 199) rfl ?_
      refine g_goto rfl (pc' := 204) rfl ?_
      exact g_weak (show gm_Lle [none, none, some _] _ from ⟨rfl, trivial⟩) H
  · replace H := H.2 hc
    refine g_aload (r := some _) rfl rfl rfl (pc' := 172) ?_
    refine g_aload (r := _) rfl rfl rfl (pc' := 173) ?_
    refine g_iload rfl rfl rfl (pc' := 175) ?_
    obtain ⟨ht3, H⟩ := H
    refine g_call rfl (y := 564) (n := 3) (pc' := 178) (g_vt ht3 rfl rfl) (by cases r_1 <;> rfl) rfl ⟨(Nat.le_of_ble_eq_true rfl), (Nat.le_of_ble_eq_true rfl), (Nat.le_of_ble_eq_true rfl)⟩ rfl (gm_G.mono H (pV_elim (fun h4 H' => ?_) (fun e5 h6 H => ?_)))
    · show gm_G _ 178 _ _ _ _
      replace H := H'
      clear H'
      refine g_iinc (c := (Int32.ofNat 1)) rfl rfl rfl rfl rfl (pc' := 181) ?_
      refine g_goto rfl (pc' := 164) rfl ?_
      exact g_weak (show gm_Lle [some _, some _, some _, some _, some _, none, some _, some _] _ from ⟨rfl, ⟨rfl, ⟨rfl, ⟨rfl, ⟨rfl, ⟨rfl, ⟨rfl, trivial⟩⟩⟩⟩⟩⟩⟩) H
    · exact H
set_option maxRecDepth 20000 in
theorem w_598_204 {a0 : Nat} {x2 : Int32} {y0 : Int32} {q1 : Option Nat} {q2 : Option Nat} {h : hh_T} {Q : Option Value ⊕ Nat → hh_T → Prop} (H : ∃ a1, q2 = some a1 ∧ (hh_tg h a1 = 45 ∧ (gm_G 591 0 [some (.ref a1), some (va_rf q1), some (.int y0), some (.int x2)] [] h (pV (fun h3 => Q (.inl none) h3) (fun e4 h5 => hh_tg h5 e4 = 21 ∧ Q (.inr e4) h5))))) : gm_G 598 204 [none, none, some (.int x2)] [.int y0, va_rf q1, va_rf q2] h Q := by
  refine g_iload rfl rfl rfl (pc' := 205) ?_
  obtain ⟨a1, rfl, H⟩ := H
  obtain ⟨ht2, H⟩ := H
  refine g_call rfl (y := 591) (n := 4) (pc' := 208) (g_vt ht2 rfl rfl) (by cases q1 <;> rfl) rfl ⟨(Nat.le_of_ble_eq_true rfl), (Nat.le_of_ble_eq_true rfl), (Nat.le_of_ble_eq_true rfl)⟩ rfl (gm_G.mono H (pV_elim (fun h3 H' => ?_) (fun e4 h5 H => ?_)))
  · show gm_G _ 208 _ _ _ _
    replace H := H'
    clear H'
    exact g_return rfl H
  · exact H
set_option maxRecDepth 20000 in
theorem w_599_0 {a0 : Nat} {r_1 : Option Nat} {x2 : Int32} {h : hh_T} {Q : Option Value ⊕ Nat → hh_T → Prop} (H : hh_tg h a0 = 46 ∧ (gm_G 207 0 [some (.ref a0), some (va_rf r_1)] [] h (pR (fun r3 h2 => gm_sub (hh_tg h2 a0) 45 = true ∧ (∃ a5, r3 = some a5 ∧ (gm_sub (hh_tg h2 a5) 25 = true ∧ ((¬ ((hh_i h2 a0 5) + (hh_i h2 a0 6)) < (hh_i h2 a5 6) → (gm_G 599 38 [some (.ref a0), some (va_rf r_1), some (.int x2), some (.ref a5)] [.int (hh_i h2 a5 6)] h2 Q)) ∧ (((hh_i h2 a0 5) + (hh_i h2 a0 6)) < (hh_i h2 a5 6) → (gm_G 599 38 [some (.ref a0), some (va_rf r_1), some (.int x2), some (.ref a5)] [.int ((hh_i h2 a0 5) + (hh_i h2 a0 6))] h2 Q)))))) (fun e7 h8 => hh_tg h8 e7 = 21 ∧ Q (.inr e7) h8)))) : gm_G 599 0 [some (.ref a0), some (va_rf r_1), some (.int x2)] [] h Q := by
  refine g_aload (r := some _) rfl rfl rfl (pc' := 1) ?_
  refine g_aload (r := _) rfl rfl rfl (pc' := 2) ?_
  obtain ⟨ht1, H⟩ := H
  refine g_call rfl (y := 207) (n := 2) (pc' := 5) (g_vt ht1 rfl rfl) (by cases r_1 <;> rfl) rfl ⟨(Nat.le_of_ble_eq_true rfl), (Nat.le_of_ble_eq_true rfl), (Nat.le_of_ble_eq_true rfl)⟩ rfl (gm_G.mono H (pR_elim (fun r3 h2 H' => ?_) (fun e7 h8 H => ?_)))
  · show gm_G _ 5 _ _ _ _
    replace H := H'
    clear H'
    refine g_astore (r := _) rfl rfl rfl (pc' := 6) ?_
    refine g_aload (r := some _) rfl rfl rfl (pc' := 7) ?_
    obtain ⟨ht4, H⟩ := H
    refine g_getI rfl rfl rfl rfl ht4 (pc' := 10) rfl ?_
    refine g_aload (r := some _) rfl rfl rfl (pc' := 11) ?_
    refine g_getI rfl rfl rfl rfl ht4 (pc' := 14) rfl ?_
    refine g_iadd rfl rfl (pc' := 15) ?_
    refine g_aload (r := _) rfl rfl rfl (pc' := 16) ?_
    obtain ⟨a5, rfl, H⟩ := H
    obtain ⟨ht6, H⟩ := H
    refine g_getI rfl rfl rfl rfl ht6 (pc' := 19) rfl ?_
    refine g_ic_ge rfl (pc' := 22) (pt := 34) rfl rfl ⟨fun hc => ?_, fun hc => ?_⟩
    · replace H := H.1 hc
      refine g_aload (r := some _) rfl rfl rfl (pc' := 35) ?_
      refine g_getI rfl rfl rfl rfl ht6 (pc' := 38) rfl ?_
      exact g_weak (show gm_Lle [some _, some _, some _, some _] _ from ⟨rfl, ⟨rfl, ⟨rfl, ⟨rfl, trivial⟩⟩⟩⟩) H
    · replace H := H.2 hc
      refine g_aload (r := some _) rfl rfl rfl (pc' := 23) ?_
      refine g_getI rfl rfl rfl rfl ht4 (pc' := 26) rfl ?_
      refine g_aload (r := some _) rfl rfl rfl (pc' := 27) ?_
      refine g_getI rfl rfl rfl rfl ht4 (pc' := 30) rfl ?_
      refine g_iadd rfl rfl (pc' := 31) ?_
      refine g_goto rfl (pc' := 38) rfl ?_
      exact g_weak (show gm_Lle [some _, some _, some _, some _] _ from ⟨rfl, ⟨rfl, ⟨rfl, ⟨rfl, trivial⟩⟩⟩⟩) H
  · exact H
set_option maxRecDepth 20000 in
theorem w_599_38 {a0 : Nat} {r_1 : Option Nat} {x2 : Int32} {r_3 : Option Nat} {y0 : Int32} {h : hh_T} {Q : Option Value ⊕ Nat → hh_T → Prop} (H : gm_sub (hh_tg h a0) 45 = true ∧ ((¬ (hh_i h a0 5) < y0 → (gm_G 599 54 [some (.ref a0), some (va_rf r_1), some (.int x2), some (va_rf r_3), some (.int y0)] [.int (Int32.ofNat 0)] h Q)) ∧ ((hh_i h a0 5) < y0 → (gm_G 599 54 [some (.ref a0), some (va_rf r_1), some (.int x2), some (va_rf r_3), some (.int y0)] [.int (Int32.ofNat 1)] h Q)))) : gm_G 599 38 [some (.ref a0), some (va_rf r_1), some (.int x2), some (va_rf r_3)] [.int y0] h Q := by
  refine g_istore rfl gm_sto_rf3 rfl (pc' := 40) ?_
  refine g_iload rfl rfl rfl (pc' := 42) ?_
  refine g_aload (r := some _) rfl rfl rfl (pc' := 43) ?_
  obtain ⟨ht1, H⟩ := H
  refine g_getI rfl rfl rfl rfl ht1 (pc' := 46) rfl ?_
  refine g_ic_le rfl (pc' := 49) (pt := 53) rfl rfl ⟨fun hc => ?_, fun hc => ?_⟩
  · replace H := H.1 hc
    refine g_iconst rfl rfl rfl (pc' := 54) ?_
    exact g_weak (show gm_Lle [some _, some _, some _, some _, some _] _ from ⟨rfl, ⟨rfl, ⟨rfl, ⟨rfl, ⟨rfl, trivial⟩⟩⟩⟩⟩) H
  · replace H := H.2 hc
    refine g_iconst rfl rfl rfl (pc' := 50) ?_
    refine g_goto rfl (pc' := 54) rfl ?_
    exact g_weak (show gm_Lle [some _, some _, some _, some _, some _] _ from ⟨rfl, ⟨rfl, ⟨rfl, ⟨rfl, ⟨rfl, trivial⟩⟩⟩⟩⟩) H
set_option maxRecDepth 20000 in
theorem w_599_54 {a0 : Nat} {r_1 : Option Nat} {x2 : Int32} {r_3 : Option Nat} {x4 : Int32} {y0 : Int32} {h : hh_T} {Q : Option Value ⊕ Nat → hh_T → Prop} (H : gm_G 431 0 [some (.int y0), some (.int (Int32.ofInt (-1)))] [] h (pV (fun h1 => gm_G 599 61 [some (.ref a0), some (va_rf r_1), some (.int x2), some (va_rf r_3), some (.int x4), some (.int (Int32.ofNat 0))] [] h1 Q) (fun e2 h3 => hh_tg h3 e2 = 21 ∧ Q (.inr e2) h3))) : gm_G 599 54 [some (.ref a0), some (va_rf r_1), some (.int x2), some (va_rf r_3), some (.int x4)] [.int y0] h Q := by
  refine g_iconst rfl rfl rfl (pc' := 55) ?_
  refine g_call rfl (y := 431) (n := 2) (pc' := 58) (fun _ => rfl) rfl rfl ⟨(Nat.le_of_ble_eq_true rfl), (Nat.le_of_ble_eq_true rfl), (Nat.le_of_ble_eq_true rfl)⟩ rfl (gm_G.mono H (pV_elim (fun h1 H' => ?_) (fun e2 h3 H => ?_)))
  · show gm_G _ 58 _ _ _ _
    replace H := H'
    clear H'
    refine g_iconst rfl rfl rfl (pc' := 59) ?_
    refine g_istore rfl rfl rfl (pc' := 61) ?_
    exact g_weak (show gm_Lle [some _, some _, some _, some _, some _, some _] _ from ⟨rfl, ⟨rfl, ⟨rfl, ⟨rfl, ⟨rfl, ⟨rfl, trivial⟩⟩⟩⟩⟩⟩) H
  · exact H
set_option maxRecDepth 20000 in
theorem w_599_61 {a0 : Nat} {r_1 : Option Nat} {x2 : Int32} {r_3 : Option Nat} {x4 : Int32} {x5 : Int32} {h : hh_T} {Q : Option Value ⊕ Nat → hh_T → Prop} (H : (¬ x5 < (Int32.ofNat 2) → (∃ a1, r_3 = some a1 ∧ (gm_sub (hh_tg h a1) 25 = true ∧ (hh_tg h a0 = 46 ∧ (gm_G 591 0 [some (.ref a0), some (va_rf r_1), some (.int (hh_i h a1 6)), some (.int x2)] [] h (pV (fun h4 => Q (.inl none) h4) (fun e5 h6 => hh_tg h6 e5 = 21 ∧ Q (.inr e5) h6))))))) ∧ (x5 < (Int32.ofNat 2) → (gm_sub (hh_tg h a0) 45 = true ∧ (gm_G 599 76 [some (.ref a0), some (va_rf r_1), some (.int x2), some (va_rf r_3), some (.int x4), some (.int x5), some (.int ((hh_i h a0 5) / (Int32.ofNat 32)))] [] h Q)))) : gm_G 599 61 [some (.ref a0), some (va_rf r_1), some (.int x2), some (va_rf r_3), some (.int x4), some (.int x5)] [] h Q := by
  refine g_iload rfl rfl rfl (pc' := 63) ?_
  refine g_iconst rfl rfl rfl (pc' := 64) ?_
  refine g_ic_ge rfl (pc' := 67) (pt := 291) rfl rfl ⟨fun hc => ?_, fun hc => ?_⟩
  · replace H := H.1 hc
    refine g_aload (r := some _) rfl rfl rfl (pc' := 292) ?_
    refine g_aload (r := _) rfl rfl rfl (pc' := 293) ?_
    refine g_aload (r := _) rfl rfl rfl (pc' := 294) ?_
    obtain ⟨a1, rfl, H⟩ := H
    obtain ⟨ht2, H⟩ := H
    refine g_getI rfl rfl rfl rfl ht2 (pc' := 297) rfl ?_
    refine g_iload rfl rfl rfl (pc' := 298) ?_
    obtain ⟨ht3, H⟩ := H
    refine g_call rfl (y := 591) (n := 4) (pc' := 301) (g_vt ht3 rfl rfl) (by cases r_1 <;> rfl) rfl ⟨(Nat.le_of_ble_eq_true rfl), (Nat.le_of_ble_eq_true rfl), (Nat.le_of_ble_eq_true rfl)⟩ rfl (gm_G.mono H (pV_elim (fun h4 H' => ?_) (fun e5 h6 H => ?_)))
    · show gm_G _ 301 _ _ _ _
      replace H := H'
      clear H'
      exact g_return rfl H
    · exact H
  · replace H := H.2 hc
    refine g_aload (r := some _) rfl rfl rfl (pc' := 68) ?_
    obtain ⟨ht7, H⟩ := H
    refine g_getI rfl rfl rfl rfl ht7 (pc' := 71) rfl ?_
    refine g_iconst rfl rfl rfl (pc' := 73) ?_
    refine g_idiv rfl (by decide) (pc' := 74) rfl ?_
    refine g_istore rfl rfl rfl (pc' := 76) ?_
    exact g_weak (show gm_Lle [some _, some _, some _, some _, some _, some _, some _] _ from ⟨rfl, ⟨rfl, ⟨rfl, ⟨rfl, ⟨rfl, ⟨rfl, ⟨rfl, trivial⟩⟩⟩⟩⟩⟩⟩) H
set_option maxRecDepth 20000 in
theorem w_599_76 {a0 : Nat} {r_1 : Option Nat} {x2 : Int32} {r_3 : Option Nat} {x4 : Int32} {x5 : Int32} {x6 : Int32} {h : hh_T} {Q : Option Value ⊕ Nat → hh_T → Prop} (H : (¬ ((Int32.ofNat 32) * x6) < x4 → (gm_G 599 61 [some (.ref a0), some (va_rf r_1), some (.int x2), some (va_rf r_3), some (.int x4), some (.int (x5 + (Int32.ofNat 1)))] [] h Q)) ∧ (((Int32.ofNat 32) * x6) < x4 → (∃ a1, r_3 = some a1 ∧ (gm_sub (hh_tg h a1) 25 = true ∧ ((¬ ((Int32.ofNat 32) * (x6 + (Int32.ofNat 1))) < (hh_i h a1 6) → (gm_G 599 114 [some (.ref a0), some (va_rf r_1), some (.int x2), some (.ref a1), some (.int x4), some (.int x5), some (.int x6)] [.int (hh_i h a1 6)] h Q)) ∧ (((Int32.ofNat 32) * (x6 + (Int32.ofNat 1))) < (hh_i h a1 6) → (gm_G 599 114 [some (.ref a0), some (va_rf r_1), some (.int x2), some (.ref a1), some (.int x4), some (.int x5), some (.int x6)] [.int ((Int32.ofNat 32) * (x6 + (Int32.ofNat 1)))] h Q))))))) : gm_G 599 76 [some (.ref a0), some (va_rf r_1), some (.int x2), some (va_rf r_3), some (.int x4), some (.int x5), some (.int x6)] [] h Q := by
  refine g_iconst rfl rfl rfl (pc' := 78) ?_
  refine g_iload rfl rfl rfl (pc' := 80) ?_
  refine g_imul rfl rfl (pc' := 81) ?_
  refine g_iload rfl rfl rfl (pc' := 83) ?_
  refine g_ic_ge rfl (pc' := 86) (pt := 285) rfl rfl ⟨fun hc => ?_, fun hc => ?_⟩
  · replace H := H.1 hc
    refine g_iinc (c := (Int32.ofNat 1)) rfl rfl rfl rfl rfl (pc' := 288) ?_
    refine g_goto rfl (pc' := 61) rfl ?_
    exact g_weak (show gm_Lle [some _, some _, some _, some _, some _, some _] _ from ⟨rfl, ⟨rfl, ⟨rfl, ⟨rfl, ⟨rfl, ⟨rfl, trivial⟩⟩⟩⟩⟩⟩) H
  · replace H := H.2 hc
    refine g_iconst rfl rfl rfl (pc' := 88) ?_
    refine g_iload rfl rfl rfl (pc' := 90) ?_
    refine g_iconst rfl rfl rfl (pc' := 91) ?_
    refine g_iadd rfl rfl (pc' := 92) ?_
    refine g_imul rfl rfl (pc' := 93) ?_
    refine g_aload (r := _) rfl rfl rfl (pc' := 94) ?_
    obtain ⟨a1, rfl, H⟩ := H
    obtain ⟨ht2, H⟩ := H
    refine g_getI rfl rfl rfl rfl ht2 (pc' := 97) rfl ?_
    refine g_ic_ge rfl (pc' := 100) (pt := 110) rfl rfl ⟨fun hc => ?_, fun hc => ?_⟩
    · replace H := H.1 hc
      refine g_aload (r := some _) rfl rfl rfl (pc' := 111) ?_
      refine g_getI rfl rfl rfl rfl ht2 (pc' := 114) rfl ?_
      exact g_weak (show gm_Lle [some _, some _, some _, some _, some _, some _, some _] _ from ⟨rfl, ⟨rfl, ⟨rfl, ⟨rfl, ⟨rfl, ⟨rfl, ⟨rfl, trivial⟩⟩⟩⟩⟩⟩⟩) H
    · replace H := H.2 hc
      refine g_iconst rfl rfl rfl (pc' := 102) ?_
      refine g_iload rfl rfl rfl (pc' := 104) ?_
      refine g_iconst rfl rfl rfl (pc' := 105) ?_
      refine g_iadd rfl rfl (pc' := 106) ?_
      refine g_imul rfl rfl (pc' := 107) ?_
      refine g_goto rfl (pc' := 114) rfl ?_
      exact g_weak (show gm_Lle [some _, some _, some _, some _, some _, some _, some _] _ from ⟨rfl, ⟨rfl, ⟨rfl, ⟨rfl, ⟨rfl, ⟨rfl, ⟨rfl, trivial⟩⟩⟩⟩⟩⟩⟩) H
set_option maxRecDepth 20000 in
theorem w_599_114 {a0 : Nat} {r_1 : Option Nat} {x2 : Int32} {r_3 : Option Nat} {x4 : Int32} {x5 : Int32} {x6 : Int32} {y0 : Int32} {h : hh_T} {Q : Option Value ⊕ Nat → hh_T → Prop} (H : gm_sub (hh_tg h a0) 45 = true ∧ ((((Int32.ofNat 32) * x6) < (hh_i h a0 5) → (gm_G 599 139 [some (.ref a0), some (va_rf r_1), some (.int x2), some (va_rf r_3), some (.int x4), some (.int x5), some (.int x6)] [] h Q)) ∧ (¬ ((Int32.ofNat 32) * x6) < (hh_i h a0 5) → ((x4 < y0 → (gm_G 599 139 [some (.ref a0), some (va_rf r_1), some (.int x2), some (va_rf r_3), some (.int x4), some (.int x5), some (.int x6)] [] h Q)) ∧ (¬ x4 < y0 → (gm_G 599 140 [some (.ref a0), some (va_rf r_1), some (.int x2), some (va_rf r_3), some (.int x4), some (.int x5), some (.int x6)] [.int (Int32.ofNat 1)] h Q)))))) : gm_G 599 114 [some (.ref a0), some (va_rf r_1), some (.int x2), some (va_rf r_3), some (.int x4), some (.int x5), some (.int x6)] [.int y0] h Q := by
  refine g_istore rfl rfl rfl (pc' := 116) ?_
  refine g_aload (r := some _) rfl rfl rfl (pc' := 117) ?_
  obtain ⟨ht1, H⟩ := H
  refine g_getI rfl rfl rfl rfl ht1 (pc' := 120) rfl ?_
  refine g_iconst rfl rfl rfl (pc' := 122) ?_
  refine g_iload rfl rfl rfl (pc' := 124) ?_
  refine g_imul rfl rfl (pc' := 125) ?_
  refine g_ic_gt rfl (pc' := 128) (pt := 139) rfl rfl ⟨fun hc => ?_, fun hc => ?_⟩
  · replace H := H.1 hc
    exact g_weak (show gm_Lle [some _, some _, some _, some _, some _, some _, some _] _ from ⟨rfl, ⟨rfl, ⟨rfl, ⟨rfl, ⟨rfl, ⟨rfl, ⟨rfl, trivial⟩⟩⟩⟩⟩⟩⟩) H
  · replace H := H.2 hc
    refine g_iload rfl rfl rfl (pc' := 130) ?_
    refine g_iload rfl rfl rfl (pc' := 132) ?_
    refine g_ic_lt rfl (pc' := 135) (pt := 139) rfl rfl ⟨fun hc => ?_, fun hc => ?_⟩
    · replace H := H.1 hc
      exact g_weak (show gm_Lle [some _, some _, some _, some _, some _, some _, some _] _ from ⟨rfl, ⟨rfl, ⟨rfl, ⟨rfl, ⟨rfl, ⟨rfl, ⟨rfl, trivial⟩⟩⟩⟩⟩⟩⟩) H
    · replace H := H.2 hc
      refine g_iconst rfl rfl rfl (pc' := 136) ?_
      refine g_goto rfl (pc' := 140) rfl ?_
      exact g_weak (show gm_Lle [some _, some _, some _, some _, some _, some _, some _] _ from ⟨rfl, ⟨rfl, ⟨rfl, ⟨rfl, ⟨rfl, ⟨rfl, ⟨rfl, trivial⟩⟩⟩⟩⟩⟩⟩) H
set_option maxRecDepth 20000 in
theorem w_599_139 {a0 : Nat} {r_1 : Option Nat} {x2 : Int32} {r_3 : Option Nat} {x4 : Int32} {x5 : Int32} {x6 : Int32} {h : hh_T} {Q : Option Value ⊕ Nat → hh_T → Prop} (H : gm_G 599 140 [some (.ref a0), some (va_rf r_1), some (.int x2), some (va_rf r_3), some (.int x4), some (.int x5), some (.int x6)] [.int (Int32.ofNat 0)] h Q) : gm_G 599 139 [some (.ref a0), some (va_rf r_1), some (.int x2), some (va_rf r_3), some (.int x4), some (.int x5), some (.int x6)] [] h Q := by
  refine g_iconst rfl rfl rfl (pc' := 140) ?_
  exact g_weak (show gm_Lle [some _, some _, some _, some _, some _, some _, some _] _ from ⟨rfl, ⟨rfl, ⟨rfl, ⟨rfl, ⟨rfl, ⟨rfl, ⟨rfl, trivial⟩⟩⟩⟩⟩⟩⟩) H
set_option maxRecDepth 20000 in
theorem w_599_140 {a0 : Nat} {r_1 : Option Nat} {x2 : Int32} {r_3 : Option Nat} {x4 : Int32} {x5 : Int32} {x6 : Int32} {y0 : Int32} {h : hh_T} {Q : Option Value ⊕ Nat → hh_T → Prop} (H : (y0 = Int32.ofNat 0 → (gm_G 599 158 [some (.ref a0), some (va_rf r_1), some (.int x2), some (va_rf r_3), some (.int x4), some (.int x5), some (.int x6), none, some (.int y0)] [] h Q)) ∧ (¬ y0 = Int32.ofNat 0 → (gm_sub (hh_tg h a0) 45 = true ∧ (∀ r2, r2 = hh_r h a0 7 → (∃ a3, r2 = some a3 ∧ (gm_sub (hh_tg h a3) 0 = true ∧ (∀ r5, r5 = hh_r h a3 48 → (∃ a6, r5 = some a6 ∧ (hh_tg h a6 = 102 ∧ (∃ n7, gm_ix x6 n7 (hh_ln h a6) ∧ (∀ h8, h8 = hh_wi h a6 n7 (Int32.ofNat 1) → (gm_G 599 158 [some (.ref a0), some (va_rf r_1), some (.int x2), some (va_rf r_3), some (.int x4), some (.int x5), some (.int x6), none, some (.int y0)] [] h8 Q)))))))))))) : gm_G 599 140 [some (.ref a0), some (va_rf r_1), some (.int x2), some (va_rf r_3), some (.int x4), some (.int x5), some (.int x6)] [.int y0] h Q := by
  refine g_istore rfl rfl rfl (pc' := 142) ?_
  refine g_iload rfl rfl rfl (pc' := 144) ?_
  refine g_if_eq rfl (pc' := 147) (pt := 158) rfl rfl ⟨fun hc => ?_, fun hc => ?_⟩
  · replace H := H.1 hc
    exact g_weak (show gm_Lle [some _, some _, some _, some _, some _, some _, some _, none, some _] _ from ⟨rfl, ⟨rfl, ⟨rfl, ⟨rfl, ⟨rfl, ⟨rfl, ⟨rfl, ⟨rfl, trivial⟩⟩⟩⟩⟩⟩⟩⟩) H
  · replace H := H.2 hc
    refine g_aload (r := some _) rfl rfl rfl (pc' := 148) ?_
    obtain ⟨ht1, H⟩ := H
    refine g_getRv rfl rfl rfl rfl ht1 (pc' := 151) rfl (fun r2 hr2 => ?_)
    replace H := H r2 hr2
    obtain ⟨a3, rfl, H⟩ := H
    obtain ⟨ht4, H⟩ := H
    refine g_getRv rfl rfl rfl rfl ht4 (pc' := 154) rfl (fun r5 hr5 => ?_)
    replace H := H r5 hr5
    refine g_iload rfl rfl rfl (pc' := 156) ?_
    refine g_iconst rfl rfl rfl (pc' := 157) ?_
    obtain ⟨a6, rfl, H⟩ := H
    obtain ⟨ht9, H⟩ := H
    obtain ⟨n7, hn7, H⟩ := H
    refine g_zastore rfl ht9 hn7 (by decide) (pc' := 158) rfl ?_
    replace H := H _ rfl
    exact g_weak (show gm_Lle [some _, some _, some _, some _, some _, some _, some _, none, some _] _ from ⟨rfl, ⟨rfl, ⟨rfl, ⟨rfl, ⟨rfl, ⟨rfl, ⟨rfl, ⟨rfl, trivial⟩⟩⟩⟩⟩⟩⟩⟩) H
set_option maxRecDepth 20000 in
theorem w_599_158 {a0 : Nat} {r_1 : Option Nat} {x2 : Int32} {r_3 : Option Nat} {x4 : Int32} {x5 : Int32} {x6 : Int32} {x8 : Int32} {h : hh_T} {Q : Option Value ⊕ Nat → hh_T → Prop} (H : (¬ x8 = Int32.ofNat 0 → (gm_G 599 279 [some (.ref a0), some (va_rf r_1), some (.int x2), some (va_rf r_3), some (.int x4), some (.int x5), some (.int x6)] [] h Q)) ∧ (x8 = Int32.ofNat 0 → (∃ a1, r_3 = some a1 ∧ (gm_sub (hh_tg h a1) 26 = true ∧ (∀ r3, r3 = hh_r h a1 12 → (∃ a4, r3 = some a4 ∧ ((hh_tg h a4 = 104 ∨ 200 ≤ hh_tg h a4) ∧ (∃ n5, gm_ix x6 n5 (hh_ln h a4) ∧ (∀ r7, r7 = hh_r h a4 n5 → ((∀ a8, r7 = some a8 → ((¬ x5 = Int32.ofNat 0 → (hh_tg h a0 = 46 ∧ (gm_G 564 0 [some (.ref a0), some (va_rf r_1), some (.int x6)] [] h (pV (fun h10 => gm_G 599 279 [some (.ref a0), some (va_rf r_1), some (.int x2), some (.ref a1), some (.int x4), some (.int x5), some (.int x6)] [] h10 Q) (fun e11 h12 => hh_tg h12 e11 = 21 ∧ Q (.inr e11) h12))))) ∧ (x5 = Int32.ofNat 0 → (gm_sub (hh_tg h a0) 45 = true ∧ (∀ r14, r14 = hh_r h a0 7 → (∀ r15, r15 = hh_r h a1 12 → (∃ a16, r15 = some a16 ∧ ((hh_tg h a16 = 104 ∨ 200 ≤ hh_tg h a16) ∧ (∃ n17, gm_ix x6 n17 (hh_ln h a16) ∧ (∀ r19, r19 = hh_r h a16 n17 → (∀ r20, r20 = hh_r h a0 7 → (∃ a21, r20 = some a21 ∧ (gm_sub (hh_tg h a21) 0 = true ∧ (∀ r23, r23 = hh_r h a21 46 → (∃ a24, r14 = some a24 ∧ (hh_tg h a24 = 1 ∧ (gm_G 592 0 [some (.ref a24), some (va_rf r19), some (va_rf r23), some (.int ((Int32.ofNat 32) * x6))] [] h (pV (fun h26 => gm_sub (hh_tg h26 a0) 45 = true ∧ ((¬ ((Int32.ofNat 32) * x6) < (hh_i h26 a0 5) → (gm_G 599 231 [some (.ref a0), some (va_rf r_1), some (.int x2), some (.ref a1), some (.int x4), some (.int x5), some (.int x6)] [.int ((Int32.ofNat 32) * x6)] h26 Q)) ∧ (((Int32.ofNat 32) * x6) < (hh_i h26 a0 5) → (gm_G 599 231 [some (.ref a0), some (va_rf r_1), some (.int x2), some (.ref a1), some (.int x4), some (.int x5), some (.int x6)] [.int (hh_i h26 a0 5)] h26 Q)))) (fun e28 h29 => hh_tg h29 e28 = 21 ∧ Q (.inr e28) h29))))))))))))))))))) ∧ (r7 = none → (gm_G 599 279 [some (.ref a0), some (va_rf r_1), some (.int x2), some (.ref a1), some (.int x4), some (.int x5), some (.int x6)] [] h Q)))))))))))) : gm_G 599 158 [some (.ref a0), some (va_rf r_1), some (.int x2), some (va_rf r_3), some (.int x4), some (.int x5), some (.int x6), none, some (.int x8)] [] h Q := by
  refine g_iload rfl rfl rfl (pc' := 160) ?_
  refine g_if_ne rfl (pc' := 163) (pt := 279) rfl rfl ⟨fun hc => ?_, fun hc => ?_⟩
  · replace H := H.1 hc
    exact g_weak (show gm_Lle [some _, some _, some _, some _, some _, some _, some _] _ from ⟨rfl, ⟨rfl, ⟨rfl, ⟨rfl, ⟨rfl, ⟨rfl, ⟨rfl, trivial⟩⟩⟩⟩⟩⟩⟩) H
  · replace H := H.2 hc
    refine g_aload (r := _) rfl rfl rfl (pc' := 164) ?_
    obtain ⟨a1, rfl, H⟩ := H
    obtain ⟨ht2, H⟩ := H
    refine g_getRv rfl rfl rfl rfl ht2 (pc' := 167) rfl (fun r3 hr3 => ?_)
    replace H := H r3 hr3
    refine g_iload rfl rfl rfl (pc' := 169) ?_
    obtain ⟨a4, rfl, H⟩ := H
    obtain ⟨ht6, H⟩ := H
    obtain ⟨n5, hn5, H⟩ := H
    refine g_aaloadv rfl ht6 hn5 (pc' := 170) rfl (fun r7 hr7 => ?_)
    replace H := H r7 hr7
    refine g_ifnonnull rfl (pc' := 173) (pt := 176) rfl rfl ⟨fun a8 hc => ?_, fun hc => ?_⟩
    · replace H := H.1 a8 hc
      subst hc
      refine g_iload rfl rfl rfl (pc' := 178) ?_
      refine g_if_ne rfl (pc' := 181) (pt := 272) rfl rfl ⟨fun hc => ?_, fun hc => ?_⟩
      · replace H := H.1 hc
        refine g_aload (r := some _) rfl rfl rfl (pc' := 273) ?_
        refine g_aload (r := _) rfl rfl rfl (pc' := 274) ?_
        refine g_iload rfl rfl rfl (pc' := 276) ?_
        obtain ⟨ht9, H⟩ := H
        refine g_call rfl (y := 564) (n := 3) (pc' := 279) (g_vt ht9 rfl rfl) (by cases r_1 <;> rfl) rfl ⟨(Nat.le_of_ble_eq_true rfl), (Nat.le_of_ble_eq_true rfl), (Nat.le_of_ble_eq_true rfl)⟩ rfl (gm_G.mono H (pV_elim (fun h10 H' => ?_) (fun e11 h12 H => ?_)))
        · show gm_G _ 279 _ _ _ _
          replace H := H'
          clear H'
          exact g_weak (show gm_Lle [some _, some _, some _, some _, some _, some _, some _] _ from ⟨rfl, ⟨rfl, ⟨rfl, ⟨rfl, ⟨rfl, ⟨rfl, ⟨rfl, trivial⟩⟩⟩⟩⟩⟩⟩) H
        · exact H
      · replace H := H.2 hc
        refine g_aload (r := some _) rfl rfl rfl (pc' := 182) ?_
        obtain ⟨ht13, H⟩ := H
        refine g_getRv rfl rfl rfl rfl ht13 (pc' := 185) rfl (fun r14 hr14 => ?_)
        replace H := H r14 hr14
        refine g_aload (r := some _) rfl rfl rfl (pc' := 186) ?_
        refine g_getRv rfl rfl rfl rfl ht2 (pc' := 189) rfl (fun r15 hr15 => ?_)
        replace H := H r15 hr15
        refine g_iload rfl rfl rfl (pc' := 191) ?_
        obtain ⟨a16, rfl, H⟩ := H
        obtain ⟨ht18, H⟩ := H
        obtain ⟨n17, hn17, H⟩ := H
        refine g_aaloadv rfl ht18 hn17 (pc' := 192) rfl (fun r19 hr19 => ?_)
        replace H := H r19 hr19
        refine g_aload (r := some _) rfl rfl rfl (pc' := 193) ?_
        refine g_getRv rfl rfl rfl rfl ht13 (pc' := 196) rfl (fun r20 hr20 => ?_)
        replace H := H r20 hr20
        obtain ⟨a21, rfl, H⟩ := H
        obtain ⟨ht22, H⟩ := H
        refine g_getRv rfl rfl rfl rfl ht22 (pc' := 199) rfl (fun r23 hr23 => ?_)
        replace H := H r23 hr23
        refine g_iconst rfl rfl rfl (pc' := 201) ?_
        refine g_iload rfl rfl rfl (pc' := 203) ?_
        refine g_imul rfl rfl (pc' := 204) ?_
        obtain ⟨a24, rfl, H⟩ := H
        obtain ⟨ht25, H⟩ := H
        refine g_call rfl (y := 592) (n := 4) (pc' := 207) (g_vt ht25 rfl rfl) (by cases r19 <;> cases r23 <;> rfl) rfl ⟨(Nat.le_of_ble_eq_true rfl), (Nat.le_of_ble_eq_true rfl), (Nat.le_of_ble_eq_true rfl)⟩ rfl (gm_G.mono H (pV_elim (fun h26 H' => ?_) (fun e28 h29 H => ?_)))
        · show gm_G _ 207 _ _ _ _
          replace H := H'
          clear H'
          refine g_aload (r := some _) rfl rfl rfl (pc' := 208) ?_
          obtain ⟨ht27, H⟩ := H
          refine g_getI rfl rfl rfl rfl ht27 (pc' := 211) rfl ?_
          refine g_iconst rfl rfl rfl (pc' := 213) ?_
          refine g_iload rfl rfl rfl (pc' := 215) ?_
          refine g_imul rfl rfl (pc' := 216) ?_
          refine g_ic_le rfl (pc' := 219) (pt := 226) rfl rfl ⟨fun hc => ?_, fun hc => ?_⟩
          · replace H := H.1 hc
            refine g_iconst rfl rfl rfl (pc' := 228) ?_
            refine g_iload rfl rfl rfl (pc' := 230) ?_
            refine g_imul rfl rfl (pc' := 231) ?_
            exact g_weak (show gm_Lle [some _, some _, some _, some _, some _, some _, some _] _ from ⟨rfl, ⟨rfl, ⟨rfl, ⟨rfl, ⟨rfl, ⟨rfl, ⟨rfl, trivial⟩⟩⟩⟩⟩⟩⟩) H
          · replace H := H.2 hc
            refine g_aload (r := some _) rfl rfl rfl (pc' := 220) ?_
            refine g_getI rfl rfl rfl rfl ht27 (pc' := 223) rfl ?_
            refine g_goto rfl (pc' := 231) rfl ?_
            exact g_weak (show gm_Lle [some _, some _, some _, some _, some _, some _, some _] _ from ⟨rfl, ⟨rfl, ⟨rfl, ⟨rfl, ⟨rfl, ⟨rfl, ⟨rfl, trivial⟩⟩⟩⟩⟩⟩⟩) H
        · exact H
    · replace H := H.2 hc
      subst hc
      refine g_goto rfl (pc' := 279) rfl ?_
      exact g_weak (show gm_Lle [some _, some _, some _, some _, some _, some _, some _] _ from ⟨rfl, ⟨rfl, ⟨rfl, ⟨rfl, ⟨rfl, ⟨rfl, ⟨rfl, trivial⟩⟩⟩⟩⟩⟩⟩) H
set_option maxRecDepth 20000 in
theorem w_599_231 {a0 : Nat} {r_1 : Option Nat} {x2 : Int32} {r_3 : Option Nat} {x4 : Int32} {x5 : Int32} {x6 : Int32} {y0 : Int32} {h : hh_T} {Q : Option Value ⊕ Nat → hh_T → Prop} (H : gm_G 599 233 [some (.ref a0), some (va_rf r_1), some (.int x2), some (va_rf r_3), some (.int x4), some (.int x5), some (.int x6), none, none, some (.int y0)] [] h Q) : gm_G 599 231 [some (.ref a0), some (va_rf r_1), some (.int x2), some (va_rf r_3), some (.int x4), some (.int x5), some (.int x6)] [.int y0] h Q := by
  refine g_istore rfl rfl rfl (pc' := 233) ?_
  exact g_weak (show gm_Lle [some _, some _, some _, some _, some _, some _, some _, none, none, some _] _ from ⟨rfl, ⟨rfl, ⟨rfl, ⟨rfl, ⟨rfl, ⟨rfl, ⟨rfl, ⟨rfl, trivial⟩⟩⟩⟩⟩⟩⟩⟩) H
set_option maxRecDepth 20000 in
theorem w_599_233 {a0 : Nat} {r_1 : Option Nat} {x2 : Int32} {r_3 : Option Nat} {x4 : Int32} {x5 : Int32} {x6 : Int32} {x9 : Int32} {h : hh_T} {Q : Option Value ⊕ Nat → hh_T → Prop} (H : (¬ x9 < x4 → (gm_G 599 269 [some (.ref a0), some (va_rf r_1), some (.int x2), some (va_rf r_3), some (.int x4), some (.int x5), some (.int x6)] [] h Q)) ∧ (x9 < x4 → ((¬ x9 < ((Int32.ofNat 32) * (x6 + (Int32.ofNat 1))) → (gm_G 599 269 [some (.ref a0), some (va_rf r_1), some (.int x2), some (va_rf r_3), some (.int x4), some (.int x5), some (.int x6)] [] h Q)) ∧ (x9 < ((Int32.ofNat 32) * (x6 + (Int32.ofNat 1))) → (gm_sub (hh_tg h a0) 45 = true ∧ (∀ r2, r2 = hh_r h a0 7 → (∃ a3, r2 = some a3 ∧ (gm_sub (hh_tg h a3) 0 = true ∧ (∀ r5, r5 = hh_r h a3 46 → (∃ a6, r5 = some a6 ∧ (hh_tg h a6 = 101 ∧ (∃ n7, gm_ix x9 n7 (hh_ln h a6) ∧ (∀ h8, h8 = hh_wi h a6 n7 ((Int32.ofNat 0).toInt8.toInt32) → (gm_G 599 233 [some (.ref a0), some (va_rf r_1), some (.int x2), some (va_rf r_3), some (.int x4), some (.int x5), some (.int x6), none, none, some (.int (x9 + (Int32.ofNat 1)))] [] h8 Q)))))))))))))) : gm_G 599 233 [some (.ref a0), some (va_rf r_1), some (.int x2), some (va_rf r_3), some (.int x4), some (.int x5), some (.int x6), none, none, some (.int x9)] [] h Q := by
  refine g_iload rfl rfl rfl (pc' := 235) ?_
  refine g_iload rfl rfl rfl (pc' := 237) ?_
  refine g_ic_ge rfl (pc' := 240) (pt := 269) rfl rfl ⟨fun hc => ?_, fun hc => ?_⟩
  · replace H := H.1 hc
    exact g_weak (show gm_Lle [some _, some _, some _, some _, some _, some _, some _] _ from ⟨rfl, ⟨rfl, ⟨rfl, ⟨rfl, ⟨rfl, ⟨rfl, ⟨rfl, trivial⟩⟩⟩⟩⟩⟩⟩) H
  · replace H := H.2 hc
    refine g_iload rfl rfl rfl (pc' := 242) ?_
    refine g_iconst rfl rfl rfl (pc' := 244) ?_
    refine g_iload rfl rfl rfl (pc' := 246) ?_
    refine g_iconst rfl rfl rfl (pc' := 247) ?_
    refine g_iadd rfl rfl (pc' := 248) ?_
    refine g_imul rfl rfl (pc' := 249) ?_
    refine g_ic_ge rfl (pc' := 252) (pt := 269) rfl rfl ⟨fun hc => ?_, fun hc => ?_⟩
    · replace H := H.1 hc
      exact g_weak (show gm_Lle [some _, some _, some _, some _, some _, some _, some _] _ from ⟨rfl, ⟨rfl, ⟨rfl, ⟨rfl, ⟨rfl, ⟨rfl, ⟨rfl, trivial⟩⟩⟩⟩⟩⟩⟩) H
    · replace H := H.2 hc
      refine g_aload (r := some _) rfl rfl rfl (pc' := 253) ?_
      obtain ⟨ht1, H⟩ := H
      refine g_getRv rfl rfl rfl rfl ht1 (pc' := 256) rfl (fun r2 hr2 => ?_)
      replace H := H r2 hr2
      obtain ⟨a3, rfl, H⟩ := H
      obtain ⟨ht4, H⟩ := H
      refine g_getRv rfl rfl rfl rfl ht4 (pc' := 259) rfl (fun r5 hr5 => ?_)
      replace H := H r5 hr5
      refine g_iload rfl rfl rfl (pc' := 261) ?_
      refine g_iconst rfl rfl rfl (pc' := 262) ?_
      obtain ⟨a6, rfl, H⟩ := H
      obtain ⟨ht9, H⟩ := H
      obtain ⟨n7, hn7, H⟩ := H
      refine g_bastore rfl ht9 hn7  (pc' := 263) rfl ?_
      replace H := H _ rfl
      refine g_iinc (c := (Int32.ofNat 1)) rfl rfl rfl rfl rfl (pc' := 266) ?_
      refine g_goto rfl (pc' := 233) rfl ?_
      exact g_weak (show gm_Lle [some _, some _, some _, some _, some _, some _, some _, none, none, some _] _ from ⟨rfl, ⟨rfl, ⟨rfl, ⟨rfl, ⟨rfl, ⟨rfl, ⟨rfl, ⟨rfl, trivial⟩⟩⟩⟩⟩⟩⟩⟩) H
set_option maxRecDepth 20000 in
theorem w_599_269 {a0 : Nat} {r_1 : Option Nat} {x2 : Int32} {r_3 : Option Nat} {x4 : Int32} {x5 : Int32} {x6 : Int32} {h : hh_T} {Q : Option Value ⊕ Nat → hh_T → Prop} (H : gm_G 599 279 [some (.ref a0), some (va_rf r_1), some (.int x2), some (va_rf r_3), some (.int x4), some (.int x5), some (.int x6)] [] h Q) : gm_G 599 269 [some (.ref a0), some (va_rf r_1), some (.int x2), some (va_rf r_3), some (.int x4), some (.int x5), some (.int x6)] [] h Q := by
  refine g_goto rfl (pc' := 279) rfl ?_
  exact g_weak (show gm_Lle [some _, some _, some _, some _, some _, some _, some _] _ from ⟨rfl, ⟨rfl, ⟨rfl, ⟨rfl, ⟨rfl, ⟨rfl, ⟨rfl, trivial⟩⟩⟩⟩⟩⟩⟩) H
set_option maxRecDepth 20000 in
theorem w_599_279 {a0 : Nat} {r_1 : Option Nat} {x2 : Int32} {r_3 : Option Nat} {x4 : Int32} {x5 : Int32} {x6 : Int32} {h : hh_T} {Q : Option Value ⊕ Nat → hh_T → Prop} (H : gm_G 599 76 [some (.ref a0), some (va_rf r_1), some (.int x2), some (va_rf r_3), some (.int x4), some (.int x5), some (.int (x6 + (Int32.ofNat 1)))] [] h Q) : gm_G 599 279 [some (.ref a0), some (va_rf r_1), some (.int x2), some (va_rf r_3), some (.int x4), some (.int x5), some (.int x6)] [] h Q := by
  refine g_iinc (c := (Int32.ofNat 1)) rfl rfl rfl rfl rfl (pc' := 282) ?_
  refine g_goto rfl (pc' := 76) rfl ?_
  exact g_weak (show gm_Lle [some _, some _, some _, some _, some _, some _, some _] _ from ⟨rfl, ⟨rfl, ⟨rfl, ⟨rfl, ⟨rfl, ⟨rfl, ⟨rfl, trivial⟩⟩⟩⟩⟩⟩⟩) H
set_option maxRecDepth 20000 in
theorem w_600_0 {a0 : Nat} {x1 : Int32} {x2 : Int32} {h : hh_T} {Q : Option Value ⊕ Nat → hh_T → Prop} (H : hh_tg h a0 = 1 ∧ (gm_G 456 0 [some (.ref a0)] [] h (pV (fun h2 => gm_G 493 0 [some (.int x1)] [] h2 (pV (fun h3 => gm_G 5 0 [some (.int x2), some (.int (Int32.ofNat 0)), some (.int (Int32.ofNat 256))] [] h3 (pI (fun v5 h4 => gm_G 452 0 [some (.int v5)] [] h4 (pV (fun h6 => hh_tg h6 a0 = 1 ∧ (gm_G 447 0 [some (.ref a0), some (.int x1)] [] h6 (pR (fun r9 h8 => gm_G 600 25 [some (.ref a0), none, some (.int x2), some (va_rf r9)] [] h8 Q) (fun e10 h11 => hh_tg h11 e10 = 21 ∧ gm_G 600 189 [some (.ref a0)] [.ref e10] h11 Q)))) (fun e12 h13 => hh_tg h13 e12 = 21 ∧ gm_G 600 189 [some (.ref a0)] [.ref e12] h13 Q))) (fun e14 h15 => hh_tg h15 e14 = 21 ∧ gm_G 600 189 [some (.ref a0)] [.ref e14] h15 Q))) (fun e16 h17 => hh_tg h17 e16 = 21 ∧ gm_G 600 189 [some (.ref a0)] [.ref e16] h17 Q))) (fun e18 h19 => hh_tg h19 e18 = 21 ∧ gm_G 600 189 [some (.ref a0)] [.ref e18] h19 Q)))) : gm_G 600 0 [some (.ref a0), some (.int x1), some (.int x2)] [] h Q := by
  refine g_aload (r := some _) rfl rfl rfl (pc' := 1) ?_
  obtain ⟨ht1, H⟩ := H
  refine g_call rfl (y := 456) (n := 1) (pc' := 4) (g_vt ht1 rfl rfl) rfl rfl ⟨(Nat.le_of_ble_eq_true rfl), (Nat.le_of_ble_eq_true rfl), (Nat.le_of_ble_eq_true rfl)⟩ rfl (gm_G.mono H (pV_elim (fun h2 H' => ?_) (fun e18 h19 H => ?_)))
  · show gm_G _ 4 _ _ _ _
    replace H := H'
    clear H'
    refine g_iload rfl rfl rfl (pc' := 5) ?_
    refine g_call rfl (y := 493) (n := 1) (pc' := 8) (fun _ => rfl) rfl rfl ⟨(Nat.le_of_ble_eq_true rfl), (Nat.le_of_ble_eq_true rfl), (Nat.le_of_ble_eq_true rfl)⟩ rfl (gm_G.mono H (pV_elim (fun h3 H' => ?_) (fun e16 h17 H => ?_)))
    · show gm_G _ 8 _ _ _ _
      replace H := H'
      clear H'
      refine g_iload rfl rfl rfl (pc' := 9) ?_
      refine g_iconst rfl rfl rfl (pc' := 10) ?_
      refine g_iconst rfl rfl rfl (pc' := 13) ?_
      refine g_call rfl (y := 5) (n := 3) (pc' := 16) (fun _ => rfl) rfl rfl ⟨(Nat.le_of_ble_eq_true rfl), (Nat.le_of_ble_eq_true rfl), (Nat.le_of_ble_eq_true rfl)⟩ rfl (gm_G.mono H (pI_elim (fun v5 h4 H' => ?_) (fun e14 h15 H => ?_)))
      · show gm_G _ 16 _ _ _ _
        replace H := H'
        clear H'
        refine g_call rfl (y := 452) (n := 1) (pc' := 19) (fun _ => rfl) rfl rfl ⟨(Nat.le_of_ble_eq_true rfl), (Nat.le_of_ble_eq_true rfl), (Nat.le_of_ble_eq_true rfl)⟩ rfl (gm_G.mono H (pV_elim (fun h6 H' => ?_) (fun e12 h13 H => ?_)))
        · show gm_G _ 19 _ _ _ _
          replace H := H'
          clear H'
          refine g_aload (r := some _) rfl rfl rfl (pc' := 20) ?_
          refine g_iload rfl rfl rfl (pc' := 21) ?_
          obtain ⟨ht7, H⟩ := H
          refine g_call rfl (y := 447) (n := 2) (pc' := 24) (g_vt ht7 rfl rfl) rfl rfl ⟨(Nat.le_of_ble_eq_true rfl), (Nat.le_of_ble_eq_true rfl), (Nat.le_of_ble_eq_true rfl)⟩ rfl (gm_G.mono H (pR_elim (fun r9 h8 H' => ?_) (fun e10 h11 H => ?_)))
          · show gm_G _ 24 _ _ _ _
            replace H := H'
            clear H'
            refine g_astore (r := _) rfl rfl rfl (pc' := 25) ?_
            exact g_weak (show gm_Lle [some _, none, some _, some _] _ from ⟨rfl, ⟨rfl, ⟨rfl, trivial⟩⟩⟩) H
          · exact ⟨H.1, g_weak (show gm_Lle [some _] _ from ⟨rfl, trivial⟩) H.2⟩
        · exact ⟨H.1, g_weak (show gm_Lle [some _] _ from ⟨rfl, trivial⟩) H.2⟩
      · exact ⟨H.1, g_weak (show gm_Lle [some _] _ from ⟨rfl, trivial⟩) H.2⟩
    · exact ⟨H.1, g_weak (show gm_Lle [some _] _ from ⟨rfl, trivial⟩) H.2⟩
  · exact ⟨H.1, g_weak (show gm_Lle [some _] _ from ⟨rfl, trivial⟩) H.2⟩
set_option maxRecDepth 20000 in
theorem w_600_25 {a0 : Nat} {x2 : Int32} {r_3 : Option Nat} {h : hh_T} {Q : Option Value ⊕ Nat → hh_T → Prop} (H : ∃ a1, r_3 = some a1 ∧ (hh_tg h a1 = 43 ∧ (gm_G 208 0 [some (.ref a1)] [] h (pI (fun v4 h3 => gm_G 431 0 [some (.int v4), some (.int (Int32.ofInt (-6)))] [] h3 (pV (fun h5 => gm_sub (hh_tg h5 a0) 0 = true ∧ (∀ r7, r7 = hh_r h5 a0 51 → (gm_sub (hh_tg h5 a1) 42 = true ∧ (∃ a9, r7 = some a9 ∧ (hh_tg h5 a9 = 15 ∧ (gm_G 259 0 [some (.ref a9), some (.ref a1), some (.int (hh_i h5 a1 3)), some (.int ((hh_i h5 a1 3) + x2)), some (.int (Int32.ofNat 2))] [] h5 (pI (fun v12 h11 => (¬ v12 = Int32.ofNat 0 → (gm_G 600 61 [some (.ref a0), none, some (.int x2), some (.ref a1)] [.int (Int32.ofNat 0)] h11 Q)) ∧ (v12 = Int32.ofNat 0 → (gm_G 600 61 [some (.ref a0), none, some (.int x2), some (.ref a1)] [.int (Int32.ofNat 1)] h11 Q))) (fun e13 h14 => hh_tg h14 e13 = 21 ∧ gm_G 600 189 [some (.ref a0)] [.ref e13] h14 Q)))))))) (fun e15 h16 => hh_tg h16 e15 = 21 ∧ gm_G 600 189 [some (.ref a0)] [.ref e15] h16 Q))) (fun e17 h18 => hh_tg h18 e17 = 21 ∧ gm_G 600 189 [some (.ref a0)] [.ref e17] h18 Q))))) : gm_G 600 25 [some (.ref a0), none, some (.int x2), some (va_rf r_3)] [] h Q := by
  refine g_aload (r := _) rfl rfl rfl (pc' := 26) ?_
  obtain ⟨a1, rfl, H⟩ := H
  obtain ⟨ht2, H⟩ := H
  refine g_call rfl (y := 208) (n := 1) (pc' := 29) (g_vt ht2 rfl rfl) rfl rfl ⟨(Nat.le_of_ble_eq_true rfl), (Nat.le_of_ble_eq_true rfl), (Nat.le_of_ble_eq_true rfl)⟩ rfl (gm_G.mono H (pI_elim (fun v4 h3 H' => ?_) (fun e17 h18 H => ?_)))
  · show gm_G _ 29 _ _ _ _
    replace H := H'
    clear H'
    refine g_iconst rfl rfl rfl (pc' := 31) ?_
    refine g_call rfl (y := 431) (n := 2) (pc' := 34) (fun _ => rfl) rfl rfl ⟨(Nat.le_of_ble_eq_true rfl), (Nat.le_of_ble_eq_true rfl), (Nat.le_of_ble_eq_true rfl)⟩ rfl (gm_G.mono H (pV_elim (fun h5 H' => ?_) (fun e15 h16 H => ?_)))
    · show gm_G _ 34 _ _ _ _
      replace H := H'
      clear H'
      refine g_aload (r := some _) rfl rfl rfl (pc' := 35) ?_
      obtain ⟨ht6, H⟩ := H
      refine g_getRv rfl rfl rfl rfl ht6 (pc' := 38) rfl (fun r7 hr7 => ?_)
      replace H := H r7 hr7
      refine g_aload (r := some _) rfl rfl rfl (pc' := 39) ?_
      refine g_aload (r := some _) rfl rfl rfl (pc' := 40) ?_
      obtain ⟨ht8, H⟩ := H
      refine g_getI rfl rfl rfl rfl ht8 (pc' := 43) rfl ?_
      refine g_aload (r := some _) rfl rfl rfl (pc' := 44) ?_
      refine g_getI rfl rfl rfl rfl ht8 (pc' := 47) rfl ?_
      refine g_iload rfl rfl rfl (pc' := 48) ?_
      refine g_iadd rfl rfl (pc' := 49) ?_
      refine g_iconst rfl rfl rfl (pc' := 50) ?_
      obtain ⟨a9, rfl, H⟩ := H
      obtain ⟨ht10, H⟩ := H
      refine g_call rfl (y := 259) (n := 5) (pc' := 53) (g_vt ht10 rfl rfl) rfl rfl ⟨(Nat.le_of_ble_eq_true rfl), (Nat.le_of_ble_eq_true rfl), (Nat.le_of_ble_eq_true rfl)⟩ rfl (gm_G.mono H (pI_elim (fun v12 h11 H' => ?_) (fun e13 h14 H => ?_)))
      · show gm_G _ 53 _ _ _ _
        replace H := H'
        clear H'
        refine g_if_ne rfl (pc' := 56) (pt := 60) rfl rfl ⟨fun hc => ?_, fun hc => ?_⟩
        · replace H := H.1 hc
          refine g_iconst rfl rfl rfl (pc' := 61) ?_
          exact g_weak (show gm_Lle [some _, none, some _, some _] _ from ⟨rfl, ⟨rfl, ⟨rfl, trivial⟩⟩⟩) H
        · replace H := H.2 hc
          refine g_iconst rfl rfl rfl (pc' := 57) ?_
          refine g_goto rfl (pc' := 61) rfl ?_
          exact g_weak (show gm_Lle [some _, none, some _, some _] _ from ⟨rfl, ⟨rfl, ⟨rfl, trivial⟩⟩⟩) H
      · exact ⟨H.1, g_weak (show gm_Lle [some _] _ from ⟨rfl, trivial⟩) H.2⟩
    · exact ⟨H.1, g_weak (show gm_Lle [some _] _ from ⟨rfl, trivial⟩) H.2⟩
  · exact ⟨H.1, g_weak (show gm_Lle [some _] _ from ⟨rfl, trivial⟩) H.2⟩
set_option maxRecDepth 20000 in
theorem w_600_61 {a0 : Nat} {x2 : Int32} {r_3 : Option Nat} {y0 : Int32} {h : hh_T} {Q : Option Value ⊕ Nat → hh_T → Prop} (H : gm_G 431 0 [some (.int y0), some (.int (Int32.ofInt (-5)))] [] h (pV (fun h1 => hh_tg h1 a0 = 1 ∧ (gm_G 346 0 [some (.ref a0), some (va_rf r_3)] [] h1 (pR (fun r4 h3 => ∃ a5, r4 = some a5 ∧ (gm_sub (hh_tg h3 a5) 25 = true ∧ (∃ a7, r_3 = some a7 ∧ (gm_sub (hh_tg h3 a7) 42 = true ∧ ((¬ (hh_i h3 a7 3) < (if ((hh_i h3 a7 3) + x2) < (hh_i h3 a5 6) then ((hh_i h3 a7 3) + x2) else (hh_i h3 a5 6)) → (gm_G 600 109 [some (.ref a0), none, none, some (.ref a7), some (.ref a5), some (.int (if ((hh_i h3 a7 3) + x2) < (hh_i h3 a5 6) then ((hh_i h3 a7 3) + x2) else (hh_i h3 a5 6)))] [.int (Int32.ofNat 0)] h3 Q)) ∧ ((hh_i h3 a7 3) < (if ((hh_i h3 a7 3) + x2) < (hh_i h3 a5 6) then ((hh_i h3 a7 3) + x2) else (hh_i h3 a5 6)) → (gm_G 600 109 [some (.ref a0), none, none, some (.ref a7), some (.ref a5), some (.int (if ((hh_i h3 a7 3) + x2) < (hh_i h3 a5 6) then ((hh_i h3 a7 3) + x2) else (hh_i h3 a5 6)))] [.int ((if ((hh_i h3 a7 3) + x2) < (hh_i h3 a5 6) then ((hh_i h3 a7 3) + x2) else (hh_i h3 a5 6)) - (hh_i h3 a7 3))] h3 Q))))))) (fun e9 h10 => hh_tg h10 e9 = 21 ∧ gm_G 600 189 [some (.ref a0)] [.ref e9] h10 Q)))) (fun e11 h12 => hh_tg h12 e11 = 21 ∧ gm_G 600 189 [some (.ref a0)] [.ref e11] h12 Q))) : gm_G 600 61 [some (.ref a0), none, some (.int x2), some (va_rf r_3)] [.int y0] h Q := by
  refine g_iconst rfl rfl rfl (pc' := 63) ?_
  refine g_call rfl (y := 431) (n := 2) (pc' := 66) (fun _ => rfl) rfl rfl ⟨(Nat.le_of_ble_eq_true rfl), (Nat.le_of_ble_eq_true rfl), (Nat.le_of_ble_eq_true rfl)⟩ rfl (gm_G.mono H (pV_elim (fun h1 H' => ?_) (fun e11 h12 H => ?_)))
  · show gm_G _ 66 _ _ _ _
    replace H := H'
    clear H'
    refine g_aload (r := some _) rfl rfl rfl (pc' := 67) ?_
    refine g_aload (r := _) rfl rfl rfl (pc' := 68) ?_
    obtain ⟨ht2, H⟩ := H
    refine g_call rfl (y := 346) (n := 2) (pc' := 71) (g_vt ht2 rfl rfl) (by cases r_3 <;> rfl) rfl ⟨(Nat.le_of_ble_eq_true rfl), (Nat.le_of_ble_eq_true rfl), (Nat.le_of_ble_eq_true rfl)⟩ rfl (gm_G.mono H (pR_elim (fun r4 h3 H' => ?_) (fun e9 h10 H => ?_)))
    · show gm_G _ 71 _ _ _ _
      replace H := H'
      clear H'
      refine g_astore (r := _) rfl gm_sto_rf3 rfl (pc' := 73) ?_
      refine g_aload (r := _) rfl rfl rfl (pc' := 75) ?_
      obtain ⟨a5, rfl, H⟩ := H
      obtain ⟨ht6, H⟩ := H
      refine g_getI rfl rfl rfl rfl ht6 (pc' := 78) rfl ?_
      refine g_aload (r := _) rfl rfl rfl (pc' := 79) ?_
      obtain ⟨a7, rfl, H⟩ := H
      obtain ⟨ht8, H⟩ := H
      refine g_getI rfl rfl rfl rfl ht8 (pc' := 82) rfl ?_
      refine g_iload rfl rfl rfl (pc' := 83) ?_
      refine g_iadd rfl rfl (pc' := 84) ?_
      refine g_dsub rfl (Nat.le_of_ble_eq_true rfl) rfl (pc' := 87) ?_
      refine g_istore rfl rfl rfl (pc' := 89) ?_
      refine g_iload rfl rfl rfl (pc' := 91) ?_
      refine g_aload (r := some _) rfl rfl rfl (pc' := 92) ?_
      refine g_getI rfl rfl rfl rfl ht8 (pc' := 95) rfl ?_
      refine g_ic_le rfl (pc' := 98) (pt := 108) rfl rfl ⟨fun hc => ?_, fun hc => ?_⟩
      · replace H := H.1 hc
        refine g_iconst rfl rfl rfl (pc' := 109) ?_
        exact g_weak (show gm_Lle [some _, none, none, some _, some _, some _] _ from ⟨rfl, ⟨rfl, ⟨rfl, ⟨rfl, trivial⟩⟩⟩⟩) H
      · replace H := H.2 hc
        refine g_iload rfl rfl rfl (pc' := 100) ?_
        refine g_aload (r := some _) rfl rfl rfl (pc' := 101) ?_
        refine g_getI rfl rfl rfl rfl ht8 (pc' := 104) rfl ?_
        refine g_isub rfl rfl (pc' := 105) ?_
        refine g_goto rfl (pc' := 109) rfl ?_
        exact g_weak (show gm_Lle [some _, none, none, some _, some _, some _] _ from ⟨rfl, ⟨rfl, ⟨rfl, ⟨rfl, trivial⟩⟩⟩⟩) H
    · exact ⟨H.1, g_weak (show gm_Lle [some _] _ from ⟨rfl, trivial⟩) H.2⟩
  · exact ⟨H.1, g_weak (show gm_Lle [some _] _ from ⟨rfl, trivial⟩) H.2⟩
set_option maxRecDepth 20000 in
theorem w_600_109 {a0 : Nat} {r_3 : Option Nat} {r_4 : Option Nat} {x5 : Int32} {y0 : Int32} {h : hh_T} {Q : Option Value ⊕ Nat → hh_T → Prop} (H : (¬ Int32.ofNat 0 < y0 → (gm_G 600 128 [some (.ref a0), none, none, some (va_rf r_3), none, none, some (.int y0)] [] h Q)) ∧ (Int32.ofNat 0 < y0 → (∃ a1, r_3 = some a1 ∧ (gm_sub (hh_tg h a1) 42 = true ∧ (hh_tg h a0 = 1 ∧ (gm_G 595 0 [some (.ref a0), some (va_rf r_4), some (.int (hh_i h a1 3)), some (.int x5)] [] h (pV (fun h4 => gm_G 600 128 [some (.ref a0), none, none, some (.ref a1), none, none, some (.int y0)] [] h4 Q) (fun e5 h6 => hh_tg h6 e5 = 21 ∧ gm_G 600 189 [some (.ref a0)] [.ref e5] h6 Q)))))))) : gm_G 600 109 [some (.ref a0), none, none, some (va_rf r_3), some (va_rf r_4), some (.int x5)] [.int y0] h Q := by
  refine g_istore rfl rfl rfl (pc' := 111) ?_
  refine g_iload rfl rfl rfl (pc' := 113) ?_
  refine g_if_le rfl (pc' := 116) (pt := 128) rfl rfl ⟨fun hc => ?_, fun hc => ?_⟩
  · replace H := H.1 hc
    exact g_weak (show gm_Lle [some _, none, none, some _, none, none, some _] _ from ⟨rfl, ⟨rfl, ⟨rfl, trivial⟩⟩⟩) H
  · replace H := H.2 hc
    refine g_aload (r := some _) rfl rfl rfl (pc' := 117) ?_
    refine g_aload (r := _) rfl rfl rfl (pc' := 119) ?_
    refine g_aload (r := _) rfl rfl rfl (pc' := 120) ?_
    obtain ⟨a1, rfl, H⟩ := H
    obtain ⟨ht2, H⟩ := H
    refine g_getI rfl rfl rfl rfl ht2 (pc' := 123) rfl ?_
    refine g_iload rfl rfl rfl (pc' := 125) ?_
    obtain ⟨ht3, H⟩ := H
    refine g_call rfl (y := 595) (n := 4) (pc' := 128) (g_vt ht3 rfl rfl) (by cases r_4 <;> rfl) rfl ⟨(Nat.le_of_ble_eq_true rfl), (Nat.le_of_ble_eq_true rfl), (Nat.le_of_ble_eq_true rfl)⟩ rfl (gm_G.mono H (pV_elim (fun h4 H' => ?_) (fun e5 h6 H => ?_)))
    · show gm_G _ 128 _ _ _ _
      replace H := H'
      clear H'
      exact g_weak (show gm_Lle [some _, none, none, some _, none, none, some _] _ from ⟨rfl, ⟨rfl, ⟨rfl, trivial⟩⟩⟩) H
    · exact ⟨H.1, g_weak (show gm_Lle [some _] _ from ⟨rfl, trivial⟩) H.2⟩
set_option maxRecDepth 20000 in
theorem w_600_128 {a0 : Nat} {r_3 : Option Nat} {x6 : Int32} {h : hh_T} {Q : Option Value ⊕ Nat → hh_T → Prop} (H : gm_sub (hh_tg h a0) 0 = true ∧ (∀ r2, r2 = hh_r h a0 59 → (∃ a3, r2 = some a3 ∧ (gm_sub (hh_tg h a3) 12 = true ∧ (∀ h5, h5 = hh_wi h a3 1 (Int32.ofNat 0) → (gm_G 600 139 [some (.ref a0), none, none, some (va_rf r_3), none, none, some (.int x6), some (.int (Int32.ofNat 0))] [] h5 Q)))))) : gm_G 600 128 [some (.ref a0), none, none, some (va_rf r_3), none, none, some (.int x6)] [] h Q := by
  refine g_aload (r := some _) rfl rfl rfl (pc' := 129) ?_
  obtain ⟨ht1, H⟩ := H
  refine g_getRv rfl rfl rfl rfl ht1 (pc' := 132) rfl (fun r2 hr2 => ?_)
  replace H := H r2 hr2
  refine g_iconst rfl rfl rfl (pc' := 133) ?_
  obtain ⟨a3, rfl, H⟩ := H
  obtain ⟨ht4, H⟩ := H
  refine g_putI rfl rfl rfl rfl ht4  (pc' := 136) rfl ?_
  replace H := H _ rfl
  refine g_iconst rfl rfl rfl (pc' := 137) ?_
  refine g_istore rfl rfl rfl (pc' := 139) ?_
  exact g_weak (show gm_Lle [some _, none, none, some _, none, none, some _, some _] _ from ⟨rfl, ⟨rfl, ⟨rfl, ⟨rfl, trivial⟩⟩⟩⟩) H
set_option maxRecDepth 20000 in
theorem w_600_139 {a0 : Nat} {r_3 : Option Nat} {x6 : Int32} {x7 : Int32} {h : hh_T} {Q : Option Value ⊕ Nat → hh_T → Prop} (H : (¬ x7 < x6 → (∃ a1, r_3 = some a1 ∧ (gm_sub (hh_tg h a1) 42 = true ∧ (∀ h3, h3 = hh_wi h a1 3 ((hh_i h a1 3) + x6) → (hh_tg h3 a0 = 1 ∧ (gm_G 4 0 [some (.ref a0), some (.int x6)] [] h3 (pI (fun v6 h5 => Q (.inl (some (.int v6))) h5) (fun e7 h8 => hh_tg h8 e7 = 21 ∧ gm_G 600 189 [some (.ref a0)] [.ref e7] h8 Q)))))))) ∧ (x7 < x6 → (gm_sub (hh_tg h a0) 0 = true ∧ (∀ r10, r10 = hh_r h a0 59 → (∀ r11, r11 = hh_r h a0 46 → (∃ a12, r_3 = some a12 ∧ (gm_sub (hh_tg h a12) 42 = true ∧ (∃ a14, r11 = some a14 ∧ ((hh_tg h a14 = 101 ∨ hh_tg h a14 = 102) ∧ (∃ n15, gm_ix ((hh_i h a12 3) + x7) n15 (hh_ln h a14) ∧ (∃ a17, r10 = some a17 ∧ (hh_tg h a17 = 13 ∧ (gm_G 459 0 [some (.ref a17), some (.int (hh_i h a14 n15))] [] h (pV (fun h19 => gm_G 600 139 [some (.ref a0), none, none, some (.ref a12), none, none, some (.int x6), some (.int (x7 + (Int32.ofNat 1)))] [] h19 Q) (fun e20 h21 => hh_tg h21 e20 = 21 ∧ gm_G 600 189 [some (.ref a0)] [.ref e20] h21 Q))))))))))))))) : gm_G 600 139 [some (.ref a0), none, none, some (va_rf r_3), none, none, some (.int x6), some (.int x7)] [] h Q := by
  refine g_iload rfl rfl rfl (pc' := 141) ?_
  refine g_iload rfl rfl rfl (pc' := 143) ?_
  refine g_ic_ge rfl (pc' := 146) (pt := 171) rfl rfl ⟨fun hc => ?_, fun hc => ?_⟩
  · replace H := H.1 hc
    refine g_aload (r := _) rfl rfl rfl (pc' := 172) ?_
    refine g_dup_a (r := _) rfl rfl (pc' := 173) ?_
    obtain ⟨a1, rfl, H⟩ := H
    obtain ⟨ht2, H⟩ := H
    refine g_getI rfl rfl rfl rfl ht2 (pc' := 176) rfl ?_
    refine g_iload rfl rfl rfl (pc' := 178) ?_
    refine g_iadd rfl rfl (pc' := 179) ?_
    refine g_putI rfl rfl rfl rfl ht2  (pc' := 182) rfl ?_
    replace H := H _ rfl
    refine g_aload (r := some _) rfl rfl rfl (pc' := 183) ?_
    refine g_iload rfl rfl rfl (pc' := 185) ?_
    obtain ⟨ht4, H⟩ := H
    refine g_call rfl (y := 4) (n := 2) (pc' := 188) (g_vt ht4 rfl rfl) rfl rfl ⟨(Nat.le_of_ble_eq_true rfl), (Nat.le_of_ble_eq_true rfl), (Nat.le_of_ble_eq_true rfl)⟩ rfl (gm_G.mono H (pI_elim (fun v6 h5 H' => ?_) (fun e7 h8 H => ?_)))
    · show gm_G _ 188 _ _ _ _
      replace H := H'
      clear H'
      exact g_ireturn rfl (Or.inl rfl) H
    · exact ⟨H.1, g_weak (show gm_Lle [some _] _ from ⟨rfl, trivial⟩) H.2⟩
  · replace H := H.2 hc
    refine g_aload (r := some _) rfl rfl rfl (pc' := 147) ?_
    obtain ⟨ht9, H⟩ := H
    refine g_getRv rfl rfl rfl rfl ht9 (pc' := 150) rfl (fun r10 hr10 => ?_)
    replace H := H r10 hr10
    refine g_aload (r := some _) rfl rfl rfl (pc' := 151) ?_
    refine g_getRv rfl rfl rfl rfl ht9 (pc' := 154) rfl (fun r11 hr11 => ?_)
    replace H := H r11 hr11
    refine g_aload (r := _) rfl rfl rfl (pc' := 155) ?_
    obtain ⟨a12, rfl, H⟩ := H
    obtain ⟨ht13, H⟩ := H
    refine g_getI rfl rfl rfl rfl ht13 (pc' := 158) rfl ?_
    refine g_iload rfl rfl rfl (pc' := 160) ?_
    refine g_iadd rfl rfl (pc' := 161) ?_
    obtain ⟨a14, rfl, H⟩ := H
    obtain ⟨ht16, H⟩ := H
    obtain ⟨n15, hn15, H⟩ := H
    refine g_baload rfl ht16 hn15 (pc' := 162) rfl ?_
    obtain ⟨a17, rfl, H⟩ := H
    obtain ⟨ht18, H⟩ := H
    refine g_call rfl (y := 459) (n := 2) (pc' := 165) (g_vt ht18 rfl rfl) rfl rfl ⟨(Nat.le_of_ble_eq_true rfl), (Nat.le_of_ble_eq_true rfl), (Nat.le_of_ble_eq_true rfl)⟩ rfl (gm_G.mono H (pV_elim (fun h19 H' => ?_) (fun e20 h21 H => ?_)))
    · show gm_G _ 165 _ _ _ _
      replace H := H'
      clear H'
      refine g_iinc (c := (Int32.ofNat 1)) rfl rfl rfl rfl rfl (pc' := 168) ?_
      refine g_goto rfl (pc' := 139) rfl ?_
      exact g_weak (show gm_Lle [some _, none, none, some _, none, none, some _, some _] _ from ⟨rfl, ⟨rfl, ⟨rfl, ⟨rfl, trivial⟩⟩⟩⟩) H
    · exact ⟨H.1, g_weak (show gm_Lle [some _] _ from ⟨rfl, trivial⟩) H.2⟩
set_option maxRecDepth 20000 in
theorem w_600_189 {a0 : Nat} {ex : Nat} {h : hh_T} {Q : Option Value ⊕ Nat → hh_T → Prop} (H : hh_tg h a0 = 1 ∧ (gm_G 1 0 [some (.ref a0), some (.ref ex)] [] h (pI (fun v3 h2 => Q (.inl (some (.int v3))) h2) (fun e4 h5 => hh_tg h5 e4 = 21 ∧ Q (.inr e4) h5)))) : gm_G 600 189 [some (.ref a0)] [.ref ex] h Q := by
  refine g_astore (r := some _) rfl rfl rfl (pc' := 190) ?_
  refine g_aload (r := some _) rfl rfl rfl (pc' := 191) ?_
  refine g_aload (r := some _) rfl rfl rfl (pc' := 192) ?_
  obtain ⟨ht1, H⟩ := H
  refine g_call rfl (y := 1) (n := 2) (pc' := 195) (g_vt ht1 rfl rfl) rfl rfl ⟨(Nat.le_of_ble_eq_true rfl), (Nat.le_of_ble_eq_true rfl), (Nat.le_of_ble_eq_true rfl)⟩ rfl (gm_G.mono H (pI_elim (fun v3 h2 H' => ?_) (fun e4 h5 H => ?_)))
  · show gm_G _ 195 _ _ _ _
    replace H := H'
    clear H'
    exact g_ireturn rfl (Or.inl rfl) H
  · exact H
set_option maxRecDepth 20000 in
theorem w_601_0 {a0 : Nat} {x1 : Int32} {x2 : Int32} {x3 : Int32} {h : hh_T} {Q : Option Value ⊕ Nat → hh_T → Prop} (H : hh_tg h a0 = 1 ∧ (gm_G 456 0 [some (.ref a0)] [] h (pV (fun h2 => gm_G 5 0 [some (.int x1), some (.int (Int32.ofNat 0)), some (.int (Int32.ofNat 1))] [] h2 (pI (fun v4 h3 => gm_G 452 0 [some (.int v4)] [] h3 (pV (fun h5 => (¬ x2 = (Int32.ofInt (-1)) → (hh_tg h5 a0 = 1 ∧ (gm_G 454 0 [some (.ref a0), some (.int x2)] [] h5 (pR (fun r8 h7 => gm_G 601 27 [some (.ref a0), some (.int x1), some (.int x2), some (.int x3)] [va_rf r8] h7 Q) (fun e9 h10 => hh_tg h10 e9 = 21 ∧ gm_G 601 190 [some (.ref a0)] [.ref e9] h10 Q))))) ∧ (x2 = (Int32.ofInt (-1)) → (gm_G 601 27 [some (.ref a0), some (.int x1), some (.int x2), some (.int x3)] [va_rf none] h5 Q))) (fun e11 h12 => hh_tg h12 e11 = 21 ∧ gm_G 601 190 [some (.ref a0)] [.ref e11] h12 Q))) (fun e13 h14 => hh_tg h14 e13 = 21 ∧ gm_G 601 190 [some (.ref a0)] [.ref e13] h14 Q))) (fun e15 h16 => hh_tg h16 e15 = 21 ∧ gm_G 601 190 [some (.ref a0)] [.ref e15] h16 Q)))) : gm_G 601 0 [some (.ref a0), some (.int x1), some (.int x2), some (.int x3)] [] h Q := by
  refine g_aload (r := some _) rfl rfl rfl (pc' := 1) ?_
  obtain ⟨ht1, H⟩ := H
  refine g_call rfl (y := 456) (n := 1) (pc' := 4) (g_vt ht1 rfl rfl) rfl rfl ⟨(Nat.le_of_ble_eq_true rfl), (Nat.le_of_ble_eq_true rfl), (Nat.le_of_ble_eq_true rfl)⟩ rfl (gm_G.mono H (pV_elim (fun h2 H' => ?_) (fun e15 h16 H => ?_)))
  · show gm_G _ 4 _ _ _ _
    replace H := H'
    clear H'
    refine g_iload rfl rfl rfl (pc' := 5) ?_
    refine g_iconst rfl rfl rfl (pc' := 6) ?_
    refine g_iconst rfl rfl rfl (pc' := 7) ?_
    refine g_call rfl (y := 5) (n := 3) (pc' := 10) (fun _ => rfl) rfl rfl ⟨(Nat.le_of_ble_eq_true rfl), (Nat.le_of_ble_eq_true rfl), (Nat.le_of_ble_eq_true rfl)⟩ rfl (gm_G.mono H (pI_elim (fun v4 h3 H' => ?_) (fun e13 h14 H => ?_)))
    · show gm_G _ 10 _ _ _ _
      replace H := H'
      clear H'
      refine g_call rfl (y := 452) (n := 1) (pc' := 13) (fun _ => rfl) rfl rfl ⟨(Nat.le_of_ble_eq_true rfl), (Nat.le_of_ble_eq_true rfl), (Nat.le_of_ble_eq_true rfl)⟩ rfl (gm_G.mono H (pV_elim (fun h5 H' => ?_) (fun e11 h12 H => ?_)))
      · show gm_G _ 13 _ _ _ _
        replace H := H'
        clear H'
        refine g_iload rfl rfl rfl (pc' := 14) ?_
        refine g_iconst rfl rfl rfl (pc' := 15) ?_
        refine g_ic_ne rfl (pc' := 18) (pt := 22) rfl rfl ⟨fun hc => ?_, fun hc => ?_⟩
        · replace H := H.1 hc
          refine g_aload (r := some _) rfl rfl rfl (pc' := 23) ?_
          refine g_iload rfl rfl rfl (pc' := 24) ?_
          obtain ⟨ht6, H⟩ := H
          refine g_call rfl (y := 454) (n := 2) (pc' := 27) (g_vt ht6 rfl rfl) rfl rfl ⟨(Nat.le_of_ble_eq_true rfl), (Nat.le_of_ble_eq_true rfl), (Nat.le_of_ble_eq_true rfl)⟩ rfl (gm_G.mono H (pR_elim (fun r8 h7 H' => ?_) (fun e9 h10 H => ?_)))
          · show gm_G _ 27 _ _ _ _
            replace H := H'
            clear H'
            exact g_weak (show gm_Lle [some _, some _, some _, some _] _ from ⟨rfl, ⟨rfl, ⟨rfl, ⟨rfl, trivial⟩⟩⟩⟩) H
          · exact ⟨H.1, g_weak (show gm_Lle [some _] _ from ⟨rfl, trivial⟩) H.2⟩
        · replace H := H.2 hc
          refine g_null rfl rfl (pc' := 19) ?_
          refine g_goto rfl (pc' := 27) rfl ?_
          exact g_weak (show gm_Lle [some _, some _, some _, some _] _ from ⟨rfl, ⟨rfl, ⟨rfl, ⟨rfl, trivial⟩⟩⟩⟩) H
      · exact ⟨H.1, g_weak (show gm_Lle [some _] _ from ⟨rfl, trivial⟩) H.2⟩
    · exact ⟨H.1, g_weak (show gm_Lle [some _] _ from ⟨rfl, trivial⟩) H.2⟩
  · exact ⟨H.1, g_weak (show gm_Lle [some _] _ from ⟨rfl, trivial⟩) H.2⟩
set_option maxRecDepth 20000 in
theorem w_601_27 {a0 : Nat} {x1 : Int32} {x2 : Int32} {x3 : Int32} {q0 : Option Nat} {h : hh_T} {Q : Option Value ⊕ Nat → hh_T → Prop} (H : hh_tg h a0 = 1 ∧ (gm_G 454 0 [some (.ref a0), some (.int x3)] [] h (pR (fun r3 h2 => gm_sub (hh_tg h2 a0) 0 = true ∧ (∀ r5, r5 = hh_r h2 a0 33 → (∃ a6, r3 = some a6 ∧ (gm_sub (hh_tg h2 a6) 29 = true ∧ (∃ a8, r5 = some a8 ∧ (hh_tg h2 a8 = 23 ∧ (gm_G 178 0 [some (.ref a8), some (.int (hh_i h2 a6 1))] [] h2 (pR (fun r11 h10 => (q0 = none → (gm_G 601 83 [some (.ref a0), some (.int x1), none, none, some (va_rf none), some (.ref a6), some (va_rf r11)] [] h10 Q)) ∧ (∀ a12, q0 = some a12 → (gm_sub (hh_tg h10 a12) 29 = true ∧ (gm_sub (hh_tg h10 a6) 29 = true ∧ ((¬ (hh_i h10 a12 1) = (hh_i h10 a6 1) → (gm_G 601 87 [some (.ref a0), some (.int x1), none, none, some (.ref a12), some (.ref a6), some (va_rf r11)] [] h10 Q)) ∧ ((hh_i h10 a12 1) = (hh_i h10 a6 1) → (∃ a15, r11 = some a15 ∧ (hh_tg h10 a15 = 24 ∧ (gm_G 185 0 [some (.ref a15), some (.int x2)] [] h10 (pI (fun v18 h17 => hh_tg h17 a15 = 24 ∧ (gm_G 185 0 [some (.ref a15), some (.int x3)] [] h17 (pI (fun v21 h20 => (¬ v18 < v21 → (gm_G 601 87 [some (.ref a0), some (.int x1), none, none, some (.ref a12), some (.ref a6), some (.ref a15)] [] h20 Q)) ∧ (v18 < v21 → (gm_G 601 83 [some (.ref a0), some (.int x1), none, none, some (.ref a12), some (.ref a6), some (.ref a15)] [] h20 Q))) (fun e22 h23 => hh_tg h23 e22 = 21 ∧ gm_G 601 190 [some (.ref a0)] [.ref e22] h23 Q)))) (fun e24 h25 => hh_tg h25 e24 = 21 ∧ gm_G 601 190 [some (.ref a0)] [.ref e24] h25 Q))))))))))) (fun e26 h27 => hh_tg h27 e26 = 21 ∧ gm_G 601 190 [some (.ref a0)] [.ref e26] h27 Q))))))))) (fun e28 h29 => hh_tg h29 e28 = 21 ∧ gm_G 601 190 [some (.ref a0)] [.ref e28] h29 Q)))) : gm_G 601 27 [some (.ref a0), some (.int x1), some (.int x2), some (.int x3)] [va_rf q0] h Q := by
  refine g_astore (r := _) rfl rfl rfl (pc' := 29) ?_
  refine g_aload (r := some _) rfl rfl rfl (pc' := 30) ?_
  refine g_iload rfl rfl rfl (pc' := 31) ?_
  obtain ⟨ht1, H⟩ := H
  refine g_call rfl (y := 454) (n := 2) (pc' := 34) (g_vt ht1 rfl rfl) rfl rfl ⟨(Nat.le_of_ble_eq_true rfl), (Nat.le_of_ble_eq_true rfl), (Nat.le_of_ble_eq_true rfl)⟩ rfl (gm_G.mono H (pR_elim (fun r3 h2 H' => ?_) (fun e28 h29 H => ?_)))
  · show gm_G _ 34 _ _ _ _
    replace H := H'
    clear H'
    refine g_astore (r := _) rfl gm_sto_rf4 rfl (pc' := 36) ?_
    refine g_aload (r := some _) rfl rfl rfl (pc' := 37) ?_
    obtain ⟨ht4, H⟩ := H
    refine g_getRv rfl rfl rfl rfl ht4 (pc' := 40) rfl (fun r5 hr5 => ?_)
    replace H := H r5 hr5
    refine g_aload (r := _) rfl rfl rfl (pc' := 42) ?_
    obtain ⟨a6, rfl, H⟩ := H
    obtain ⟨ht7, H⟩ := H
    refine g_getI rfl rfl rfl rfl ht7 (pc' := 45) rfl ?_
    obtain ⟨a8, rfl, H⟩ := H
    obtain ⟨ht9, H⟩ := H
    refine g_call rfl (y := 178) (n := 2) (pc' := 48) (g_vt ht9 rfl rfl) rfl rfl ⟨(Nat.le_of_ble_eq_true rfl), (Nat.le_of_ble_eq_true rfl), (Nat.le_of_ble_eq_true rfl)⟩ rfl (gm_G.mono H (pR_elim (fun r11 h10 H' => ?_) (fun e26 h27 H => ?_)))
    · show gm_G _ 48 _ _ _ _
      replace H := H'
      clear H'
      refine g_astore (r := _) rfl rfl rfl (pc' := 50) ?_
      refine g_aload (r := _) rfl rfl rfl (pc' := 52) ?_
      refine g_ifnull rfl (pc' := 55) (pt := 83) rfl rfl ⟨fun hc => ?_, fun a12 hc => ?_⟩
      · replace H := H.1 hc
        subst hc
        exact g_weak (show gm_Lle [some _, some _, none, none, some _, some _, some _] _ from ⟨rfl, ⟨rfl, ⟨rfl, ⟨rfl, ⟨rfl, trivial⟩⟩⟩⟩⟩) H
      · replace H := H.2 a12 hc
        subst hc
        refine g_aload (r := some _) rfl rfl rfl (pc' := 57) ?_
        obtain ⟨ht13, H⟩ := H
        refine g_getI rfl rfl rfl rfl ht13 (pc' := 60) rfl ?_
        refine g_aload (r := some _) rfl rfl rfl (pc' := 62) ?_
        obtain ⟨ht14, H⟩ := H
        refine g_getI rfl rfl rfl rfl ht14 (pc' := 65) rfl ?_
        refine g_ic_ne rfl (pc' := 68) (pt := 87) rfl rfl ⟨fun hc => ?_, fun hc => ?_⟩
        · replace H := H.1 hc
          exact g_weak (show gm_Lle [some _, some _, none, none, some _, some _, some _] _ from ⟨rfl, ⟨rfl, ⟨rfl, ⟨rfl, ⟨rfl, trivial⟩⟩⟩⟩⟩) H
        · replace H := H.2 hc
          refine g_aload (r := _) rfl rfl rfl (pc' := 70) ?_
          refine g_iload rfl rfl rfl (pc' := 71) ?_
          obtain ⟨a15, rfl, H⟩ := H
          obtain ⟨ht16, H⟩ := H
          refine g_call rfl (y := 185) (n := 2) (pc' := 74) (g_vt ht16 rfl rfl) rfl rfl ⟨(Nat.le_of_ble_eq_true rfl), (Nat.le_of_ble_eq_true rfl), (Nat.le_of_ble_eq_true rfl)⟩ rfl (gm_G.mono H (pI_elim (fun v18 h17 H' => ?_) (fun e24 h25 H => ?_)))
          · show gm_G _ 74 _ _ _ _
            replace H := H'
            clear H'
            refine g_aload (r := some _) rfl rfl rfl (pc' := 76) ?_
            refine g_iload rfl rfl rfl (pc' := 77) ?_
            obtain ⟨ht19, H⟩ := H
            refine g_call rfl (y := 185) (n := 2) (pc' := 80) (g_vt ht19 rfl rfl) rfl rfl ⟨(Nat.le_of_ble_eq_true rfl), (Nat.le_of_ble_eq_true rfl), (Nat.le_of_ble_eq_true rfl)⟩ rfl (gm_G.mono H (pI_elim (fun v21 h20 H' => ?_) (fun e22 h23 H => ?_)))
            · show gm_G _ 80 _ _ _ _
              replace H := H'
              clear H'
              refine g_ic_ge rfl (pc' := 83) (pt := 87) rfl rfl ⟨fun hc => ?_, fun hc => ?_⟩
              · replace H := H.1 hc
                exact g_weak (show gm_Lle [some _, some _, none, none, some _, some _, some _] _ from ⟨rfl, ⟨rfl, ⟨rfl, ⟨rfl, ⟨rfl, trivial⟩⟩⟩⟩⟩) H
              · replace H := H.2 hc
                exact g_weak (show gm_Lle [some _, some _, none, none, some _, some _, some _] _ from ⟨rfl, ⟨rfl, ⟨rfl, ⟨rfl, ⟨rfl, trivial⟩⟩⟩⟩⟩) H
            · exact ⟨H.1, g_weak (show gm_Lle [some _] _ from ⟨rfl, trivial⟩) H.2⟩
          · exact ⟨H.1, g_weak (show gm_Lle [some _] _ from ⟨rfl, trivial⟩) H.2⟩
    · exact ⟨H.1, g_weak (show gm_Lle [some _] _ from ⟨rfl, trivial⟩) H.2⟩
  · exact ⟨H.1, g_weak (show gm_Lle [some _] _ from ⟨rfl, trivial⟩) H.2⟩
set_option maxRecDepth 20000 in
theorem w_601_83 {a0 : Nat} {x1 : Int32} {r_4 : Option Nat} {r_5 : Option Nat} {r_6 : Option Nat} {h : hh_T} {Q : Option Value ⊕ Nat → hh_T → Prop} (H : gm_G 601 88 [some (.ref a0), some (.int x1), none, none, some (va_rf r_4), some (va_rf r_5), some (va_rf r_6)] [.int (Int32.ofNat 1)] h Q) : gm_G 601 83 [some (.ref a0), some (.int x1), none, none, some (va_rf r_4), some (va_rf r_5), some (va_rf r_6)] [] h Q := by
  refine g_iconst rfl rfl rfl (pc' := 84) ?_
  refine g_goto rfl (pc' := 88) rfl ?_
  exact g_weak (show gm_Lle [some _, some _, none, none, some _, some _, some _] _ from ⟨rfl, ⟨rfl, ⟨rfl, ⟨rfl, ⟨rfl, trivial⟩⟩⟩⟩⟩) H
set_option maxRecDepth 20000 in
theorem w_601_87 {a0 : Nat} {x1 : Int32} {r_4 : Option Nat} {r_5 : Option Nat} {r_6 : Option Nat} {h : hh_T} {Q : Option Value ⊕ Nat → hh_T → Prop} (H : gm_G 601 88 [some (.ref a0), some (.int x1), none, none, some (va_rf r_4), some (va_rf r_5), some (va_rf r_6)] [.int (Int32.ofNat 0)] h Q) : gm_G 601 87 [some (.ref a0), some (.int x1), none, none, some (va_rf r_4), some (va_rf r_5), some (va_rf r_6)] [] h Q := by
  refine g_iconst rfl rfl rfl (pc' := 88) ?_
  exact g_weak (show gm_Lle [some _, some _, none, none, some _, some _, some _] _ from ⟨rfl, ⟨rfl, ⟨rfl, ⟨rfl, ⟨rfl, trivial⟩⟩⟩⟩⟩) H
set_option maxRecDepth 20000 in
theorem w_601_88 {a0 : Nat} {x1 : Int32} {r_4 : Option Nat} {r_5 : Option Nat} {r_6 : Option Nat} {y0 : Int32} {h : hh_T} {Q : Option Value ⊕ Nat → hh_T → Prop} (H : gm_G 431 0 [some (.int y0), some (.int (Int32.ofInt (-10)))] [] h (pV (fun h1 => ∃ a2, r_6 = some a2 ∧ (gm_sub (hh_tg h1 a2) 23 = true ∧ (hh_tg h1 a0 = 1 ∧ (gm_G 596 0 [some (.ref a0), some (va_rf r_5), some (va_rf r_4), some (.int (hh_i h1 a2 2)), some (.int (Int32.ofNat 0))] [] h1 (pV (fun h5 => gm_sub (hh_tg h5 a2) 23 = true ∧ (hh_tg h5 a0 = 1 ∧ (gm_G 596 0 [some (.ref a0), some (va_rf r_5), some (va_rf r_4), some (.int (hh_i h5 a2 2)), some (.int (Int32.ofNat 1))] [] h5 (pV (fun h8 => gm_sub (hh_tg h8 a0) 0 = true ∧ (∀ r10, r10 = hh_r h8 a0 53 → (∃ a11, r10 = some a11 ∧ ((hh_tg h8 a11 = 104 ∨ 200 ≤ hh_tg h8 a11) ∧ (∃ n12, gm_ix x1 n12 (hh_ln h8 a11) ∧ (∀ r14, r14 = hh_r h8 a11 n12 → (gm_G 601 132 [some (.ref a0), none, none, none, none, none, none, some (va_rf r14), some (.int (Int32.ofNat 0))] [] h8 Q))))))) (fun e15 h16 => hh_tg h16 e15 = 21 ∧ gm_G 601 190 [some (.ref a0)] [.ref e15] h16 Q))))) (fun e17 h18 => hh_tg h18 e17 = 21 ∧ gm_G 601 190 [some (.ref a0)] [.ref e17] h18 Q)))))) (fun e19 h20 => hh_tg h20 e19 = 21 ∧ gm_G 601 190 [some (.ref a0)] [.ref e19] h20 Q))) : gm_G 601 88 [some (.ref a0), some (.int x1), none, none, some (va_rf r_4), some (va_rf r_5), some (va_rf r_6)] [.int y0] h Q := by
  refine g_iconst rfl rfl rfl (pc' := 90) ?_
  refine g_call rfl (y := 431) (n := 2) (pc' := 93) (fun _ => rfl) rfl rfl ⟨(Nat.le_of_ble_eq_true rfl), (Nat.le_of_ble_eq_true rfl), (Nat.le_of_ble_eq_true rfl)⟩ rfl (gm_G.mono H (pV_elim (fun h1 H' => ?_) (fun e19 h20 H => ?_)))
  · show gm_G _ 93 _ _ _ _
    replace H := H'
    clear H'
    refine g_aload (r := some _) rfl rfl rfl (pc' := 94) ?_
    refine g_aload (r := _) rfl rfl rfl (pc' := 96) ?_
    refine g_aload (r := _) rfl rfl rfl (pc' := 98) ?_
    refine g_aload (r := _) rfl rfl rfl (pc' := 100) ?_
    obtain ⟨a2, rfl, H⟩ := H
    obtain ⟨ht3, H⟩ := H
    refine g_getI rfl rfl rfl rfl ht3 (pc' := 103) rfl ?_
    refine g_iconst rfl rfl rfl (pc' := 104) ?_
    obtain ⟨ht4, H⟩ := H
    refine g_call rfl (y := 596) (n := 5) (pc' := 107) (g_vt ht4 rfl rfl) (by cases r_4 <;> cases r_5 <;> rfl) rfl ⟨(Nat.le_of_ble_eq_true rfl), (Nat.le_of_ble_eq_true rfl), (Nat.le_of_ble_eq_true rfl)⟩ rfl (gm_G.mono H (pV_elim (fun h5 H' => ?_) (fun e17 h18 H => ?_)))
    · show gm_G _ 107 _ _ _ _
      replace H := H'
      clear H'
      refine g_aload (r := some _) rfl rfl rfl (pc' := 108) ?_
      refine g_aload (r := _) rfl rfl rfl (pc' := 110) ?_
      refine g_aload (r := _) rfl rfl rfl (pc' := 112) ?_
      refine g_aload (r := some _) rfl rfl rfl (pc' := 114) ?_
      obtain ⟨ht6, H⟩ := H
      refine g_getI rfl rfl rfl rfl ht6 (pc' := 117) rfl ?_
      refine g_iconst rfl rfl rfl (pc' := 118) ?_
      obtain ⟨ht7, H⟩ := H
      refine g_call rfl (y := 596) (n := 5) (pc' := 121) (g_vt ht7 rfl rfl) (by cases r_4 <;> cases r_5 <;> rfl) rfl ⟨(Nat.le_of_ble_eq_true rfl), (Nat.le_of_ble_eq_true rfl), (Nat.le_of_ble_eq_true rfl)⟩ rfl (gm_G.mono H (pV_elim (fun h8 H' => ?_) (fun e15 h16 H => ?_)))
      · show gm_G _ 121 _ _ _ _
        replace H := H'
        clear H'
        refine g_aload (r := some _) rfl rfl rfl (pc' := 122) ?_
        obtain ⟨ht9, H⟩ := H
        refine g_getRv rfl rfl rfl rfl ht9 (pc' := 125) rfl (fun r10 hr10 => ?_)
        replace H := H r10 hr10
        refine g_iload rfl rfl rfl (pc' := 126) ?_
        obtain ⟨a11, rfl, H⟩ := H
        obtain ⟨ht13, H⟩ := H
        obtain ⟨n12, hn12, H⟩ := H
        refine g_aaloadv rfl ht13 hn12 (pc' := 127) rfl (fun r14 hr14 => ?_)
        replace H := H r14 hr14
        refine g_astore (r := _) rfl rfl rfl (pc' := 129) ?_
        refine g_iconst rfl rfl rfl (pc' := 130) ?_
        refine g_istore rfl gm_sto_rf7 rfl (pc' := 132) ?_
        exact g_weak (show gm_Lle [some _, none, none, none, none, none, none, some _, some _] _ from ⟨rfl, ⟨rfl, ⟨rfl, trivial⟩⟩⟩) H
      · exact ⟨H.1, g_weak (show gm_Lle [some _] _ from ⟨rfl, trivial⟩) H.2⟩
    · exact ⟨H.1, g_weak (show gm_Lle [some _] _ from ⟨rfl, trivial⟩) H.2⟩
  · exact ⟨H.1, g_weak (show gm_Lle [some _] _ from ⟨rfl, trivial⟩) H.2⟩
set_option maxRecDepth 20000 in
theorem w_601_132 {a0 : Nat} {r_7 : Option Nat} {x8 : Int32} {h : hh_T} {Q : Option Value ⊕ Nat → hh_T → Prop} (H : ∃ a1, r_7 = some a1 ∧ (gm_sub (hh_tg h a1) 16 = true ∧ (∀ r3, r3 = hh_r h a1 0 → (∃ a4, r3 = some a4 ∧ (gm_sub (hh_tg h a4) 12 = true ∧ ((¬ x8 < (hh_i h a4 1) → (hh_tg h a1 = 17 ∧ (gm_G 83 0 [some (.ref a1)] [] h (pV (fun h7 => gm_sub (hh_tg h7 a1) 16 = true ∧ (∀ r9, r9 = hh_r h7 a1 0 → (gm_sub (hh_tg h7 a0) 0 = true ∧ (∀ r11, r11 = hh_r h7 a0 54 → (∃ a12, r9 = some a12 ∧ (hh_tg h7 a12 = 13 ∧ (gm_G 65 0 [some (.ref a12), some (va_rf r11)] [] h7 (pV (fun h14 => gm_sub (hh_tg h14 a1) 16 = true ∧ (∀ r16, r16 = hh_r h14 a1 0 → (∃ a17, r16 = some a17 ∧ (gm_sub (hh_tg h14 a17) 12 = true ∧ (hh_tg h14 a0 = 1 ∧ (gm_G 4 0 [some (.ref a0), some (.int (hh_i h14 a17 1))] [] h14 (pI (fun v21 h20 => Q (.inl (some (.int v21))) h20) (fun e22 h23 => hh_tg h23 e22 = 21 ∧ gm_G 601 190 [some (.ref a0)] [.ref e22] h23 Q)))))))) (fun e24 h25 => hh_tg h25 e24 = 21 ∧ gm_G 601 190 [some (.ref a0)] [.ref e24] h25 Q))))))))) (fun e26 h27 => hh_tg h27 e26 = 21 ∧ gm_G 601 190 [some (.ref a0)] [.ref e26] h27 Q))))) ∧ (x8 < (hh_i h a4 1) → (∀ r28, r28 = hh_r h a1 1 → (∃ a29, r28 = some a29 ∧ (hh_tg h a29 = 101 ∧ (∃ n30, gm_ix x8 n30 (hh_ln h a29) ∧ (∀ h31, h31 = hh_wi h a29 n30 ((Int32.ofNat 0).toInt8.toInt32) → (gm_G 601 132 [some (.ref a0), none, none, none, none, none, none, some (.ref a1), some (.int (x8 + (Int32.ofNat 1)))] [] h31 Q))))))))))))) : gm_G 601 132 [some (.ref a0), none, none, none, none, none, none, some (va_rf r_7), some (.int x8)] [] h Q := by
  refine g_iload rfl rfl rfl (pc' := 134) ?_
  refine g_aload (r := _) rfl rfl rfl (pc' := 136) ?_
  obtain ⟨a1, rfl, H⟩ := H
  obtain ⟨ht2, H⟩ := H
  refine g_getRv rfl rfl rfl rfl ht2 (pc' := 139) rfl (fun r3 hr3 => ?_)
  replace H := H r3 hr3
  obtain ⟨a4, rfl, H⟩ := H
  obtain ⟨ht5, H⟩ := H
  refine g_getI rfl rfl rfl rfl ht5 (pc' := 142) rfl ?_
  refine g_ic_ge rfl (pc' := 145) (pt := 160) rfl rfl ⟨fun hc => ?_, fun hc => ?_⟩
  · replace H := H.1 hc
    refine g_aload (r := some _) rfl rfl rfl (pc' := 162) ?_
    obtain ⟨ht6, H⟩ := H
    refine g_call rfl (y := 83) (n := 1) (pc' := 165) (g_vt ht6 rfl rfl) rfl rfl ⟨(Nat.le_of_ble_eq_true rfl), (Nat.le_of_ble_eq_true rfl), (Nat.le_of_ble_eq_true rfl)⟩ rfl (gm_G.mono H (pV_elim (fun h7 H' => ?_) (fun e26 h27 H => ?_)))
    · show gm_G _ 165 _ _ _ _
      replace H := H'
      clear H'
      refine g_aload (r := some _) rfl rfl rfl (pc' := 167) ?_
      obtain ⟨ht8, H⟩ := H
      refine g_getRv rfl rfl rfl rfl ht8 (pc' := 170) rfl (fun r9 hr9 => ?_)
      replace H := H r9 hr9
      refine g_aload (r := some _) rfl rfl rfl (pc' := 171) ?_
      obtain ⟨ht10, H⟩ := H
      refine g_getRv rfl rfl rfl rfl ht10 (pc' := 174) rfl (fun r11 hr11 => ?_)
      replace H := H r11 hr11
      obtain ⟨a12, rfl, H⟩ := H
      obtain ⟨ht13, H⟩ := H
      refine g_call rfl (y := 65) (n := 2) (pc' := 177) (g_vt ht13 rfl rfl) (by cases r11 <;> rfl) rfl ⟨(Nat.le_of_ble_eq_true rfl), (Nat.le_of_ble_eq_true rfl), (Nat.le_of_ble_eq_true rfl)⟩ rfl (gm_G.mono H (pV_elim (fun h14 H' => ?_) (fun e24 h25 H => ?_)))
      · show gm_G _ 177 _ _ _ _
        replace H := H'
        clear H'
        refine g_aload (r := some _) rfl rfl rfl (pc' := 178) ?_
        refine g_aload (r := some _) rfl rfl rfl (pc' := 180) ?_
        obtain ⟨ht15, H⟩ := H
        refine g_getRv rfl rfl rfl rfl ht15 (pc' := 183) rfl (fun r16 hr16 => ?_)
        replace H := H r16 hr16
        obtain ⟨a17, rfl, H⟩ := H
        obtain ⟨ht18, H⟩ := H
        refine g_getI rfl rfl rfl rfl ht18 (pc' := 186) rfl ?_
        obtain ⟨ht19, H⟩ := H
        refine g_call rfl (y := 4) (n := 2) (pc' := 189) (g_vt ht19 rfl rfl) rfl rfl ⟨(Nat.le_of_ble_eq_true rfl), (Nat.le_of_ble_eq_true rfl), (Nat.le_of_ble_eq_true rfl)⟩ rfl (gm_G.mono H (pI_elim (fun v21 h20 H' => ?_) (fun e22 h23 H => ?_)))
        · show gm_G _ 189 _ _ _ _
          replace H := H'
          clear H'
          exact g_ireturn rfl (Or.inl rfl) H
        · exact ⟨H.1, g_weak (show gm_Lle [some _] _ from ⟨rfl, trivial⟩) H.2⟩
      · exact ⟨H.1, g_weak (show gm_Lle [some _] _ from ⟨rfl, trivial⟩) H.2⟩
    · exact ⟨H.1, g_weak (show gm_Lle [some _] _ from ⟨rfl, trivial⟩) H.2⟩
  · replace H := H.2 hc
    refine g_aload (r := some _) rfl rfl rfl (pc' := 147) ?_
    refine g_getRv rfl rfl rfl rfl ht2 (pc' := 150) rfl (fun r28 hr28 => ?_)
    replace H := H r28 hr28
    refine g_iload rfl rfl rfl (pc' := 152) ?_
    refine g_iconst rfl rfl rfl (pc' := 153) ?_
    obtain ⟨a29, rfl, H⟩ := H
    obtain ⟨ht32, H⟩ := H
    obtain ⟨n30, hn30, H⟩ := H
    refine g_bastore rfl ht32 hn30  (pc' := 154) rfl ?_
    replace H := H _ rfl
    refine g_iinc (c := (Int32.ofNat 1)) rfl rfl rfl rfl rfl (pc' := 157) ?_
    refine g_goto rfl (pc' := 132) rfl ?_
    exact g_weak (show gm_Lle [some _, none, none, none, none, none, none, some _, some _] _ from ⟨rfl, ⟨rfl, ⟨rfl, trivial⟩⟩⟩) H
set_option maxRecDepth 20000 in
theorem w_601_190 {a0 : Nat} {ex : Nat} {h : hh_T} {Q : Option Value ⊕ Nat → hh_T → Prop} (H : hh_tg h a0 = 1 ∧ (gm_G 1 0 [some (.ref a0), some (.ref ex)] [] h (pI (fun v3 h2 => Q (.inl (some (.int v3))) h2) (fun e4 h5 => hh_tg h5 e4 = 21 ∧ Q (.inr e4) h5)))) : gm_G 601 190 [some (.ref a0)] [.ref ex] h Q := by
  refine g_astore (r := some _) rfl rfl rfl (pc' := 192) ?_
  refine g_aload (r := some _) rfl rfl rfl (pc' := 193) ?_
  refine g_aload (r := some _) rfl rfl rfl (pc' := 195) ?_
  obtain ⟨ht1, H⟩ := H
  refine g_call rfl (y := 1) (n := 2) (pc' := 198) (g_vt ht1 rfl rfl) rfl rfl ⟨(Nat.le_of_ble_eq_true rfl), (Nat.le_of_ble_eq_true rfl), (Nat.le_of_ble_eq_true rfl)⟩ rfl (gm_G.mono H (pI_elim (fun v3 h2 H' => ?_) (fun e4 h5 H => ?_)))
  · show gm_G _ 198 _ _ _ _
    replace H := H'
    clear H'
    exact g_ireturn rfl (Or.inl rfl) H
  · exact H
set_option maxRecDepth 20000 in
theorem w_602_0 {a0 : Nat} {r_1 : Option Nat} {h : hh_T} {Q : Option Value ⊕ Nat → hh_T → Prop} (H : gm_sub (hh_tg h a0) 17 = true ∧ (∀ r2, r2 = hh_r h a0 6 → (∃ a3, r2 = some a3 ∧ (gm_sub (hh_tg h a3) 12 = true ∧ ((¬ (hh_i h a3 1) = (Int32.ofNat 9) → (gm_G 602 18 [some (.ref a0), some (va_rf r_1)] [.int (Int32.ofNat 0), .ref a0] h Q)) ∧ ((hh_i h a3 1) = (Int32.ofNat 9) → (gm_G 602 18 [some (.ref a0), some (va_rf r_1)] [.int (Int32.ofNat 1), .ref a0] h Q))))))) : gm_G 602 0 [some (.ref a0), some (va_rf r_1)] [] h Q := by
  refine g_aload (r := some _) rfl rfl rfl (pc' := 1) ?_
  refine g_aload (r := some _) rfl rfl rfl (pc' := 2) ?_
  obtain ⟨ht1, H⟩ := H
  refine g_getRv rfl rfl rfl rfl ht1 (pc' := 5) rfl (fun r2 hr2 => ?_)
  replace H := H r2 hr2
  obtain ⟨a3, rfl, H⟩ := H
  obtain ⟨ht4, H⟩ := H
  refine g_getI rfl rfl rfl rfl ht4 (pc' := 8) rfl ?_
  refine g_iconst rfl rfl rfl (pc' := 10) ?_
  refine g_ic_ne rfl (pc' := 13) (pt := 17) rfl rfl ⟨fun hc => ?_, fun hc => ?_⟩
  · replace H := H.1 hc
    refine g_iconst rfl rfl rfl (pc' := 18) ?_
    exact g_weak (show gm_Lle [some _, some _] _ from ⟨rfl, ⟨rfl, trivial⟩⟩) H
  · replace H := H.2 hc
    refine g_iconst rfl rfl rfl (pc' := 14) ?_
    refine g_goto rfl (pc' := 18) rfl ?_
    exact g_weak (show gm_Lle [some _, some _] _ from ⟨rfl, ⟨rfl, trivial⟩⟩) H
set_option maxRecDepth 20000 in
theorem w_602_18 {a0 : Nat} {r_1 : Option Nat} {y0 : Int32} {q1 : Option Nat} {h : hh_T} {Q : Option Value ⊕ Nat → hh_T → Prop} (H : ∃ a1, q1 = some a1 ∧ (hh_tg h a1 = 18 ∧ (gm_G 461 0 [some (.ref a1), some (.int y0)] [] h (pR (fun r4 h3 => ∃ a5, r4 = some a5 ∧ (gm_sub (hh_tg h3 a5) 25 = true ∧ ((¬ (hh_i h3 a5 1) = (Int32.ofNat 1) → (gm_G 602 35 [some (.ref a0), some (va_rf r_1), some (.ref a5)] [.int (Int32.ofNat 0)] h3 Q)) ∧ ((hh_i h3 a5 1) = (Int32.ofNat 1) → (gm_G 602 35 [some (.ref a0), some (va_rf r_1), some (.ref a5)] [.int (Int32.ofNat 1)] h3 Q))))) (fun e7 h8 => hh_tg h8 e7 = 21 ∧ Q (.inr e7) h8))))) : gm_G 602 18 [some (.ref a0), some (va_rf r_1)] [.int y0, va_rf q1] h Q := by
  obtain ⟨a1, rfl, H⟩ := H
  obtain ⟨ht2, H⟩ := H
  refine g_call rfl (y := 461) (n := 2) (pc' := 21) (g_vt ht2 rfl rfl) rfl rfl ⟨(Nat.le_of_ble_eq_true rfl), (Nat.le_of_ble_eq_true rfl), (Nat.le_of_ble_eq_true rfl)⟩ rfl (gm_G.mono H (pR_elim (fun r4 h3 H' => ?_) (fun e7 h8 H => ?_)))
  · show gm_G _ 21 _ _ _ _
    replace H := H'
    clear H'
    refine g_astore (r := _) rfl gm_sto_rf1 rfl (pc' := 22) ?_
    refine g_aload (r := _) rfl rfl rfl (pc' := 23) ?_
    obtain ⟨a5, rfl, H⟩ := H
    obtain ⟨ht6, H⟩ := H
    refine g_getI rfl rfl rfl rfl ht6 (pc' := 26) rfl ?_
    refine g_iconst rfl rfl rfl (pc' := 27) ?_
    refine g_ic_ne rfl (pc' := 30) (pt := 34) rfl rfl ⟨fun hc => ?_, fun hc => ?_⟩
    · replace H := H.1 hc
      refine g_iconst rfl rfl rfl (pc' := 35) ?_
      exact g_weak (show gm_Lle [some _, some _, some _] _ from ⟨rfl, ⟨rfl, ⟨rfl, trivial⟩⟩⟩) H
    · replace H := H.2 hc
      refine g_iconst rfl rfl rfl (pc' := 31) ?_
      refine g_goto rfl (pc' := 35) rfl ?_
      exact g_weak (show gm_Lle [some _, some _, some _] _ from ⟨rfl, ⟨rfl, ⟨rfl, trivial⟩⟩⟩) H
  · exact H
set_option maxRecDepth 20000 in
theorem w_602_35 {a0 : Nat} {r_1 : Option Nat} {r_2 : Option Nat} {y0 : Int32} {h : hh_T} {Q : Option Value ⊕ Nat → hh_T → Prop} (H : gm_G 431 0 [some (.int y0), some (.int (Int32.ofInt (-10)))] [] h (pV (fun h1 => gm_sub (hh_tg h1 a0) 17 = true ∧ (∀ r3, r3 = hh_r h1 a0 11 → (∃ a4, r3 = some a4 ∧ (hh_tg h1 a4 = 1 ∧ (gm_G 393 0 [some (.ref a4), some (va_rf r_2), some (.int (hh_i h1 a0 7)), some (.int (Int32.ofNat 4))] [] h1 (pI (fun v7 h6 => gm_G 431 0 [some (.int v7), some (.int (Int32.ofInt (-6)))] [] h6 (pV (fun h8 => gm_sub (hh_tg h8 a0) 17 = true ∧ (∀ r10, r10 = hh_r h8 a0 6 → (∃ a11, r10 = some a11 ∧ (hh_tg h8 a11 = 13 ∧ (gm_G 257 0 [some (.ref a11), some (.int (Int32.ofNat 6))] [] h8 (pI (fun v14 h13 => ∃ a15, r_2 = some a15 ∧ (gm_sub (hh_tg h13 a15) 25 = true ∧ (gm_sub (hh_tg h13 a0) 17 = true ∧ (∀ r18, r18 = hh_r h13 a0 6 → (∃ a19, r18 = some a19 ∧ (hh_tg h13 a19 = 13 ∧ (gm_G 63 0 [some (.ref a19), some (.int (Int32.ofNat 8))] [] h13 (pI (fun v22 h21 => gm_G 602 88 [some (.ref a0), some (va_rf r_1), some (.ref a15), some (.int v14), some (.int (if (v14 + v22) < (hh_i h13 a15 6) then (v14 + v22) else (hh_i h13 a15 6)))] [] h21 Q) (fun e23 h24 => hh_tg h24 e23 = 21 ∧ Q (.inr e23) h24))))))))) (fun e25 h26 => hh_tg h26 e25 = 21 ∧ Q (.inr e25) h26))))))) (fun e27 h28 => hh_tg h28 e27 = 21 ∧ Q (.inr e27) h28))) (fun e29 h30 => hh_tg h30 e29 = 21 ∧ Q (.inr e29) h30))))))) (fun e31 h32 => hh_tg h32 e31 = 21 ∧ Q (.inr e31) h32))) : gm_G 602 35 [some (.ref a0), some (va_rf r_1), some (va_rf r_2)] [.int y0] h Q := by
  refine g_iconst rfl rfl rfl (pc' := 37) ?_
  refine g_call rfl (y := 431) (n := 2) (pc' := 40) (fun _ => rfl) rfl rfl ⟨(Nat.le_of_ble_eq_true rfl), (Nat.le_of_ble_eq_true rfl), (Nat.le_of_ble_eq_true rfl)⟩ rfl (gm_G.mono H (pV_elim (fun h1 H' => ?_) (fun e31 h32 H => ?_)))
  · show gm_G _ 40 _ _ _ _
    replace H := H'
    clear H'
    refine g_aload (r := some _) rfl rfl rfl (pc' := 41) ?_
    obtain ⟨ht2, H⟩ := H
    refine g_getRv rfl rfl rfl rfl ht2 (pc' := 44) rfl (fun r3 hr3 => ?_)
    replace H := H r3 hr3
    refine g_aload (r := _) rfl rfl rfl (pc' := 45) ?_
    refine g_aload (r := some _) rfl rfl rfl (pc' := 46) ?_
    refine g_getI rfl rfl rfl rfl ht2 (pc' := 49) rfl ?_
    refine g_iconst rfl rfl rfl (pc' := 50) ?_
    obtain ⟨a4, rfl, H⟩ := H
    obtain ⟨ht5, H⟩ := H
    refine g_call rfl (y := 393) (n := 4) (pc' := 53) (g_vt ht5 rfl rfl) (by cases r_2 <;> rfl) rfl ⟨(Nat.le_of_ble_eq_true rfl), (Nat.le_of_ble_eq_true rfl), (Nat.le_of_ble_eq_true rfl)⟩ rfl (gm_G.mono H (pI_elim (fun v7 h6 H' => ?_) (fun e29 h30 H => ?_)))
    · show gm_G _ 53 _ _ _ _
      replace H := H'
      clear H'
      refine g_iconst rfl rfl rfl (pc' := 55) ?_
      refine g_call rfl (y := 431) (n := 2) (pc' := 58) (fun _ => rfl) rfl rfl ⟨(Nat.le_of_ble_eq_true rfl), (Nat.le_of_ble_eq_true rfl), (Nat.le_of_ble_eq_true rfl)⟩ rfl (gm_G.mono H (pV_elim (fun h8 H' => ?_) (fun e27 h28 H => ?_)))
      · show gm_G _ 58 _ _ _ _
        replace H := H'
        clear H'
        refine g_aload (r := some _) rfl rfl rfl (pc' := 59) ?_
        obtain ⟨ht9, H⟩ := H
        refine g_getRv rfl rfl rfl rfl ht9 (pc' := 62) rfl (fun r10 hr10 => ?_)
        replace H := H r10 hr10
        refine g_iconst rfl rfl rfl (pc' := 64) ?_
        obtain ⟨a11, rfl, H⟩ := H
        obtain ⟨ht12, H⟩ := H
        refine g_call rfl (y := 257) (n := 2) (pc' := 67) (g_vt ht12 rfl rfl) rfl rfl ⟨(Nat.le_of_ble_eq_true rfl), (Nat.le_of_ble_eq_true rfl), (Nat.le_of_ble_eq_true rfl)⟩ rfl (gm_G.mono H (pI_elim (fun v14 h13 H' => ?_) (fun e25 h26 H => ?_)))
        · show gm_G _ 67 _ _ _ _
          replace H := H'
          clear H'
          refine g_istore rfl gm_sto_rf2 rfl (pc' := 68) ?_
          refine g_aload (r := _) rfl rfl rfl (pc' := 69) ?_
          obtain ⟨a15, rfl, H⟩ := H
          obtain ⟨ht16, H⟩ := H
          refine g_getI rfl rfl rfl rfl ht16 (pc' := 72) rfl ?_
          refine g_iload rfl rfl rfl (pc' := 73) ?_
          refine g_aload (r := some _) rfl rfl rfl (pc' := 74) ?_
          obtain ⟨ht17, H⟩ := H
          refine g_getRv rfl rfl rfl rfl ht17 (pc' := 77) rfl (fun r18 hr18 => ?_)
          replace H := H r18 hr18
          refine g_iconst rfl rfl rfl (pc' := 79) ?_
          obtain ⟨a19, rfl, H⟩ := H
          obtain ⟨ht20, H⟩ := H
          refine g_call rfl (y := 63) (n := 2) (pc' := 82) (g_vt ht20 rfl rfl) rfl rfl ⟨(Nat.le_of_ble_eq_true rfl), (Nat.le_of_ble_eq_true rfl), (Nat.le_of_ble_eq_true rfl)⟩ rfl (gm_G.mono H (pI_elim (fun v22 h21 H' => ?_) (fun e23 h24 H => ?_)))
          · show gm_G _ 82 _ _ _ _
            replace H := H'
            clear H'
            refine g_iadd rfl rfl (pc' := 83) ?_
            refine g_dsub rfl (Nat.le_of_ble_eq_true rfl) rfl (pc' := 86) ?_
            refine g_istore rfl rfl rfl (pc' := 88) ?_
            exact g_weak (show gm_Lle [some _, some _, some _, some _, some _] _ from ⟨rfl, ⟨rfl, ⟨rfl, ⟨rfl, ⟨rfl, trivial⟩⟩⟩⟩⟩) H
          · exact H
        · exact H
      · exact H
    · exact H
  · exact H
set_option maxRecDepth 20000 in
theorem w_602_88 {a0 : Nat} {r_1 : Option Nat} {r_2 : Option Nat} {x3 : Int32} {x4 : Int32} {h : hh_T} {Q : Option Value ⊕ Nat → hh_T → Prop} (H : (x3 < x4 → (gm_sub (hh_tg h a0) 17 = true ∧ (∀ r2, r2 = hh_r h a0 11 → ((∀ b, r_2 = some b → gm_sub (hh_tg h b) 26 = true) ∧ (∃ a3, r2 = some a3 ∧ (hh_tg h a3 = 1 ∧ (gm_G 595 0 [some (.ref a3), some (va_rf r_2), some (.int x3), some (.int x4)] [] h (pV (fun h5 => gm_G 602 112 [some (.ref a0), some (va_rf r_1), none, none, some (.int x4), some (.int x3)] [] h5 Q) (fun e6 h7 => hh_tg h7 e6 = 21 ∧ Q (.inr e6) h7))))))))) ∧ (¬ x3 < x4 → (Q (.inl none) h))) : gm_G 602 88 [some (.ref a0), some (va_rf r_1), some (va_rf r_2), some (.int x3), some (.int x4)] [] h Q := by
  refine g_iload rfl rfl rfl (pc' := 89) ?_
  refine g_iload rfl rfl rfl (pc' := 91) ?_
  refine g_ic_lt rfl (pc' := 94) (pt := 95) rfl rfl ⟨fun hc => ?_, fun hc => ?_⟩
  · replace H := H.1 hc
    refine g_aload (r := some _) rfl rfl rfl (pc' := 96) ?_
    obtain ⟨ht1, H⟩ := H
    refine g_getRv rfl rfl rfl rfl ht1 (pc' := 99) rfl (fun r2 hr2 => ?_)
    replace H := H r2 hr2
    refine g_aload (r := _) rfl rfl rfl (pc' := 100) ?_
    obtain ⟨Hc, H⟩ := H
    refine g_cast rfl Hc (pc' := 103) rfl ?_
    refine g_iload rfl rfl rfl (pc' := 104) ?_
    refine g_iload rfl rfl rfl (pc' := 106) ?_
    obtain ⟨a3, rfl, H⟩ := H
    obtain ⟨ht4, H⟩ := H
    refine g_call rfl (y := 595) (n := 4) (pc' := 109) (g_vt ht4 rfl rfl) (by cases r_2 <;> rfl) rfl ⟨(Nat.le_of_ble_eq_true rfl), (Nat.le_of_ble_eq_true rfl), (Nat.le_of_ble_eq_true rfl)⟩ rfl (gm_G.mono H (pV_elim (fun h5 H' => ?_) (fun e6 h7 H => ?_)))
    · show gm_G _ 109 _ _ _ _
      replace H := H'
      clear H'
      refine g_iload rfl rfl rfl (pc' := 110) ?_
      refine g_istore rfl rfl rfl (pc' := 112) ?_
      exact g_weak (show gm_Lle [some _, some _, none, none, some _, some _] _ from ⟨rfl, ⟨rfl, ⟨rfl, ⟨rfl, trivial⟩⟩⟩⟩) H
    · exact H
  · replace H := H.2 hc
    exact g_return rfl H
set_option maxRecDepth 20000 in
theorem w_602_112 {a0 : Nat} {r_1 : Option Nat} {x4 : Int32} {x5 : Int32} {h : hh_T} {Q : Option Value ⊕ Nat → hh_T → Prop} (H : (¬ x5 < x4 → (Q (.inl none) h)) ∧ (x5 < x4 → (gm_sub (hh_tg h a0) 17 = true ∧ (∀ r2, r2 = hh_r h a0 11 → (∃ a3, r2 = some a3 ∧ (gm_sub (hh_tg h a3) 0 = true ∧ (∀ r5, r5 = hh_r h a3 46 → (∃ a6, r5 = some a6 ∧ ((hh_tg h a6 = 101 ∨ hh_tg h a6 = 102) ∧ (∃ n7, gm_ix x5 n7 (hh_ln h a6) ∧ (∃ a9, r_1 = some a9 ∧ (hh_tg h a9 = 13 ∧ (gm_G 459 0 [some (.ref a9), some (.int (hh_i h a6 n7))] [] h (pV (fun h11 => gm_G 602 112 [some (.ref a0), some (.ref a9), none, none, some (.int x4), some (.int (x5 + (Int32.ofNat 1)))] [] h11 Q) (fun e12 h13 => hh_tg h13 e12 = 21 ∧ Q (.inr e12) h13))))))))))))))) : gm_G 602 112 [some (.ref a0), some (va_rf r_1), none, none, some (.int x4), some (.int x5)] [] h Q := by
  refine g_iload rfl rfl rfl (pc' := 114) ?_
  refine g_iload rfl rfl rfl (pc' := 116) ?_
  refine g_ic_ge rfl (pc' := 119) (pt := 139) rfl rfl ⟨fun hc => ?_, fun hc => ?_⟩
  · replace H := H.1 hc
    exact g_return rfl H
  · replace H := H.2 hc
    refine g_aload (r := _) rfl rfl rfl (pc' := 120) ?_
    refine g_aload (r := some _) rfl rfl rfl (pc' := 121) ?_
    obtain ⟨ht1, H⟩ := H
    refine g_getRv rfl rfl rfl rfl ht1 (pc' := 124) rfl (fun r2 hr2 => ?_)
    replace H := H r2 hr2
    obtain ⟨a3, rfl, H⟩ := H
    obtain ⟨ht4, H⟩ := H
    refine g_getRv rfl rfl rfl rfl ht4 (pc' := 127) rfl (fun r5 hr5 => ?_)
    replace H := H r5 hr5
    refine g_iload rfl rfl rfl (pc' := 129) ?_
    obtain ⟨a6, rfl, H⟩ := H
    obtain ⟨ht8, H⟩ := H
    obtain ⟨n7, hn7, H⟩ := H
    refine g_baload rfl ht8 hn7 (pc' := 130) rfl ?_
    obtain ⟨a9, rfl, H⟩ := H
    obtain ⟨ht10, H⟩ := H
    refine g_call rfl (y := 459) (n := 2) (pc' := 133) (g_vt ht10 rfl rfl) rfl rfl ⟨(Nat.le_of_ble_eq_true rfl), (Nat.le_of_ble_eq_true rfl), (Nat.le_of_ble_eq_true rfl)⟩ rfl (gm_G.mono H (pV_elim (fun h11 H' => ?_) (fun e12 h13 H => ?_)))
    · show gm_G _ 133 _ _ _ _
      replace H := H'
      clear H'
      refine g_iinc (c := (Int32.ofNat 1)) rfl rfl rfl rfl rfl (pc' := 136) ?_
      refine g_goto rfl (pc' := 112) rfl ?_
      exact g_weak (show gm_Lle [some _, some _, none, none, some _, some _] _ from ⟨rfl, ⟨rfl, ⟨rfl, ⟨rfl, trivial⟩⟩⟩⟩) H
    · exact H
set_option maxRecDepth 20000 in
theorem w_603_0 {a0 : Nat} {r_1 : Option Nat} {x2 : Int32} {h : hh_T} {Q : Option Value ⊕ Nat → hh_T → Prop} (H : (hh_tg h a0 = 42 ∧ (gm_G 330 0 [some (.ref a0)] [] h (pV (fun h1 => (hh_tg h1 a0 = 42 ∧ (gm_G 597 0 [some (.ref a0), some (va_rf r_1), some (.int x2)] [] h1 (pV (fun h2 => Q (.inl none) h2) (fun e3 h4 => hh_tg h4 e3 = 21 ∧ gm_G 603 13 [some (.ref a0)] [.ref e3] h4 Q)))) ∨ (hh_tg h1 a0 = 45 ∧ (gm_G 598 0 [some (.ref a0), some (va_rf r_1), some (.int x2)] [] h1 (pV (fun h5 => Q (.inl none) h5) (fun e6 h7 => hh_tg h7 e6 = 21 ∧ gm_G 603 13 [some (.ref a0)] [.ref e6] h7 Q)))) ∨ (hh_tg h1 a0 = 46 ∧ (gm_G 599 0 [some (.ref a0), some (va_rf r_1), some (.int x2)] [] h1 (pV (fun h8 => Q (.inl none) h8) (fun e9 h10 => hh_tg h10 e9 = 21 ∧ gm_G 603 13 [some (.ref a0)] [.ref e9] h10 Q)))) ∨ (hh_tg h1 a0 = 47 ∧ (gm_G 594 0 [some (.ref a0), some (va_rf r_1), some (.int x2)] [] h1 (pV (fun h11 => Q (.inl none) h11) (fun e12 h13 => hh_tg h13 e12 = 21 ∧ gm_G 603 13 [some (.ref a0)] [.ref e12] h13 Q))))) (fun e14 h15 => hh_tg h15 e14 = 21 ∧ Q (.inr e14) h15)))) ∨ (hh_tg h a0 = 45 ∧ (gm_G 330 0 [some (.ref a0)] [] h (pV (fun h16 => (hh_tg h16 a0 = 42 ∧ (gm_G 597 0 [some (.ref a0), some (va_rf r_1), some (.int x2)] [] h16 (pV (fun h17 => Q (.inl none) h17) (fun e18 h19 => hh_tg h19 e18 = 21 ∧ gm_G 603 13 [some (.ref a0)] [.ref e18] h19 Q)))) ∨ (hh_tg h16 a0 = 45 ∧ (gm_G 598 0 [some (.ref a0), some (va_rf r_1), some (.int x2)] [] h16 (pV (fun h20 => Q (.inl none) h20) (fun e21 h22 => hh_tg h22 e21 = 21 ∧ gm_G 603 13 [some (.ref a0)] [.ref e21] h22 Q)))) ∨ (hh_tg h16 a0 = 46 ∧ (gm_G 599 0 [some (.ref a0), some (va_rf r_1), some (.int x2)] [] h16 (pV (fun h23 => Q (.inl none) h23) (fun e24 h25 => hh_tg h25 e24 = 21 ∧ gm_G 603 13 [some (.ref a0)] [.ref e24] h25 Q)))) ∨ (hh_tg h16 a0 = 47 ∧ (gm_G 594 0 [some (.ref a0), some (va_rf r_1), some (.int x2)] [] h16 (pV (fun h26 => Q (.inl none) h26) (fun e27 h28 => hh_tg h28 e27 = 21 ∧ gm_G 603 13 [some (.ref a0)] [.ref e27] h28 Q))))) (fun e29 h30 => hh_tg h30 e29 = 21 ∧ Q (.inr e29) h30)))) ∨ (hh_tg h a0 = 46 ∧ (gm_G 330 0 [some (.ref a0)] [] h (pV (fun h31 => (hh_tg h31 a0 = 42 ∧ (gm_G 597 0 [some (.ref a0), some (va_rf r_1), some (.int x2)] [] h31 (pV (fun h32 => Q (.inl none) h32) (fun e33 h34 => hh_tg h34 e33 = 21 ∧ gm_G 603 13 [some (.ref a0)] [.ref e33] h34 Q)))) ∨ (hh_tg h31 a0 = 45 ∧ (gm_G 598 0 [some (.ref a0), some (va_rf r_1), some (.int x2)] [] h31 (pV (fun h35 => Q (.inl none) h35) (fun e36 h37 => hh_tg h37 e36 = 21 ∧ gm_G 603 13 [some (.ref a0)] [.ref e36] h37 Q)))) ∨ (hh_tg h31 a0 = 46 ∧ (gm_G 599 0 [some (.ref a0), some (va_rf r_1), some (.int x2)] [] h31 (pV (fun h38 => Q (.inl none) h38) (fun e39 h40 => hh_tg h40 e39 = 21 ∧ gm_G 603 13 [some (.ref a0)] [.ref e39] h40 Q)))) ∨ (hh_tg h31 a0 = 47 ∧ (gm_G 594 0 [some (.ref a0), some (va_rf r_1), some (.int x2)] [] h31 (pV (fun h41 => Q (.inl none) h41) (fun e42 h43 => hh_tg h43 e42 = 21 ∧ gm_G 603 13 [some (.ref a0)] [.ref e42] h43 Q))))) (fun e44 h45 => hh_tg h45 e44 = 21 ∧ Q (.inr e44) h45)))) ∨ (hh_tg h a0 = 47 ∧ (gm_G 330 0 [some (.ref a0)] [] h (pV (fun h46 => (hh_tg h46 a0 = 42 ∧ (gm_G 597 0 [some (.ref a0), some (va_rf r_1), some (.int x2)] [] h46 (pV (fun h47 => Q (.inl none) h47) (fun e48 h49 => hh_tg h49 e48 = 21 ∧ gm_G 603 13 [some (.ref a0)] [.ref e48] h49 Q)))) ∨ (hh_tg h46 a0 = 45 ∧ (gm_G 598 0 [some (.ref a0), some (va_rf r_1), some (.int x2)] [] h46 (pV (fun h50 => Q (.inl none) h50) (fun e51 h52 => hh_tg h52 e51 = 21 ∧ gm_G 603 13 [some (.ref a0)] [.ref e51] h52 Q)))) ∨ (hh_tg h46 a0 = 46 ∧ (gm_G 599 0 [some (.ref a0), some (va_rf r_1), some (.int x2)] [] h46 (pV (fun h53 => Q (.inl none) h53) (fun e54 h55 => hh_tg h55 e54 = 21 ∧ gm_G 603 13 [some (.ref a0)] [.ref e54] h55 Q)))) ∨ (hh_tg h46 a0 = 47 ∧ (gm_G 594 0 [some (.ref a0), some (va_rf r_1), some (.int x2)] [] h46 (pV (fun h56 => Q (.inl none) h56) (fun e57 h58 => hh_tg h58 e57 = 21 ∧ gm_G 603 13 [some (.ref a0)] [.ref e57] h58 Q))))) (fun e59 h60 => hh_tg h60 e59 = 21 ∧ Q (.inr e59) h60))))) : gm_G 603 0 [some (.ref a0), some (va_rf r_1), some (.int x2)] [] h Q := by
  refine g_aload (r := some _) rfl rfl rfl (pc' := 1) ?_
  rcases H with ⟨ht, H⟩ | ⟨ht, H⟩ | ⟨ht, H⟩ | ⟨ht, H⟩
  · refine g_call rfl (y := 330) (n := 1) (pc' := 4) (g_vt ht rfl rfl) rfl rfl ⟨(Nat.le_of_ble_eq_true rfl), (Nat.le_of_ble_eq_true rfl), (Nat.le_of_ble_eq_true rfl)⟩ rfl (gm_G.mono H (pV_elim (fun h1 H' => ?_) (fun e14 h15 H => ?_)))
    · show gm_G _ 4 _ _ _ _
      replace H := H'
      clear H'
      refine g_aload (r := some _) rfl rfl rfl (pc' := 5) ?_
      refine g_aload (r := _) rfl rfl rfl (pc' := 6) ?_
      refine g_iload rfl rfl rfl (pc' := 7) ?_
      rcases H with ⟨ht, H⟩ | ⟨ht, H⟩ | ⟨ht, H⟩ | ⟨ht, H⟩
      · refine g_call rfl (y := 597) (n := 3) (pc' := 10) (g_vt ht rfl rfl) (by cases r_1 <;> rfl) rfl ⟨(Nat.le_of_ble_eq_true rfl), (Nat.le_of_ble_eq_true rfl), (Nat.le_of_ble_eq_true rfl)⟩ rfl (gm_G.mono H (pV_elim (fun h2 H' => ?_) (fun e3 h4 H => ?_)))
        · show gm_G _ 10 _ _ _ _
          replace H := H'
          clear H'
          refine g_goto rfl (pc' := 32) rfl ?_
          exact g_return rfl H
        · exact ⟨H.1, g_weak (show gm_Lle [some _] _ from ⟨rfl, trivial⟩) H.2⟩
      · refine g_call rfl (y := 598) (n := 3) (pc' := 10) (g_vt ht rfl rfl) (by cases r_1 <;> rfl) rfl ⟨(Nat.le_of_ble_eq_true rfl), (Nat.le_of_ble_eq_true rfl), (Nat.le_of_ble_eq_true rfl)⟩ rfl (gm_G.mono H (pV_elim (fun h5 H' => ?_) (fun e6 h7 H => ?_)))
        · show gm_G _ 10 _ _ _ _
          replace H := H'
          clear H'
          refine g_goto rfl (pc' := 32) rfl ?_
          exact g_return rfl H
        · exact ⟨H.1, g_weak (show gm_Lle [some _] _ from ⟨rfl, trivial⟩) H.2⟩
      · refine g_call rfl (y := 599) (n := 3) (pc' := 10) (g_vt ht rfl rfl) (by cases r_1 <;> rfl) rfl ⟨(Nat.le_of_ble_eq_true rfl), (Nat.le_of_ble_eq_true rfl), (Nat.le_of_ble_eq_true rfl)⟩ rfl (gm_G.mono H (pV_elim (fun h8 H' => ?_) (fun e9 h10 H => ?_)))
        · show gm_G _ 10 _ _ _ _
          replace H := H'
          clear H'
          refine g_goto rfl (pc' := 32) rfl ?_
          exact g_return rfl H
        · exact ⟨H.1, g_weak (show gm_Lle [some _] _ from ⟨rfl, trivial⟩) H.2⟩
      · refine g_call rfl (y := 594) (n := 3) (pc' := 10) (g_vt ht rfl rfl) (by cases r_1 <;> rfl) rfl ⟨(Nat.le_of_ble_eq_true rfl), (Nat.le_of_ble_eq_true rfl), (Nat.le_of_ble_eq_true rfl)⟩ rfl (gm_G.mono H (pV_elim (fun h11 H' => ?_) (fun e12 h13 H => ?_)))
        · show gm_G _ 10 _ _ _ _
          replace H := H'
          clear H'
          refine g_goto rfl (pc' := 32) rfl ?_
          exact g_return rfl H
        · exact ⟨H.1, g_weak (show gm_Lle [some _] _ from ⟨rfl, trivial⟩) H.2⟩
    · exact H
  · refine g_call rfl (y := 330) (n := 1) (pc' := 4) (g_vt ht rfl rfl) rfl rfl ⟨(Nat.le_of_ble_eq_true rfl), (Nat.le_of_ble_eq_true rfl), (Nat.le_of_ble_eq_true rfl)⟩ rfl (gm_G.mono H (pV_elim (fun h16 H' => ?_) (fun e29 h30 H => ?_)))
    · show gm_G _ 4 _ _ _ _
      replace H := H'
      clear H'
      refine g_aload (r := some _) rfl rfl rfl (pc' := 5) ?_
      refine g_aload (r := _) rfl rfl rfl (pc' := 6) ?_
      refine g_iload rfl rfl rfl (pc' := 7) ?_
      rcases H with ⟨ht, H⟩ | ⟨ht, H⟩ | ⟨ht, H⟩ | ⟨ht, H⟩
      · refine g_call rfl (y := 597) (n := 3) (pc' := 10) (g_vt ht rfl rfl) (by cases r_1 <;> rfl) rfl ⟨(Nat.le_of_ble_eq_true rfl), (Nat.le_of_ble_eq_true rfl), (Nat.le_of_ble_eq_true rfl)⟩ rfl (gm_G.mono H (pV_elim (fun h17 H' => ?_) (fun e18 h19 H => ?_)))
        · show gm_G _ 10 _ _ _ _
          replace H := H'
          clear H'
          refine g_goto rfl (pc' := 32) rfl ?_
          exact g_return rfl H
        · exact ⟨H.1, g_weak (show gm_Lle [some _] _ from ⟨rfl, trivial⟩) H.2⟩
      · refine g_call rfl (y := 598) (n := 3) (pc' := 10) (g_vt ht rfl rfl) (by cases r_1 <;> rfl) rfl ⟨(Nat.le_of_ble_eq_true rfl), (Nat.le_of_ble_eq_true rfl), (Nat.le_of_ble_eq_true rfl)⟩ rfl (gm_G.mono H (pV_elim (fun h20 H' => ?_) (fun e21 h22 H => ?_)))
        · show gm_G _ 10 _ _ _ _
          replace H := H'
          clear H'
          refine g_goto rfl (pc' := 32) rfl ?_
          exact g_return rfl H
        · exact ⟨H.1, g_weak (show gm_Lle [some _] _ from ⟨rfl, trivial⟩) H.2⟩
      · refine g_call rfl (y := 599) (n := 3) (pc' := 10) (g_vt ht rfl rfl) (by cases r_1 <;> rfl) rfl ⟨(Nat.le_of_ble_eq_true rfl), (Nat.le_of_ble_eq_true rfl), (Nat.le_of_ble_eq_true rfl)⟩ rfl (gm_G.mono H (pV_elim (fun h23 H' => ?_) (fun e24 h25 H => ?_)))
        · show gm_G _ 10 _ _ _ _
          replace H := H'
          clear H'
          refine g_goto rfl (pc' := 32) rfl ?_
          exact g_return rfl H
        · exact ⟨H.1, g_weak (show gm_Lle [some _] _ from ⟨rfl, trivial⟩) H.2⟩
      · refine g_call rfl (y := 594) (n := 3) (pc' := 10) (g_vt ht rfl rfl) (by cases r_1 <;> rfl) rfl ⟨(Nat.le_of_ble_eq_true rfl), (Nat.le_of_ble_eq_true rfl), (Nat.le_of_ble_eq_true rfl)⟩ rfl (gm_G.mono H (pV_elim (fun h26 H' => ?_) (fun e27 h28 H => ?_)))
        · show gm_G _ 10 _ _ _ _
          replace H := H'
          clear H'
          refine g_goto rfl (pc' := 32) rfl ?_
          exact g_return rfl H
        · exact ⟨H.1, g_weak (show gm_Lle [some _] _ from ⟨rfl, trivial⟩) H.2⟩
    · exact H
  · refine g_call rfl (y := 330) (n := 1) (pc' := 4) (g_vt ht rfl rfl) rfl rfl ⟨(Nat.le_of_ble_eq_true rfl), (Nat.le_of_ble_eq_true rfl), (Nat.le_of_ble_eq_true rfl)⟩ rfl (gm_G.mono H (pV_elim (fun h31 H' => ?_) (fun e44 h45 H => ?_)))
    · show gm_G _ 4 _ _ _ _
      replace H := H'
      clear H'
      refine g_aload (r := some _) rfl rfl rfl (pc' := 5) ?_
      refine g_aload (r := _) rfl rfl rfl (pc' := 6) ?_
      refine g_iload rfl rfl rfl (pc' := 7) ?_
      rcases H with ⟨ht, H⟩ | ⟨ht, H⟩ | ⟨ht, H⟩ | ⟨ht, H⟩
      · refine g_call rfl (y := 597) (n := 3) (pc' := 10) (g_vt ht rfl rfl) (by cases r_1 <;> rfl) rfl ⟨(Nat.le_of_ble_eq_true rfl), (Nat.le_of_ble_eq_true rfl), (Nat.le_of_ble_eq_true rfl)⟩ rfl (gm_G.mono H (pV_elim (fun h32 H' => ?_) (fun e33 h34 H => ?_)))
        · show gm_G _ 10 _ _ _ _
          replace H := H'
          clear H'
          refine g_goto rfl (pc' := 32) rfl ?_
          exact g_return rfl H
        · exact ⟨H.1, g_weak (show gm_Lle [some _] _ from ⟨rfl, trivial⟩) H.2⟩
      · refine g_call rfl (y := 598) (n := 3) (pc' := 10) (g_vt ht rfl rfl) (by cases r_1 <;> rfl) rfl ⟨(Nat.le_of_ble_eq_true rfl), (Nat.le_of_ble_eq_true rfl), (Nat.le_of_ble_eq_true rfl)⟩ rfl (gm_G.mono H (pV_elim (fun h35 H' => ?_) (fun e36 h37 H => ?_)))
        · show gm_G _ 10 _ _ _ _
          replace H := H'
          clear H'
          refine g_goto rfl (pc' := 32) rfl ?_
          exact g_return rfl H
        · exact ⟨H.1, g_weak (show gm_Lle [some _] _ from ⟨rfl, trivial⟩) H.2⟩
      · refine g_call rfl (y := 599) (n := 3) (pc' := 10) (g_vt ht rfl rfl) (by cases r_1 <;> rfl) rfl ⟨(Nat.le_of_ble_eq_true rfl), (Nat.le_of_ble_eq_true rfl), (Nat.le_of_ble_eq_true rfl)⟩ rfl (gm_G.mono H (pV_elim (fun h38 H' => ?_) (fun e39 h40 H => ?_)))
        · show gm_G _ 10 _ _ _ _
          replace H := H'
          clear H'
          refine g_goto rfl (pc' := 32) rfl ?_
          exact g_return rfl H
        · exact ⟨H.1, g_weak (show gm_Lle [some _] _ from ⟨rfl, trivial⟩) H.2⟩
      · refine g_call rfl (y := 594) (n := 3) (pc' := 10) (g_vt ht rfl rfl) (by cases r_1 <;> rfl) rfl ⟨(Nat.le_of_ble_eq_true rfl), (Nat.le_of_ble_eq_true rfl), (Nat.le_of_ble_eq_true rfl)⟩ rfl (gm_G.mono H (pV_elim (fun h41 H' => ?_) (fun e42 h43 H => ?_)))
        · show gm_G _ 10 _ _ _ _
          replace H := H'
          clear H'
          refine g_goto rfl (pc' := 32) rfl ?_
          exact g_return rfl H
        · exact ⟨H.1, g_weak (show gm_Lle [some _] _ from ⟨rfl, trivial⟩) H.2⟩
    · exact H
  · refine g_call rfl (y := 330) (n := 1) (pc' := 4) (g_vt ht rfl rfl) rfl rfl ⟨(Nat.le_of_ble_eq_true rfl), (Nat.le_of_ble_eq_true rfl), (Nat.le_of_ble_eq_true rfl)⟩ rfl (gm_G.mono H (pV_elim (fun h46 H' => ?_) (fun e59 h60 H => ?_)))
    · show gm_G _ 4 _ _ _ _
      replace H := H'
      clear H'
      refine g_aload (r := some _) rfl rfl rfl (pc' := 5) ?_
      refine g_aload (r := _) rfl rfl rfl (pc' := 6) ?_
      refine g_iload rfl rfl rfl (pc' := 7) ?_
      rcases H with ⟨ht, H⟩ | ⟨ht, H⟩ | ⟨ht, H⟩ | ⟨ht, H⟩
      · refine g_call rfl (y := 597) (n := 3) (pc' := 10) (g_vt ht rfl rfl) (by cases r_1 <;> rfl) rfl ⟨(Nat.le_of_ble_eq_true rfl), (Nat.le_of_ble_eq_true rfl), (Nat.le_of_ble_eq_true rfl)⟩ rfl (gm_G.mono H (pV_elim (fun h47 H' => ?_) (fun e48 h49 H => ?_)))
        · show gm_G _ 10 _ _ _ _
          replace H := H'
          clear H'
          refine g_goto rfl (pc' := 32) rfl ?_
          exact g_return rfl H
        · exact ⟨H.1, g_weak (show gm_Lle [some _] _ from ⟨rfl, trivial⟩) H.2⟩
      · refine g_call rfl (y := 598) (n := 3) (pc' := 10) (g_vt ht rfl rfl) (by cases r_1 <;> rfl) rfl ⟨(Nat.le_of_ble_eq_true rfl), (Nat.le_of_ble_eq_true rfl), (Nat.le_of_ble_eq_true rfl)⟩ rfl (gm_G.mono H (pV_elim (fun h50 H' => ?_) (fun e51 h52 H => ?_)))
        · show gm_G _ 10 _ _ _ _
          replace H := H'
          clear H'
          refine g_goto rfl (pc' := 32) rfl ?_
          exact g_return rfl H
        · exact ⟨H.1, g_weak (show gm_Lle [some _] _ from ⟨rfl, trivial⟩) H.2⟩
      · refine g_call rfl (y := 599) (n := 3) (pc' := 10) (g_vt ht rfl rfl) (by cases r_1 <;> rfl) rfl ⟨(Nat.le_of_ble_eq_true rfl), (Nat.le_of_ble_eq_true rfl), (Nat.le_of_ble_eq_true rfl)⟩ rfl (gm_G.mono H (pV_elim (fun h53 H' => ?_) (fun e54 h55 H => ?_)))
        · show gm_G _ 10 _ _ _ _
          replace H := H'
          clear H'
          refine g_goto rfl (pc' := 32) rfl ?_
          exact g_return rfl H
        · exact ⟨H.1, g_weak (show gm_Lle [some _] _ from ⟨rfl, trivial⟩) H.2⟩
      · refine g_call rfl (y := 594) (n := 3) (pc' := 10) (g_vt ht rfl rfl) (by cases r_1 <;> rfl) rfl ⟨(Nat.le_of_ble_eq_true rfl), (Nat.le_of_ble_eq_true rfl), (Nat.le_of_ble_eq_true rfl)⟩ rfl (gm_G.mono H (pV_elim (fun h56 H' => ?_) (fun e57 h58 H => ?_)))
        · show gm_G _ 10 _ _ _ _
          replace H := H'
          clear H'
          refine g_goto rfl (pc' := 32) rfl ?_
          exact g_return rfl H
        · exact ⟨H.1, g_weak (show gm_Lle [some _] _ from ⟨rfl, trivial⟩) H.2⟩
    · exact H
set_option maxRecDepth 20000 in
theorem w_603_13 {a0 : Nat} {ex : Nat} {h : hh_T} {Q : Option Value ⊕ Nat → hh_T → Prop} (H : gm_sub (hh_tg h ex) 20 = true ∧ (((hh_i h ex 0) = (Int32.ofInt (-12)) → (gm_G 603 30 [none, none, none, some (.ref ex)] [] h Q)) ∧ (¬ (hh_i h ex 0) = (Int32.ofInt (-12)) → (gm_sub (hh_tg h a0) 40 = true ∧ (∀ r3, r3 = hh_r h a0 4 → (∃ a4, r3 = some a4 ∧ (hh_tg h a4 = 1 ∧ (gm_G 414 0 [some (.ref a4)] [] h (pV (fun h6 => gm_G 603 30 [none, none, none, some (.ref ex)] [] h6 Q) (fun e7 h8 => hh_tg h8 e7 = 21 ∧ Q (.inr e7) h8)))))))))) : gm_G 603 13 [some (.ref a0)] [.ref ex] h Q := by
  refine g_astore (r := some _) rfl rfl rfl (pc' := 14) ?_
  refine g_aload (r := some _) rfl rfl rfl (pc' := 15) ?_
  obtain ⟨ht1, H⟩ := H
  refine g_getI rfl rfl rfl rfl ht1 (pc' := 18) rfl ?_
  refine g_iconst rfl rfl rfl (pc' := 20) ?_
  refine g_ic_eq rfl (pc' := 23) (pt := 30) rfl rfl ⟨fun hc => ?_, fun hc => ?_⟩
  · replace H := H.1 hc
    exact g_weak (show gm_Lle [none, none, none, some _] _ from ⟨rfl, trivial⟩) H
  · replace H := H.2 hc
    refine g_aload (r := some _) rfl rfl rfl (pc' := 24) ?_
    obtain ⟨ht2, H⟩ := H
    refine g_getRv rfl rfl rfl rfl ht2 (pc' := 27) rfl (fun r3 hr3 => ?_)
    replace H := H r3 hr3
    obtain ⟨a4, rfl, H⟩ := H
    obtain ⟨ht5, H⟩ := H
    refine g_call rfl (y := 414) (n := 1) (pc' := 30) (g_vt ht5 rfl rfl) rfl rfl ⟨(Nat.le_of_ble_eq_true rfl), (Nat.le_of_ble_eq_true rfl), (Nat.le_of_ble_eq_true rfl)⟩ rfl (gm_G.mono H (pV_elim (fun h6 H' => ?_) (fun e7 h8 H => ?_)))
    · show gm_G _ 30 _ _ _ _
      replace H := H'
      clear H'
      exact g_weak (show gm_Lle [none, none, none, some _] _ from ⟨rfl, trivial⟩) H
    · exact H
set_option maxRecDepth 20000 in
theorem w_603_30 {a0 : Nat} {r_3 : Option Nat} {h : hh_T} {Q : Option Value ⊕ Nat → hh_T → Prop} (H : ∃ a1, r_3 = some a1 ∧ (hh_tg h a1 = 21 ∧ Q (.inr a1) h)) : gm_G 603 30 [none, none, none, some (va_rf r_3)] [] h Q := by
  refine g_aload (r := _) rfl rfl rfl (pc' := 31) ?_
  obtain ⟨a1, rfl, H⟩ := H
  exact g_throw rfl H.1 rfl H.2
set_option maxRecDepth 20000 in
theorem w_604_0 {a0 : Nat} {r_1 : Option Nat} {r_2 : Option Nat} {h : hh_T} {Q : Option Value ⊕ Nat → hh_T → Prop} (H : ∃ a1, r_2 = some a1 ∧ ((hh_tg h a1 = 35 ∧ (gm_G 426 0 [some (.ref a1), some (va_rf r_1), some (.int (Int32.ofNat 0))] [] h (pV (fun h2 => Q (.inl (some (.int (Int32.ofNat 1)))) h2) (fun e3 h4 => hh_tg h4 e3 = 21 ∧ gm_G 604 8 [] [.ref e3] h4 Q)))) ∨ (hh_tg h a1 = 36 ∧ (gm_G 427 0 [some (.ref a1), some (va_rf r_1), some (.int (Int32.ofNat 0))] [] h (pV (fun h5 => Q (.inl (some (.int (Int32.ofNat 1)))) h5) (fun e6 h7 => hh_tg h7 e6 = 21 ∧ gm_G 604 8 [] [.ref e6] h7 Q)))) ∨ (hh_tg h a1 = 37 ∧ (gm_G 445 0 [some (.ref a1), some (va_rf r_1), some (.int (Int32.ofNat 0))] [] h (pV (fun h8 => Q (.inl (some (.int (Int32.ofNat 1)))) h8) (fun e9 h10 => hh_tg h10 e9 = 21 ∧ gm_G 604 8 [] [.ref e9] h10 Q)))) ∨ (hh_tg h a1 = 38 ∧ (gm_G 428 0 [some (.ref a1), some (va_rf r_1), some (.int (Int32.ofNat 0))] [] h (pV (fun h11 => Q (.inl (some (.int (Int32.ofNat 1)))) h11) (fun e12 h13 => hh_tg h13 e12 = 21 ∧ gm_G 604 8 [] [.ref e12] h13 Q)))) ∨ (hh_tg h a1 = 39 ∧ (gm_G 429 0 [some (.ref a1), some (va_rf r_1), some (.int (Int32.ofNat 0))] [] h (pV (fun h14 => Q (.inl (some (.int (Int32.ofNat 1)))) h14) (fun e15 h16 => hh_tg h16 e15 = 21 ∧ gm_G 604 8 [] [.ref e15] h16 Q)))) ∨ (hh_tg h a1 = 40 ∧ (gm_G 430 0 [some (.ref a1), some (va_rf r_1), some (.int (Int32.ofNat 0))] [] h (pV (fun h17 => Q (.inl (some (.int (Int32.ofNat 1)))) h17) (fun e18 h19 => hh_tg h19 e18 = 21 ∧ gm_G 604 8 [] [.ref e18] h19 Q)))) ∨ (hh_tg h a1 = 42 ∧ (gm_G 603 0 [some (.ref a1), some (va_rf r_1), some (.int (Int32.ofNat 0))] [] h (pV (fun h20 => Q (.inl (some (.int (Int32.ofNat 1)))) h20) (fun e21 h22 => hh_tg h22 e21 = 21 ∧ gm_G 604 8 [] [.ref e21] h22 Q)))) ∨ (hh_tg h a1 = 45 ∧ (gm_G 603 0 [some (.ref a1), some (va_rf r_1), some (.int (Int32.ofNat 0))] [] h (pV (fun h23 => Q (.inl (some (.int (Int32.ofNat 1)))) h23) (fun e24 h25 => hh_tg h25 e24 = 21 ∧ gm_G 604 8 [] [.ref e24] h25 Q)))) ∨ (hh_tg h a1 = 46 ∧ (gm_G 603 0 [some (.ref a1), some (va_rf r_1), some (.int (Int32.ofNat 0))] [] h (pV (fun h26 => Q (.inl (some (.int (Int32.ofNat 1)))) h26) (fun e27 h28 => hh_tg h28 e27 = 21 ∧ gm_G 604 8 [] [.ref e27] h28 Q)))) ∨ (hh_tg h a1 = 47 ∧ (gm_G 603 0 [some (.ref a1), some (va_rf r_1), some (.int (Int32.ofNat 0))] [] h (pV (fun h29 => Q (.inl (some (.int (Int32.ofNat 1)))) h29) (fun e30 h31 => hh_tg h31 e30 = 21 ∧ gm_G 604 8 [] [.ref e30] h31 Q)))))) : gm_G 604 0 [some (.ref a0), some (va_rf r_1), some (va_rf r_2)] [] h Q := by
  refine g_aload (r := _) rfl rfl rfl (pc' := 1) ?_
  refine g_aload (r := _) rfl rfl rfl (pc' := 2) ?_
  refine g_iconst rfl rfl rfl (pc' := 3) ?_
  obtain ⟨a1, rfl, H⟩ := H
  rcases H with ⟨ht, H⟩ | ⟨ht, H⟩ | ⟨ht, H⟩ | ⟨ht, H⟩ | ⟨ht, H⟩ | ⟨ht, H⟩ | ⟨ht, H⟩ | ⟨ht, H⟩ | ⟨ht, H⟩ | ⟨ht, H⟩
  · refine g_call rfl (y := 426) (n := 3) (pc' := 6) (g_vt ht rfl rfl) (by cases r_1 <;> rfl) rfl ⟨(Nat.le_of_ble_eq_true rfl), (Nat.le_of_ble_eq_true rfl), (Nat.le_of_ble_eq_true rfl)⟩ rfl (gm_G.mono H (pV_elim (fun h2 H' => ?_) (fun e3 h4 H => ?_)))
    · show gm_G _ 6 _ _ _ _
      replace H := H'
      clear H'
      refine g_iconst rfl rfl rfl (pc' := 7) ?_
      exact g_ireturn rfl (Or.inr (by decide)) H
    · exact ⟨H.1, g_weak (show gm_Lle [] _ from trivial) H.2⟩
  · refine g_call rfl (y := 427) (n := 3) (pc' := 6) (g_vt ht rfl rfl) (by cases r_1 <;> rfl) rfl ⟨(Nat.le_of_ble_eq_true rfl), (Nat.le_of_ble_eq_true rfl), (Nat.le_of_ble_eq_true rfl)⟩ rfl (gm_G.mono H (pV_elim (fun h5 H' => ?_) (fun e6 h7 H => ?_)))
    · show gm_G _ 6 _ _ _ _
      replace H := H'
      clear H'
      refine g_iconst rfl rfl rfl (pc' := 7) ?_
      exact g_ireturn rfl (Or.inr (by decide)) H
    · exact ⟨H.1, g_weak (show gm_Lle [] _ from trivial) H.2⟩
  · refine g_call rfl (y := 445) (n := 3) (pc' := 6) (g_vt ht rfl rfl) (by cases r_1 <;> rfl) rfl ⟨(Nat.le_of_ble_eq_true rfl), (Nat.le_of_ble_eq_true rfl), (Nat.le_of_ble_eq_true rfl)⟩ rfl (gm_G.mono H (pV_elim (fun h8 H' => ?_) (fun e9 h10 H => ?_)))
    · show gm_G _ 6 _ _ _ _
      replace H := H'
      clear H'
      refine g_iconst rfl rfl rfl (pc' := 7) ?_
      exact g_ireturn rfl (Or.inr (by decide)) H
    · exact ⟨H.1, g_weak (show gm_Lle [] _ from trivial) H.2⟩
  · refine g_call rfl (y := 428) (n := 3) (pc' := 6) (g_vt ht rfl rfl) (by cases r_1 <;> rfl) rfl ⟨(Nat.le_of_ble_eq_true rfl), (Nat.le_of_ble_eq_true rfl), (Nat.le_of_ble_eq_true rfl)⟩ rfl (gm_G.mono H (pV_elim (fun h11 H' => ?_) (fun e12 h13 H => ?_)))
    · show gm_G _ 6 _ _ _ _
      replace H := H'
      clear H'
      refine g_iconst rfl rfl rfl (pc' := 7) ?_
      exact g_ireturn rfl (Or.inr (by decide)) H
    · exact ⟨H.1, g_weak (show gm_Lle [] _ from trivial) H.2⟩
  · refine g_call rfl (y := 429) (n := 3) (pc' := 6) (g_vt ht rfl rfl) (by cases r_1 <;> rfl) rfl ⟨(Nat.le_of_ble_eq_true rfl), (Nat.le_of_ble_eq_true rfl), (Nat.le_of_ble_eq_true rfl)⟩ rfl (gm_G.mono H (pV_elim (fun h14 H' => ?_) (fun e15 h16 H => ?_)))
    · show gm_G _ 6 _ _ _ _
      replace H := H'
      clear H'
      refine g_iconst rfl rfl rfl (pc' := 7) ?_
      exact g_ireturn rfl (Or.inr (by decide)) H
    · exact ⟨H.1, g_weak (show gm_Lle [] _ from trivial) H.2⟩
  · refine g_call rfl (y := 430) (n := 3) (pc' := 6) (g_vt ht rfl rfl) (by cases r_1 <;> rfl) rfl ⟨(Nat.le_of_ble_eq_true rfl), (Nat.le_of_ble_eq_true rfl), (Nat.le_of_ble_eq_true rfl)⟩ rfl (gm_G.mono H (pV_elim (fun h17 H' => ?_) (fun e18 h19 H => ?_)))
    · show gm_G _ 6 _ _ _ _
      replace H := H'
      clear H'
      refine g_iconst rfl rfl rfl (pc' := 7) ?_
      exact g_ireturn rfl (Or.inr (by decide)) H
    · exact ⟨H.1, g_weak (show gm_Lle [] _ from trivial) H.2⟩
  · refine g_call rfl (y := 603) (n := 3) (pc' := 6) (g_vt ht rfl rfl) (by cases r_1 <;> rfl) rfl ⟨(Nat.le_of_ble_eq_true rfl), (Nat.le_of_ble_eq_true rfl), (Nat.le_of_ble_eq_true rfl)⟩ rfl (gm_G.mono H (pV_elim (fun h20 H' => ?_) (fun e21 h22 H => ?_)))
    · show gm_G _ 6 _ _ _ _
      replace H := H'
      clear H'
      refine g_iconst rfl rfl rfl (pc' := 7) ?_
      exact g_ireturn rfl (Or.inr (by decide)) H
    · exact ⟨H.1, g_weak (show gm_Lle [] _ from trivial) H.2⟩
  · refine g_call rfl (y := 603) (n := 3) (pc' := 6) (g_vt ht rfl rfl) (by cases r_1 <;> rfl) rfl ⟨(Nat.le_of_ble_eq_true rfl), (Nat.le_of_ble_eq_true rfl), (Nat.le_of_ble_eq_true rfl)⟩ rfl (gm_G.mono H (pV_elim (fun h23 H' => ?_) (fun e24 h25 H => ?_)))
    · show gm_G _ 6 _ _ _ _
      replace H := H'
      clear H'
      refine g_iconst rfl rfl rfl (pc' := 7) ?_
      exact g_ireturn rfl (Or.inr (by decide)) H
    · exact ⟨H.1, g_weak (show gm_Lle [] _ from trivial) H.2⟩
  · refine g_call rfl (y := 603) (n := 3) (pc' := 6) (g_vt ht rfl rfl) (by cases r_1 <;> rfl) rfl ⟨(Nat.le_of_ble_eq_true rfl), (Nat.le_of_ble_eq_true rfl), (Nat.le_of_ble_eq_true rfl)⟩ rfl (gm_G.mono H (pV_elim (fun h26 H' => ?_) (fun e27 h28 H => ?_)))
    · show gm_G _ 6 _ _ _ _
      replace H := H'
      clear H'
      refine g_iconst rfl rfl rfl (pc' := 7) ?_
      exact g_ireturn rfl (Or.inr (by decide)) H
    · exact ⟨H.1, g_weak (show gm_Lle [] _ from trivial) H.2⟩
  · refine g_call rfl (y := 603) (n := 3) (pc' := 6) (g_vt ht rfl rfl) (by cases r_1 <;> rfl) rfl ⟨(Nat.le_of_ble_eq_true rfl), (Nat.le_of_ble_eq_true rfl), (Nat.le_of_ble_eq_true rfl)⟩ rfl (gm_G.mono H (pV_elim (fun h29 H' => ?_) (fun e30 h31 H => ?_)))
    · show gm_G _ 6 _ _ _ _
      replace H := H'
      clear H'
      refine g_iconst rfl rfl rfl (pc' := 7) ?_
      exact g_ireturn rfl (Or.inr (by decide)) H
    · exact ⟨H.1, g_weak (show gm_Lle [] _ from trivial) H.2⟩
set_option maxRecDepth 20000 in
theorem w_604_8 {a0 : Nat} {ex : Nat} {h : hh_T} {Q : Option Value ⊕ Nat → hh_T → Prop} (H : gm_sub (hh_tg h ex) 20 = true ∧ ((¬ (hh_i h ex 0) = (Int32.ofInt (-12)) → (Q (.inl (some (.int (Int32.ofNat 0)))) h)) ∧ ((hh_i h ex 0) = (Int32.ofInt (-12)) → (hh_tg h ex = 21 ∧ Q (.inr ex) h)))) : gm_G 604 8 [] [.ref ex] h Q := by
  refine g_astore (r := some _) rfl rfl rfl (pc' := 9) ?_
  refine g_aload (r := some _) rfl rfl rfl (pc' := 10) ?_
  obtain ⟨ht1, H⟩ := H
  refine g_getI rfl rfl rfl rfl ht1 (pc' := 13) rfl ?_
  refine g_iconst rfl rfl rfl (pc' := 15) ?_
  refine g_ic_ne rfl (pc' := 18) (pt := 20) rfl rfl ⟨fun hc => ?_, fun hc => ?_⟩
  · replace H := H.1 hc
    refine g_iconst rfl rfl rfl (pc' := 21) ?_
    exact g_ireturn rfl (Or.inr (by decide)) H
  · replace H := H.2 hc
    refine g_aload (r := some _) rfl rfl rfl (pc' := 19) ?_
    exact g_throw rfl H.1 rfl H.2
set_option maxRecDepth 20000 in
theorem w_605_0 {a0 : Nat} {r_1 : Option Nat} {r_2 : Option Nat} {h : hh_T} {Q : Option Value ⊕ Nat → hh_T → Prop} (H : ∃ a1, r_2 = some a1 ∧ ((hh_tg h a1 = 35 ∧ (gm_G 426 0 [some (.ref a1), some (va_rf r_1), some (.int (Int32.ofNat 1))] [] h (pV (fun h2 => gm_sub (hh_tg h2 a0) 0 = true ∧ (∀ r4, r4 = hh_r h2 a0 49 → (∃ a5, r_1 = some a5 ∧ (gm_sub (hh_tg h2 a5) 23 = true ∧ (∃ a7, r4 = some a7 ∧ (hh_tg h2 a7 = 14 ∧ (gm_G 258 0 [some (.ref a7), some (.int (hh_i h2 a5 0))] [] h2 (pR (fun r10 h9 => ∃ a11, r10 = some a11 ∧ (hh_tg h9 a11 = 31 ∧ (gm_G 202 0 [some (.ref a11), some (.ref a1)] [] h9 (pV (fun h13 => gm_sub (hh_tg h13 a0) 0 = true ∧ (∀ r15, r15 = hh_r h13 a0 33 → (∃ a16, r15 = some a16 ∧ (hh_tg h13 a16 = 23 ∧ (gm_G 311 0 [some (.ref a16), some (.ref a5), some (.int (Int32.ofNat 4))] [] h13 (pI (fun v19 h18 => (¬ v19 = (Int32.ofNat 1) → (gm_G 605 41 [] [] h18 Q)) ∧ (v19 = (Int32.ofNat 1) → (hh_tg h18 a0 = 1 ∧ (gm_G 567 0 [some (.ref a0), some (.ref a11)] [] h18 (pV (fun h21 => gm_G 605 41 [] [] h21 Q) (fun e22 h23 => hh_tg h23 e22 = 21 ∧ Q (.inr e22) h23)))))) (fun e24 h25 => hh_tg h25 e24 = 21 ∧ Q (.inr e24) h25))))))) (fun e26 h27 => hh_tg h27 e26 = 21 ∧ Q (.inr e26) h27))))) (fun e28 h29 => hh_tg h29 e28 = 21 ∧ Q (.inr e28) h29))))))))) (fun e30 h31 => hh_tg h31 e30 = 21 ∧ Q (.inr e30) h31)))) ∨ (hh_tg h a1 = 36 ∧ (gm_G 427 0 [some (.ref a1), some (va_rf r_1), some (.int (Int32.ofNat 1))] [] h (pV (fun h32 => gm_sub (hh_tg h32 a0) 0 = true ∧ (∀ r34, r34 = hh_r h32 a0 49 → (∃ a35, r_1 = some a35 ∧ (gm_sub (hh_tg h32 a35) 23 = true ∧ (∃ a37, r34 = some a37 ∧ (hh_tg h32 a37 = 14 ∧ (gm_G 258 0 [some (.ref a37), some (.int (hh_i h32 a35 0))] [] h32 (pR (fun r40 h39 => ∃ a41, r40 = some a41 ∧ (hh_tg h39 a41 = 31 ∧ (gm_G 202 0 [some (.ref a41), some (.ref a1)] [] h39 (pV (fun h43 => gm_sub (hh_tg h43 a0) 0 = true ∧ (∀ r45, r45 = hh_r h43 a0 33 → (∃ a46, r45 = some a46 ∧ (hh_tg h43 a46 = 23 ∧ (gm_G 311 0 [some (.ref a46), some (.ref a35), some (.int (Int32.ofNat 4))] [] h43 (pI (fun v49 h48 => (¬ v49 = (Int32.ofNat 1) → (gm_G 605 41 [] [] h48 Q)) ∧ (v49 = (Int32.ofNat 1) → (hh_tg h48 a0 = 1 ∧ (gm_G 567 0 [some (.ref a0), some (.ref a41)] [] h48 (pV (fun h51 => gm_G 605 41 [] [] h51 Q) (fun e52 h53 => hh_tg h53 e52 = 21 ∧ Q (.inr e52) h53)))))) (fun e54 h55 => hh_tg h55 e54 = 21 ∧ Q (.inr e54) h55))))))) (fun e56 h57 => hh_tg h57 e56 = 21 ∧ Q (.inr e56) h57))))) (fun e58 h59 => hh_tg h59 e58 = 21 ∧ Q (.inr e58) h59))))))))) (fun e60 h61 => hh_tg h61 e60 = 21 ∧ Q (.inr e60) h61)))) ∨ (hh_tg h a1 = 37 ∧ (gm_G 445 0 [some (.ref a1), some (va_rf r_1), some (.int (Int32.ofNat 1))] [] h (pV (fun h62 => gm_sub (hh_tg h62 a0) 0 = true ∧ (∀ r64, r64 = hh_r h62 a0 49 → (∃ a65, r_1 = some a65 ∧ (gm_sub (hh_tg h62 a65) 23 = true ∧ (∃ a67, r64 = some a67 ∧ (hh_tg h62 a67 = 14 ∧ (gm_G 258 0 [some (.ref a67), some (.int (hh_i h62 a65 0))] [] h62 (pR (fun r70 h69 => ∃ a71, r70 = some a71 ∧ (hh_tg h69 a71 = 31 ∧ (gm_G 202 0 [some (.ref a71), some (.ref a1)] [] h69 (pV (fun h73 => gm_sub (hh_tg h73 a0) 0 = true ∧ (∀ r75, r75 = hh_r h73 a0 33 → (∃ a76, r75 = some a76 ∧ (hh_tg h73 a76 = 23 ∧ (gm_G 311 0 [some (.ref a76), some (.ref a65), some (.int (Int32.ofNat 4))] [] h73 (pI (fun v79 h78 => (¬ v79 = (Int32.ofNat 1) → (gm_G 605 41 [] [] h78 Q)) ∧ (v79 = (Int32.ofNat 1) → (hh_tg h78 a0 = 1 ∧ (gm_G 567 0 [some (.ref a0), some (.ref a71)] [] h78 (pV (fun h81 => gm_G 605 41 [] [] h81 Q) (fun e82 h83 => hh_tg h83 e82 = 21 ∧ Q (.inr e82) h83)))))) (fun e84 h85 => hh_tg h85 e84 = 21 ∧ Q (.inr e84) h85))))))) (fun e86 h87 => hh_tg h87 e86 = 21 ∧ Q (.inr e86) h87))))) (fun e88 h89 => hh_tg h89 e88 = 21 ∧ Q (.inr e88) h89))))))))) (fun e90 h91 => hh_tg h91 e90 = 21 ∧ Q (.inr e90) h91)))) ∨ (hh_tg h a1 = 38 ∧ (gm_G 428 0 [some (.ref a1), some (va_rf r_1), some (.int (Int32.ofNat 1))] [] h (pV (fun h92 => gm_sub (hh_tg h92 a0) 0 = true ∧ (∀ r94, r94 = hh_r h92 a0 49 → (∃ a95, r_1 = some a95 ∧ (gm_sub (hh_tg h92 a95) 23 = true ∧ (∃ a97, r94 = some a97 ∧ (hh_tg h92 a97 = 14 ∧ (gm_G 258 0 [some (.ref a97), some (.int (hh_i h92 a95 0))] [] h92 (pR (fun r100 h99 => ∃ a101, r100 = some a101 ∧ (hh_tg h99 a101 = 31 ∧ (gm_G 202 0 [some (.ref a101), some (.ref a1)] [] h99 (pV (fun h103 => gm_sub (hh_tg h103 a0) 0 = true ∧ (∀ r105, r105 = hh_r h103 a0 33 → (∃ a106, r105 = some a106 ∧ (hh_tg h103 a106 = 23 ∧ (gm_G 311 0 [some (.ref a106), some (.ref a95), some (.int (Int32.ofNat 4))] [] h103 (pI (fun v109 h108 => (¬ v109 = (Int32.ofNat 1) → (gm_G 605 41 [] [] h108 Q)) ∧ (v109 = (Int32.ofNat 1) → (hh_tg h108 a0 = 1 ∧ (gm_G 567 0 [some (.ref a0), some (.ref a101)] [] h108 (pV (fun h111 => gm_G 605 41 [] [] h111 Q) (fun e112 h113 => hh_tg h113 e112 = 21 ∧ Q (.inr e112) h113)))))) (fun e114 h115 => hh_tg h115 e114 = 21 ∧ Q (.inr e114) h115))))))) (fun e116 h117 => hh_tg h117 e116 = 21 ∧ Q (.inr e116) h117))))) (fun e118 h119 => hh_tg h119 e118 = 21 ∧ Q (.inr e118) h119))))))))) (fun e120 h121 => hh_tg h121 e120 = 21 ∧ Q (.inr e120) h121)))) ∨ (hh_tg h a1 = 39 ∧ (gm_G 429 0 [some (.ref a1), some (va_rf r_1), some (.int (Int32.ofNat 1))] [] h (pV (fun h122 => gm_sub (hh_tg h122 a0) 0 = true ∧ (∀ r124, r124 = hh_r h122 a0 49 → (∃ a125, r_1 = some a125 ∧ (gm_sub (hh_tg h122 a125) 23 = true ∧ (∃ a127, r124 = some a127 ∧ (hh_tg h122 a127 = 14 ∧ (gm_G 258 0 [some (.ref a127), some (.int (hh_i h122 a125 0))] [] h122 (pR (fun r130 h129 => ∃ a131, r130 = some a131 ∧ (hh_tg h129 a131 = 31 ∧ (gm_G 202 0 [some (.ref a131), some (.ref a1)] [] h129 (pV (fun h133 => gm_sub (hh_tg h133 a0) 0 = true ∧ (∀ r135, r135 = hh_r h133 a0 33 → (∃ a136, r135 = some a136 ∧ (hh_tg h133 a136 = 23 ∧ (gm_G 311 0 [some (.ref a136), some (.ref a125), some (.int (Int32.ofNat 4))] [] h133 (pI (fun v139 h138 => (¬ v139 = (Int32.ofNat 1) → (gm_G 605 41 [] [] h138 Q)) ∧ (v139 = (Int32.ofNat 1) → (hh_tg h138 a0 = 1 ∧ (gm_G 567 0 [some (.ref a0), some (.ref a131)] [] h138 (pV (fun h141 => gm_G 605 41 [] [] h141 Q) (fun e142 h143 => hh_tg h143 e142 = 21 ∧ Q (.inr e142) h143)))))) (fun e144 h145 => hh_tg h145 e144 = 21 ∧ Q (.inr e144) h145))))))) (fun e146 h147 => hh_tg h147 e146 = 21 ∧ Q (.inr e146) h147))))) (fun e148 h149 => hh_tg h149 e148 = 21 ∧ Q (.inr e148) h149))))))))) (fun e150 h151 => hh_tg h151 e150 = 21 ∧ Q (.inr e150) h151)))) ∨ (hh_tg h a1 = 40 ∧ (gm_G 430 0 [some (.ref a1), some (va_rf r_1), some (.int (Int32.ofNat 1))] [] h (pV (fun h152 => gm_sub (hh_tg h152 a0) 0 = true ∧ (∀ r154, r154 = hh_r h152 a0 49 → (∃ a155, r_1 = some a155 ∧ (gm_sub (hh_tg h152 a155) 23 = true ∧ (∃ a157, r154 = some a157 ∧ (hh_tg h152 a157 = 14 ∧ (gm_G 258 0 [some (.ref a157), some (.int (hh_i h152 a155 0))] [] h152 (pR (fun r160 h159 => ∃ a161, r160 = some a161 ∧ (hh_tg h159 a161 = 31 ∧ (gm_G 202 0 [some (.ref a161), some (.ref a1)] [] h159 (pV (fun h163 => gm_sub (hh_tg h163 a0) 0 = true ∧ (∀ r165, r165 = hh_r h163 a0 33 → (∃ a166, r165 = some a166 ∧ (hh_tg h163 a166 = 23 ∧ (gm_G 311 0 [some (.ref a166), some (.ref a155), some (.int (Int32.ofNat 4))] [] h163 (pI (fun v169 h168 => (¬ v169 = (Int32.ofNat 1) → (gm_G 605 41 [] [] h168 Q)) ∧ (v169 = (Int32.ofNat 1) → (hh_tg h168 a0 = 1 ∧ (gm_G 567 0 [some (.ref a0), some (.ref a161)] [] h168 (pV (fun h171 => gm_G 605 41 [] [] h171 Q) (fun e172 h173 => hh_tg h173 e172 = 21 ∧ Q (.inr e172) h173)))))) (fun e174 h175 => hh_tg h175 e174 = 21 ∧ Q (.inr e174) h175))))))) (fun e176 h177 => hh_tg h177 e176 = 21 ∧ Q (.inr e176) h177))))) (fun e178 h179 => hh_tg h179 e178 = 21 ∧ Q (.inr e178) h179))))))))) (fun e180 h181 => hh_tg h181 e180 = 21 ∧ Q (.inr e180) h181)))) ∨ (hh_tg h a1 = 42 ∧ (gm_G 603 0 [some (.ref a1), some (va_rf r_1), some (.int (Int32.ofNat 1))] [] h (pV (fun h182 => gm_sub (hh_tg h182 a0) 0 = true ∧ (∀ r184, r184 = hh_r h182 a0 49 → (∃ a185, r_1 = some a185 ∧ (gm_sub (hh_tg h182 a185) 23 = true ∧ (∃ a187, r184 = some a187 ∧ (hh_tg h182 a187 = 14 ∧ (gm_G 258 0 [some (.ref a187), some (.int (hh_i h182 a185 0))] [] h182 (pR (fun r190 h189 => ∃ a191, r190 = some a191 ∧ (hh_tg h189 a191 = 31 ∧ (gm_G 202 0 [some (.ref a191), some (.ref a1)] [] h189 (pV (fun h193 => gm_sub (hh_tg h193 a0) 0 = true ∧ (∀ r195, r195 = hh_r h193 a0 33 → (∃ a196, r195 = some a196 ∧ (hh_tg h193 a196 = 23 ∧ (gm_G 311 0 [some (.ref a196), some (.ref a185), some (.int (Int32.ofNat 4))] [] h193 (pI (fun v199 h198 => (¬ v199 = (Int32.ofNat 1) → (gm_G 605 41 [] [] h198 Q)) ∧ (v199 = (Int32.ofNat 1) → (hh_tg h198 a0 = 1 ∧ (gm_G 567 0 [some (.ref a0), some (.ref a191)] [] h198 (pV (fun h201 => gm_G 605 41 [] [] h201 Q) (fun e202 h203 => hh_tg h203 e202 = 21 ∧ Q (.inr e202) h203)))))) (fun e204 h205 => hh_tg h205 e204 = 21 ∧ Q (.inr e204) h205))))))) (fun e206 h207 => hh_tg h207 e206 = 21 ∧ Q (.inr e206) h207))))) (fun e208 h209 => hh_tg h209 e208 = 21 ∧ Q (.inr e208) h209))))))))) (fun e210 h211 => hh_tg h211 e210 = 21 ∧ Q (.inr e210) h211)))) ∨ (hh_tg h a1 = 45 ∧ (gm_G 603 0 [some (.ref a1), some (va_rf r_1), some (.int (Int32.ofNat 1))] [] h (pV (fun h212 => gm_sub (hh_tg h212 a0) 0 = true ∧ (∀ r214, r214 = hh_r h212 a0 49 → (∃ a215, r_1 = some a215 ∧ (gm_sub (hh_tg h212 a215) 23 = true ∧ (∃ a217, r214 = some a217 ∧ (hh_tg h212 a217 = 14 ∧ (gm_G 258 0 [some (.ref a217), some (.int (hh_i h212 a215 0))] [] h212 (pR (fun r220 h219 => ∃ a221, r220 = some a221 ∧ (hh_tg h219 a221 = 31 ∧ (gm_G 202 0 [some (.ref a221), some (.ref a1)] [] h219 (pV (fun h223 => gm_sub (hh_tg h223 a0) 0 = true ∧ (∀ r225, r225 = hh_r h223 a0 33 → (∃ a226, r225 = some a226 ∧ (hh_tg h223 a226 = 23 ∧ (gm_G 311 0 [some (.ref a226), some (.ref a215), some (.int (Int32.ofNat 4))] [] h223 (pI (fun v229 h228 => (¬ v229 = (Int32.ofNat 1) → (gm_G 605 41 [] [] h228 Q)) ∧ (v229 = (Int32.ofNat 1) → (hh_tg h228 a0 = 1 ∧ (gm_G 567 0 [some (.ref a0), some (.ref a221)] [] h228 (pV (fun h231 => gm_G 605 41 [] [] h231 Q) (fun e232 h233 => hh_tg h233 e232 = 21 ∧ Q (.inr e232) h233)))))) (fun e234 h235 => hh_tg h235 e234 = 21 ∧ Q (.inr e234) h235))))))) (fun e236 h237 => hh_tg h237 e236 = 21 ∧ Q (.inr e236) h237))))) (fun e238 h239 => hh_tg h239 e238 = 21 ∧ Q (.inr e238) h239))))))))) (fun e240 h241 => hh_tg h241 e240 = 21 ∧ Q (.inr e240) h241)))) ∨ (hh_tg h a1 = 46 ∧ (gm_G 603 0 [some (.ref a1), some (va_rf r_1), some (.int (Int32.ofNat 1))] [] h (pV (fun h242 => gm_sub (hh_tg h242 a0) 0 = true ∧ (∀ r244, r244 = hh_r h242 a0 49 → (∃ a245, r_1 = some a245 ∧ (gm_sub (hh_tg h242 a245) 23 = true ∧ (∃ a247, r244 = some a247 ∧ (hh_tg h242 a247 = 14 ∧ (gm_G 258 0 [some (.ref a247), some (.int (hh_i h242 a245 0))] [] h242 (pR (fun r250 h249 => ∃ a251, r250 = some a251 ∧ (hh_tg h249 a251 = 31 ∧ (gm_G 202 0 [some (.ref a251), some (.ref a1)] [] h249 (pV (fun h253 => gm_sub (hh_tg h253 a0) 0 = true ∧ (∀ r255, r255 = hh_r h253 a0 33 → (∃ a256, r255 = some a256 ∧ (hh_tg h253 a256 = 23 ∧ (gm_G 311 0 [some (.ref a256), some (.ref a245), some (.int (Int32.ofNat 4))] [] h253 (pI (fun v259 h258 => (¬ v259 = (Int32.ofNat 1) → (gm_G 605 41 [] [] h258 Q)) ∧ (v259 = (Int32.ofNat 1) → (hh_tg h258 a0 = 1 ∧ (gm_G 567 0 [some (.ref a0), some (.ref a251)] [] h258 (pV (fun h261 => gm_G 605 41 [] [] h261 Q) (fun e262 h263 => hh_tg h263 e262 = 21 ∧ Q (.inr e262) h263)))))) (fun e264 h265 => hh_tg h265 e264 = 21 ∧ Q (.inr e264) h265))))))) (fun e266 h267 => hh_tg h267 e266 = 21 ∧ Q (.inr e266) h267))))) (fun e268 h269 => hh_tg h269 e268 = 21 ∧ Q (.inr e268) h269))))))))) (fun e270 h271 => hh_tg h271 e270 = 21 ∧ Q (.inr e270) h271)))) ∨ (hh_tg h a1 = 47 ∧ (gm_G 603 0 [some (.ref a1), some (va_rf r_1), some (.int (Int32.ofNat 1))] [] h (pV (fun h272 => gm_sub (hh_tg h272 a0) 0 = true ∧ (∀ r274, r274 = hh_r h272 a0 49 → (∃ a275, r_1 = some a275 ∧ (gm_sub (hh_tg h272 a275) 23 = true ∧ (∃ a277, r274 = some a277 ∧ (hh_tg h272 a277 = 14 ∧ (gm_G 258 0 [some (.ref a277), some (.int (hh_i h272 a275 0))] [] h272 (pR (fun r280 h279 => ∃ a281, r280 = some a281 ∧ (hh_tg h279 a281 = 31 ∧ (gm_G 202 0 [some (.ref a281), some (.ref a1)] [] h279 (pV (fun h283 => gm_sub (hh_tg h283 a0) 0 = true ∧ (∀ r285, r285 = hh_r h283 a0 33 → (∃ a286, r285 = some a286 ∧ (hh_tg h283 a286 = 23 ∧ (gm_G 311 0 [some (.ref a286), some (.ref a275), some (.int (Int32.ofNat 4))] [] h283 (pI (fun v289 h288 => (¬ v289 = (Int32.ofNat 1) → (gm_G 605 41 [] [] h288 Q)) ∧ (v289 = (Int32.ofNat 1) → (hh_tg h288 a0 = 1 ∧ (gm_G 567 0 [some (.ref a0), some (.ref a281)] [] h288 (pV (fun h291 => gm_G 605 41 [] [] h291 Q) (fun e292 h293 => hh_tg h293 e292 = 21 ∧ Q (.inr e292) h293)))))) (fun e294 h295 => hh_tg h295 e294 = 21 ∧ Q (.inr e294) h295))))))) (fun e296 h297 => hh_tg h297 e296 = 21 ∧ Q (.inr e296) h297))))) (fun e298 h299 => hh_tg h299 e298 = 21 ∧ Q (.inr e298) h299))))))))) (fun e300 h301 => hh_tg h301 e300 = 21 ∧ Q (.inr e300) h301)))))) : gm_G 605 0 [some (.ref a0), some (va_rf r_1), some (va_rf r_2)] [] h Q := by
  refine g_aload (r := _) rfl rfl rfl (pc' := 1) ?_
  refine g_aload (r := _) rfl rfl rfl (pc' := 2) ?_
  refine g_iconst rfl rfl rfl (pc' := 3) ?_
  obtain ⟨a1, rfl, H⟩ := H
  rcases H with ⟨ht, H⟩ | ⟨ht, H⟩ | ⟨ht, H⟩ | ⟨ht, H⟩ | ⟨ht, H⟩ | ⟨ht, H⟩ | ⟨ht, H⟩ | ⟨ht, H⟩ | ⟨ht, H⟩ | ⟨ht, H⟩
  · refine g_call rfl (y := 426) (n := 3) (pc' := 6) (g_vt ht rfl rfl) (by cases r_1 <;> rfl) rfl ⟨(Nat.le_of_ble_eq_true rfl), (Nat.le_of_ble_eq_true rfl), (Nat.le_of_ble_eq_true rfl)⟩ rfl (gm_G.mono H (pV_elim (fun h2 H' => ?_) (fun e30 h31 H => ?_)))
    · show gm_G _ 6 _ _ _ _
      replace H := H'
      clear H'
      refine g_aload (r := some _) rfl rfl rfl (pc' := 7) ?_
      obtain ⟨ht3, H⟩ := H
      refine g_getRv rfl rfl rfl rfl ht3 (pc' := 10) rfl (fun r4 hr4 => ?_)
      replace H := H r4 hr4
      refine g_aload (r := _) rfl rfl rfl (pc' := 11) ?_
      obtain ⟨a5, rfl, H⟩ := H
      obtain ⟨ht6, H⟩ := H
      refine g_getI rfl rfl rfl rfl ht6 (pc' := 14) rfl ?_
      obtain ⟨a7, rfl, H⟩ := H
      obtain ⟨ht8, H⟩ := H
      refine g_call rfl (y := 258) (n := 2) (pc' := 17) (g_vt ht8 rfl rfl) rfl rfl ⟨(Nat.le_of_ble_eq_true rfl), (Nat.le_of_ble_eq_true rfl), (Nat.le_of_ble_eq_true rfl)⟩ rfl (gm_G.mono H (pR_elim (fun r10 h9 H' => ?_) (fun e28 h29 H => ?_)))
      · show gm_G _ 17 _ _ _ _
        replace H := H'
        clear H'
        refine g_astore (r := _) rfl rfl rfl (pc' := 18) ?_
        refine g_aload (r := _) rfl rfl rfl (pc' := 19) ?_
        refine g_aload (r := some _) rfl rfl rfl (pc' := 20) ?_
        obtain ⟨a11, rfl, H⟩ := H
        obtain ⟨ht12, H⟩ := H
        refine g_call rfl (y := 202) (n := 2) (pc' := 23) (g_vt ht12 rfl rfl) rfl rfl ⟨(Nat.le_of_ble_eq_true rfl), (Nat.le_of_ble_eq_true rfl), (Nat.le_of_ble_eq_true rfl)⟩ rfl (gm_G.mono H (pV_elim (fun h13 H' => ?_) (fun e26 h27 H => ?_)))
        · show gm_G _ 23 _ _ _ _
          replace H := H'
          clear H'
          refine g_aload (r := some _) rfl rfl rfl (pc' := 24) ?_
          obtain ⟨ht14, H⟩ := H
          refine g_getRv rfl rfl rfl rfl ht14 (pc' := 27) rfl (fun r15 hr15 => ?_)
          replace H := H r15 hr15
          refine g_aload (r := some _) rfl rfl rfl (pc' := 28) ?_
          refine g_iconst rfl rfl rfl (pc' := 29) ?_
          obtain ⟨a16, rfl, H⟩ := H
          obtain ⟨ht17, H⟩ := H
          refine g_call rfl (y := 311) (n := 3) (pc' := 32) (g_vt ht17 rfl rfl) rfl rfl ⟨(Nat.le_of_ble_eq_true rfl), (Nat.le_of_ble_eq_true rfl), (Nat.le_of_ble_eq_true rfl)⟩ rfl (gm_G.mono H (pI_elim (fun v19 h18 H' => ?_) (fun e24 h25 H => ?_)))
          · show gm_G _ 32 _ _ _ _
            replace H := H'
            clear H'
            refine g_iconst rfl rfl rfl (pc' := 33) ?_
            refine g_ic_ne rfl (pc' := 36) (pt := 41) rfl rfl ⟨fun hc => ?_, fun hc => ?_⟩
            · replace H := H.1 hc
              exact g_weak (show gm_Lle [] _ from trivial) H
            · replace H := H.2 hc
              refine g_aload (r := some _) rfl rfl rfl (pc' := 37) ?_
              refine g_aload (r := some _) rfl rfl rfl (pc' := 38) ?_
              obtain ⟨ht20, H⟩ := H
              refine g_call rfl (y := 567) (n := 2) (pc' := 41) (g_vt ht20 rfl rfl) rfl rfl ⟨(Nat.le_of_ble_eq_true rfl), (Nat.le_of_ble_eq_true rfl), (Nat.le_of_ble_eq_true rfl)⟩ rfl (gm_G.mono H (pV_elim (fun h21 H' => ?_) (fun e22 h23 H => ?_)))
              · show gm_G _ 41 _ _ _ _
                replace H := H'
                clear H'
                exact g_weak (show gm_Lle [] _ from trivial) H
              · exact H
          · exact H
        · exact H
      · exact H
    · exact H
  · refine g_call rfl (y := 427) (n := 3) (pc' := 6) (g_vt ht rfl rfl) (by cases r_1 <;> rfl) rfl ⟨(Nat.le_of_ble_eq_true rfl), (Nat.le_of_ble_eq_true rfl), (Nat.le_of_ble_eq_true rfl)⟩ rfl (gm_G.mono H (pV_elim (fun h32 H' => ?_) (fun e60 h61 H => ?_)))
    · show gm_G _ 6 _ _ _ _
      replace H := H'
      clear H'
      refine g_aload (r := some _) rfl rfl rfl (pc' := 7) ?_
      obtain ⟨ht33, H⟩ := H
      refine g_getRv rfl rfl rfl rfl ht33 (pc' := 10) rfl (fun r34 hr34 => ?_)
      replace H := H r34 hr34
      refine g_aload (r := _) rfl rfl rfl (pc' := 11) ?_
      obtain ⟨a35, rfl, H⟩ := H
      obtain ⟨ht36, H⟩ := H
      refine g_getI rfl rfl rfl rfl ht36 (pc' := 14) rfl ?_
      obtain ⟨a37, rfl, H⟩ := H
      obtain ⟨ht38, H⟩ := H
      refine g_call rfl (y := 258) (n := 2) (pc' := 17) (g_vt ht38 rfl rfl) rfl rfl ⟨(Nat.le_of_ble_eq_true rfl), (Nat.le_of_ble_eq_true rfl), (Nat.le_of_ble_eq_true rfl)⟩ rfl (gm_G.mono H (pR_elim (fun r40 h39 H' => ?_) (fun e58 h59 H => ?_)))
      · show gm_G _ 17 _ _ _ _
        replace H := H'
        clear H'
        refine g_astore (r := _) rfl rfl rfl (pc' := 18) ?_
        refine g_aload (r := _) rfl rfl rfl (pc' := 19) ?_
        refine g_aload (r := some _) rfl rfl rfl (pc' := 20) ?_
        obtain ⟨a41, rfl, H⟩ := H
        obtain ⟨ht42, H⟩ := H
        refine g_call rfl (y := 202) (n := 2) (pc' := 23) (g_vt ht42 rfl rfl) rfl rfl ⟨(Nat.le_of_ble_eq_true rfl), (Nat.le_of_ble_eq_true rfl), (Nat.le_of_ble_eq_true rfl)⟩ rfl (gm_G.mono H (pV_elim (fun h43 H' => ?_) (fun e56 h57 H => ?_)))
        · show gm_G _ 23 _ _ _ _
          replace H := H'
          clear H'
          refine g_aload (r := some _) rfl rfl rfl (pc' := 24) ?_
          obtain ⟨ht44, H⟩ := H
          refine g_getRv rfl rfl rfl rfl ht44 (pc' := 27) rfl (fun r45 hr45 => ?_)
          replace H := H r45 hr45
          refine g_aload (r := some _) rfl rfl rfl (pc' := 28) ?_
          refine g_iconst rfl rfl rfl (pc' := 29) ?_
          obtain ⟨a46, rfl, H⟩ := H
          obtain ⟨ht47, H⟩ := H
          refine g_call rfl (y := 311) (n := 3) (pc' := 32) (g_vt ht47 rfl rfl) rfl rfl ⟨(Nat.le_of_ble_eq_true rfl), (Nat.le_of_ble_eq_true rfl), (Nat.le_of_ble_eq_true rfl)⟩ rfl (gm_G.mono H (pI_elim (fun v49 h48 H' => ?_) (fun e54 h55 H => ?_)))
          · show gm_G _ 32 _ _ _ _
            replace H := H'
            clear H'
            refine g_iconst rfl rfl rfl (pc' := 33) ?_
            refine g_ic_ne rfl (pc' := 36) (pt := 41) rfl rfl ⟨fun hc => ?_, fun hc => ?_⟩
            · replace H := H.1 hc
              exact g_weak (show gm_Lle [] _ from trivial) H
            · replace H := H.2 hc
              refine g_aload (r := some _) rfl rfl rfl (pc' := 37) ?_
              refine g_aload (r := some _) rfl rfl rfl (pc' := 38) ?_
              obtain ⟨ht50, H⟩ := H
              refine g_call rfl (y := 567) (n := 2) (pc' := 41) (g_vt ht50 rfl rfl) rfl rfl ⟨(Nat.le_of_ble_eq_true rfl), (Nat.le_of_ble_eq_true rfl), (Nat.le_of_ble_eq_true rfl)⟩ rfl (gm_G.mono H (pV_elim (fun h51 H' => ?_) (fun e52 h53 H => ?_)))
              · show gm_G _ 41 _ _ _ _
                replace H := H'
                clear H'
                exact g_weak (show gm_Lle [] _ from trivial) H
              · exact H
          · exact H
        · exact H
      · exact H
    · exact H
  · refine g_call rfl (y := 445) (n := 3) (pc' := 6) (g_vt ht rfl rfl) (by cases r_1 <;> rfl) rfl ⟨(Nat.le_of_ble_eq_true rfl), (Nat.le_of_ble_eq_true rfl), (Nat.le_of_ble_eq_true rfl)⟩ rfl (gm_G.mono H (pV_elim (fun h62 H' => ?_) (fun e90 h91 H => ?_)))
    · show gm_G _ 6 _ _ _ _
      replace H := H'
      clear H'
      refine g_aload (r := some _) rfl rfl rfl (pc' := 7) ?_
      obtain ⟨ht63, H⟩ := H
      refine g_getRv rfl rfl rfl rfl ht63 (pc' := 10) rfl (fun r64 hr64 => ?_)
      replace H := H r64 hr64
      refine g_aload (r := _) rfl rfl rfl (pc' := 11) ?_
      obtain ⟨a65, rfl, H⟩ := H
      obtain ⟨ht66, H⟩ := H
      refine g_getI rfl rfl rfl rfl ht66 (pc' := 14) rfl ?_
      obtain ⟨a67, rfl, H⟩ := H
      obtain ⟨ht68, H⟩ := H
      refine g_call rfl (y := 258) (n := 2) (pc' := 17) (g_vt ht68 rfl rfl) rfl rfl ⟨(Nat.le_of_ble_eq_true rfl), (Nat.le_of_ble_eq_true rfl), (Nat.le_of_ble_eq_true rfl)⟩ rfl (gm_G.mono H (pR_elim (fun r70 h69 H' => ?_) (fun e88 h89 H => ?_)))
      · show gm_G _ 17 _ _ _ _
        replace H := H'
        clear H'
        refine g_astore (r := _) rfl rfl rfl (pc' := 18) ?_
        refine g_aload (r := _) rfl rfl rfl (pc' := 19) ?_
        refine g_aload (r := some _) rfl rfl rfl (pc' := 20) ?_
        obtain ⟨a71, rfl, H⟩ := H
        obtain ⟨ht72, H⟩ := H
        refine g_call rfl (y := 202) (n := 2) (pc' := 23) (g_vt ht72 rfl rfl) rfl rfl ⟨(Nat.le_of_ble_eq_true rfl), (Nat.le_of_ble_eq_true rfl), (Nat.le_of_ble_eq_true rfl)⟩ rfl (gm_G.mono H (pV_elim (fun h73 H' => ?_) (fun e86 h87 H => ?_)))
        · show gm_G _ 23 _ _ _ _
          replace H := H'
          clear H'
          refine g_aload (r := some _) rfl rfl rfl (pc' := 24) ?_
          obtain ⟨ht74, H⟩ := H
          refine g_getRv rfl rfl rfl rfl ht74 (pc' := 27) rfl (fun r75 hr75 => ?_)
          replace H := H r75 hr75
          refine g_aload (r := some _) rfl rfl rfl (pc' := 28) ?_
          refine g_iconst rfl rfl rfl (pc' := 29) ?_
          obtain ⟨a76, rfl, H⟩ := H
          obtain ⟨ht77, H⟩ := H
          refine g_call rfl (y := 311) (n := 3) (pc' := 32) (g_vt ht77 rfl rfl) rfl rfl ⟨(Nat.le_of_ble_eq_true rfl), (Nat.le_of_ble_eq_true rfl), (Nat.le_of_ble_eq_true rfl)⟩ rfl (gm_G.mono H (pI_elim (fun v79 h78 H' => ?_) (fun e84 h85 H => ?_)))
          · show gm_G _ 32 _ _ _ _
            replace H := H'
            clear H'
            refine g_iconst rfl rfl rfl (pc' := 33) ?_
            refine g_ic_ne rfl (pc' := 36) (pt := 41) rfl rfl ⟨fun hc => ?_, fun hc => ?_⟩
            · replace H := H.1 hc
              exact g_weak (show gm_Lle [] _ from trivial) H
            · replace H := H.2 hc
              refine g_aload (r := some _) rfl rfl rfl (pc' := 37) ?_
              refine g_aload (r := some _) rfl rfl rfl (pc' := 38) ?_
              obtain ⟨ht80, H⟩ := H
              refine g_call rfl (y := 567) (n := 2) (pc' := 41) (g_vt ht80 rfl rfl) rfl rfl ⟨(Nat.le_of_ble_eq_true rfl), (Nat.le_of_ble_eq_true rfl), (Nat.le_of_ble_eq_true rfl)⟩ rfl (gm_G.mono H (pV_elim (fun h81 H' => ?_) (fun e82 h83 H => ?_)))
              · show gm_G _ 41 _ _ _ _
                replace H := H'
                clear H'
                exact g_weak (show gm_Lle [] _ from trivial) H
              · exact H
          · exact H
        · exact H
      · exact H
    · exact H
  · refine g_call rfl (y := 428) (n := 3) (pc' := 6) (g_vt ht rfl rfl) (by cases r_1 <;> rfl) rfl ⟨(Nat.le_of_ble_eq_true rfl), (Nat.le_of_ble_eq_true rfl), (Nat.le_of_ble_eq_true rfl)⟩ rfl (gm_G.mono H (pV_elim (fun h92 H' => ?_) (fun e120 h121 H => ?_)))
    · show gm_G _ 6 _ _ _ _
      replace H := H'
      clear H'
      refine g_aload (r := some _) rfl rfl rfl (pc' := 7) ?_
      obtain ⟨ht93, H⟩ := H
      refine g_getRv rfl rfl rfl rfl ht93 (pc' := 10) rfl (fun r94 hr94 => ?_)
      replace H := H r94 hr94
      refine g_aload (r := _) rfl rfl rfl (pc' := 11) ?_
      obtain ⟨a95, rfl, H⟩ := H
      obtain ⟨ht96, H⟩ := H
      refine g_getI rfl rfl rfl rfl ht96 (pc' := 14) rfl ?_
      obtain ⟨a97, rfl, H⟩ := H
      obtain ⟨ht98, H⟩ := H
      refine g_call rfl (y := 258) (n := 2) (pc' := 17) (g_vt ht98 rfl rfl) rfl rfl ⟨(Nat.le_of_ble_eq_true rfl), (Nat.le_of_ble_eq_true rfl), (Nat.le_of_ble_eq_true rfl)⟩ rfl (gm_G.mono H (pR_elim (fun r100 h99 H' => ?_) (fun e118 h119 H => ?_)))
      · show gm_G _ 17 _ _ _ _
        replace H := H'
        clear H'
        refine g_astore (r := _) rfl rfl rfl (pc' := 18) ?_
        refine g_aload (r := _) rfl rfl rfl (pc' := 19) ?_
        refine g_aload (r := some _) rfl rfl rfl (pc' := 20) ?_
        obtain ⟨a101, rfl, H⟩ := H
        obtain ⟨ht102, H⟩ := H
        refine g_call rfl (y := 202) (n := 2) (pc' := 23) (g_vt ht102 rfl rfl) rfl rfl ⟨(Nat.le_of_ble_eq_true rfl), (Nat.le_of_ble_eq_true rfl), (Nat.le_of_ble_eq_true rfl)⟩ rfl (gm_G.mono H (pV_elim (fun h103 H' => ?_) (fun e116 h117 H => ?_)))
        · show gm_G _ 23 _ _ _ _
          replace H := H'
          clear H'
          refine g_aload (r := some _) rfl rfl rfl (pc' := 24) ?_
          obtain ⟨ht104, H⟩ := H
          refine g_getRv rfl rfl rfl rfl ht104 (pc' := 27) rfl (fun r105 hr105 => ?_)
          replace H := H r105 hr105
          refine g_aload (r := some _) rfl rfl rfl (pc' := 28) ?_
          refine g_iconst rfl rfl rfl (pc' := 29) ?_
          obtain ⟨a106, rfl, H⟩ := H
          obtain ⟨ht107, H⟩ := H
          refine g_call rfl (y := 311) (n := 3) (pc' := 32) (g_vt ht107 rfl rfl) rfl rfl ⟨(Nat.le_of_ble_eq_true rfl), (Nat.le_of_ble_eq_true rfl), (Nat.le_of_ble_eq_true rfl)⟩ rfl (gm_G.mono H (pI_elim (fun v109 h108 H' => ?_) (fun e114 h115 H => ?_)))
          · show gm_G _ 32 _ _ _ _
            replace H := H'
            clear H'
            refine g_iconst rfl rfl rfl (pc' := 33) ?_
            refine g_ic_ne rfl (pc' := 36) (pt := 41) rfl rfl ⟨fun hc => ?_, fun hc => ?_⟩
            · replace H := H.1 hc
              exact g_weak (show gm_Lle [] _ from trivial) H
            · replace H := H.2 hc
              refine g_aload (r := some _) rfl rfl rfl (pc' := 37) ?_
              refine g_aload (r := some _) rfl rfl rfl (pc' := 38) ?_
              obtain ⟨ht110, H⟩ := H
              refine g_call rfl (y := 567) (n := 2) (pc' := 41) (g_vt ht110 rfl rfl) rfl rfl ⟨(Nat.le_of_ble_eq_true rfl), (Nat.le_of_ble_eq_true rfl), (Nat.le_of_ble_eq_true rfl)⟩ rfl (gm_G.mono H (pV_elim (fun h111 H' => ?_) (fun e112 h113 H => ?_)))
              · show gm_G _ 41 _ _ _ _
                replace H := H'
                clear H'
                exact g_weak (show gm_Lle [] _ from trivial) H
              · exact H
          · exact H
        · exact H
      · exact H
    · exact H
  · refine g_call rfl (y := 429) (n := 3) (pc' := 6) (g_vt ht rfl rfl) (by cases r_1 <;> rfl) rfl ⟨(Nat.le_of_ble_eq_true rfl), (Nat.le_of_ble_eq_true rfl), (Nat.le_of_ble_eq_true rfl)⟩ rfl (gm_G.mono H (pV_elim (fun h122 H' => ?_) (fun e150 h151 H => ?_)))
    · show gm_G _ 6 _ _ _ _
      replace H := H'
      clear H'
      refine g_aload (r := some _) rfl rfl rfl (pc' := 7) ?_
      obtain ⟨ht123, H⟩ := H
      refine g_getRv rfl rfl rfl rfl ht123 (pc' := 10) rfl (fun r124 hr124 => ?_)
      replace H := H r124 hr124
      refine g_aload (r := _) rfl rfl rfl (pc' := 11) ?_
      obtain ⟨a125, rfl, H⟩ := H
      obtain ⟨ht126, H⟩ := H
      refine g_getI rfl rfl rfl rfl ht126 (pc' := 14) rfl ?_
      obtain ⟨a127, rfl, H⟩ := H
      obtain ⟨ht128, H⟩ := H
      refine g_call rfl (y := 258) (n := 2) (pc' := 17) (g_vt ht128 rfl rfl) rfl rfl ⟨(Nat.le_of_ble_eq_true rfl), (Nat.le_of_ble_eq_true rfl), (Nat.le_of_ble_eq_true rfl)⟩ rfl (gm_G.mono H (pR_elim (fun r130 h129 H' => ?_) (fun e148 h149 H => ?_)))
      · show gm_G _ 17 _ _ _ _
        replace H := H'
        clear H'
        refine g_astore (r := _) rfl rfl rfl (pc' := 18) ?_
        refine g_aload (r := _) rfl rfl rfl (pc' := 19) ?_
        refine g_aload (r := some _) rfl rfl rfl (pc' := 20) ?_
        obtain ⟨a131, rfl, H⟩ := H
        obtain ⟨ht132, H⟩ := H
        refine g_call rfl (y := 202) (n := 2) (pc' := 23) (g_vt ht132 rfl rfl) rfl rfl ⟨(Nat.le_of_ble_eq_true rfl), (Nat.le_of_ble_eq_true rfl), (Nat.le_of_ble_eq_true rfl)⟩ rfl (gm_G.mono H (pV_elim (fun h133 H' => ?_) (fun e146 h147 H => ?_)))
        · show gm_G _ 23 _ _ _ _
          replace H := H'
          clear H'
          refine g_aload (r := some _) rfl rfl rfl (pc' := 24) ?_
          obtain ⟨ht134, H⟩ := H
          refine g_getRv rfl rfl rfl rfl ht134 (pc' := 27) rfl (fun r135 hr135 => ?_)
          replace H := H r135 hr135
          refine g_aload (r := some _) rfl rfl rfl (pc' := 28) ?_
          refine g_iconst rfl rfl rfl (pc' := 29) ?_
          obtain ⟨a136, rfl, H⟩ := H
          obtain ⟨ht137, H⟩ := H
          refine g_call rfl (y := 311) (n := 3) (pc' := 32) (g_vt ht137 rfl rfl) rfl rfl ⟨(Nat.le_of_ble_eq_true rfl), (Nat.le_of_ble_eq_true rfl), (Nat.le_of_ble_eq_true rfl)⟩ rfl (gm_G.mono H (pI_elim (fun v139 h138 H' => ?_) (fun e144 h145 H => ?_)))
          · show gm_G _ 32 _ _ _ _
            replace H := H'
            clear H'
            refine g_iconst rfl rfl rfl (pc' := 33) ?_
            refine g_ic_ne rfl (pc' := 36) (pt := 41) rfl rfl ⟨fun hc => ?_, fun hc => ?_⟩
            · replace H := H.1 hc
              exact g_weak (show gm_Lle [] _ from trivial) H
            · replace H := H.2 hc
              refine g_aload (r := some _) rfl rfl rfl (pc' := 37) ?_
              refine g_aload (r := some _) rfl rfl rfl (pc' := 38) ?_
              obtain ⟨ht140, H⟩ := H
              refine g_call rfl (y := 567) (n := 2) (pc' := 41) (g_vt ht140 rfl rfl) rfl rfl ⟨(Nat.le_of_ble_eq_true rfl), (Nat.le_of_ble_eq_true rfl), (Nat.le_of_ble_eq_true rfl)⟩ rfl (gm_G.mono H (pV_elim (fun h141 H' => ?_) (fun e142 h143 H => ?_)))
              · show gm_G _ 41 _ _ _ _
                replace H := H'
                clear H'
                exact g_weak (show gm_Lle [] _ from trivial) H
              · exact H
          · exact H
        · exact H
      · exact H
    · exact H
  · refine g_call rfl (y := 430) (n := 3) (pc' := 6) (g_vt ht rfl rfl) (by cases r_1 <;> rfl) rfl ⟨(Nat.le_of_ble_eq_true rfl), (Nat.le_of_ble_eq_true rfl), (Nat.le_of_ble_eq_true rfl)⟩ rfl (gm_G.mono H (pV_elim (fun h152 H' => ?_) (fun e180 h181 H => ?_)))
    · show gm_G _ 6 _ _ _ _
      replace H := H'
      clear H'
      refine g_aload (r := some _) rfl rfl rfl (pc' := 7) ?_
      obtain ⟨ht153, H⟩ := H
      refine g_getRv rfl rfl rfl rfl ht153 (pc' := 10) rfl (fun r154 hr154 => ?_)
      replace H := H r154 hr154
      refine g_aload (r := _) rfl rfl rfl (pc' := 11) ?_
      obtain ⟨a155, rfl, H⟩ := H
      obtain ⟨ht156, H⟩ := H
      refine g_getI rfl rfl rfl rfl ht156 (pc' := 14) rfl ?_
      obtain ⟨a157, rfl, H⟩ := H
      obtain ⟨ht158, H⟩ := H
      refine g_call rfl (y := 258) (n := 2) (pc' := 17) (g_vt ht158 rfl rfl) rfl rfl ⟨(Nat.le_of_ble_eq_true rfl), (Nat.le_of_ble_eq_true rfl), (Nat.le_of_ble_eq_true rfl)⟩ rfl (gm_G.mono H (pR_elim (fun r160 h159 H' => ?_) (fun e178 h179 H => ?_)))
      · show gm_G _ 17 _ _ _ _
        replace H := H'
        clear H'
        refine g_astore (r := _) rfl rfl rfl (pc' := 18) ?_
        refine g_aload (r := _) rfl rfl rfl (pc' := 19) ?_
        refine g_aload (r := some _) rfl rfl rfl (pc' := 20) ?_
        obtain ⟨a161, rfl, H⟩ := H
        obtain ⟨ht162, H⟩ := H
        refine g_call rfl (y := 202) (n := 2) (pc' := 23) (g_vt ht162 rfl rfl) rfl rfl ⟨(Nat.le_of_ble_eq_true rfl), (Nat.le_of_ble_eq_true rfl), (Nat.le_of_ble_eq_true rfl)⟩ rfl (gm_G.mono H (pV_elim (fun h163 H' => ?_) (fun e176 h177 H => ?_)))
        · show gm_G _ 23 _ _ _ _
          replace H := H'
          clear H'
          refine g_aload (r := some _) rfl rfl rfl (pc' := 24) ?_
          obtain ⟨ht164, H⟩ := H
          refine g_getRv rfl rfl rfl rfl ht164 (pc' := 27) rfl (fun r165 hr165 => ?_)
          replace H := H r165 hr165
          refine g_aload (r := some _) rfl rfl rfl (pc' := 28) ?_
          refine g_iconst rfl rfl rfl (pc' := 29) ?_
          obtain ⟨a166, rfl, H⟩ := H
          obtain ⟨ht167, H⟩ := H
          refine g_call rfl (y := 311) (n := 3) (pc' := 32) (g_vt ht167 rfl rfl) rfl rfl ⟨(Nat.le_of_ble_eq_true rfl), (Nat.le_of_ble_eq_true rfl), (Nat.le_of_ble_eq_true rfl)⟩ rfl (gm_G.mono H (pI_elim (fun v169 h168 H' => ?_) (fun e174 h175 H => ?_)))
          · show gm_G _ 32 _ _ _ _
            replace H := H'
            clear H'
            refine g_iconst rfl rfl rfl (pc' := 33) ?_
            refine g_ic_ne rfl (pc' := 36) (pt := 41) rfl rfl ⟨fun hc => ?_, fun hc => ?_⟩
            · replace H := H.1 hc
              exact g_weak (show gm_Lle [] _ from trivial) H
            · replace H := H.2 hc
              refine g_aload (r := some _) rfl rfl rfl (pc' := 37) ?_
              refine g_aload (r := some _) rfl rfl rfl (pc' := 38) ?_
              obtain ⟨ht170, H⟩ := H
              refine g_call rfl (y := 567) (n := 2) (pc' := 41) (g_vt ht170 rfl rfl) rfl rfl ⟨(Nat.le_of_ble_eq_true rfl), (Nat.le_of_ble_eq_true rfl), (Nat.le_of_ble_eq_true rfl)⟩ rfl (gm_G.mono H (pV_elim (fun h171 H' => ?_) (fun e172 h173 H => ?_)))
              · show gm_G _ 41 _ _ _ _
                replace H := H'
                clear H'
                exact g_weak (show gm_Lle [] _ from trivial) H
              · exact H
          · exact H
        · exact H
      · exact H
    · exact H
  · refine g_call rfl (y := 603) (n := 3) (pc' := 6) (g_vt ht rfl rfl) (by cases r_1 <;> rfl) rfl ⟨(Nat.le_of_ble_eq_true rfl), (Nat.le_of_ble_eq_true rfl), (Nat.le_of_ble_eq_true rfl)⟩ rfl (gm_G.mono H (pV_elim (fun h182 H' => ?_) (fun e210 h211 H => ?_)))
    · show gm_G _ 6 _ _ _ _
      replace H := H'
      clear H'
      refine g_aload (r := some _) rfl rfl rfl (pc' := 7) ?_
      obtain ⟨ht183, H⟩ := H
      refine g_getRv rfl rfl rfl rfl ht183 (pc' := 10) rfl (fun r184 hr184 => ?_)
      replace H := H r184 hr184
      refine g_aload (r := _) rfl rfl rfl (pc' := 11) ?_
      obtain ⟨a185, rfl, H⟩ := H
      obtain ⟨ht186, H⟩ := H
      refine g_getI rfl rfl rfl rfl ht186 (pc' := 14) rfl ?_
      obtain ⟨a187, rfl, H⟩ := H
      obtain ⟨ht188, H⟩ := H
      refine g_call rfl (y := 258) (n := 2) (pc' := 17) (g_vt ht188 rfl rfl) rfl rfl ⟨(Nat.le_of_ble_eq_true rfl), (Nat.le_of_ble_eq_true rfl), (Nat.le_of_ble_eq_true rfl)⟩ rfl (gm_G.mono H (pR_elim (fun r190 h189 H' => ?_) (fun e208 h209 H => ?_)))
      · show gm_G _ 17 _ _ _ _
        replace H := H'
        clear H'
        refine g_astore (r := _) rfl rfl rfl (pc' := 18) ?_
        refine g_aload (r := _) rfl rfl rfl (pc' := 19) ?_
        refine g_aload (r := some _) rfl rfl rfl (pc' := 20) ?_
        obtain ⟨a191, rfl, H⟩ := H
        obtain ⟨ht192, H⟩ := H
        refine g_call rfl (y := 202) (n := 2) (pc' := 23) (g_vt ht192 rfl rfl) rfl rfl ⟨(Nat.le_of_ble_eq_true rfl), (Nat.le_of_ble_eq_true rfl), (Nat.le_of_ble_eq_true rfl)⟩ rfl (gm_G.mono H (pV_elim (fun h193 H' => ?_) (fun e206 h207 H => ?_)))
        · show gm_G _ 23 _ _ _ _
          replace H := H'
          clear H'
          refine g_aload (r := some _) rfl rfl rfl (pc' := 24) ?_
          obtain ⟨ht194, H⟩ := H
          refine g_getRv rfl rfl rfl rfl ht194 (pc' := 27) rfl (fun r195 hr195 => ?_)
          replace H := H r195 hr195
          refine g_aload (r := some _) rfl rfl rfl (pc' := 28) ?_
          refine g_iconst rfl rfl rfl (pc' := 29) ?_
          obtain ⟨a196, rfl, H⟩ := H
          obtain ⟨ht197, H⟩ := H
          refine g_call rfl (y := 311) (n := 3) (pc' := 32) (g_vt ht197 rfl rfl) rfl rfl ⟨(Nat.le_of_ble_eq_true rfl), (Nat.le_of_ble_eq_true rfl), (Nat.le_of_ble_eq_true rfl)⟩ rfl (gm_G.mono H (pI_elim (fun v199 h198 H' => ?_) (fun e204 h205 H => ?_)))
          · show gm_G _ 32 _ _ _ _
            replace H := H'
            clear H'
            refine g_iconst rfl rfl rfl (pc' := 33) ?_
            refine g_ic_ne rfl (pc' := 36) (pt := 41) rfl rfl ⟨fun hc => ?_, fun hc => ?_⟩
            · replace H := H.1 hc
              exact g_weak (show gm_Lle [] _ from trivial) H
            · replace H := H.2 hc
              refine g_aload (r := some _) rfl rfl rfl (pc' := 37) ?_
              refine g_aload (r := some _) rfl rfl rfl (pc' := 38) ?_
              obtain ⟨ht200, H⟩ := H
              refine g_call rfl (y := 567) (n := 2) (pc' := 41) (g_vt ht200 rfl rfl) rfl rfl ⟨(Nat.le_of_ble_eq_true rfl), (Nat.le_of_ble_eq_true rfl), (Nat.le_of_ble_eq_true rfl)⟩ rfl (gm_G.mono H (pV_elim (fun h201 H' => ?_) (fun e202 h203 H => ?_)))
              · show gm_G _ 41 _ _ _ _
                replace H := H'
                clear H'
                exact g_weak (show gm_Lle [] _ from trivial) H
              · exact H
          · exact H
        · exact H
      · exact H
    · exact H
  · refine g_call rfl (y := 603) (n := 3) (pc' := 6) (g_vt ht rfl rfl) (by cases r_1 <;> rfl) rfl ⟨(Nat.le_of_ble_eq_true rfl), (Nat.le_of_ble_eq_true rfl), (Nat.le_of_ble_eq_true rfl)⟩ rfl (gm_G.mono H (pV_elim (fun h212 H' => ?_) (fun e240 h241 H => ?_)))
    · show gm_G _ 6 _ _ _ _
      replace H := H'
      clear H'
      refine g_aload (r := some _) rfl rfl rfl (pc' := 7) ?_
      obtain ⟨ht213, H⟩ := H
      refine g_getRv rfl rfl rfl rfl ht213 (pc' := 10) rfl (fun r214 hr214 => ?_)
      replace H := H r214 hr214
      refine g_aload (r := _) rfl rfl rfl (pc' := 11) ?_
      obtain ⟨a215, rfl, H⟩ := H
      obtain ⟨ht216, H⟩ := H
      refine g_getI rfl rfl rfl rfl ht216 (pc' := 14) rfl ?_
      obtain ⟨a217, rfl, H⟩ := H
      obtain ⟨ht218, H⟩ := H
      refine g_call rfl (y := 258) (n := 2) (pc' := 17) (g_vt ht218 rfl rfl) rfl rfl ⟨(Nat.le_of_ble_eq_true rfl), (Nat.le_of_ble_eq_true rfl), (Nat.le_of_ble_eq_true rfl)⟩ rfl (gm_G.mono H (pR_elim (fun r220 h219 H' => ?_) (fun e238 h239 H => ?_)))
      · show gm_G _ 17 _ _ _ _
        replace H := H'
        clear H'
        refine g_astore (r := _) rfl rfl rfl (pc' := 18) ?_
        refine g_aload (r := _) rfl rfl rfl (pc' := 19) ?_
        refine g_aload (r := some _) rfl rfl rfl (pc' := 20) ?_
        obtain ⟨a221, rfl, H⟩ := H
        obtain ⟨ht222, H⟩ := H
        refine g_call rfl (y := 202) (n := 2) (pc' := 23) (g_vt ht222 rfl rfl) rfl rfl ⟨(Nat.le_of_ble_eq_true rfl), (Nat.le_of_ble_eq_true rfl), (Nat.le_of_ble_eq_true rfl)⟩ rfl (gm_G.mono H (pV_elim (fun h223 H' => ?_) (fun e236 h237 H => ?_)))
        · show gm_G _ 23 _ _ _ _
          replace H := H'
          clear H'
          refine g_aload (r := some _) rfl rfl rfl (pc' := 24) ?_
          obtain ⟨ht224, H⟩ := H
          refine g_getRv rfl rfl rfl rfl ht224 (pc' := 27) rfl (fun r225 hr225 => ?_)
          replace H := H r225 hr225
          refine g_aload (r := some _) rfl rfl rfl (pc' := 28) ?_
          refine g_iconst rfl rfl rfl (pc' := 29) ?_
          obtain ⟨a226, rfl, H⟩ := H
          obtain ⟨ht227, H⟩ := H
          refine g_call rfl (y := 311) (n := 3) (pc' := 32) (g_vt ht227 rfl rfl) rfl rfl ⟨(Nat.le_of_ble_eq_true rfl), (Nat.le_of_ble_eq_true rfl), (Nat.le_of_ble_eq_true rfl)⟩ rfl (gm_G.mono H (pI_elim (fun v229 h228 H' => ?_) (fun e234 h235 H => ?_)))
          · show gm_G _ 32 _ _ _ _
            replace H := H'
            clear H'
            refine g_iconst rfl rfl rfl (pc' := 33) ?_
            refine g_ic_ne rfl (pc' := 36) (pt := 41) rfl rfl ⟨fun hc => ?_, fun hc => ?_⟩
            · replace H := H.1 hc
              exact g_weak (show gm_Lle [] _ from trivial) H
            · replace H := H.2 hc
              refine g_aload (r := some _) rfl rfl rfl (pc' := 37) ?_
              refine g_aload (r := some _) rfl rfl rfl (pc' := 38) ?_
              obtain ⟨ht230, H⟩ := H
              refine g_call rfl (y := 567) (n := 2) (pc' := 41) (g_vt ht230 rfl rfl) rfl rfl ⟨(Nat.le_of_ble_eq_true rfl), (Nat.le_of_ble_eq_true rfl), (Nat.le_of_ble_eq_true rfl)⟩ rfl (gm_G.mono H (pV_elim (fun h231 H' => ?_) (fun e232 h233 H => ?_)))
              · show gm_G _ 41 _ _ _ _
                replace H := H'
                clear H'
                exact g_weak (show gm_Lle [] _ from trivial) H
              · exact H
          · exact H
        · exact H
      · exact H
    · exact H
  · refine g_call rfl (y := 603) (n := 3) (pc' := 6) (g_vt ht rfl rfl) (by cases r_1 <;> rfl) rfl ⟨(Nat.le_of_ble_eq_true rfl), (Nat.le_of_ble_eq_true rfl), (Nat.le_of_ble_eq_true rfl)⟩ rfl (gm_G.mono H (pV_elim (fun h242 H' => ?_) (fun e270 h271 H => ?_)))
    · show gm_G _ 6 _ _ _ _
      replace H := H'
      clear H'
      refine g_aload (r := some _) rfl rfl rfl (pc' := 7) ?_
      obtain ⟨ht243, H⟩ := H
      refine g_getRv rfl rfl rfl rfl ht243 (pc' := 10) rfl (fun r244 hr244 => ?_)
      replace H := H r244 hr244
      refine g_aload (r := _) rfl rfl rfl (pc' := 11) ?_
      obtain ⟨a245, rfl, H⟩ := H
      obtain ⟨ht246, H⟩ := H
      refine g_getI rfl rfl rfl rfl ht246 (pc' := 14) rfl ?_
      obtain ⟨a247, rfl, H⟩ := H
      obtain ⟨ht248, H⟩ := H
      refine g_call rfl (y := 258) (n := 2) (pc' := 17) (g_vt ht248 rfl rfl) rfl rfl ⟨(Nat.le_of_ble_eq_true rfl), (Nat.le_of_ble_eq_true rfl), (Nat.le_of_ble_eq_true rfl)⟩ rfl (gm_G.mono H (pR_elim (fun r250 h249 H' => ?_) (fun e268 h269 H => ?_)))
      · show gm_G _ 17 _ _ _ _
        replace H := H'
        clear H'
        refine g_astore (r := _) rfl rfl rfl (pc' := 18) ?_
        refine g_aload (r := _) rfl rfl rfl (pc' := 19) ?_
        refine g_aload (r := some _) rfl rfl rfl (pc' := 20) ?_
        obtain ⟨a251, rfl, H⟩ := H
        obtain ⟨ht252, H⟩ := H
        refine g_call rfl (y := 202) (n := 2) (pc' := 23) (g_vt ht252 rfl rfl) rfl rfl ⟨(Nat.le_of_ble_eq_true rfl), (Nat.le_of_ble_eq_true rfl), (Nat.le_of_ble_eq_true rfl)⟩ rfl (gm_G.mono H (pV_elim (fun h253 H' => ?_) (fun e266 h267 H => ?_)))
        · show gm_G _ 23 _ _ _ _
          replace H := H'
          clear H'
          refine g_aload (r := some _) rfl rfl rfl (pc' := 24) ?_
          obtain ⟨ht254, H⟩ := H
          refine g_getRv rfl rfl rfl rfl ht254 (pc' := 27) rfl (fun r255 hr255 => ?_)
          replace H := H r255 hr255
          refine g_aload (r := some _) rfl rfl rfl (pc' := 28) ?_
          refine g_iconst rfl rfl rfl (pc' := 29) ?_
          obtain ⟨a256, rfl, H⟩ := H
          obtain ⟨ht257, H⟩ := H
          refine g_call rfl (y := 311) (n := 3) (pc' := 32) (g_vt ht257 rfl rfl) rfl rfl ⟨(Nat.le_of_ble_eq_true rfl), (Nat.le_of_ble_eq_true rfl), (Nat.le_of_ble_eq_true rfl)⟩ rfl (gm_G.mono H (pI_elim (fun v259 h258 H' => ?_) (fun e264 h265 H => ?_)))
          · show gm_G _ 32 _ _ _ _
            replace H := H'
            clear H'
            refine g_iconst rfl rfl rfl (pc' := 33) ?_
            refine g_ic_ne rfl (pc' := 36) (pt := 41) rfl rfl ⟨fun hc => ?_, fun hc => ?_⟩
            · replace H := H.1 hc
              exact g_weak (show gm_Lle [] _ from trivial) H
            · replace H := H.2 hc
              refine g_aload (r := some _) rfl rfl rfl (pc' := 37) ?_
              refine g_aload (r := some _) rfl rfl rfl (pc' := 38) ?_
              obtain ⟨ht260, H⟩ := H
              refine g_call rfl (y := 567) (n := 2) (pc' := 41) (g_vt ht260 rfl rfl) rfl rfl ⟨(Nat.le_of_ble_eq_true rfl), (Nat.le_of_ble_eq_true rfl), (Nat.le_of_ble_eq_true rfl)⟩ rfl (gm_G.mono H (pV_elim (fun h261 H' => ?_) (fun e262 h263 H => ?_)))
              · show gm_G _ 41 _ _ _ _
                replace H := H'
                clear H'
                exact g_weak (show gm_Lle [] _ from trivial) H
              · exact H
          · exact H
        · exact H
      · exact H
    · exact H
  · refine g_call rfl (y := 603) (n := 3) (pc' := 6) (g_vt ht rfl rfl) (by cases r_1 <;> rfl) rfl ⟨(Nat.le_of_ble_eq_true rfl), (Nat.le_of_ble_eq_true rfl), (Nat.le_of_ble_eq_true rfl)⟩ rfl (gm_G.mono H (pV_elim (fun h272 H' => ?_) (fun e300 h301 H => ?_)))
    · show gm_G _ 6 _ _ _ _
      replace H := H'
      clear H'
      refine g_aload (r := some _) rfl rfl rfl (pc' := 7) ?_
      obtain ⟨ht273, H⟩ := H
      refine g_getRv rfl rfl rfl rfl ht273 (pc' := 10) rfl (fun r274 hr274 => ?_)
      replace H := H r274 hr274
      refine g_aload (r := _) rfl rfl rfl (pc' := 11) ?_
      obtain ⟨a275, rfl, H⟩ := H
      obtain ⟨ht276, H⟩ := H
      refine g_getI rfl rfl rfl rfl ht276 (pc' := 14) rfl ?_
      obtain ⟨a277, rfl, H⟩ := H
      obtain ⟨ht278, H⟩ := H
      refine g_call rfl (y := 258) (n := 2) (pc' := 17) (g_vt ht278 rfl rfl) rfl rfl ⟨(Nat.le_of_ble_eq_true rfl), (Nat.le_of_ble_eq_true rfl), (Nat.le_of_ble_eq_true rfl)⟩ rfl (gm_G.mono H (pR_elim (fun r280 h279 H' => ?_) (fun e298 h299 H => ?_)))
      · show gm_G _ 17 _ _ _ _
        replace H := H'
        clear H'
        refine g_astore (r := _) rfl rfl rfl (pc' := 18) ?_
        refine g_aload (r := _) rfl rfl rfl (pc' := 19) ?_
        refine g_aload (r := some _) rfl rfl rfl (pc' := 20) ?_
        obtain ⟨a281, rfl, H⟩ := H
        obtain ⟨ht282, H⟩ := H
        refine g_call rfl (y := 202) (n := 2) (pc' := 23) (g_vt ht282 rfl rfl) rfl rfl ⟨(Nat.le_of_ble_eq_true rfl), (Nat.le_of_ble_eq_true rfl), (Nat.le_of_ble_eq_true rfl)⟩ rfl (gm_G.mono H (pV_elim (fun h283 H' => ?_) (fun e296 h297 H => ?_)))
        · show gm_G _ 23 _ _ _ _
          replace H := H'
          clear H'
          refine g_aload (r := some _) rfl rfl rfl (pc' := 24) ?_
          obtain ⟨ht284, H⟩ := H
          refine g_getRv rfl rfl rfl rfl ht284 (pc' := 27) rfl (fun r285 hr285 => ?_)
          replace H := H r285 hr285
          refine g_aload (r := some _) rfl rfl rfl (pc' := 28) ?_
          refine g_iconst rfl rfl rfl (pc' := 29) ?_
          obtain ⟨a286, rfl, H⟩ := H
          obtain ⟨ht287, H⟩ := H
          refine g_call rfl (y := 311) (n := 3) (pc' := 32) (g_vt ht287 rfl rfl) rfl rfl ⟨(Nat.le_of_ble_eq_true rfl), (Nat.le_of_ble_eq_true rfl), (Nat.le_of_ble_eq_true rfl)⟩ rfl (gm_G.mono H (pI_elim (fun v289 h288 H' => ?_) (fun e294 h295 H => ?_)))
          · show gm_G _ 32 _ _ _ _
            replace H := H'
            clear H'
            refine g_iconst rfl rfl rfl (pc' := 33) ?_
            refine g_ic_ne rfl (pc' := 36) (pt := 41) rfl rfl ⟨fun hc => ?_, fun hc => ?_⟩
            · replace H := H.1 hc
              exact g_weak (show gm_Lle [] _ from trivial) H
            · replace H := H.2 hc
              refine g_aload (r := some _) rfl rfl rfl (pc' := 37) ?_
              refine g_aload (r := some _) rfl rfl rfl (pc' := 38) ?_
              obtain ⟨ht290, H⟩ := H
              refine g_call rfl (y := 567) (n := 2) (pc' := 41) (g_vt ht290 rfl rfl) rfl rfl ⟨(Nat.le_of_ble_eq_true rfl), (Nat.le_of_ble_eq_true rfl), (Nat.le_of_ble_eq_true rfl)⟩ rfl (gm_G.mono H (pV_elim (fun h291 H' => ?_) (fun e292 h293 H => ?_)))
              · show gm_G _ 41 _ _ _ _
                replace H := H'
                clear H'
                exact g_weak (show gm_Lle [] _ from trivial) H
              · exact H
          · exact H
        · exact H
      · exact H
    · exact H
set_option maxRecDepth 20000 in
theorem w_605_41 {a0 : Nat}  {h : hh_T} {Q : Option Value ⊕ Nat → hh_T → Prop} (H : Q (.inl none) h) : gm_G 605 41 [] [] h Q := by
  exact g_return rfl H
set_option maxRecDepth 20000 in
theorem w_606_0 {a0 : Nat} {x1 : Int32} {x2 : Int32} {x3 : Int32} {x4 : Int32} {h : hh_T} {Q : Option Value ⊕ Nat → hh_T → Prop} (H : hh_tg h a0 = 1 ∧ (gm_G 456 0 [some (.ref a0)] [] h (pV (fun h2 => gm_G 5 0 [some (.int x3), some (.int (Int32.ofNat 1)), some (.int (Int32.ofNat 3))] [] h2 (pI (fun v4 h3 => (v4 = Int32.ofNat 0 → (gm_G 606 39 [some (.ref a0), some (.int x1), some (.int x2), some (.int x3), some (.int x4)] [] h3 Q)) ∧ (¬ v4 = Int32.ofNat 0 → ((¬ x3 = (Int32.ofNat 1) → (gm_G 606 29 [some (.ref a0), some (.int x1), some (.int x2), some (.int x3), some (.int x4)] [.int (Int32.ofNat 7), .int (Int32.ofNat 0), .int x4] h3 Q)) ∧ (x3 = (Int32.ofNat 1) → (gm_G 606 29 [some (.ref a0), some (.int x1), some (.int x2), some (.int x3), some (.int x4)] [.int (Int32.ofNat 511), .int (Int32.ofNat 0), .int x4] h3 Q))))) (fun e5 h6 => hh_tg h6 e5 = 21 ∧ gm_G 606 153 [some (.ref a0)] [.ref e5] h6 Q))) (fun e7 h8 => hh_tg h8 e7 = 21 ∧ gm_G 606 153 [some (.ref a0)] [.ref e7] h8 Q)))) : gm_G 606 0 [some (.ref a0), some (.int x1), some (.int x2), some (.int x3), some (.int x4)] [] h Q := by
  refine g_aload (r := some _) rfl rfl rfl (pc' := 1) ?_
  obtain ⟨ht1, H⟩ := H
  refine g_call rfl (y := 456) (n := 1) (pc' := 4) (g_vt ht1 rfl rfl) rfl rfl ⟨(Nat.le_of_ble_eq_true rfl), (Nat.le_of_ble_eq_true rfl), (Nat.le_of_ble_eq_true rfl)⟩ rfl (gm_G.mono H (pV_elim (fun h2 H' => ?_) (fun e7 h8 H => ?_)))
  · show gm_G _ 4 _ _ _ _
    replace H := H'
    clear H'
    refine g_iload rfl rfl rfl (pc' := 5) ?_
    refine g_iconst rfl rfl rfl (pc' := 6) ?_
    refine g_iconst rfl rfl rfl (pc' := 7) ?_
    refine g_call rfl (y := 5) (n := 3) (pc' := 10) (fun _ => rfl) rfl rfl ⟨(Nat.le_of_ble_eq_true rfl), (Nat.le_of_ble_eq_true rfl), (Nat.le_of_ble_eq_true rfl)⟩ rfl (gm_G.mono H (pI_elim (fun v4 h3 H' => ?_) (fun e5 h6 H => ?_)))
    · show gm_G _ 10 _ _ _ _
      replace H := H'
      clear H'
      refine g_if_eq rfl (pc' := 13) (pt := 39) rfl rfl ⟨fun hc => ?_, fun hc => ?_⟩
      · replace H := H.1 hc
        exact g_weak (show gm_Lle [some _, some _, some _, some _, some _] _ from ⟨rfl, ⟨rfl, ⟨rfl, ⟨rfl, ⟨rfl, trivial⟩⟩⟩⟩⟩) H
      · replace H := H.2 hc
        refine g_iload rfl rfl rfl (pc' := 15) ?_
        refine g_iconst rfl rfl rfl (pc' := 16) ?_
        refine g_iload rfl rfl rfl (pc' := 17) ?_
        refine g_iconst rfl rfl rfl (pc' := 18) ?_
        refine g_ic_ne rfl (pc' := 21) (pt := 27) rfl rfl ⟨fun hc => ?_, fun hc => ?_⟩
        · replace H := H.1 hc
          refine g_iconst rfl rfl rfl (pc' := 29) ?_
          exact g_weak (show gm_Lle [some _, some _, some _, some _, some _] _ from ⟨rfl, ⟨rfl, ⟨rfl, ⟨rfl, ⟨rfl, trivial⟩⟩⟩⟩⟩) H
        · replace H := H.2 hc
          refine g_iconst rfl rfl rfl (pc' := 24) ?_
          refine g_goto rfl (pc' := 29) rfl ?_
          exact g_weak (show gm_Lle [some _, some _, some _, some _, some _] _ from ⟨rfl, ⟨rfl, ⟨rfl, ⟨rfl, ⟨rfl, trivial⟩⟩⟩⟩⟩) H
    · exact ⟨H.1, g_weak (show gm_Lle [some _] _ from ⟨rfl, trivial⟩) H.2⟩
  · exact ⟨H.1, g_weak (show gm_Lle [some _] _ from ⟨rfl, trivial⟩) H.2⟩
set_option maxRecDepth 20000 in
theorem w_606_29 {a0 : Nat} {x1 : Int32} {x2 : Int32} {x3 : Int32} {x4 : Int32} {y0 : Int32} {y1 : Int32} {y2 : Int32} {h : hh_T} {Q : Option Value ⊕ Nat → hh_T → Prop} (H : gm_G 5 0 [some (.int y2), some (.int y1), some (.int y0)] [] h (pI (fun v2 h1 => (v2 = Int32.ofNat 0 → (gm_G 606 39 [some (.ref a0), some (.int x1), some (.int x2), some (.int x3), some (.int x4)] [] h1 Q)) ∧ (¬ v2 = Int32.ofNat 0 → (gm_G 606 40 [some (.ref a0), some (.int x1), some (.int x2), some (.int x3), some (.int x4)] [.int (Int32.ofNat 1)] h1 Q))) (fun e3 h4 => hh_tg h4 e3 = 21 ∧ gm_G 606 153 [some (.ref a0)] [.ref e3] h4 Q))) : gm_G 606 29 [some (.ref a0), some (.int x1), some (.int x2), some (.int x3), some (.int x4)] [.int y0, .int y1, .int y2] h Q := by
  refine g_call rfl (y := 5) (n := 3) (pc' := 32) (fun _ => rfl) rfl rfl ⟨(Nat.le_of_ble_eq_true rfl), (Nat.le_of_ble_eq_true rfl), (Nat.le_of_ble_eq_true rfl)⟩ rfl (gm_G.mono H (pI_elim (fun v2 h1 H' => ?_) (fun e3 h4 H => ?_)))
  · show gm_G _ 32 _ _ _ _
    replace H := H'
    clear H'
    refine g_if_eq rfl (pc' := 35) (pt := 39) rfl rfl ⟨fun hc => ?_, fun hc => ?_⟩
    · replace H := H.1 hc
      exact g_weak (show gm_Lle [some _, some _, some _, some _, some _] _ from ⟨rfl, ⟨rfl, ⟨rfl, ⟨rfl, ⟨rfl, trivial⟩⟩⟩⟩⟩) H
    · replace H := H.2 hc
      refine g_iconst rfl rfl rfl (pc' := 36) ?_
      refine g_goto rfl (pc' := 40) rfl ?_
      exact g_weak (show gm_Lle [some _, some _, some _, some _, some _] _ from ⟨rfl, ⟨rfl, ⟨rfl, ⟨rfl, ⟨rfl, trivial⟩⟩⟩⟩⟩) H
  · exact ⟨H.1, g_weak (show gm_Lle [some _] _ from ⟨rfl, trivial⟩) H.2⟩
set_option maxRecDepth 20000 in
theorem w_606_39 {a0 : Nat} {x1 : Int32} {x2 : Int32} {x3 : Int32} {x4 : Int32} {h : hh_T} {Q : Option Value ⊕ Nat → hh_T → Prop} (H : gm_G 606 40 [some (.ref a0), some (.int x1), some (.int x2), some (.int x3), some (.int x4)] [.int (Int32.ofNat 0)] h Q) : gm_G 606 39 [some (.ref a0), some (.int x1), some (.int x2), some (.int x3), some (.int x4)] [] h Q := by
  refine g_iconst rfl rfl rfl (pc' := 40) ?_
  exact g_weak (show gm_Lle [some _, some _, some _, some _, some _] _ from ⟨rfl, ⟨rfl, ⟨rfl, ⟨rfl, ⟨rfl, trivial⟩⟩⟩⟩⟩) H
set_option maxRecDepth 20000 in
theorem w_606_40 {a0 : Nat} {x1 : Int32} {x2 : Int32} {x3 : Int32} {x4 : Int32} {y0 : Int32} {h : hh_T} {Q : Option Value ⊕ Nat → hh_T → Prop} (H : gm_G 452 0 [some (.int y0)] [] h (pV (fun h1 => hh_tg h1 a0 = 1 ∧ (gm_G 488 0 [some (.ref a0), some (.int x1)] [] h1 (pR (fun r4 h3 => ∃ a5, r4 = some a5 ∧ (gm_sub (hh_tg h3 a5) 23 = true ∧ (∀ r7, r7 = hh_r h3 a5 9 → (gm_G 448 0 [some (va_rf r7), some (.int x2)] [] h3 (pR (fun r9 h8 => hh_tg h8 a0 = 1 ∧ (gm_G 9 0 [some (.ref a0), some (va_rf r9)] [] h8 (pI (fun v12 h11 => (v12 = Int32.ofNat 0 → (gm_G 606 111 [some (.ref a0), none, some (.int x2), some (.int x3), some (.int x4), some (.ref a5)] [] h11 Q)) ∧ (¬ v12 = Int32.ofNat 0 → ((¬ x3 = (Int32.ofNat 2) → (gm_G 606 82 [some (.ref a0), none, some (.int x2), some (.int x3), some (.int x4), some (.ref a5)] [] h11 Q)) ∧ (x3 = (Int32.ofNat 2) → (gm_sub (hh_tg h11 a0) 0 = true ∧ ((¬ (hh_i h11 a0 41) = Int32.ofNat 0 → (gm_G 606 111 [some (.ref a0), none, some (.int x2), some (.int x3), some (.int x4), some (.ref a5)] [] h11 Q)) ∧ ((hh_i h11 a0 41) = Int32.ofNat 0 → (gm_G 606 82 [some (.ref a0), none, some (.int x2), some (.int x3), some (.int x4), some (.ref a5)] [] h11 Q)))))))) (fun e14 h15 => hh_tg h15 e14 = 21 ∧ gm_G 606 153 [some (.ref a0)] [.ref e14] h15 Q)))) (fun e16 h17 => hh_tg h17 e16 = 21 ∧ gm_G 606 153 [some (.ref a0)] [.ref e16] h17 Q)))))) (fun e18 h19 => hh_tg h19 e18 = 21 ∧ gm_G 606 153 [some (.ref a0)] [.ref e18] h19 Q)))) (fun e20 h21 => hh_tg h21 e20 = 21 ∧ gm_G 606 153 [some (.ref a0)] [.ref e20] h21 Q))) : gm_G 606 40 [some (.ref a0), some (.int x1), some (.int x2), some (.int x3), some (.int x4)] [.int y0] h Q := by
  refine g_call rfl (y := 452) (n := 1) (pc' := 43) (fun _ => rfl) rfl rfl ⟨(Nat.le_of_ble_eq_true rfl), (Nat.le_of_ble_eq_true rfl), (Nat.le_of_ble_eq_true rfl)⟩ rfl (gm_G.mono H (pV_elim (fun h1 H' => ?_) (fun e20 h21 H => ?_)))
  · show gm_G _ 43 _ _ _ _
    replace H := H'
    clear H'
    refine g_aload (r := some _) rfl rfl rfl (pc' := 44) ?_
    refine g_iload rfl rfl rfl (pc' := 45) ?_
    obtain ⟨ht2, H⟩ := H
    refine g_call rfl (y := 488) (n := 2) (pc' := 48) (g_vt ht2 rfl rfl) rfl rfl ⟨(Nat.le_of_ble_eq_true rfl), (Nat.le_of_ble_eq_true rfl), (Nat.le_of_ble_eq_true rfl)⟩ rfl (gm_G.mono H (pR_elim (fun r4 h3 H' => ?_) (fun e18 h19 H => ?_)))
    · show gm_G _ 48 _ _ _ _
      replace H := H'
      clear H'
      refine g_astore (r := _) rfl rfl rfl (pc' := 50) ?_
      refine g_aload (r := _) rfl rfl rfl (pc' := 52) ?_
      obtain ⟨a5, rfl, H⟩ := H
      obtain ⟨ht6, H⟩ := H
      refine g_getRv rfl rfl rfl rfl ht6 (pc' := 55) rfl (fun r7 hr7 => ?_)
      replace H := H r7 hr7
      refine g_iload rfl rfl rfl (pc' := 56) ?_
      refine g_call rfl (y := 448) (n := 2) (pc' := 59) (fun _ => rfl) (by cases r7 <;> rfl) rfl ⟨(Nat.le_of_ble_eq_true rfl), (Nat.le_of_ble_eq_true rfl), (Nat.le_of_ble_eq_true rfl)⟩ rfl (gm_G.mono H (pR_elim (fun r9 h8 H' => ?_) (fun e16 h17 H => ?_)))
      · show gm_G _ 59 _ _ _ _
        replace H := H'
        clear H'
        refine g_astore (r := _) rfl rfl rfl (pc' := 61) ?_
        refine g_aload (r := some _) rfl rfl rfl (pc' := 62) ?_
        refine g_aload (r := _) rfl rfl rfl (pc' := 64) ?_
        obtain ⟨ht10, H⟩ := H
        refine g_call rfl (y := 9) (n := 2) (pc' := 67) (g_vt ht10 rfl rfl) (by cases r9 <;> rfl) rfl ⟨(Nat.le_of_ble_eq_true rfl), (Nat.le_of_ble_eq_true rfl), (Nat.le_of_ble_eq_true rfl)⟩ rfl (gm_G.mono H (pI_elim (fun v12 h11 H' => ?_) (fun e14 h15 H => ?_)))
        · show gm_G _ 67 _ _ _ _
          replace H := H'
          clear H'
          refine g_if_eq rfl (pc' := 70) (pt := 111) rfl rfl ⟨fun hc => ?_, fun hc => ?_⟩
          · replace H := H.1 hc
            exact g_weak (show gm_Lle [some _, none, some _, some _, some _, some _] _ from ⟨rfl, ⟨rfl, ⟨rfl, ⟨rfl, ⟨rfl, trivial⟩⟩⟩⟩⟩) H
          · replace H := H.2 hc
            refine g_iload rfl rfl rfl (pc' := 71) ?_
            refine g_iconst rfl rfl rfl (pc' := 72) ?_
            refine g_ic_ne rfl (pc' := 75) (pt := 82) rfl rfl ⟨fun hc => ?_, fun hc => ?_⟩
            · replace H := H.1 hc
              exact g_weak (show gm_Lle [some _, none, some _, some _, some _, some _] _ from ⟨rfl, ⟨rfl, ⟨rfl, ⟨rfl, ⟨rfl, trivial⟩⟩⟩⟩⟩) H
            · replace H := H.2 hc
              refine g_aload (r := some _) rfl rfl rfl (pc' := 76) ?_
              obtain ⟨ht13, H⟩ := H
              refine g_getI rfl rfl rfl rfl ht13 (pc' := 79) rfl ?_
              refine g_if_ne rfl (pc' := 82) (pt := 111) rfl rfl ⟨fun hc => ?_, fun hc => ?_⟩
              · replace H := H.1 hc
                exact g_weak (show gm_Lle [some _, none, some _, some _, some _, some _] _ from ⟨rfl, ⟨rfl, ⟨rfl, ⟨rfl, ⟨rfl, trivial⟩⟩⟩⟩⟩) H
              · replace H := H.2 hc
                exact g_weak (show gm_Lle [some _, none, some _, some _, some _, some _] _ from ⟨rfl, ⟨rfl, ⟨rfl, ⟨rfl, ⟨rfl, trivial⟩⟩⟩⟩⟩) H
        · exact ⟨H.1, g_weak (show gm_Lle [some _] _ from ⟨rfl, trivial⟩) H.2⟩
      · exact ⟨H.1, g_weak (show gm_Lle [some _] _ from ⟨rfl, trivial⟩) H.2⟩
    · exact ⟨H.1, g_weak (show gm_Lle [some _] _ from ⟨rfl, trivial⟩) H.2⟩
  · exact ⟨H.1, g_weak (show gm_Lle [some _] _ from ⟨rfl, trivial⟩) H.2⟩
set_option maxRecDepth 20000 in
theorem w_606_82 {a0 : Nat} {x2 : Int32} {x3 : Int32} {x4 : Int32} {r_5 : Option Nat} {h : hh_T} {Q : Option Value ⊕ Nat → hh_T → Prop} (H : (¬ x3 = (Int32.ofNat 3) → (gm_G 606 107 [some (.ref a0), none, some (.int x2), some (.int x3), some (.int x4), some (va_rf r_5)] [] h Q)) ∧ (x3 = (Int32.ofNat 3) → (gm_sub (hh_tg h a0) 0 = true ∧ (((hh_i h a0 41) = Int32.ofNat 0 → (gm_G 606 107 [some (.ref a0), none, some (.int x2), some (.int x3), some (.int x4), some (va_rf r_5)] [] h Q)) ∧ (¬ (hh_i h a0 41) = Int32.ofNat 0 → (hh_tg h a0 = 1 ∧ (gm_G 8 0 [some (.ref a0), some (.int (hh_i h a0 41)), some (.int x4)] [] h (pI (fun v4 h3 => (v4 = Int32.ofNat 0 → (gm_G 606 111 [some (.ref a0), none, some (.int x2), some (.int x3), some (.int x4), some (va_rf r_5)] [] h3 Q)) ∧ (¬ v4 = Int32.ofNat 0 → (gm_G 606 107 [some (.ref a0), none, some (.int x2), some (.int x3), some (.int x4), some (va_rf r_5)] [] h3 Q))) (fun e5 h6 => hh_tg h6 e5 = 21 ∧ gm_G 606 153 [some (.ref a0)] [.ref e5] h6 Q))))))))) : gm_G 606 82 [some (.ref a0), none, some (.int x2), some (.int x3), some (.int x4), some (va_rf r_5)] [] h Q := by
  refine g_iload rfl rfl rfl (pc' := 83) ?_
  refine g_iconst rfl rfl rfl (pc' := 84) ?_
  refine g_ic_ne rfl (pc' := 87) (pt := 107) rfl rfl ⟨fun hc => ?_, fun hc => ?_⟩
  · replace H := H.1 hc
    exact g_weak (show gm_Lle [some _, none, some _, some _, some _, some _] _ from ⟨rfl, ⟨rfl, ⟨rfl, ⟨rfl, ⟨rfl, trivial⟩⟩⟩⟩⟩) H
  · replace H := H.2 hc
    refine g_aload (r := some _) rfl rfl rfl (pc' := 88) ?_
    obtain ⟨ht1, H⟩ := H
    refine g_getI rfl rfl rfl rfl ht1 (pc' := 91) rfl ?_
    refine g_if_eq rfl (pc' := 94) (pt := 107) rfl rfl ⟨fun hc => ?_, fun hc => ?_⟩
    · replace H := H.1 hc
      exact g_weak (show gm_Lle [some _, none, some _, some _, some _, some _] _ from ⟨rfl, ⟨rfl, ⟨rfl, ⟨rfl, ⟨rfl, trivial⟩⟩⟩⟩⟩) H
    · replace H := H.2 hc
      refine g_aload (r := some _) rfl rfl rfl (pc' := 95) ?_
      refine g_aload (r := some _) rfl rfl rfl (pc' := 96) ?_
      refine g_getI rfl rfl rfl rfl ht1 (pc' := 99) rfl ?_
      refine g_iload rfl rfl rfl (pc' := 101) ?_
      obtain ⟨ht2, H⟩ := H
      refine g_call rfl (y := 8) (n := 3) (pc' := 104) (g_vt ht2 rfl rfl) rfl rfl ⟨(Nat.le_of_ble_eq_true rfl), (Nat.le_of_ble_eq_true rfl), (Nat.le_of_ble_eq_true rfl)⟩ rfl (gm_G.mono H (pI_elim (fun v4 h3 H' => ?_) (fun e5 h6 H => ?_)))
      · show gm_G _ 104 _ _ _ _
        replace H := H'
        clear H'
        refine g_if_eq rfl (pc' := 107) (pt := 111) rfl rfl ⟨fun hc => ?_, fun hc => ?_⟩
        · replace H := H.1 hc
          exact g_weak (show gm_Lle [some _, none, some _, some _, some _, some _] _ from ⟨rfl, ⟨rfl, ⟨rfl, ⟨rfl, ⟨rfl, trivial⟩⟩⟩⟩⟩) H
        · replace H := H.2 hc
          exact g_weak (show gm_Lle [some _, none, some _, some _, some _, some _] _ from ⟨rfl, ⟨rfl, ⟨rfl, ⟨rfl, ⟨rfl, trivial⟩⟩⟩⟩⟩) H
      · exact ⟨H.1, g_weak (show gm_Lle [some _] _ from ⟨rfl, trivial⟩) H.2⟩
set_option maxRecDepth 20000 in
theorem w_606_107 {a0 : Nat} {x2 : Int32} {x3 : Int32} {x4 : Int32} {r_5 : Option Nat} {h : hh_T} {Q : Option Value ⊕ Nat → hh_T → Prop} (H : gm_G 606 112 [some (.ref a0), none, some (.int x2), some (.int x3), some (.int x4), some (va_rf r_5)] [.int (Int32.ofNat 1)] h Q) : gm_G 606 107 [some (.ref a0), none, some (.int x2), some (.int x3), some (.int x4), some (va_rf r_5)] [] h Q := by
  refine g_iconst rfl rfl rfl (pc' := 108) ?_
  refine g_goto rfl (pc' := 112) rfl ?_
  exact g_weak (show gm_Lle [some _, none, some _, some _, some _, some _] _ from ⟨rfl, ⟨rfl, ⟨rfl, ⟨rfl, ⟨rfl, trivial⟩⟩⟩⟩⟩) H
set_option maxRecDepth 20000 in
theorem w_606_111 {a0 : Nat} {x2 : Int32} {x3 : Int32} {x4 : Int32} {r_5 : Option Nat} {h : hh_T} {Q : Option Value ⊕ Nat → hh_T → Prop} (H : gm_G 606 112 [some (.ref a0), none, some (.int x2), some (.int x3), some (.int x4), some (va_rf r_5)] [.int (Int32.ofNat 0)] h Q) : gm_G 606 111 [some (.ref a0), none, some (.int x2), some (.int x3), some (.int x4), some (va_rf r_5)] [] h Q := by
  refine g_iconst rfl rfl rfl (pc' := 112) ?_
  exact g_weak (show gm_Lle [some _, none, some _, some _, some _, some _] _ from ⟨rfl, ⟨rfl, ⟨rfl, ⟨rfl, ⟨rfl, trivial⟩⟩⟩⟩⟩) H
set_option maxRecDepth 20000 in
theorem w_606_112 {a0 : Nat} {x2 : Int32} {x3 : Int32} {x4 : Int32} {r_5 : Option Nat} {y0 : Int32} {h : hh_T} {Q : Option Value ⊕ Nat → hh_T → Prop} (H : gm_G 431 0 [some (.int y0), some (.int (Int32.ofInt (-6)))] [] h (pV (fun h1 => ∀ a2 h3, a2 = hh_sz h1 → h3 = hh_al h1 39 0 7 → (gm_G 327 0 [some (.ref a2), some (.ref a0), some (.int x2), some (.int x3), some (.int x4)] [] h3 (pV (fun h4 => hh_tg h4 a0 = 1 ∧ (gm_G 605 0 [some (.ref a0), some (va_rf r_5), some (.ref a2)] [] h4 (pV (fun h6 => gm_sub (hh_tg h6 a0) 0 = true ∧ (∀ r8, r8 = hh_r h6 a0 52 → (∃ a9, r8 = some a9 ∧ (hh_tg h6 a9 = 16 ∧ (gm_G 262 0 [some (.ref a9), some (va_rf r_5), some (.int (Int32.ofNat 6)), some (.int x2)] [] h6 (pV (fun h11 => gm_G 606 147 [some (.ref a0)] [] h11 Q) (fun e12 h13 => hh_tg h13 e12 = 21 ∧ gm_G 606 153 [some (.ref a0)] [.ref e12] h13 Q))))))) (fun e14 h15 => hh_tg h15 e14 = 21 ∧ gm_G 606 153 [some (.ref a0)] [.ref e14] h15 Q)))) (fun e16 h17 => hh_tg h17 e16 = 21 ∧ gm_G 606 153 [some (.ref a0)] [.ref e16] h17 Q)))) (fun e18 h19 => hh_tg h19 e18 = 21 ∧ gm_G 606 153 [some (.ref a0)] [.ref e18] h19 Q))) : gm_G 606 112 [some (.ref a0), none, some (.int x2), some (.int x3), some (.int x4), some (va_rf r_5)] [.int y0] h Q := by
  refine g_iconst rfl rfl rfl (pc' := 114) ?_
  refine g_call rfl (y := 431) (n := 2) (pc' := 117) (fun _ => rfl) rfl rfl ⟨(Nat.le_of_ble_eq_true rfl), (Nat.le_of_ble_eq_true rfl), (Nat.le_of_ble_eq_true rfl)⟩ rfl (gm_G.mono H (pV_elim (fun h1 H' => ?_) (fun e18 h19 H => ?_)))
  · show gm_G _ 117 _ _ _ _
    replace H := H'
    clear H'
    refine g_aload (r := some _) rfl rfl rfl (pc' := 118) ?_
    refine g_aload (r := _) rfl rfl rfl (pc' := 120) ?_
    refine g_new rfl (t := 39) (s := 7) rfl rfl (pc' := 123) rfl ?_
    replace H := H _ _ rfl rfl
    refine g_dup_a (r := some _) rfl rfl (pc' := 124) ?_
    refine g_aload (r := some _) rfl rfl rfl (pc' := 125) ?_
    refine g_iload rfl rfl rfl (pc' := 126) ?_
    refine g_iload rfl rfl rfl (pc' := 127) ?_
    refine g_iload rfl rfl rfl (pc' := 129) ?_
    refine g_call rfl (y := 327) (n := 5) (pc' := 132) (fun _ => rfl) rfl rfl ⟨(Nat.le_of_ble_eq_true rfl), (Nat.le_of_ble_eq_true rfl), (Nat.le_of_ble_eq_true rfl)⟩ rfl (gm_G.mono H (pV_elim (fun h4 H' => ?_) (fun e16 h17 H => ?_)))
    · show gm_G _ 132 _ _ _ _
      replace H := H'
      clear H'
      obtain ⟨ht5, H⟩ := H
      refine g_call rfl (y := 605) (n := 3) (pc' := 135) (g_vt ht5 rfl rfl) (by cases r_5 <;> rfl) rfl ⟨(Nat.le_of_ble_eq_true rfl), (Nat.le_of_ble_eq_true rfl), (Nat.le_of_ble_eq_true rfl)⟩ rfl (gm_G.mono H (pV_elim (fun h6 H' => ?_) (fun e14 h15 H => ?_)))
      · show gm_G _ 135 _ _ _ _
        replace H := H'
        clear H'
        refine g_aload (r := some _) rfl rfl rfl (pc' := 136) ?_
        obtain ⟨ht7, H⟩ := H
        refine g_getRv rfl rfl rfl rfl ht7 (pc' := 139) rfl (fun r8 hr8 => ?_)
        replace H := H r8 hr8
        refine g_aload (r := _) rfl rfl rfl (pc' := 141) ?_
        refine g_iconst rfl rfl rfl (pc' := 143) ?_
        refine g_iload rfl rfl rfl (pc' := 144) ?_
        obtain ⟨a9, rfl, H⟩ := H
        obtain ⟨ht10, H⟩ := H
        refine g_call rfl (y := 262) (n := 4) (pc' := 147) (g_vt ht10 rfl rfl) (by cases r_5 <;> rfl) rfl ⟨(Nat.le_of_ble_eq_true rfl), (Nat.le_of_ble_eq_true rfl), (Nat.le_of_ble_eq_true rfl)⟩ rfl (gm_G.mono H (pV_elim (fun h11 H' => ?_) (fun e12 h13 H => ?_)))
        · show gm_G _ 147 _ _ _ _
          replace H := H'
          clear H'
          exact g_weak (show gm_Lle [some _] _ from ⟨rfl, trivial⟩) H
        · exact ⟨H.1, g_weak (show gm_Lle [some _] _ from ⟨rfl, trivial⟩) H.2⟩
      · exact ⟨H.1, g_weak (show gm_Lle [some _] _ from ⟨rfl, trivial⟩) H.2⟩
    · exact ⟨H.1, g_weak (show gm_Lle [some _] _ from ⟨rfl, trivial⟩) H.2⟩
  · exact ⟨H.1, g_weak (show gm_Lle [some _] _ from ⟨rfl, trivial⟩) H.2⟩
set_option maxRecDepth 20000 in
theorem w_606_147 {a0 : Nat}  {h : hh_T} {Q : Option Value ⊕ Nat → hh_T → Prop} (H : hh_tg h a0 = 1 ∧ (gm_G 4 0 [some (.ref a0), some (.int (Int32.ofNat 0))] [] h (pI (fun v3 h2 => Q (.inl (some (.int v3))) h2) (fun e4 h5 => hh_tg h5 e4 = 21 ∧ gm_G 606 153 [some (.ref a0)] [.ref e4] h5 Q)))) : gm_G 606 147 [some (.ref a0)] [] h Q := by
  refine g_aload (r := some _) rfl rfl rfl (pc' := 148) ?_
  refine g_iconst rfl rfl rfl (pc' := 149) ?_
  obtain ⟨ht1, H⟩ := H
  refine g_call rfl (y := 4) (n := 2) (pc' := 152) (g_vt ht1 rfl rfl) rfl rfl ⟨(Nat.le_of_ble_eq_true rfl), (Nat.le_of_ble_eq_true rfl), (Nat.le_of_ble_eq_true rfl)⟩ rfl (gm_G.mono H (pI_elim (fun v3 h2 H' => ?_) (fun e4 h5 H => ?_)))
  · show gm_G _ 152 _ _ _ _
    replace H := H'
    clear H'
    exact g_ireturn rfl (Or.inl rfl) H
  · exact ⟨H.1, g_weak (show gm_Lle [some _] _ from ⟨rfl, trivial⟩) H.2⟩
set_option maxRecDepth 20000 in
theorem w_606_153 {a0 : Nat} {ex : Nat} {h : hh_T} {Q : Option Value ⊕ Nat → hh_T → Prop} (H : hh_tg h a0 = 1 ∧ (gm_G 1 0 [some (.ref a0), some (.ref ex)] [] h (pI (fun v3 h2 => Q (.inl (some (.int v3))) h2) (fun e4 h5 => hh_tg h5 e4 = 21 ∧ Q (.inr e4) h5)))) : gm_G 606 153 [some (.ref a0)] [.ref ex] h Q := by
  refine g_astore (r := some _) rfl rfl rfl (pc' := 155) ?_
  refine g_aload (r := some _) rfl rfl rfl (pc' := 156) ?_
  refine g_aload (r := some _) rfl rfl rfl (pc' := 158) ?_
  obtain ⟨ht1, H⟩ := H
  refine g_call rfl (y := 1) (n := 2) (pc' := 161) (g_vt ht1 rfl rfl) rfl rfl ⟨(Nat.le_of_ble_eq_true rfl), (Nat.le_of_ble_eq_true rfl), (Nat.le_of_ble_eq_true rfl)⟩ rfl (gm_G.mono H (pI_elim (fun v3 h2 H' => ?_) (fun e4 h5 H => ?_)))
  · show gm_G _ 161 _ _ _ _
    replace H := H'
    clear H'
    exact g_ireturn rfl (Or.inl rfl) H
  · exact H
set_option maxRecDepth 20000 in
theorem w_607_0 {a0 : Nat} {x1 : Int32} {x2 : Int32} {h : hh_T} {Q : Option Value ⊕ Nat → hh_T → Prop} (H : hh_tg h a0 = 1 ∧ (gm_G 456 0 [some (.ref a0)] [] h (pV (fun h2 => gm_G 493 0 [some (.int x1)] [] h2 (pV (fun h3 => gm_G 5 0 [some (.int x2), some (.int (Int32.ofNat 0)), some (.int (Int32.ofNat 256))] [] h3 (pI (fun v5 h4 => gm_G 452 0 [some (.int v5)] [] h4 (pV (fun h6 => hh_tg h6 a0 = 1 ∧ (gm_G 447 0 [some (.ref a0), some (.int x1)] [] h6 (pR (fun r9 h8 => gm_G 607 25 [some (.ref a0), none, some (.int x2), some (va_rf r9)] [] h8 Q) (fun e10 h11 => hh_tg h11 e10 = 21 ∧ gm_G 607 121 [some (.ref a0)] [.ref e10] h11 Q)))) (fun e12 h13 => hh_tg h13 e12 = 21 ∧ gm_G 607 121 [some (.ref a0)] [.ref e12] h13 Q))) (fun e14 h15 => hh_tg h15 e14 = 21 ∧ gm_G 607 121 [some (.ref a0)] [.ref e14] h15 Q))) (fun e16 h17 => hh_tg h17 e16 = 21 ∧ gm_G 607 121 [some (.ref a0)] [.ref e16] h17 Q))) (fun e18 h19 => hh_tg h19 e18 = 21 ∧ gm_G 607 121 [some (.ref a0)] [.ref e18] h19 Q)))) : gm_G 607 0 [some (.ref a0), some (.int x1), some (.int x2)] [] h Q := by
  refine g_aload (r := some _) rfl rfl rfl (pc' := 1) ?_
  obtain ⟨ht1, H⟩ := H
  refine g_call rfl (y := 456) (n := 1) (pc' := 4) (g_vt ht1 rfl rfl) rfl rfl ⟨(Nat.le_of_ble_eq_true rfl), (Nat.le_of_ble_eq_true rfl), (Nat.le_of_ble_eq_true rfl)⟩ rfl (gm_G.mono H (pV_elim (fun h2 H' => ?_) (fun e18 h19 H => ?_)))
  · show gm_G _ 4 _ _ _ _
    replace H := H'
    clear H'
    refine g_iload rfl rfl rfl (pc' := 5) ?_
    refine g_call rfl (y := 493) (n := 1) (pc' := 8) (fun _ => rfl) rfl rfl ⟨(Nat.le_of_ble_eq_true rfl), (Nat.le_of_ble_eq_true rfl), (Nat.le_of_ble_eq_true rfl)⟩ rfl (gm_G.mono H (pV_elim (fun h3 H' => ?_) (fun e16 h17 H => ?_)))
    · show gm_G _ 8 _ _ _ _
      replace H := H'
      clear H'
      refine g_iload rfl rfl rfl (pc' := 9) ?_
      refine g_iconst rfl rfl rfl (pc' := 10) ?_
      refine g_iconst rfl rfl rfl (pc' := 13) ?_
      refine g_call rfl (y := 5) (n := 3) (pc' := 16) (fun _ => rfl) rfl rfl ⟨(Nat.le_of_ble_eq_true rfl), (Nat.le_of_ble_eq_true rfl), (Nat.le_of_ble_eq_true rfl)⟩ rfl (gm_G.mono H (pI_elim (fun v5 h4 H' => ?_) (fun e14 h15 H => ?_)))
      · show gm_G _ 16 _ _ _ _
        replace H := H'
        clear H'
        refine g_call rfl (y := 452) (n := 1) (pc' := 19) (fun _ => rfl) rfl rfl ⟨(Nat.le_of_ble_eq_true rfl), (Nat.le_of_ble_eq_true rfl), (Nat.le_of_ble_eq_true rfl)⟩ rfl (gm_G.mono H (pV_elim (fun h6 H' => ?_) (fun e12 h13 H => ?_)))
        · show gm_G _ 19 _ _ _ _
          replace H := H'
          clear H'
          refine g_aload (r := some _) rfl rfl rfl (pc' := 20) ?_
          refine g_iload rfl rfl rfl (pc' := 21) ?_
          obtain ⟨ht7, H⟩ := H
          refine g_call rfl (y := 447) (n := 2) (pc' := 24) (g_vt ht7 rfl rfl) rfl rfl ⟨(Nat.le_of_ble_eq_true rfl), (Nat.le_of_ble_eq_true rfl), (Nat.le_of_ble_eq_true rfl)⟩ rfl (gm_G.mono H (pR_elim (fun r9 h8 H' => ?_) (fun e10 h11 H => ?_)))
          · show gm_G _ 24 _ _ _ _
            replace H := H'
            clear H'
            refine g_astore (r := _) rfl rfl rfl (pc' := 25) ?_
            exact g_weak (show gm_Lle [some _, none, some _, some _] _ from ⟨rfl, ⟨rfl, ⟨rfl, trivial⟩⟩⟩) H
          · exact ⟨H.1, g_weak (show gm_Lle [some _] _ from ⟨rfl, trivial⟩) H.2⟩
        · exact ⟨H.1, g_weak (show gm_Lle [some _] _ from ⟨rfl, trivial⟩) H.2⟩
      · exact ⟨H.1, g_weak (show gm_Lle [some _] _ from ⟨rfl, trivial⟩) H.2⟩
    · exact ⟨H.1, g_weak (show gm_Lle [some _] _ from ⟨rfl, trivial⟩) H.2⟩
  · exact ⟨H.1, g_weak (show gm_Lle [some _] _ from ⟨rfl, trivial⟩) H.2⟩
set_option maxRecDepth 20000 in
theorem w_607_25 {a0 : Nat} {x2 : Int32} {r_3 : Option Nat} {h : hh_T} {Q : Option Value ⊕ Nat → hh_T → Prop} (H : hh_tg h a0 = 1 ∧ (gm_G 458 0 [some (.ref a0), some (va_rf r_3)] [] h (pR (fun r3 h2 => hh_tg h2 a0 = 1 ∧ (gm_G 346 0 [some (.ref a0), some (va_rf r_3)] [] h2 (pR (fun r6 h5 => ∃ a7, r6 = some a7 ∧ (gm_sub (hh_tg h5 a7) 25 = true ∧ (gm_sub (hh_tg h5 a0) 0 = true ∧ (∀ r10, r10 = hh_r h5 a0 51 → (∃ a11, r10 = some a11 ∧ (hh_tg h5 a11 = 15 ∧ (gm_G 259 0 [some (.ref a11), some (va_rf r_3), some (.int (if (hh_i h5 a7 6) < x2 then (hh_i h5 a7 6) else x2)), some (.int (if x2 < (hh_i h5 a7 6) then (hh_i h5 a7 6) else x2)), some (.int (Int32.ofNat 1))] [] h5 (pI (fun v14 h13 => (¬ v14 = Int32.ofNat 0 → (gm_G 607 71 [some (.ref a0), none, some (.int x2), some (va_rf r_3), some (va_rf r3), some (.int (hh_i h5 a7 6))] [.int (Int32.ofNat 0)] h13 Q)) ∧ (v14 = Int32.ofNat 0 → (gm_G 607 66 [some (.ref a0), none, some (.int x2), some (va_rf r_3), some (va_rf r3), some (.int (hh_i h5 a7 6))] [] h13 Q))) (fun e15 h16 => hh_tg h16 e15 = 21 ∧ gm_G 607 121 [some (.ref a0)] [.ref e15] h16 Q))))))))) (fun e17 h18 => hh_tg h18 e17 = 21 ∧ gm_G 607 121 [some (.ref a0)] [.ref e17] h18 Q)))) (fun e19 h20 => hh_tg h20 e19 = 21 ∧ gm_G 607 121 [some (.ref a0)] [.ref e19] h20 Q)))) : gm_G 607 25 [some (.ref a0), none, some (.int x2), some (va_rf r_3)] [] h Q := by
  refine g_aload (r := some _) rfl rfl rfl (pc' := 26) ?_
  refine g_aload (r := _) rfl rfl rfl (pc' := 27) ?_
  obtain ⟨ht1, H⟩ := H
  refine g_call rfl (y := 458) (n := 2) (pc' := 30) (g_vt ht1 rfl rfl) (by cases r_3 <;> rfl) rfl ⟨(Nat.le_of_ble_eq_true rfl), (Nat.le_of_ble_eq_true rfl), (Nat.le_of_ble_eq_true rfl)⟩ rfl (gm_G.mono H (pR_elim (fun r3 h2 H' => ?_) (fun e19 h20 H => ?_)))
  · show gm_G _ 30 _ _ _ _
    replace H := H'
    clear H'
    refine g_astore (r := _) rfl gm_sto_rf3 rfl (pc' := 32) ?_
    refine g_aload (r := some _) rfl rfl rfl (pc' := 33) ?_
    refine g_aload (r := _) rfl rfl rfl (pc' := 34) ?_
    obtain ⟨ht4, H⟩ := H
    refine g_call rfl (y := 346) (n := 2) (pc' := 37) (g_vt ht4 rfl rfl) (by cases r_3 <;> rfl) rfl ⟨(Nat.le_of_ble_eq_true rfl), (Nat.le_of_ble_eq_true rfl), (Nat.le_of_ble_eq_true rfl)⟩ rfl (gm_G.mono H (pR_elim (fun r6 h5 H' => ?_) (fun e17 h18 H => ?_)))
    · show gm_G _ 37 _ _ _ _
      replace H := H'
      clear H'
      obtain ⟨a7, rfl, H⟩ := H
      obtain ⟨ht8, H⟩ := H
      refine g_getI rfl rfl rfl rfl ht8 (pc' := 40) rfl ?_
      refine g_istore rfl gm_sto_rf4 rfl (pc' := 42) ?_
      refine g_aload (r := some _) rfl rfl rfl (pc' := 43) ?_
      obtain ⟨ht9, H⟩ := H
      refine g_getRv rfl rfl rfl rfl ht9 (pc' := 46) rfl (fun r10 hr10 => ?_)
      replace H := H r10 hr10
      refine g_aload (r := _) rfl rfl rfl (pc' := 47) ?_
      refine g_iload rfl rfl rfl (pc' := 48) ?_
      refine g_iload rfl rfl rfl (pc' := 50) ?_
      refine g_dsub rfl (Nat.le_of_ble_eq_true rfl) rfl (pc' := 53) ?_
      refine g_iload rfl rfl rfl (pc' := 54) ?_
      refine g_iload rfl rfl rfl (pc' := 56) ?_
      refine g_dadd rfl (Nat.le_of_ble_eq_true rfl) rfl (pc' := 59) ?_
      refine g_iconst rfl rfl rfl (pc' := 60) ?_
      obtain ⟨a11, rfl, H⟩ := H
      obtain ⟨ht12, H⟩ := H
      refine g_call rfl (y := 259) (n := 5) (pc' := 63) (g_vt ht12 rfl rfl) (by cases r_3 <;> rfl) rfl ⟨(Nat.le_of_ble_eq_true rfl), (Nat.le_of_ble_eq_true rfl), (Nat.le_of_ble_eq_true rfl)⟩ rfl (gm_G.mono H (pI_elim (fun v14 h13 H' => ?_) (fun e15 h16 H => ?_)))
      · show gm_G _ 63 _ _ _ _
        replace H := H'
        clear H'
        refine g_if_ne rfl (pc' := 66) (pt := 70) rfl rfl ⟨fun hc => ?_, fun hc => ?_⟩
        · replace H := H.1 hc
          refine g_iconst rfl rfl rfl (pc' := 71) ?_
          exact g_weak (show gm_Lle [some _, none, some _, some _, some _, some _] _ from ⟨rfl, ⟨rfl, ⟨rfl, ⟨rfl, ⟨rfl, trivial⟩⟩⟩⟩⟩) H
        · replace H := H.2 hc
          exact g_weak (show gm_Lle [some _, none, some _, some _, some _, some _] _ from ⟨rfl, ⟨rfl, ⟨rfl, ⟨rfl, ⟨rfl, trivial⟩⟩⟩⟩⟩) H
      · exact ⟨H.1, g_weak (show gm_Lle [some _] _ from ⟨rfl, trivial⟩) H.2⟩
    · exact ⟨H.1, g_weak (show gm_Lle [some _] _ from ⟨rfl, trivial⟩) H.2⟩
  · exact ⟨H.1, g_weak (show gm_Lle [some _] _ from ⟨rfl, trivial⟩) H.2⟩
set_option maxRecDepth 20000 in
theorem w_607_66 {a0 : Nat} {x2 : Int32} {r_3 : Option Nat} {r_4 : Option Nat} {x5 : Int32} {h : hh_T} {Q : Option Value ⊕ Nat → hh_T → Prop} (H : gm_G 607 71 [some (.ref a0), none, some (.int x2), some (va_rf r_3), some (va_rf r_4), some (.int x5)] [.int (Int32.ofNat 1)] h Q) : gm_G 607 66 [some (.ref a0), none, some (.int x2), some (va_rf r_3), some (va_rf r_4), some (.int x5)] [] h Q := by
  refine g_iconst rfl rfl rfl (pc' := 67) ?_
  refine g_goto rfl (pc' := 71) rfl ?_
  exact g_weak (show gm_Lle [some _, none, some _, some _, some _, some _] _ from ⟨rfl, ⟨rfl, ⟨rfl, ⟨rfl, ⟨rfl, trivial⟩⟩⟩⟩⟩) H
set_option maxRecDepth 20000 in
theorem w_607_71 {a0 : Nat} {x2 : Int32} {r_3 : Option Nat} {r_4 : Option Nat} {x5 : Int32} {y0 : Int32} {h : hh_T} {Q : Option Value ⊕ Nat → hh_T → Prop} (H : gm_G 431 0 [some (.int y0), some (.int (Int32.ofInt (-5)))] [] h (pV (fun h1 => (x2 = x5 → (gm_G 607 115 [some (.ref a0)] [] h1 Q)) ∧ (¬ x2 = x5 → (∀ a2 h3, a2 = hh_sz h1 → h3 = hh_al h1 42 0 7 → (∃ a4, r_3 = some a4 ∧ (gm_sub (hh_tg h3 a4) 42 = true ∧ (gm_G 387 0 [some (.ref a2), some (.ref a0), some (.int (hh_i h3 a4 1)), some (.int x2)] [] h3 (pV (fun h6 => hh_tg h6 a0 = 1 ∧ (gm_G 605 0 [some (.ref a0), some (va_rf r_4), some (.ref a2)] [] h6 (pV (fun h8 => gm_sub (hh_tg h8 a0) 0 = true ∧ (∀ r10, r10 = hh_r h8 a0 52 → (gm_sub (hh_tg h8 a4) 42 = true ∧ (∃ a12, r10 = some a12 ∧ (hh_tg h8 a12 = 16 ∧ (gm_G 262 0 [some (.ref a12), some (va_rf r_4), some (.int (Int32.ofNat 5)), some (.int (hh_i h8 a4 1))] [] h8 (pV (fun h14 => gm_G 607 115 [some (.ref a0)] [] h14 Q) (fun e15 h16 => hh_tg h16 e15 = 21 ∧ gm_G 607 121 [some (.ref a0)] [.ref e15] h16 Q)))))))) (fun e17 h18 => hh_tg h18 e17 = 21 ∧ gm_G 607 121 [some (.ref a0)] [.ref e17] h18 Q)))) (fun e19 h20 => hh_tg h20 e19 = 21 ∧ gm_G 607 121 [some (.ref a0)] [.ref e19] h20 Q)))))))) (fun e21 h22 => hh_tg h22 e21 = 21 ∧ gm_G 607 121 [some (.ref a0)] [.ref e21] h22 Q))) : gm_G 607 71 [some (.ref a0), none, some (.int x2), some (va_rf r_3), some (va_rf r_4), some (.int x5)] [.int y0] h Q := by
  refine g_iconst rfl rfl rfl (pc' := 73) ?_
  refine g_call rfl (y := 431) (n := 2) (pc' := 76) (fun _ => rfl) rfl rfl ⟨(Nat.le_of_ble_eq_true rfl), (Nat.le_of_ble_eq_true rfl), (Nat.le_of_ble_eq_true rfl)⟩ rfl (gm_G.mono H (pV_elim (fun h1 H' => ?_) (fun e21 h22 H => ?_)))
  · show gm_G _ 76 _ _ _ _
    replace H := H'
    clear H'
    refine g_iload rfl rfl rfl (pc' := 77) ?_
    refine g_iload rfl rfl rfl (pc' := 79) ?_
    refine g_ic_eq rfl (pc' := 82) (pt := 115) rfl rfl ⟨fun hc => ?_, fun hc => ?_⟩
    · replace H := H.1 hc
      exact g_weak (show gm_Lle [some _] _ from ⟨rfl, trivial⟩) H
    · replace H := H.2 hc
      refine g_aload (r := some _) rfl rfl rfl (pc' := 83) ?_
      refine g_aload (r := _) rfl rfl rfl (pc' := 85) ?_
      refine g_new rfl (t := 42) (s := 7) rfl rfl (pc' := 88) rfl ?_
      replace H := H _ _ rfl rfl
      refine g_dup_a (r := some _) rfl rfl (pc' := 89) ?_
      refine g_aload (r := some _) rfl rfl rfl (pc' := 90) ?_
      refine g_aload (r := _) rfl rfl rfl (pc' := 91) ?_
      obtain ⟨a4, rfl, H⟩ := H
      obtain ⟨ht5, H⟩ := H
      refine g_getI rfl rfl rfl rfl ht5 (pc' := 94) rfl ?_
      refine g_iload rfl rfl rfl (pc' := 95) ?_
      refine g_call rfl (y := 387) (n := 4) (pc' := 98) (fun _ => rfl) rfl rfl ⟨(Nat.le_of_ble_eq_true rfl), (Nat.le_of_ble_eq_true rfl), (Nat.le_of_ble_eq_true rfl)⟩ rfl (gm_G.mono H (pV_elim (fun h6 H' => ?_) (fun e19 h20 H => ?_)))
      · show gm_G _ 98 _ _ _ _
        replace H := H'
        clear H'
        obtain ⟨ht7, H⟩ := H
        refine g_call rfl (y := 605) (n := 3) (pc' := 101) (g_vt ht7 rfl rfl) (by cases r_4 <;> rfl) rfl ⟨(Nat.le_of_ble_eq_true rfl), (Nat.le_of_ble_eq_true rfl), (Nat.le_of_ble_eq_true rfl)⟩ rfl (gm_G.mono H (pV_elim (fun h8 H' => ?_) (fun e17 h18 H => ?_)))
        · show gm_G _ 101 _ _ _ _
          replace H := H'
          clear H'
          refine g_aload (r := some _) rfl rfl rfl (pc' := 102) ?_
          obtain ⟨ht9, H⟩ := H
          refine g_getRv rfl rfl rfl rfl ht9 (pc' := 105) rfl (fun r10 hr10 => ?_)
          replace H := H r10 hr10
          refine g_aload (r := _) rfl rfl rfl (pc' := 107) ?_
          refine g_iconst rfl rfl rfl (pc' := 108) ?_
          refine g_aload (r := some _) rfl rfl rfl (pc' := 109) ?_
          obtain ⟨ht11, H⟩ := H
          refine g_getI rfl rfl rfl rfl ht11 (pc' := 112) rfl ?_
          obtain ⟨a12, rfl, H⟩ := H
          obtain ⟨ht13, H⟩ := H
          refine g_call rfl (y := 262) (n := 4) (pc' := 115) (g_vt ht13 rfl rfl) (by cases r_4 <;> rfl) rfl ⟨(Nat.le_of_ble_eq_true rfl), (Nat.le_of_ble_eq_true rfl), (Nat.le_of_ble_eq_true rfl)⟩ rfl (gm_G.mono H (pV_elim (fun h14 H' => ?_) (fun e15 h16 H => ?_)))
          · show gm_G _ 115 _ _ _ _
            replace H := H'
            clear H'
            exact g_weak (show gm_Lle [some _] _ from ⟨rfl, trivial⟩) H
          · exact ⟨H.1, g_weak (show gm_Lle [some _] _ from ⟨rfl, trivial⟩) H.2⟩
        · exact ⟨H.1, g_weak (show gm_Lle [some _] _ from ⟨rfl, trivial⟩) H.2⟩
      · exact ⟨H.1, g_weak (show gm_Lle [some _] _ from ⟨rfl, trivial⟩) H.2⟩
  · exact ⟨H.1, g_weak (show gm_Lle [some _] _ from ⟨rfl, trivial⟩) H.2⟩
