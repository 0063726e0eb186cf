/-! STAGE 2, 7: the component, label by label (printed) -/
set_option maxRecDepth 20000 in
theorem w_549_116 {a0 : Nat} {x4 : Int32} {x5 : Int32} {x6 : Int32} {h : hh_T} {Q : Option Value ⊕ Nat → hh_T → Prop} (H : gm_sub (hh_tg h a0) 0 = true ∧ (∀ r2, r2 = hh_r h a0 26 → (∃ a3, r2 = some a3 ∧ (gm_sub (hh_tg h a3) 12 = true ∧ ((((hh_i h a3 1) - (hh_i h a3 1) / (Int32.ofNat 8) * (Int32.ofNat 8)) = Int32.ofNat 0 → (∀ r5, r5 = hh_r h a0 26 → (∃ a6, r5 = some a6 ∧ (gm_sub (hh_tg h a6) 12 = true ∧ (∀ r8, r8 = hh_r h a0 26 → (∃ a9, r8 = some a9 ∧ (gm_sub (hh_tg h a9) 12 = true ∧ (∀ r11, r11 = hh_r h a9 0 → (∀ r12, r12 = hh_r h a0 26 → (∃ a13, r12 = some a13 ∧ (gm_sub (hh_tg h a13) 12 = true ∧ (gm_G 242 0 [some (va_rf r11), some (.int (hh_i h a13 1))] [] h (pL (fun v16 h15 => (x5 = Int32.ofNat 0 → (gm_G 549 227 [some (.ref a0), none, none, none, some (.int x4), some (.int x5), some (.int x6), some (.int ((hh_i h a6 1) / (Int32.ofNat 8))), some (.long v16)] [] h15 Q)) ∧ (¬ x5 = Int32.ofNat 0 → (gm_sub (hh_tg h15 a0) 0 = true ∧ (∀ r18, r18 = hh_r h15 a0 14 → (∀ r19, r19 = hh_r h15 a0 26 → (∃ a20, r19 = some a20 ∧ (gm_sub (hh_tg h15 a20) 12 = true ∧ (∀ r22, r22 = hh_r h15 a20 0 → (∃ a23, r18 = some a23 ∧ (hh_tg h15 a23 = 11 ∧ (gm_G 255 0 [some (.ref a23), some (.int x6), some (.int ((hh_i h a6 1) / (Int32.ofNat 8))), some (.long v16), none, some (va_rf r22)] [] h15 (pR (fun r26 h25 => (r26 = none → (gm_G 549 227 [some (.ref a0), none, none, none, some (.int x4), some (.int x5), some (.int x6), some (.int ((hh_i h a6 1) / (Int32.ofNat 8))), some (.long v16)] [] h25 Q)) ∧ (∀ a27, r26 = some a27 → (gm_sub (hh_tg h25 a27) 31 = true ∧ (∀ h29, h29 = hh_wi h25 a27 6 ((hh_i h25 a27 6) + (Int32.ofNat 1)) → (gm_sub (hh_tg h29 a0) 0 = true ∧ (∀ h31, h31 = hh_wi h29 a0 17 ((hh_i h29 a0 17) + (Int32.ofNat 1)) → (gm_G 549 224 [none, none, none, none, none, none, none, none, none, none, some (.ref a27)] [] h31 Q))))))) (fun e32 h33 => hh_tg h33 e32 = 21 ∧ Q (.inr e32) h33))))))))))))) (fun e34 h35 => hh_tg h35 e34 = 21 ∧ Q (.inr e34) h35)))))))))))))) ∧ (¬ ((hh_i h a3 1) - (hh_i h a3 1) / (Int32.ofNat 8) * (Int32.ofNat 8)) = Int32.ofNat 0 → (∀ r36, r36 = hh_r h a0 26 → (∃ a37, r36 = some a37 ∧ (hh_tg h a37 = 13 ∧ (gm_G 459 0 [some (.ref a37), some (.int (Int32.ofNat 0))] [] h (pV (fun h39 => gm_G 549 116 [some (.ref a0), none, none, none, some (.int x4), some (.int x5), some (.int x6)] [] h39 Q) (fun e40 h41 => hh_tg h41 e40 = 21 ∧ Q (.inr e40) h41)))))))))))) : gm_G 549 116 [some (.ref a0), none, none, none, some (.int x4), some (.int x5), some (.int x6)] [] h Q := by
  refine g_aload (r := some _) rfl rfl rfl (pc' := 117) ?_
  obtain ⟨ht1, H⟩ := H
  refine g_getRv rfl rfl rfl rfl ht1 (pc' := 120) rfl (fun r2 hr2 => ?_)
  replace H := H r2 hr2
  obtain ⟨a3, rfl, H⟩ := H
  obtain ⟨ht4, H⟩ := H
  refine g_getI rfl rfl rfl rfl ht4 (pc' := 123) rfl ?_
  refine g_iconst rfl rfl rfl (pc' := 125) ?_
  refine g_irem rfl (by decide) (pc' := 126) rfl ?_
  refine g_if_eq rfl (pc' := 129) (pt := 140) rfl rfl ⟨fun hc => ?_, fun hc => ?_⟩
  · replace H := H.1 hc
    refine g_aload (r := some _) rfl rfl rfl (pc' := 141) ?_
    refine g_getRv rfl rfl rfl rfl ht1 (pc' := 144) rfl (fun r5 hr5 => ?_)
    replace H := H r5 hr5
    obtain ⟨a6, rfl, H⟩ := H
    obtain ⟨ht7, H⟩ := H
    refine g_getI rfl rfl rfl rfl ht7 (pc' := 147) rfl ?_
    refine g_iconst rfl rfl rfl (pc' := 149) ?_
    refine g_idiv rfl (by decide) (pc' := 150) rfl ?_
    refine g_istore rfl rfl rfl (pc' := 152) ?_
    refine g_aload (r := some _) rfl rfl rfl (pc' := 153) ?_
    refine g_getRv rfl rfl rfl rfl ht1 (pc' := 156) rfl (fun r8 hr8 => ?_)
    replace H := H r8 hr8
    obtain ⟨a9, rfl, H⟩ := H
    obtain ⟨ht10, H⟩ := H
    refine g_getRv rfl rfl rfl rfl ht10 (pc' := 159) rfl (fun r11 hr11 => ?_)
    replace H := H r11 hr11
    refine g_aload (r := some _) rfl rfl rfl (pc' := 160) ?_
    refine g_getRv rfl rfl rfl rfl ht1 (pc' := 163) rfl (fun r12 hr12 => ?_)
    replace H := H r12 hr12
    obtain ⟨a13, rfl, H⟩ := H
    obtain ⟨ht14, H⟩ := H
    refine g_getI rfl rfl rfl rfl ht14 (pc' := 166) rfl ?_
    refine g_call rfl (y := 242) (n := 2) (pc' := 169) (fun _ => rfl) (by cases r11 <;> rfl) rfl ⟨(Nat.le_of_ble_eq_true rfl), (Nat.le_of_ble_eq_true rfl), (Nat.le_of_ble_eq_true rfl)⟩ rfl (gm_G.mono H (pL_elim (fun v16 h15 H' => ?_) (fun e34 h35 H => ?_)))
    · show gm_G _ 169 _ _ _ _
      replace H := H'
      clear H'
      refine g_lstore rfl rfl rfl (pc' := 171) ?_
      refine g_iload rfl rfl rfl (pc' := 173) ?_
      refine g_if_eq rfl (pc' := 176) (pt := 227) rfl rfl ⟨fun hc => ?_, fun hc => ?_⟩
      · replace H := H.1 hc
        exact g_weak (show gm_Lle [some _, none, none, none, some _, some _, some _, some _, some _] _ from ⟨rfl, ⟨rfl, ⟨rfl, ⟨rfl, ⟨rfl, ⟨rfl, trivial⟩⟩⟩⟩⟩⟩) H
      · replace H := H.2 hc
        refine g_aload (r := some _) rfl rfl rfl (pc' := 177) ?_
        obtain ⟨ht17, H⟩ := H
        refine g_getRv rfl rfl rfl rfl ht17 (pc' := 180) rfl (fun r18 hr18 => ?_)
        replace H := H r18 hr18
        refine g_iload rfl rfl rfl (pc' := 182) ?_
        refine g_iload rfl rfl rfl (pc' := 184) ?_
        refine g_lload rfl rfl rfl (pc' := 186) ?_
        refine g_aload (r := some _) rfl rfl rfl (pc' := 187) ?_
        refine g_getRv rfl rfl rfl rfl ht17 (pc' := 190) rfl (fun r19 hr19 => ?_)
        replace H := H r19 hr19
        obtain ⟨a20, rfl, H⟩ := H
        obtain ⟨ht21, H⟩ := H
        refine g_getRv rfl rfl rfl rfl ht21 (pc' := 193) rfl (fun r22 hr22 => ?_)
        replace H := H r22 hr22
        obtain ⟨a23, rfl, H⟩ := H
        obtain ⟨ht24, H⟩ := H
        refine g_call rfl (y := 255) (n := 5) (pc' := 196) (g_vt ht24 rfl rfl) (by cases r22 <;> rfl) rfl ⟨(Nat.le_of_ble_eq_true rfl), (Nat.le_of_ble_eq_true rfl), (Nat.le_of_ble_eq_true rfl)⟩ rfl (gm_G.mono H (pR_elim (fun r26 h25 H' => ?_) (fun e32 h33 H => ?_)))
        · show gm_G _ 196 _ _ _ _
          replace H := H'
          clear H'
          refine g_astore (r := _) rfl rfl rfl (pc' := 198) ?_
          refine g_aload (r := _) rfl rfl rfl (pc' := 200) ?_
          refine g_ifnull rfl (pc' := 203) (pt := 227) rfl rfl ⟨fun hc => ?_, fun a27 hc => ?_⟩
          · replace H := H.1 hc
            subst hc
            exact g_weak (show gm_Lle [some _, none, none, none, some _, some _, some _, some _, some _] _ from ⟨rfl, ⟨rfl, ⟨rfl, ⟨rfl, ⟨rfl, ⟨rfl, trivial⟩⟩⟩⟩⟩⟩) H
          · replace H := H.2 a27 hc
            subst hc
            refine g_aload (r := some _) rfl rfl rfl (pc' := 205) ?_
            refine g_dup_a (r := some _) rfl rfl (pc' := 206) ?_
            obtain ⟨ht28, H⟩ := H
            refine g_getI rfl rfl rfl rfl ht28 (pc' := 209) rfl ?_
            refine g_iconst rfl rfl rfl (pc' := 210) ?_
            refine g_iadd rfl rfl (pc' := 211) ?_
            refine g_putI rfl rfl rfl rfl ht28  (pc' := 214) rfl ?_
            replace H := H _ rfl
            refine g_aload (r := some _) rfl rfl rfl (pc' := 215) ?_
            refine g_dup_a (r := some _) rfl rfl (pc' := 216) ?_
            obtain ⟨ht30, H⟩ := H
            refine g_getI rfl rfl rfl rfl ht30 (pc' := 219) rfl ?_
            refine g_iconst rfl rfl rfl (pc' := 220) ?_
            refine g_iadd rfl rfl (pc' := 221) ?_
            refine g_putI rfl rfl rfl rfl ht30  (pc' := 224) rfl ?_
            replace H := H _ rfl
            exact g_weak (show gm_Lle [none, none, none, none, none, none, none, none, none, none, some _] _ from ⟨rfl, trivial⟩) H
        · exact H
    · exact H
  · replace H := H.2 hc
    refine g_aload (r := some _) rfl rfl rfl (pc' := 130) ?_
    refine g_getRv rfl rfl rfl rfl ht1 (pc' := 133) rfl (fun r36 hr36 => ?_)
    replace H := H r36 hr36
    refine g_iconst rfl rfl rfl (pc' := 134) ?_
    obtain ⟨a37, rfl, H⟩ := H
    obtain ⟨ht38, H⟩ := H
    refine g_call rfl (y := 459) (n := 2) (pc' := 137) (g_vt ht38 rfl rfl) rfl rfl ⟨(Nat.le_of_ble_eq_true rfl), (Nat.le_of_ble_eq_true rfl), (Nat.le_of_ble_eq_true rfl)⟩ rfl (gm_G.mono H (pV_elim (fun h39 H' => ?_) (fun e40 h41 H => ?_)))
    · show gm_G _ 137 _ _ _ _
      replace H := H'
      clear H'
      refine g_goto rfl (pc' := 116) rfl ?_
      exact g_weak (show gm_Lle [some _, none, none, none, some _, some _, some _] _ from ⟨rfl, ⟨rfl, ⟨rfl, ⟨rfl, trivial⟩⟩⟩⟩) H
    · exact H
set_option maxRecDepth 20000 in
theorem w_549_224 {a0 : Nat} {r_10 : Option Nat} {h : hh_T} {Q : Option Value ⊕ Nat → hh_T → Prop} (H : Q (.inl (some (va_rf r_10))) h) : gm_G 549 224 [none, none, none, none, none, none, none, none, none, none, some (va_rf r_10)] [] h Q := by
  refine g_aload (r := _) rfl rfl rfl (pc' := 226) ?_
  exact g_areturn (r := _) rfl H
set_option maxRecDepth 20000 in
theorem w_549_227 {a0 : Nat} {x4 : Int32} {x5 : Int32} {x6 : Int32} {x7 : Int32} {j8 : Int64} {h : hh_T} {Q : Option Value ⊕ Nat → hh_T → Prop} (H : gm_sub (hh_tg h a0) 0 = true ∧ (∀ r2, r2 = hh_r h a0 30 → ((∀ a3, r2 = some a3 → (gm_sub (hh_tg h a3) 31 = true ∧ (∀ r5, r5 = hh_r h a3 9 → (∀ h6, h6 = hh_wr h a0 30 r5 → (gm_G 549 259 [some (.ref a0), none, none, none, some (.int x4), some (.int x5), some (.int x6), some (.int x7), some (.long j8), none, some (.ref a3)] [] h6 Q))))) ∧ (r2 = none → (∀ a7 h8, a7 = hh_sz h → h8 = hh_al h 32 0 14 → (gm_G 203 0 [some (.ref a7)] [] h8 (pV (fun h9 => gm_G 549 259 [some (.ref a0), none, none, none, some (.int x4), some (.int x5), some (.int x6), some (.int x7), some (.long j8), none, some (.ref a7)] [] h9 Q) (fun e10 h11 => hh_tg h11 e10 = 21 ∧ Q (.inr e10) h11)))))))) : gm_G 549 227 [some (.ref a0), none, none, none, some (.int x4), some (.int x5), some (.int x6), some (.int x7), some (.long j8)] [] h Q := by
  refine g_aload (r := some _) rfl rfl rfl (pc' := 228) ?_
  obtain ⟨ht1, H⟩ := H
  refine g_getRv rfl rfl rfl rfl ht1 (pc' := 231) rfl (fun r2 hr2 => ?_)
  replace H := H r2 hr2
  refine g_astore (r := _) rfl rfl rfl (pc' := 233) ?_
  refine g_aload (r := _) rfl rfl rfl (pc' := 235) ?_
  refine g_ifnonnull rfl (pc' := 238) (pt := 250) rfl rfl ⟨fun a3 hc => ?_, fun hc => ?_⟩
  · replace H := H.1 a3 hc
    subst hc
    refine g_aload (r := some _) rfl rfl rfl (pc' := 251) ?_
    refine g_aload (r := some _) rfl rfl rfl (pc' := 253) ?_
    obtain ⟨ht4, H⟩ := H
    refine g_getRv rfl rfl rfl rfl ht4 (pc' := 256) rfl (fun r5 hr5 => ?_)
    replace H := H r5 hr5
    refine g_putR rfl rfl rfl rfl ht1  (pc' := 259) rfl ?_
    replace H := H _ rfl
    exact g_weak (show gm_Lle [some _, none, none, none, some _, some _, some _, some _, some _, none, some _] _ from ⟨rfl, ⟨rfl, ⟨rfl, ⟨rfl, ⟨rfl, ⟨rfl, ⟨rfl, trivial⟩⟩⟩⟩⟩⟩⟩) H
  · replace H := H.2 hc
    subst hc
    refine g_new rfl (t := 32) (s := 14) rfl rfl (pc' := 241) rfl ?_
    replace H := H _ _ rfl rfl
    refine g_dup_a (r := some _) rfl rfl (pc' := 242) ?_
    refine g_call rfl (y := 203) (n := 1) (pc' := 245) (fun _ => rfl) rfl rfl ⟨(Nat.le_of_ble_eq_true rfl), (Nat.le_of_ble_eq_true rfl), (Nat.le_of_ble_eq_true rfl)⟩ rfl (gm_G.mono H (pV_elim (fun h9 H' => ?_) (fun e10 h11 H => ?_)))
    · show gm_G _ 245 _ _ _ _
      replace H := H'
      clear H'
      refine g_astore (r := some _) rfl rfl rfl (pc' := 247) ?_
      refine g_goto rfl (pc' := 259) rfl ?_
      exact g_weak (show gm_Lle [some _, none, none, none, some _, some _, some _, some _, some _, none, some _] _ from ⟨rfl, ⟨rfl, ⟨rfl, ⟨rfl, ⟨rfl, ⟨rfl, ⟨rfl, trivial⟩⟩⟩⟩⟩⟩⟩) H
    · exact H
set_option maxRecDepth 20000 in
theorem w_549_259 {a0 : Nat} {x4 : Int32} {x5 : Int32} {x6 : Int32} {x7 : Int32} {j8 : Int64} {r_10 : Option Nat} {h : hh_T} {Q : Option Value ⊕ Nat → hh_T → Prop} (H : ∃ a1, r_10 = some a1 ∧ (gm_sub (hh_tg h a1) 31 = true ∧ (∀ h3, h3 = hh_wr h a1 9 none → (∀ h4, h4 = hh_wi h3 a1 2 (Int32.ofNat 0) → (∀ h5, h5 = hh_wi h4 a1 7 (Int32.ofNat 0) → (∀ h6, h6 = hh_wi h5 a1 0 x6 → (∀ h7, h7 = hh_wi h6 a1 1 x7 → (gm_G 549 291 [some (.ref a0), none, none, none, some (.int x4), some (.int x5), none, some (.int x7), some (.long j8), none, some (.ref a1)] [] h7 Q)))))))) : gm_G 549 259 [some (.ref a0), none, none, none, some (.int x4), some (.int x5), some (.int x6), some (.int x7), some (.long j8), none, some (va_rf r_10)] [] h Q := by
  refine g_aload (r := _) rfl rfl rfl (pc' := 261) ?_
  refine g_null rfl rfl (pc' := 262) ?_
  obtain ⟨a1, rfl, H⟩ := H
  obtain ⟨ht2, H⟩ := H
  refine g_putR rfl rfl rfl rfl ht2  (pc' := 265) rfl ?_
  replace H := H _ rfl
  refine g_aload (r := some _) rfl rfl rfl (pc' := 267) ?_
  refine g_iconst rfl rfl rfl (pc' := 268) ?_
  refine g_putI rfl rfl rfl rfl ht2  (pc' := 271) rfl ?_
  replace H := H _ rfl
  refine g_aload (r := some _) rfl rfl rfl (pc' := 273) ?_
  refine g_iconst rfl rfl rfl (pc' := 274) ?_
  refine g_putZ rfl rfl rfl rfl ht2 (by decide) (pc' := 277) rfl ?_
  replace H := H _ rfl
  refine g_aload (r := some _) rfl rfl rfl (pc' := 279) ?_
  refine g_iload rfl rfl rfl (pc' := 281) ?_
  refine g_putI rfl rfl rfl rfl ht2  (pc' := 284) rfl ?_
  replace H := H _ rfl
  refine g_aload (r := some _) rfl rfl rfl (pc' := 286) ?_
  refine g_iload rfl rfl rfl (pc' := 288) ?_
  refine g_putI rfl rfl rfl rfl ht2  (pc' := 291) rfl ?_
  replace H := H _ rfl
  exact g_weak (show gm_Lle [some _, none, none, none, some _, some _, none, some _, some _, none, some _] _ from ⟨rfl, ⟨rfl, ⟨rfl, ⟨rfl, ⟨rfl, ⟨rfl, trivial⟩⟩⟩⟩⟩⟩) H
set_option maxRecDepth 20000 in
theorem w_549_291 {a0 : Nat} {x4 : Int32} {x5 : Int32} {x7 : Int32} {j8 : Int64} {r_10 : Option Nat} {h : hh_T} {Q : Option Value ⊕ Nat → hh_T → Prop} (H : ∃ a1, r_10 = some a1 ∧ (gm_sub (hh_tg h a1) 31 = true ∧ (∀ h3, h3 = hh_wj h a1 3 j8 → (gm_G 549 301 [some (.ref a0), none, none, none, some (.int x4), some (.int x5), none, some (.int x7), none, none, some (.ref a1), some (.int (Int32.ofNat 0))] [] h3 Q)))) : gm_G 549 291 [some (.ref a0), none, none, none, some (.int x4), some (.int x5), none, some (.int x7), some (.long j8), none, some (va_rf r_10)] [] h Q := by
  refine g_aload (r := _) rfl rfl rfl (pc' := 293) ?_
  refine g_lload rfl rfl rfl (pc' := 295) ?_
  obtain ⟨a1, rfl, H⟩ := H
  obtain ⟨ht2, H⟩ := H
  refine g_putJ rfl rfl rfl rfl ht2  (pc' := 298) rfl ?_
  replace H := H _ rfl
  refine g_iconst rfl rfl rfl (pc' := 299) ?_
  refine g_istore rfl rfl rfl (pc' := 301) ?_
  exact g_weak (show gm_Lle [some _, none, none, none, some _, some _, none, some _, none, none, some _, some _] _ from ⟨rfl, ⟨rfl, ⟨rfl, ⟨rfl, ⟨rfl, ⟨rfl, trivial⟩⟩⟩⟩⟩⟩) H
set_option maxRecDepth 20000 in
theorem w_549_301 {a0 : Nat} {x4 : Int32} {x5 : Int32} {x7 : Int32} {r_10 : Option Nat} {x11 : Int32} {h : hh_T} {Q : Option Value ⊕ Nat → hh_T → Prop} (H : (¬ x11 < x4 → (∃ a1, r_10 = some a1 ∧ (gm_sub (hh_tg h a1) 31 = true ∧ (∀ h3, h3 = hh_wi h a1 6 (Int32.ofNat 1) → (gm_sub (hh_tg h3 a0) 0 = true ∧ (∀ h5, h5 = hh_wi h3 a0 15 ((hh_i h3 a0 15) + (Int32.ofNat 1)) → ((x5 = Int32.ofNat 0 → (gm_G 549 548 [some (.ref a0), none, none, none, none, none, none, none, none, none, some (.ref a1)] [] h5 Q)) ∧ (¬ x5 = Int32.ofNat 0 → (∀ h6, h6 = hh_wi h5 a1 7 (Int32.ofNat 1) → (∀ r7, r7 = hh_r h6 a1 8 → ((∀ a8, r7 = some a8 → (gm_G 549 500 [some (.ref a0), none, none, none, none, none, none, none, none, none, some (.ref a1)] [] h6 Q)) ∧ (r7 = none → (∀ a9 h10, a9 = hh_sz h6 → h10 = hh_al h6 101 32 32 → (gm_sub (hh_tg h10 a1) 31 = true ∧ (∀ h12, h12 = hh_wr h10 a1 8 (some a9) → (gm_G 549 500 [some (.ref a0), none, none, none, none, none, none, none, none, none, some (.ref a1)] [] h12 Q)))))))))))))))) ∧ (x11 < x4 → (hh_tg h a0 = 1 ∧ (gm_G 348 0 [some (.ref a0), some (va_rf r_10), some (.int x7), some (.int (Int32.ofNat 1))] [] h (pR (fun r15 h14 => (∀ a16, r15 = some a16 → (gm_G 549 340 [some (.ref a0), none, none, none, some (.int x4), some (.int x5), none, some (.int x7), none, none, some (va_rf r_10), some (.int x11), some (.ref a16)] [] h14 Q)) ∧ (r15 = none → ((¬ Int32.ofNat 0 < x11 → (gm_G 549 340 [some (.ref a0), none, none, none, some (.int x4), some (.int x5), none, some (.int x7), none, none, some (va_rf r_10), some (.int x11), some (va_rf none)] [] h14 Q)) ∧ (Int32.ofNat 0 < x11 → (hh_tg h14 a0 = 1 ∧ (gm_G 348 0 [some (.ref a0), some (va_rf r_10), some (.int x7), some (.int (Int32.ofNat 0))] [] h14 (pR (fun r19 h18 => gm_G 549 340 [some (.ref a0), none, none, none, some (.int x4), some (.int x5), none, some (.int x7), none, none, some (va_rf r_10), some (.int x11), some (va_rf r19)] [] h18 Q) (fun e20 h21 => hh_tg h21 e20 = 21 ∧ Q (.inr e20) h21)))))))) (fun e22 h23 => hh_tg h23 e22 = 21 ∧ Q (.inr e22) h23)))))) : gm_G 549 301 [some (.ref a0), none, none, none, some (.int x4), some (.int x5), none, some (.int x7), none, none, some (va_rf r_10), some (.int x11)] [] h Q := by
  refine g_iload rfl rfl rfl (pc' := 303) ?_
  refine g_iload rfl rfl rfl (pc' := 305) ?_
  refine g_ic_ge rfl (pc' := 308) (pt := 456) rfl rfl ⟨fun hc => ?_, fun hc => ?_⟩
  · replace H := H.1 hc
    refine g_aload (r := _) rfl rfl rfl (pc' := 458) ?_
    refine g_iconst rfl rfl rfl (pc' := 459) ?_
    obtain ⟨a1, rfl, H⟩ := H
    obtain ⟨ht2, H⟩ := H
    refine g_putI rfl rfl rfl rfl ht2  (pc' := 462) rfl ?_
    replace H := H _ rfl
    refine g_aload (r := some _) rfl rfl rfl (pc' := 463) ?_
    refine g_dup_a (r := some _) rfl rfl (pc' := 464) ?_
    obtain ⟨ht4, H⟩ := H
    refine g_getI rfl rfl rfl rfl ht4 (pc' := 467) rfl ?_
    refine g_iconst rfl rfl rfl (pc' := 468) ?_
    refine g_iadd rfl rfl (pc' := 469) ?_
    refine g_putI rfl rfl rfl rfl ht4  (pc' := 472) rfl ?_
    replace H := H _ rfl
    refine g_iload rfl rfl rfl (pc' := 474) ?_
    refine g_if_eq rfl (pc' := 477) (pt := 548) rfl rfl ⟨fun hc => ?_, fun hc => ?_⟩
    · replace H := H.1 hc
      exact g_weak (show gm_Lle [some _, none, none, none, none, none, none, none, none, none, some _] _ from ⟨rfl, ⟨rfl, trivial⟩⟩) H
    · replace H := H.2 hc
      refine g_aload (r := some _) rfl rfl rfl (pc' := 479) ?_
      refine g_iconst rfl rfl rfl (pc' := 480) ?_
      refine g_putZ rfl rfl rfl rfl ht2 (by decide) (pc' := 483) rfl ?_
      replace H := H _ rfl
      refine g_aload (r := some _) rfl rfl rfl (pc' := 485) ?_
      refine g_getRv rfl rfl rfl rfl ht2 (pc' := 488) rfl (fun r7 hr7 => ?_)
      replace H := H r7 hr7
      refine g_ifnonnull rfl (pc' := 491) (pt := 500) rfl rfl ⟨fun a8 hc => ?_, fun hc => ?_⟩
      · replace H := H.1 a8 hc
        subst hc
        exact g_weak (show gm_Lle [some _, none, none, none, none, none, none, none, none, none, some _] _ from ⟨rfl, ⟨rfl, trivial⟩⟩) H
      · replace H := H.2 hc
        subst hc
        refine g_aload (r := some _) rfl rfl rfl (pc' := 493) ?_
        refine g_iconst rfl rfl rfl (pc' := 495) ?_
        refine g_newarray rfl (u := 101) (n := 32) rfl (by decide) rfl (by decide) (pc' := 497) rfl ?_
        replace H := H _ _ rfl rfl
        obtain ⟨ht11, H⟩ := H
        refine g_putR (x := some _) rfl rfl rfl rfl ht11  (pc' := 500) rfl ?_
        replace H := H _ rfl
        exact g_weak (show gm_Lle [some _, none, none, none, none, none, none, none, none, none, some _] _ from ⟨rfl, ⟨rfl, trivial⟩⟩) H
  · replace H := H.2 hc
    refine g_aload (r := some _) rfl rfl rfl (pc' := 309) ?_
    refine g_aload (r := _) rfl rfl rfl (pc' := 311) ?_
    refine g_iload rfl rfl rfl (pc' := 313) ?_
    refine g_iconst rfl rfl rfl (pc' := 314) ?_
    obtain ⟨ht13, H⟩ := H
    refine g_call rfl (y := 348) (n := 4) (pc' := 317) (g_vt ht13 rfl rfl) (by cases r_10 <;> rfl) rfl ⟨(Nat.le_of_ble_eq_true rfl), (Nat.le_of_ble_eq_true rfl), (Nat.le_of_ble_eq_true rfl)⟩ rfl (gm_G.mono H (pR_elim (fun r15 h14 H' => ?_) (fun e22 h23 H => ?_)))
    · show gm_G _ 317 _ _ _ _
      replace H := H'
      clear H'
      refine g_astore (r := _) rfl rfl rfl (pc' := 319) ?_
      refine g_aload (r := _) rfl rfl rfl (pc' := 321) ?_
      refine g_ifnonnull rfl (pc' := 324) (pt := 340) rfl rfl ⟨fun a16 hc => ?_, fun hc => ?_⟩
      · replace H := H.1 a16 hc
        subst hc
        exact g_weak (show gm_Lle [some _, none, none, none, some _, some _, none, some _, none, none, some _, some _, some _] _ from ⟨rfl, ⟨rfl, ⟨rfl, ⟨rfl, ⟨rfl, ⟨rfl, ⟨rfl, trivial⟩⟩⟩⟩⟩⟩⟩) H
      · replace H := H.2 hc
        subst hc
        refine g_iload rfl rfl rfl (pc' := 326) ?_
        refine g_if_le rfl (pc' := 329) (pt := 340) rfl rfl ⟨fun hc => ?_, fun hc => ?_⟩
        · replace H := H.1 hc
          exact g_weak (show gm_Lle [some _, none, none, none, some _, some _, none, some _, none, none, some _, some _, some _] _ from ⟨rfl, ⟨rfl, ⟨rfl, ⟨rfl, ⟨rfl, ⟨rfl, ⟨rfl, trivial⟩⟩⟩⟩⟩⟩⟩) H
        · replace H := H.2 hc
          refine g_aload (r := some _) rfl rfl rfl (pc' := 330) ?_
          refine g_aload (r := _) rfl rfl rfl (pc' := 332) ?_
          refine g_iload rfl rfl rfl (pc' := 334) ?_
          refine g_iconst rfl rfl rfl (pc' := 335) ?_
          obtain ⟨ht17, H⟩ := H
          refine g_call rfl (y := 348) (n := 4) (pc' := 338) (g_vt ht17 rfl rfl) (by cases r_10 <;> rfl) rfl ⟨(Nat.le_of_ble_eq_true rfl), (Nat.le_of_ble_eq_true rfl), (Nat.le_of_ble_eq_true rfl)⟩ rfl (gm_G.mono H (pR_elim (fun r19 h18 H' => ?_) (fun e20 h21 H => ?_)))
          · show gm_G _ 338 _ _ _ _
            replace H := H'
            clear H'
            refine g_astore (r := _) rfl rfl rfl (pc' := 340) ?_
            exact g_weak (show gm_Lle [some _, none, none, none, some _, some _, none, some _, none, none, some _, some _, some _] _ from ⟨rfl, ⟨rfl, ⟨rfl, ⟨rfl, ⟨rfl, ⟨rfl, ⟨rfl, trivial⟩⟩⟩⟩⟩⟩⟩) H
          · exact H
    · exact H
set_option maxRecDepth 20000 in
theorem w_549_340 {a0 : Nat} {x4 : Int32} {x5 : Int32} {x7 : Int32} {r_10 : Option Nat} {x11 : Int32} {r_12 : Option Nat} {h : hh_T} {Q : Option Value ⊕ Nat → hh_T → Prop} (H : (∀ a1, r_12 = some a1 → ((hh_tg h a1 = 5 ∧ (gm_G 34 0 [some (.ref a1), some (.int x7)] [] h (pI (fun v3 h2 => gm_G 549 376 [some (.ref a0), none, none, none, some (.int x4), some (.int x5), none, some (.int x7), none, none, some (va_rf r_10), some (.int x11), some (.ref a1), some (.int v3)] [] h2 Q) (fun e4 h5 => hh_tg h5 e4 = 21 ∧ Q (.inr e4) h5)))) ∨ (hh_tg h a1 = 7 ∧ (gm_G 45 0 [some (.ref a1), some (.int x7)] [] h (pI (fun v7 h6 => gm_G 549 376 [some (.ref a0), none, none, none, some (.int x4), some (.int x5), none, some (.int x7), none, none, some (va_rf r_10), some (.int x11), some (.ref a1), some (.int v7)] [] h6 Q) (fun e8 h9 => hh_tg h9 e8 = 21 ∧ Q (.inr e8) h9)))))) ∧ (r_12 = none → (hh_tg h a0 = 1 ∧ (gm_G 342 0 [some (.ref a0), some (va_rf r_10)] [] h (pV (fun h11 => hh_tg h11 a0 = 1 ∧ (gm_G 19 0 [some (.ref a0), some (va_rf r_10)] [] h11 (pV (fun h13 => ∀ a14 h15, a14 = hh_sz h13 → h15 = hh_al h13 21 0 7 → (gm_G 425 0 [some (.ref a14), some (.int (Int32.ofInt (-7)))] [] h15 (pV (fun h16 => hh_tg h16 a14 = 21 ∧ Q (.inr a14) h16) (fun e17 h18 => hh_tg h18 e17 = 21 ∧ Q (.inr e17) h18)))) (fun e19 h20 => hh_tg h20 e19 = 21 ∧ Q (.inr e19) h20)))) (fun e21 h22 => hh_tg h22 e21 = 21 ∧ Q (.inr e21) h22)))))) : gm_G 549 340 [some (.ref a0), none, none, none, some (.int x4), some (.int x5), none, some (.int x7), none, none, some (va_rf r_10), some (.int x11), some (va_rf r_12)] [] h Q := by
  refine g_aload (r := _) rfl rfl rfl (pc' := 342) ?_
  refine g_ifnonnull rfl (pc' := 345) (pt := 367) rfl rfl ⟨fun a1 hc => ?_, fun hc => ?_⟩
  · replace H := H.1 a1 hc
    subst hc
    refine g_aload (r := some _) rfl rfl rfl (pc' := 369) ?_
    refine g_iload rfl rfl rfl (pc' := 371) ?_
    rcases H with ⟨ht, H⟩ | ⟨ht, H⟩
    · refine g_call rfl (y := 34) (n := 2) (pc' := 374) (g_vt ht rfl rfl) rfl rfl ⟨(Nat.le_of_ble_eq_true rfl), (Nat.le_of_ble_eq_true rfl), (Nat.le_of_ble_eq_true rfl)⟩ rfl (gm_G.mono H (pI_elim (fun v3 h2 H' => ?_) (fun e4 h5 H => ?_)))
      · show gm_G _ 374 _ _ _ _
        replace H := H'
        clear H'
        refine g_istore rfl rfl rfl (pc' := 376) ?_
        exact g_weak (show gm_Lle [some _, none, none, none, some _, some _, none, some _, none, none, some _, some _, some _, some _] _ from ⟨rfl, ⟨rfl, ⟨rfl, ⟨rfl, ⟨rfl, ⟨rfl, ⟨rfl, ⟨rfl, trivial⟩⟩⟩⟩⟩⟩⟩⟩) H
      · exact H
    · refine g_call rfl (y := 45) (n := 2) (pc' := 374) (g_vt ht rfl rfl) rfl rfl ⟨(Nat.le_of_ble_eq_true rfl), (Nat.le_of_ble_eq_true rfl), (Nat.le_of_ble_eq_true rfl)⟩ rfl (gm_G.mono H (pI_elim (fun v7 h6 H' => ?_) (fun e8 h9 H => ?_)))
      · show gm_G _ 374 _ _ _ _
        replace H := H'
        clear H'
        refine g_istore rfl rfl rfl (pc' := 376) ?_
        exact g_weak (show gm_Lle [some _, none, none, none, some _, some _, none, some _, none, none, some _, some _, some _, some _] _ from ⟨rfl, ⟨rfl, ⟨rfl, ⟨rfl, ⟨rfl, ⟨rfl, ⟨rfl, ⟨rfl, trivial⟩⟩⟩⟩⟩⟩⟩⟩) H
      · exact H
  · replace H := H.2 hc
    subst hc
    refine g_aload (r := some _) rfl rfl rfl (pc' := 346) ?_
    refine g_aload (r := _) rfl rfl rfl (pc' := 348) ?_
    obtain ⟨ht10, H⟩ := H
    refine g_call rfl (y := 342) (n := 2) (pc' := 351) (g_vt ht10 rfl rfl) (by cases r_10 <;> rfl) rfl ⟨(Nat.le_of_ble_eq_true rfl), (Nat.le_of_ble_eq_true rfl), (Nat.le_of_ble_eq_true rfl)⟩ rfl (gm_G.mono H (pV_elim (fun h11 H' => ?_) (fun e21 h22 H => ?_)))
    · show gm_G _ 351 _ _ _ _
      replace H := H'
      clear H'
      refine g_aload (r := some _) rfl rfl rfl (pc' := 352) ?_
      refine g_aload (r := _) rfl rfl rfl (pc' := 354) ?_
      obtain ⟨ht12, H⟩ := H
      refine g_call rfl (y := 19) (n := 2) (pc' := 357) (g_vt ht12 rfl rfl) (by cases r_10 <;> rfl) rfl ⟨(Nat.le_of_ble_eq_true rfl), (Nat.le_of_ble_eq_true rfl), (Nat.le_of_ble_eq_true rfl)⟩ rfl (gm_G.mono H (pV_elim (fun h13 H' => ?_) (fun e19 h20 H => ?_)))
      · show gm_G _ 357 _ _ _ _
        replace H := H'
        clear H'
        refine g_new rfl (t := 21) (s := 7) rfl rfl (pc' := 360) rfl ?_
        replace H := H _ _ rfl rfl
        refine g_dup_a (r := some _) rfl rfl (pc' := 361) ?_
        refine g_iconst rfl rfl rfl (pc' := 363) ?_
        refine g_call rfl (y := 425) (n := 2) (pc' := 366) (fun _ => rfl) rfl rfl ⟨(Nat.le_of_ble_eq_true rfl), (Nat.le_of_ble_eq_true rfl), (Nat.le_of_ble_eq_true rfl)⟩ rfl (gm_G.mono H (pV_elim (fun h16 H' => ?_) (fun e17 h18 H => ?_)))
        · show gm_G _ 366 _ _ _ _
          replace H := H'
          clear H'
          exact g_throw rfl H.1 rfl H.2
        · exact H
      · exact H
    · exact H
set_option maxRecDepth 20000 in
theorem w_549_376 {a0 : Nat} {x4 : Int32} {x5 : Int32} {x7 : Int32} {r_10 : Option Nat} {x11 : Int32} {r_12 : Option Nat} {x13 : Int32} {h : hh_T} {Q : Option Value ⊕ Nat → hh_T → Prop} (H : ∃ a1, r_10 = some a1 ∧ (gm_sub (hh_tg h a1) 31 = true ∧ (∀ r3, r3 = hh_r h a1 4 → (∃ a4, r_12 = some a4 ∧ (gm_sub (hh_tg h a4) 3 = true ∧ (∃ a6, r3 = some a6 ∧ (hh_tg h a6 = 100 ∧ (∃ n7, gm_ix x11 n7 (hh_ln h a6) ∧ (∀ h8, h8 = hh_wi h a6 n7 (hh_i h a4 0) → (∀ r9, r9 = hh_r h8 a1 5 → (∀ r10, r10 = hh_r h8 a4 5 → (∃ a11, r10 = some a11 ∧ (hh_tg h8 a11 = 6 ∧ (gm_G 39 0 [some (.ref a11), some (.int x13)] [] h8 (pI (fun v14 h13 => ∃ a15, r9 = some a15 ∧ (hh_tg h13 a15 = 100 ∧ (∃ n16, gm_ix x11 n16 (hh_ln h13 a15) ∧ (∀ h17, h17 = hh_wi h13 a15 n16 v14 → (gm_sub (hh_tg h17 a1) 31 = true ∧ (∀ h19, h19 = hh_wi h17 a1 2 (x11 + (Int32.ofNat 1)) → (gm_sub (hh_tg h19 a4) 3 = true ∧ (∀ r21, r21 = hh_r h19 a4 5 → (∀ r22, r22 = hh_r h19 a1 5 → (∃ a23, r22 = some a23 ∧ ((hh_tg h19 a23 = 100 ∨ hh_tg h19 a23 = 105) ∧ (∃ n24, gm_ix x11 n24 (hh_ln h19 a23) ∧ (∃ a26, r21 = some a26 ∧ (hh_tg h19 a26 = 6 ∧ (gm_G 250 0 [some (.ref a26), some (.int (hh_i h19 a23 n24)), some (.int x13)] [] h19 (pV (fun h28 => gm_G 549 434 [some (.ref a0), none, none, none, some (.int x4), some (.int x5), none, some (.int x7), none, none, some (.ref a1), some (.int x11), some (.ref a4)] [] h28 Q) (fun e29 h30 => hh_tg h30 e29 = 21 ∧ Q (.inr e29) h30))))))))))))))))) (fun e32 h33 => hh_tg h33 e32 = 21 ∧ Q (.inr e32) h33)))))))))))))))) : gm_G 549 376 [some (.ref a0), none, none, none, some (.int x4), some (.int x5), none, some (.int x7), none, none, some (va_rf r_10), some (.int x11), some (va_rf r_12), some (.int x13)] [] h Q := by
  refine g_aload (r := _) rfl rfl rfl (pc' := 378) ?_
  obtain ⟨a1, rfl, H⟩ := H
  obtain ⟨ht2, H⟩ := H
  refine g_getRv rfl rfl rfl rfl ht2 (pc' := 381) rfl (fun r3 hr3 => ?_)
  replace H := H r3 hr3
  refine g_iload rfl rfl rfl (pc' := 383) ?_
  refine g_aload (r := _) rfl rfl rfl (pc' := 385) ?_
  obtain ⟨a4, rfl, H⟩ := H
  obtain ⟨ht5, H⟩ := H
  refine g_getI rfl rfl rfl rfl ht5 (pc' := 388) rfl ?_
  obtain ⟨a6, rfl, H⟩ := H
  obtain ⟨ht34, H⟩ := H
  obtain ⟨n7, hn7, H⟩ := H
  refine g_iastore rfl ht34 hn7  (pc' := 389) rfl ?_
  replace H := H _ rfl
  refine g_aload (r := some _) rfl rfl rfl (pc' := 391) ?_
  refine g_getRv rfl rfl rfl rfl ht2 (pc' := 394) rfl (fun r9 hr9 => ?_)
  replace H := H r9 hr9
  refine g_iload rfl rfl rfl (pc' := 396) ?_
  refine g_aload (r := some _) rfl rfl rfl (pc' := 398) ?_
  refine g_getRv rfl rfl rfl rfl ht5 (pc' := 401) rfl (fun r10 hr10 => ?_)
  replace H := H r10 hr10
  refine g_iload rfl rfl rfl (pc' := 403) ?_
  obtain ⟨a11, rfl, H⟩ := H
  obtain ⟨ht12, H⟩ := H
  refine g_call rfl (y := 39) (n := 2) (pc' := 406) (g_vt ht12 rfl rfl) rfl rfl ⟨(Nat.le_of_ble_eq_true rfl), (Nat.le_of_ble_eq_true rfl), (Nat.le_of_ble_eq_true rfl)⟩ rfl (gm_G.mono H (pI_elim (fun v14 h13 H' => ?_) (fun e32 h33 H => ?_)))
  · show gm_G _ 406 _ _ _ _
    replace H := H'
    clear H'
    obtain ⟨a15, rfl, H⟩ := H
    obtain ⟨ht31, H⟩ := H
    obtain ⟨n16, hn16, H⟩ := H
    refine g_iastore rfl ht31 hn16  (pc' := 407) rfl ?_
    replace H := H _ rfl
    refine g_aload (r := some _) rfl rfl rfl (pc' := 409) ?_
    refine g_iload rfl rfl rfl (pc' := 411) ?_
    refine g_iconst rfl rfl rfl (pc' := 412) ?_
    refine g_iadd rfl rfl (pc' := 413) ?_
    obtain ⟨ht18, H⟩ := H
    refine g_putI rfl rfl rfl rfl ht18  (pc' := 416) rfl ?_
    replace H := H _ rfl
    refine g_aload (r := some _) rfl rfl rfl (pc' := 418) ?_
    obtain ⟨ht20, H⟩ := H
    refine g_getRv rfl rfl rfl rfl ht20 (pc' := 421) rfl (fun r21 hr21 => ?_)
    replace H := H r21 hr21
    refine g_aload (r := some _) rfl rfl rfl (pc' := 423) ?_
    refine g_getRv rfl rfl rfl rfl ht18 (pc' := 426) rfl (fun r22 hr22 => ?_)
    replace H := H r22 hr22
    refine g_iload rfl rfl rfl (pc' := 428) ?_
    obtain ⟨a23, rfl, H⟩ := H
    obtain ⟨ht25, H⟩ := H
    obtain ⟨n24, hn24, H⟩ := H
    refine g_iaload rfl ht25 hn24 (pc' := 429) rfl ?_
    refine g_iload rfl rfl rfl (pc' := 431) ?_
    obtain ⟨a26, rfl, H⟩ := H
    obtain ⟨ht27, H⟩ := H
    refine g_call rfl (y := 250) (n := 3) (pc' := 434) (g_vt ht27 rfl rfl) rfl rfl ⟨(Nat.le_of_ble_eq_true rfl), (Nat.le_of_ble_eq_true rfl), (Nat.le_of_ble_eq_true rfl)⟩ rfl (gm_G.mono H (pV_elim (fun h28 H' => ?_) (fun e29 h30 H => ?_)))
    · show gm_G _ 434 _ _ _ _
      replace H := H'
      clear H'
      exact g_weak (show gm_Lle [some _, none, none, none, some _, some _, none, some _, none, none, some _, some _, some _] _ from ⟨rfl, ⟨rfl, ⟨rfl, ⟨rfl, ⟨rfl, ⟨rfl, ⟨rfl, trivial⟩⟩⟩⟩⟩⟩⟩) H
    · exact H
  · exact H
set_option maxRecDepth 20000 in
theorem w_549_434 {a0 : Nat} {x4 : Int32} {x5 : Int32} {x7 : Int32} {r_10 : Option Nat} {x11 : Int32} {r_12 : Option Nat} {h : hh_T} {Q : Option Value ⊕ Nat → hh_T → Prop} (H : ∃ a1, r_12 = some a1 ∧ (gm_sub (hh_tg h a1) 3 = true ∧ (∀ r3, r3 = hh_r h a1 6 → (∃ a4, r_10 = some a4 ∧ (gm_sub (hh_tg h a4) 31 = true ∧ (∀ r6, r6 = hh_r h a4 5 → (∃ a7, r6 = some a7 ∧ ((hh_tg h a7 = 100 ∨ hh_tg h a7 = 105) ∧ (∃ n8, gm_ix x11 n8 (hh_ln h a7) ∧ (∃ a10, r3 = some a10 ∧ (200 ≤ hh_tg h a10 ∧ (gm_as (hh_tg h a10) (hh_tg h a4) = true) ∧ (∃ n11, gm_ix (hh_i h a7 n8) n11 (hh_ln h a10) ∧ (∀ h12, h12 = hh_wr h a10 n11 (some a4) → (gm_G 549 301 [some (.ref a0), none, none, none, some (.int x4), some (.int x5), none, some (.int x7), none, none, some (.ref a4), some (.int (x11 + (Int32.ofNat 1)))] [] h12 Q)))))))))))))) : gm_G 549 434 [some (.ref a0), none, none, none, some (.int x4), some (.int x5), none, some (.int x7), none, none, some (va_rf r_10), some (.int x11), some (va_rf r_12)] [] h Q := by
  refine g_aload (r := _) rfl rfl rfl (pc' := 436) ?_
  obtain ⟨a1, rfl, H⟩ := H
  obtain ⟨ht2, H⟩ := H
  refine g_getRv rfl rfl rfl rfl ht2 (pc' := 439) rfl (fun r3 hr3 => ?_)
  replace H := H r3 hr3
  refine g_aload (r := _) rfl rfl rfl (pc' := 441) ?_
  obtain ⟨a4, rfl, H⟩ := H
  obtain ⟨ht5, H⟩ := H
  refine g_getRv rfl rfl rfl rfl ht5 (pc' := 444) rfl (fun r6 hr6 => ?_)
  replace H := H r6 hr6
  refine g_iload rfl rfl rfl (pc' := 446) ?_
  obtain ⟨a7, rfl, H⟩ := H
  obtain ⟨ht9, H⟩ := H
  obtain ⟨n8, hn8, H⟩ := H
  refine g_iaload rfl ht9 hn8 (pc' := 447) rfl ?_
  refine g_aload (r := some _) rfl rfl rfl (pc' := 449) ?_
  obtain ⟨a10, rfl, H⟩ := H
  obtain ⟨Ha, Hb, H⟩ := H
  obtain ⟨n11, hn11, H⟩ := H
  refine g_aastore (r := some _) rfl Ha (fun b hb => by cases hb; exact Hb) hn11 (pc' := 450) rfl ?_
  replace H := H _ rfl
  refine g_iinc (c := (Int32.ofNat 1)) rfl rfl rfl rfl rfl (pc' := 453) ?_
  refine g_goto rfl (pc' := 301) rfl ?_
  exact g_weak (show gm_Lle [some _, none, none, none, some _, some _, none, some _, none, none, some _, some _] _ from ⟨rfl, ⟨rfl, ⟨rfl, ⟨rfl, ⟨rfl, ⟨rfl, trivial⟩⟩⟩⟩⟩⟩) H
set_option maxRecDepth 20000 in
theorem w_549_500 {a0 : Nat} {r_10 : Option Nat} {h : hh_T} {Q : Option Value ⊕ Nat → hh_T → Prop} (H : gm_G 549 503 [some (.ref a0), none, none, none, none, none, none, none, none, none, some (va_rf r_10), some (.int (Int32.ofNat 0))] [] h Q) : gm_G 549 500 [some (.ref a0), none, none, none, none, none, none, none, none, none, some (va_rf r_10)] [] h Q := by
  refine g_iconst rfl rfl rfl (pc' := 501) ?_
  refine g_istore rfl gm_sto_rf10 rfl (pc' := 503) ?_
  exact g_weak (show gm_Lle [some _, none, none, none, none, none, none, none, none, none, some _, some _] _ from ⟨rfl, ⟨rfl, ⟨rfl, trivial⟩⟩⟩) H
set_option maxRecDepth 20000 in
theorem w_549_503 {a0 : Nat} {r_10 : Option Nat} {x11 : Int32} {h : hh_T} {Q : Option Value ⊕ Nat → hh_T → Prop} (H : gm_sub (hh_tg h a0) 0 = true ∧ (∀ r2, r2 = hh_r h a0 26 → (∃ a3, r2 = some a3 ∧ (gm_sub (hh_tg h a3) 12 = true ∧ ((¬ x11 < (hh_i h a3 1) → (∀ r5, r5 = hh_r h a0 14 → (∃ a6, r5 = some a6 ∧ (hh_tg h a6 = 11 ∧ (gm_G 55 0 [some (.ref a6), some (va_rf r_10)] [] h (pV (fun h8 => gm_G 549 548 [some (.ref a0), none, none, none, none, none, none, none, none, none, some (va_rf r_10)] [] h8 Q) (fun e9 h10 => hh_tg h10 e9 = 21 ∧ Q (.inr e9) h10))))))) ∧ (x11 < (hh_i h a3 1) → (∃ a11, r_10 = some a11 ∧ (gm_sub (hh_tg h a11) 31 = true ∧ (∀ r13, r13 = hh_r h a11 8 → (∀ r14, r14 = hh_r h a0 26 → (∃ a15, r14 = some a15 ∧ (gm_sub (hh_tg h a15) 12 = true ∧ (∀ r17, r17 = hh_r h a15 0 → (∃ a18, r17 = some a18 ∧ ((hh_tg h a18 = 101 ∨ hh_tg h a18 = 102) ∧ (∃ n19, gm_ix x11 n19 (hh_ln h a18) ∧ (∃ a21, r13 = some a21 ∧ (hh_tg h a21 = 101 ∧ (∃ n22, gm_ix x11 n22 (hh_ln h a21) ∧ (∀ h23, h23 = hh_wi h a21 n22 ((hh_i h a18 n19).toInt8.toInt32) → (gm_G 549 503 [some (.ref a0), none, none, none, none, none, none, none, none, none, some (.ref a11), some (.int (x11 + (Int32.ofNat 1)))] [] h23 Q))))))))))))))))))))) : gm_G 549 503 [some (.ref a0), none, none, none, none, none, none, none, none, none, some (va_rf r_10), some (.int x11)] [] h Q := by
  refine g_iload rfl rfl rfl (pc' := 505) ?_
  refine g_aload (r := some _) rfl rfl rfl (pc' := 506) ?_
  obtain ⟨ht1, H⟩ := H
  refine g_getRv rfl rfl rfl rfl ht1 (pc' := 509) rfl (fun r2 hr2 => ?_)
  replace H := H r2 hr2
  obtain ⟨a3, rfl, H⟩ := H
  obtain ⟨ht4, H⟩ := H
  refine g_getI rfl rfl rfl rfl ht4 (pc' := 512) rfl ?_
  refine g_ic_ge rfl (pc' := 515) (pt := 539) rfl rfl ⟨fun hc => ?_, fun hc => ?_⟩
  · replace H := H.1 hc
    refine g_aload (r := some _) rfl rfl rfl (pc' := 540) ?_
    refine g_getRv rfl rfl rfl rfl ht1 (pc' := 543) rfl (fun r5 hr5 => ?_)
    replace H := H r5 hr5
    refine g_aload (r := _) rfl rfl rfl (pc' := 545) ?_
    obtain ⟨a6, rfl, H⟩ := H
    obtain ⟨ht7, H⟩ := H
    refine g_call rfl (y := 55) (n := 2) (pc' := 548) (g_vt ht7 rfl rfl) (by cases r_10 <;> rfl) rfl ⟨(Nat.le_of_ble_eq_true rfl), (Nat.le_of_ble_eq_true rfl), (Nat.le_of_ble_eq_true rfl)⟩ rfl (gm_G.mono H (pV_elim (fun h8 H' => ?_) (fun e9 h10 H => ?_)))
    · show gm_G _ 548 _ _ _ _
      replace H := H'
      clear H'
      exact g_weak (show gm_Lle [some _, none, none, none, none, none, none, none, none, none, some _] _ from ⟨rfl, ⟨rfl, trivial⟩⟩) H
    · exact H
  · replace H := H.2 hc
    refine g_aload (r := _) rfl rfl rfl (pc' := 517) ?_
    obtain ⟨a11, rfl, H⟩ := H
    obtain ⟨ht12, H⟩ := H
    refine g_getRv rfl rfl rfl rfl ht12 (pc' := 520) rfl (fun r13 hr13 => ?_)
    replace H := H r13 hr13
    refine g_iload rfl rfl rfl (pc' := 522) ?_
    refine g_aload (r := some _) rfl rfl rfl (pc' := 523) ?_
    refine g_getRv rfl rfl rfl rfl ht1 (pc' := 526) rfl (fun r14 hr14 => ?_)
    replace H := H r14 hr14
    obtain ⟨a15, rfl, H⟩ := H
    obtain ⟨ht16, H⟩ := H
    refine g_getRv rfl rfl rfl rfl ht16 (pc' := 529) rfl (fun r17 hr17 => ?_)
    replace H := H r17 hr17
    refine g_iload rfl rfl rfl (pc' := 531) ?_
    obtain ⟨a18, rfl, H⟩ := H
    obtain ⟨ht20, H⟩ := H
    obtain ⟨n19, hn19, H⟩ := H
    refine g_baload rfl ht20 hn19 (pc' := 532) rfl ?_
    obtain ⟨a21, rfl, H⟩ := H
    obtain ⟨ht24, H⟩ := H
    obtain ⟨n22, hn22, H⟩ := H
    refine g_bastore rfl ht24 hn22  (pc' := 533) rfl ?_
    replace H := H _ rfl
    refine g_iinc (c := (Int32.ofNat 1)) rfl rfl rfl rfl rfl (pc' := 536) ?_
    refine g_goto rfl (pc' := 503) rfl ?_
    exact g_weak (show gm_Lle [some _, none, none, none, none, none, none, none, none, none, some _, some _] _ from ⟨rfl, ⟨rfl, ⟨rfl, trivial⟩⟩⟩) H
set_option maxRecDepth 20000 in
theorem w_549_548 {a0 : Nat} {r_10 : Option Nat} {h : hh_T} {Q : Option Value ⊕ Nat → hh_T → Prop} (H : gm_G 549 551 [some (.ref a0), none, none, none, none, none, none, none, none, none, some (va_rf r_10), some (.int (Int32.ofNat 0))] [] h Q) : gm_G 549 548 [some (.ref a0), none, none, none, none, none, none, none, none, none, some (va_rf r_10)] [] h Q := by
  refine g_iconst rfl rfl rfl (pc' := 549) ?_
  refine g_istore rfl gm_sto_rf10 rfl (pc' := 551) ?_
  exact g_weak (show gm_Lle [some _, none, none, none, none, none, none, none, none, none, some _, some _] _ from ⟨rfl, ⟨rfl, ⟨rfl, trivial⟩⟩⟩) H
set_option maxRecDepth 20000 in
theorem w_549_551 {a0 : Nat} {r_10 : Option Nat} {x11 : Int32} {h : hh_T} {Q : Option Value ⊕ Nat → hh_T → Prop} (H : gm_sub (hh_tg h a0) 0 = true ∧ (∀ r2, r2 = hh_r h a0 26 → (∃ a3, r2 = some a3 ∧ (gm_sub (hh_tg h a3) 12 = true ∧ ((¬ x11 < (hh_i h a3 1) → (∀ r5, r5 = hh_r h a0 23 → (∃ a6, r5 = some a6 ∧ (200 ≤ hh_tg h a6 ∧ (∀ b, r_10 = some b → gm_as (hh_tg h a6) (hh_tg h b) = true) ∧ (∃ n7, gm_ix (hh_i h a0 25) n7 (hh_ln h a6) ∧ (∀ h8, h8 = hh_wr h a6 n7 r_10 → (∀ h9, h9 = hh_wi h8 a0 25 ((hh_i h8 a0 25) + (Int32.ofNat 1)) → (Q (.inl (some (va_rf r_10))) h9)))))))) ∧ (x11 < (hh_i h a3 1) → (∀ r10, r10 = hh_r h a0 24 → (∀ r11, r11 = hh_r h a0 26 → (∃ a12, r11 = some a12 ∧ (gm_sub (hh_tg h a12) 12 = true ∧ (∀ r14, r14 = hh_r h a12 0 → (∃ a15, r14 = some a15 ∧ ((hh_tg h a15 = 101 ∨ hh_tg h a15 = 102) ∧ (∃ n16, gm_ix x11 n16 (hh_ln h a15) ∧ (∃ a18, r10 = some a18 ∧ (hh_tg h a18 = 101 ∧ (∃ n19, gm_ix (((Int32.ofNat 32) * (hh_i h a0 25)) + x11) n19 (hh_ln h a18) ∧ (∀ h20, h20 = hh_wi h a18 n19 ((hh_i h a15 n16).toInt8.toInt32) → (gm_G 549 551 [some (.ref a0), none, none, none, none, none, none, none, none, none, some (va_rf r_10), some (.int (x11 + (Int32.ofNat 1)))] [] h20 Q))))))))))))))))))) : gm_G 549 551 [some (.ref a0), none, none, none, none, none, none, none, none, none, some (va_rf r_10), some (.int x11)] [] h Q := by
  refine g_iload rfl rfl rfl (pc' := 553) ?_
  refine g_aload (r := some _) rfl rfl rfl (pc' := 554) ?_
  obtain ⟨ht1, H⟩ := H
  refine g_getRv rfl rfl rfl rfl ht1 (pc' := 557) rfl (fun r2 hr2 => ?_)
  replace H := H r2 hr2
  obtain ⟨a3, rfl, H⟩ := H
  obtain ⟨ht4, H⟩ := H
  refine g_getI rfl rfl rfl rfl ht4 (pc' := 560) rfl ?_
  refine g_ic_ge rfl (pc' := 563) (pt := 594) rfl rfl ⟨fun hc => ?_, fun hc => ?_⟩
  · replace H := H.1 hc
    refine g_aload (r := some _) rfl rfl rfl (pc' := 595) ?_
    refine g_getRv rfl rfl rfl rfl ht1 (pc' := 598) rfl (fun r5 hr5 => ?_)
    replace H := H r5 hr5
    refine g_aload (r := some _) rfl rfl rfl (pc' := 599) ?_
    refine g_getI rfl rfl rfl rfl ht1 (pc' := 602) rfl ?_
    refine g_aload (r := _) rfl rfl rfl (pc' := 604) ?_
    obtain ⟨a6, rfl, H⟩ := H
    obtain ⟨Ha, Hb, H⟩ := H
    obtain ⟨n7, hn7, H⟩ := H
    refine g_aastore (r := _) rfl Ha Hb hn7 (pc' := 605) rfl ?_
    replace H := H _ rfl
    refine g_aload (r := some _) rfl rfl rfl (pc' := 606) ?_
    refine g_dup_a (r := some _) rfl rfl (pc' := 607) ?_
    refine g_getI rfl rfl rfl rfl ht1 (pc' := 610) rfl ?_
    refine g_iconst rfl rfl rfl (pc' := 611) ?_
    refine g_iadd rfl rfl (pc' := 612) ?_
    refine g_putI rfl rfl rfl rfl ht1  (pc' := 615) rfl ?_
    replace H := H _ rfl
    refine g_aload (r := _) rfl rfl rfl (pc' := 617) ?_
    exact g_areturn (r := _) rfl H
  · replace H := H.2 hc
    refine g_aload (r := some _) rfl rfl rfl (pc' := 564) ?_
    refine g_getRv rfl rfl rfl rfl ht1 (pc' := 567) rfl (fun r10 hr10 => ?_)
    replace H := H r10 hr10
    refine g_iconst rfl rfl rfl (pc' := 569) ?_
    refine g_aload (r := some _) rfl rfl rfl (pc' := 570) ?_
    refine g_getI rfl rfl rfl rfl ht1 (pc' := 573) rfl ?_
    refine g_imul rfl rfl (pc' := 574) ?_
    refine g_iload rfl rfl rfl (pc' := 576) ?_
    refine g_iadd rfl rfl (pc' := 577) ?_
    refine g_aload (r := some _) rfl rfl rfl (pc' := 578) ?_
    refine g_getRv rfl rfl rfl rfl ht1 (pc' := 581) rfl (fun r11 hr11 => ?_)
    replace H := H r11 hr11
    obtain ⟨a12, rfl, H⟩ := H
    obtain ⟨ht13, H⟩ := H
    refine g_getRv rfl rfl rfl rfl ht13 (pc' := 584) rfl (fun r14 hr14 => ?_)
    replace H := H r14 hr14
    refine g_iload rfl rfl rfl (pc' := 586) ?_
    obtain ⟨a15, rfl, H⟩ := H
    obtain ⟨ht17, H⟩ := H
    obtain ⟨n16, hn16, H⟩ := H
    refine g_baload rfl ht17 hn16 (pc' := 587) rfl ?_
    obtain ⟨a18, rfl, H⟩ := H
    obtain ⟨ht21, H⟩ := H
    obtain ⟨n19, hn19, H⟩ := H
    refine g_bastore rfl ht21 hn19  (pc' := 588) rfl ?_
    replace H := H _ rfl
    refine g_iinc (c := (Int32.ofNat 1)) rfl rfl rfl gm_sto_rf10 rfl (pc' := 591) ?_
    refine g_goto rfl (pc' := 551) rfl ?_
    exact g_weak (show gm_Lle [some _, none, none, none, none, none, none, none, none, none, some _, some _] _ from ⟨rfl, ⟨rfl, ⟨rfl, trivial⟩⟩⟩) H
set_option maxRecDepth 20000 in
theorem w_550_0 {a0 : Nat} {x1 : Int32} {r_2 : Option Nat} {h : hh_T} {Q : Option Value ⊕ Nat → hh_T → Prop} (H : gm_sub (hh_tg h a0) 0 = true ∧ (∀ r2, r2 = hh_r h a0 54 → (∃ a3, r2 = some a3 ∧ (hh_tg h a3 = 13 ∧ (gm_G 459 0 [some (.ref a3), some (.int (Int32.ofNat 1))] [] h (pV (fun h5 => gm_sub (hh_tg h5 a0) 0 = true ∧ (∀ r7, r7 = hh_r h5 a0 54 → (∃ a8, r7 = some a8 ∧ (hh_tg h5 a8 = 13 ∧ (gm_G 459 0 [some (.ref a8), some (.int x1)] [] h5 (pV (fun h10 => gm_sub (hh_tg h10 a0) 0 = true ∧ (∀ r12, r12 = hh_r h10 a0 54 → (∃ a13, r_2 = some a13 ∧ (gm_sub (hh_tg h10 a13) 25 = true ∧ (∃ a15, r12 = some a15 ∧ (hh_tg h10 a15 = 13 ∧ (gm_G 459 0 [some (.ref a15), some (.int (hh_i h10 a13 1))] [] h10 (pV (fun h17 => gm_sub (hh_tg h17 a0) 0 = true ∧ (∀ r19, r19 = hh_r h17 a0 54 → (gm_sub (hh_tg h17 a13) 25 = true ∧ (∃ a21, r19 = some a21 ∧ (hh_tg h17 a21 = 13 ∧ (gm_G 507 0 [some (.ref a21), some (.int (hh_i h17 a13 2))] [] h17 (pV (fun h23 => gm_sub (hh_tg h23 a0) 0 = true ∧ (∀ r25, r25 = hh_r h23 a0 54 → (gm_sub (hh_tg h23 a13) 25 = true ∧ (∃ a27, r25 = some a27 ∧ (hh_tg h23 a27 = 13 ∧ (gm_G 459 0 [some (.ref a27), some (.int (hh_i h23 a13 3))] [] h23 (pV (fun h29 => gm_G 550 49 [some (.ref a0), none, some (.ref a13)] [] h29 Q) (fun e30 h31 => hh_tg h31 e30 = 21 ∧ Q (.inr e30) h31)))))))) (fun e32 h33 => hh_tg h33 e32 = 21 ∧ Q (.inr e32) h33)))))))) (fun e34 h35 => hh_tg h35 e34 = 21 ∧ Q (.inr e34) h35))))))))) (fun e36 h37 => hh_tg h37 e36 = 21 ∧ Q (.inr e36) h37))))))) (fun e38 h39 => hh_tg h39 e38 = 21 ∧ Q (.inr e38) h39))))))) : gm_G 550 0 [some (.ref a0), some (.int x1), some (va_rf r_2)] [] h Q := by
  refine g_aload (r := some _) rfl rfl rfl (pc' := 1) ?_
  obtain ⟨ht1, H⟩ := H
  refine g_getRv rfl rfl rfl rfl ht1 (pc' := 4) rfl (fun r2 hr2 => ?_)
  replace H := H r2 hr2
  refine g_iconst rfl rfl rfl (pc' := 5) ?_
  obtain ⟨a3, rfl, H⟩ := H
  obtain ⟨ht4, H⟩ := H
  refine g_call rfl (y := 459) (n := 2) (pc' := 8) (g_vt ht4 rfl rfl) rfl rfl ⟨(Nat.le_of_ble_eq_true rfl), (Nat.le_of_ble_eq_true rfl), (Nat.le_of_ble_eq_true rfl)⟩ rfl (gm_G.mono H (pV_elim (fun h5 H' => ?_) (fun e38 h39 H => ?_)))
  · show gm_G _ 8 _ _ _ _
    replace H := H'
    clear H'
    refine g_aload (r := some _) rfl rfl rfl (pc' := 9) ?_
    obtain ⟨ht6, H⟩ := H
    refine g_getRv rfl rfl rfl rfl ht6 (pc' := 12) rfl (fun r7 hr7 => ?_)
    replace H := H r7 hr7
    refine g_iload rfl rfl rfl (pc' := 13) ?_
    obtain ⟨a8, rfl, H⟩ := H
    obtain ⟨ht9, H⟩ := H
    refine g_call rfl (y := 459) (n := 2) (pc' := 16) (g_vt ht9 rfl rfl) rfl rfl ⟨(Nat.le_of_ble_eq_true rfl), (Nat.le_of_ble_eq_true rfl), (Nat.le_of_ble_eq_true rfl)⟩ rfl (gm_G.mono H (pV_elim (fun h10 H' => ?_) (fun e36 h37 H => ?_)))
    · show gm_G _ 16 _ _ _ _
      replace H := H'
      clear H'
      refine g_aload (r := some _) rfl rfl rfl (pc' := 17) ?_
      obtain ⟨ht11, H⟩ := H
      refine g_getRv rfl rfl rfl rfl ht11 (pc' := 20) rfl (fun r12 hr12 => ?_)
      replace H := H r12 hr12
      refine g_aload (r := _) rfl rfl rfl (pc' := 21) ?_
      obtain ⟨a13, rfl, H⟩ := H
      obtain ⟨ht14, H⟩ := H
      refine g_getI rfl rfl rfl rfl ht14 (pc' := 24) rfl ?_
      obtain ⟨a15, rfl, H⟩ := H
      obtain ⟨ht16, H⟩ := H
      refine g_call rfl (y := 459) (n := 2) (pc' := 27) (g_vt ht16 rfl rfl) rfl rfl ⟨(Nat.le_of_ble_eq_true rfl), (Nat.le_of_ble_eq_true rfl), (Nat.le_of_ble_eq_true rfl)⟩ rfl (gm_G.mono H (pV_elim (fun h17 H' => ?_) (fun e34 h35 H => ?_)))
      · show gm_G _ 27 _ _ _ _
        replace H := H'
        clear H'
        refine g_aload (r := some _) rfl rfl rfl (pc' := 28) ?_
        obtain ⟨ht18, H⟩ := H
        refine g_getRv rfl rfl rfl rfl ht18 (pc' := 31) rfl (fun r19 hr19 => ?_)
        replace H := H r19 hr19
        refine g_aload (r := some _) rfl rfl rfl (pc' := 32) ?_
        obtain ⟨ht20, H⟩ := H
        refine g_getI rfl rfl rfl rfl ht20 (pc' := 35) rfl ?_
        obtain ⟨a21, rfl, H⟩ := H
        obtain ⟨ht22, H⟩ := H
        refine g_call rfl (y := 507) (n := 2) (pc' := 38) (g_vt ht22 rfl rfl) rfl rfl ⟨(Nat.le_of_ble_eq_true rfl), (Nat.le_of_ble_eq_true rfl), (Nat.le_of_ble_eq_true rfl)⟩ rfl (gm_G.mono H (pV_elim (fun h23 H' => ?_) (fun e32 h33 H => ?_)))
        · show gm_G _ 38 _ _ _ _
          replace H := H'
          clear H'
          refine g_aload (r := some _) rfl rfl rfl (pc' := 39) ?_
          obtain ⟨ht24, H⟩ := H
          refine g_getRv rfl rfl rfl rfl ht24 (pc' := 42) rfl (fun r25 hr25 => ?_)
          replace H := H r25 hr25
          refine g_aload (r := some _) rfl rfl rfl (pc' := 43) ?_
          obtain ⟨ht26, H⟩ := H
          refine g_getI rfl rfl rfl rfl ht26 (pc' := 46) rfl ?_
          obtain ⟨a27, rfl, H⟩ := H
          obtain ⟨ht28, H⟩ := H
          refine g_call rfl (y := 459) (n := 2) (pc' := 49) (g_vt ht28 rfl rfl) rfl rfl ⟨(Nat.le_of_ble_eq_true rfl), (Nat.le_of_ble_eq_true rfl), (Nat.le_of_ble_eq_true rfl)⟩ rfl (gm_G.mono H (pV_elim (fun h29 H' => ?_) (fun e30 h31 H => ?_)))
          · show gm_G _ 49 _ _ _ _
            replace H := H'
            clear H'
            exact g_weak (show gm_Lle [some _, none, some _] _ from ⟨rfl, ⟨rfl, trivial⟩⟩) H
          · exact H
        · exact H
      · exact H
    · exact H
  · exact H
set_option maxRecDepth 20000 in
theorem w_550_49 {a0 : Nat} {r_2 : Option Nat} {h : hh_T} {Q : Option Value ⊕ Nat → hh_T → Prop} (H : gm_sub (hh_tg h a0) 0 = true ∧ (∀ r2, r2 = hh_r h a0 54 → (∃ a3, r_2 = some a3 ∧ (gm_sub (hh_tg h a3) 25 = true ∧ (∃ a5, r2 = some a5 ∧ (hh_tg h a5 = 13 ∧ (gm_G 459 0 [some (.ref a5), some (.int (hh_i h a3 4))] [] h (pV (fun h7 => gm_sub (hh_tg h7 a0) 0 = true ∧ (∀ r9, r9 = hh_r h7 a0 54 → (gm_sub (hh_tg h7 a3) 25 = true ∧ (∃ a11, r9 = some a11 ∧ (hh_tg h7 a11 = 13 ∧ (gm_G 459 0 [some (.ref a11), some (.int (hh_i h7 a3 5))] [] h7 (pV (fun h13 => gm_sub (hh_tg h13 a0) 0 = true ∧ (∀ r15, r15 = hh_r h13 a0 54 → (gm_sub (hh_tg h13 a3) 25 = true ∧ (∃ a17, r15 = some a17 ∧ (hh_tg h13 a17 = 13 ∧ (gm_G 507 0 [some (.ref a17), some (.int (hh_i h13 a3 6))] [] h13 (pV (fun h19 => gm_sub (hh_tg h19 a0) 0 = true ∧ (∀ r21, r21 = hh_r h19 a0 54 → (gm_sub (hh_tg h19 a3) 25 = true ∧ (∃ a23, r21 = some a23 ∧ (hh_tg h19 a23 = 13 ∧ (gm_G 535 0 [some (.ref a23), some (.int (hh_i h19 a3 7))] [] h19 (pV (fun h25 => gm_sub (hh_tg h25 a0) 0 = true ∧ (∀ r27, r27 = hh_r h25 a0 54 → (gm_sub (hh_tg h25 a3) 25 = true ∧ (∃ a29, r27 = some a29 ∧ (hh_tg h25 a29 = 13 ∧ (gm_G 507 0 [some (.ref a29), some (.int (hh_i h25 a3 8))] [] h25 (pV (fun h31 => gm_G 550 104 [some (.ref a0), none, some (.ref a3)] [] h31 Q) (fun e32 h33 => hh_tg h33 e32 = 21 ∧ Q (.inr e32) h33)))))))) (fun e34 h35 => hh_tg h35 e34 = 21 ∧ Q (.inr e34) h35)))))))) (fun e36 h37 => hh_tg h37 e36 = 21 ∧ Q (.inr e36) h37)))))))) (fun e38 h39 => hh_tg h39 e38 = 21 ∧ Q (.inr e38) h39)))))))) (fun e40 h41 => hh_tg h41 e40 = 21 ∧ Q (.inr e40) h41))))))))) : gm_G 550 49 [some (.ref a0), none, some (va_rf r_2)] [] h Q := by
  refine g_aload (r := some _) rfl rfl rfl (pc' := 50) ?_
  obtain ⟨ht1, H⟩ := H
  refine g_getRv rfl rfl rfl rfl ht1 (pc' := 53) rfl (fun r2 hr2 => ?_)
  replace H := H r2 hr2
  refine g_aload (r := _) rfl rfl rfl (pc' := 54) ?_
  obtain ⟨a3, rfl, H⟩ := H
  obtain ⟨ht4, H⟩ := H
  refine g_getI rfl rfl rfl rfl ht4 (pc' := 57) rfl ?_
  obtain ⟨a5, rfl, H⟩ := H
  obtain ⟨ht6, H⟩ := H
  refine g_call rfl (y := 459) (n := 2) (pc' := 60) (g_vt ht6 rfl rfl) rfl rfl ⟨(Nat.le_of_ble_eq_true rfl), (Nat.le_of_ble_eq_true rfl), (Nat.le_of_ble_eq_true rfl)⟩ rfl (gm_G.mono H (pV_elim (fun h7 H' => ?_) (fun e40 h41 H => ?_)))
  · show gm_G _ 60 _ _ _ _
    replace H := H'
    clear H'
    refine g_aload (r := some _) rfl rfl rfl (pc' := 61) ?_
    obtain ⟨ht8, H⟩ := H
    refine g_getRv rfl rfl rfl rfl ht8 (pc' := 64) rfl (fun r9 hr9 => ?_)
    replace H := H r9 hr9
    refine g_aload (r := some _) rfl rfl rfl (pc' := 65) ?_
    obtain ⟨ht10, H⟩ := H
    refine g_getI rfl rfl rfl rfl ht10 (pc' := 68) rfl ?_
    obtain ⟨a11, rfl, H⟩ := H
    obtain ⟨ht12, H⟩ := H
    refine g_call rfl (y := 459) (n := 2) (pc' := 71) (g_vt ht12 rfl rfl) rfl rfl ⟨(Nat.le_of_ble_eq_true rfl), (Nat.le_of_ble_eq_true rfl), (Nat.le_of_ble_eq_true rfl)⟩ rfl (gm_G.mono H (pV_elim (fun h13 H' => ?_) (fun e38 h39 H => ?_)))
    · show gm_G _ 71 _ _ _ _
      replace H := H'
      clear H'
      refine g_aload (r := some _) rfl rfl rfl (pc' := 72) ?_
      obtain ⟨ht14, H⟩ := H
      refine g_getRv rfl rfl rfl rfl ht14 (pc' := 75) rfl (fun r15 hr15 => ?_)
      replace H := H r15 hr15
      refine g_aload (r := some _) rfl rfl rfl (pc' := 76) ?_
      obtain ⟨ht16, H⟩ := H
      refine g_getI rfl rfl rfl rfl ht16 (pc' := 79) rfl ?_
      obtain ⟨a17, rfl, H⟩ := H
      obtain ⟨ht18, H⟩ := H
      refine g_call rfl (y := 507) (n := 2) (pc' := 82) (g_vt ht18 rfl rfl) rfl rfl ⟨(Nat.le_of_ble_eq_true rfl), (Nat.le_of_ble_eq_true rfl), (Nat.le_of_ble_eq_true rfl)⟩ rfl (gm_G.mono H (pV_elim (fun h19 H' => ?_) (fun e36 h37 H => ?_)))
      · show gm_G _ 82 _ _ _ _
        replace H := H'
        clear H'
        refine g_aload (r := some _) rfl rfl rfl (pc' := 83) ?_
        obtain ⟨ht20, H⟩ := H
        refine g_getRv rfl rfl rfl rfl ht20 (pc' := 86) rfl (fun r21 hr21 => ?_)
        replace H := H r21 hr21
        refine g_aload (r := some _) rfl rfl rfl (pc' := 87) ?_
        obtain ⟨ht22, H⟩ := H
        refine g_getI rfl rfl rfl rfl ht22 (pc' := 90) rfl ?_
        obtain ⟨a23, rfl, H⟩ := H
        obtain ⟨ht24, H⟩ := H
        refine g_call rfl (y := 535) (n := 2) (pc' := 93) (g_vt ht24 rfl rfl) rfl rfl ⟨(Nat.le_of_ble_eq_true rfl), (Nat.le_of_ble_eq_true rfl), (Nat.le_of_ble_eq_true rfl)⟩ rfl (gm_G.mono H (pV_elim (fun h25 H' => ?_) (fun e34 h35 H => ?_)))
        · show gm_G _ 93 _ _ _ _
          replace H := H'
          clear H'
          refine g_aload (r := some _) rfl rfl rfl (pc' := 94) ?_
          obtain ⟨ht26, H⟩ := H
          refine g_getRv rfl rfl rfl rfl ht26 (pc' := 97) rfl (fun r27 hr27 => ?_)
          replace H := H r27 hr27
          refine g_aload (r := some _) rfl rfl rfl (pc' := 98) ?_
          obtain ⟨ht28, H⟩ := H
          refine g_getI rfl rfl rfl rfl ht28 (pc' := 101) rfl ?_
          obtain ⟨a29, rfl, H⟩ := H
          obtain ⟨ht30, H⟩ := H
          refine g_call rfl (y := 507) (n := 2) (pc' := 104) (g_vt ht30 rfl rfl) rfl rfl ⟨(Nat.le_of_ble_eq_true rfl), (Nat.le_of_ble_eq_true rfl), (Nat.le_of_ble_eq_true rfl)⟩ rfl (gm_G.mono H (pV_elim (fun h31 H' => ?_) (fun e32 h33 H => ?_)))
          · show gm_G _ 104 _ _ _ _
            replace H := H'
            clear H'
            exact g_weak (show gm_Lle [some _, none, some _] _ from ⟨rfl, ⟨rfl, trivial⟩⟩) H
          · exact H
        · exact H
      · exact H
    · exact H
  · exact H
set_option maxRecDepth 20000 in
theorem w_550_104 {a0 : Nat} {r_2 : Option Nat} {h : hh_T} {Q : Option Value ⊕ Nat → hh_T → Prop} (H : gm_sub (hh_tg h a0) 0 = true ∧ (∀ r2, r2 = hh_r h a0 54 → (∃ a3, r_2 = some a3 ∧ (gm_sub (hh_tg h a3) 25 = true ∧ (∃ a5, r2 = some a5 ∧ (hh_tg h a5 = 13 ∧ (gm_G 459 0 [some (.ref a5), some (.int (hh_i h a3 9))] [] h (pV (fun h7 => gm_G 550 117 [some (.ref a0), none, some (.ref a3), some (.int (Int32.ofNat 0))] [] h7 Q) (fun e8 h9 => hh_tg h9 e8 = 21 ∧ Q (.inr e8) h9))))))))) : gm_G 550 104 [some (.ref a0), none, some (va_rf r_2)] [] h Q := by
  refine g_aload (r := some _) rfl rfl rfl (pc' := 105) ?_
  obtain ⟨ht1, H⟩ := H
  refine g_getRv rfl rfl rfl rfl ht1 (pc' := 108) rfl (fun r2 hr2 => ?_)
  replace H := H r2 hr2
  refine g_aload (r := _) rfl rfl rfl (pc' := 109) ?_
  obtain ⟨a3, rfl, H⟩ := H
  obtain ⟨ht4, H⟩ := H
  refine g_getI rfl rfl rfl rfl ht4 (pc' := 112) rfl ?_
  obtain ⟨a5, rfl, H⟩ := H
  obtain ⟨ht6, H⟩ := H
  refine g_call rfl (y := 459) (n := 2) (pc' := 115) (g_vt ht6 rfl rfl) rfl rfl ⟨(Nat.le_of_ble_eq_true rfl), (Nat.le_of_ble_eq_true rfl), (Nat.le_of_ble_eq_true rfl)⟩ rfl (gm_G.mono H (pV_elim (fun h7 H' => ?_) (fun e8 h9 H => ?_)))
  · show gm_G _ 115 _ _ _ _
    replace H := H'
    clear H'
    refine g_iconst rfl rfl rfl (pc' := 116) ?_
    refine g_istore rfl rfl rfl (pc' := 117) ?_
    exact g_weak (show gm_Lle [some _, none, some _, some _] _ from ⟨rfl, ⟨rfl, ⟨rfl, trivial⟩⟩⟩) H
  · exact H
set_option maxRecDepth 20000 in
theorem w_550_117 {a0 : Nat} {r_2 : Option Nat} {x3 : Int32} {h : hh_T} {Q : Option Value ⊕ Nat → hh_T → Prop} (H : ∃ a1, r_2 = some a1 ∧ (gm_sub (hh_tg h a1) 25 = true ∧ ((¬ x3 < (hh_i h a1 9) → ((¬ (hh_i h a1 1) = (Int32.ofNat 2) → ((¬ (hh_i h a1 1) = (Int32.ofNat 3) → (Q (.inl none) h)) ∧ ((hh_i h a1 1) = (Int32.ofNat 3) → (gm_G 550 280 [some (.ref a0), none, some (.ref a1), some (.int (Int32.ofNat 0))] [] h Q)))) ∧ ((hh_i h a1 1) = (Int32.ofNat 2) → (gm_sub (hh_tg h a1) 27 = true ∧ (gm_sub (hh_tg h a0) 0 = true ∧ (∀ r5, r5 = hh_r h a0 54 → (∃ a6, r5 = some a6 ∧ (hh_tg h a6 = 13 ∧ (gm_G 459 0 [some (.ref a6), some (.int (hh_i h a1 14))] [] h (pV (fun h8 => gm_G 550 207 [some (.ref a0), none, none, some (.ref a1), some (.int (Int32.ofNat 0))] [] h8 Q) (fun e9 h10 => hh_tg h10 e9 = 21 ∧ Q (.inr e9) h10))))))))))) ∧ (x3 < (hh_i h a1 9) → (gm_sub (hh_tg h a0) 0 = true ∧ (∀ r12, r12 = hh_r h a0 54 → (∀ r13, r13 = hh_r h a1 10 → (∃ a14, r13 = some a14 ∧ ((hh_tg h a14 = 100 ∨ hh_tg h a14 = 105) ∧ (∃ n15, gm_ix x3 n15 (hh_ln h a14) ∧ (∃ a17, r12 = some a17 ∧ (hh_tg h a17 = 13 ∧ (gm_G 459 0 [some (.ref a17), some (.int ((hh_i h a14 n15) &&& (Int32.ofNat 1)))] [] h (pV (fun h19 => gm_sub (hh_tg h19 a0) 0 = true ∧ (∀ r21, r21 = hh_r h19 a0 54 → (gm_sub (hh_tg h19 a1) 25 = true ∧ (∀ r23, r23 = hh_r h19 a1 10 → (∃ a24, r23 = some a24 ∧ ((hh_tg h19 a24 = 100 ∨ hh_tg h19 a24 = 105) ∧ (∃ n25, gm_ix x3 n25 (hh_ln h19 a24) ∧ (∃ a27, r21 = some a27 ∧ (hh_tg h19 a27 = 13 ∧ (gm_G 459 0 [some (.ref a27), some (.int (((hh_i h19 a24 n25) >>> ((Int32.ofNat 1) &&& 31)) &&& (Int32.ofNat 127)))] [] h19 (pV (fun h29 => gm_sub (hh_tg h29 a0) 0 = true ∧ (∀ r31, r31 = hh_r h29 a0 54 → (gm_sub (hh_tg h29 a1) 25 = true ∧ (∀ r33, r33 = hh_r h29 a1 10 → (∃ a34, r33 = some a34 ∧ ((hh_tg h29 a34 = 100 ∨ hh_tg h29 a34 = 105) ∧ (∃ n35, gm_ix x3 n35 (hh_ln h29 a34) ∧ (∃ a37, r31 = some a37 ∧ (hh_tg h29 a37 = 13 ∧ (gm_G 459 0 [some (.ref a37), some (.int ((hh_i h29 a34 n35) >>> ((Int32.ofNat 8) &&& 31)))] [] h29 (pV (fun h39 => gm_G 550 117 [some (.ref a0), none, some (.ref a1), some (.int (x3 + (Int32.ofNat 1)))] [] h39 Q) (fun e40 h41 => hh_tg h41 e40 = 21 ∧ Q (.inr e40) h41)))))))))))) (fun e42 h43 => hh_tg h43 e42 = 21 ∧ Q (.inr e42) h43)))))))))))) (fun e44 h45 => hh_tg h45 e44 = 21 ∧ Q (.inr e44) h45))))))))))))))) : gm_G 550 117 [some (.ref a0), none, some (va_rf r_2), some (.int x3)] [] h Q := by
  refine g_iload rfl rfl rfl (pc' := 118) ?_
  refine g_aload (r := _) rfl rfl rfl (pc' := 119) ?_
  obtain ⟨a1, rfl, H⟩ := H
  obtain ⟨ht2, H⟩ := H
  refine g_getI rfl rfl rfl rfl ht2 (pc' := 122) rfl ?_
  refine g_ic_ge rfl (pc' := 125) (pt := 180) rfl rfl ⟨fun hc => ?_, fun hc => ?_⟩
  · replace H := H.1 hc
    refine g_aload (r := some _) rfl rfl rfl (pc' := 181) ?_
    refine g_getI rfl rfl rfl rfl ht2 (pc' := 184) rfl ?_
    refine g_iconst rfl rfl rfl (pc' := 185) ?_
    refine g_ic_ne rfl (pc' := 188) (pt := 270) rfl rfl ⟨fun hc => ?_, fun hc => ?_⟩
    · replace H := H.1 hc
      refine g_aload (r := some _) rfl rfl rfl (pc' := 271) ?_
      refine g_getI rfl rfl rfl rfl ht2 (pc' := 274) rfl ?_
      refine g_iconst rfl rfl rfl (pc' := 275) ?_
      refine g_ic_ne rfl (pc' := 278) (pt := 310) rfl rfl ⟨fun hc => ?_, fun hc => ?_⟩
      · replace H := H.1 hc
        exact g_return rfl H
      · replace H := H.2 hc
        refine g_iconst rfl rfl rfl (pc' := 279) ?_
        refine g_istore rfl rfl rfl (pc' := 280) ?_
        exact g_weak (show gm_Lle [some _, none, some _, some _] _ from ⟨rfl, ⟨rfl, ⟨rfl, trivial⟩⟩⟩) H
    · replace H := H.2 hc
      refine g_aload (r := some _) rfl rfl rfl (pc' := 189) ?_
      obtain ⟨ht3, H⟩ := H
      refine g_cast (r := some _) rfl (fun b hb => by cases hb; exact ht3) (pc' := 192) rfl ?_
      refine g_astore (r := some _) rfl rfl rfl (pc' := 193) ?_
      refine g_aload (r := some _) rfl rfl rfl (pc' := 194) ?_
      obtain ⟨ht4, H⟩ := H
      refine g_getRv rfl rfl rfl rfl ht4 (pc' := 197) rfl (fun r5 hr5 => ?_)
      replace H := H r5 hr5
      refine g_aload (r := some _) rfl rfl rfl (pc' := 198) ?_
      refine g_getI rfl rfl rfl rfl ht3 (pc' := 201) rfl ?_
      obtain ⟨a6, rfl, H⟩ := H
      obtain ⟨ht7, H⟩ := H
      refine g_call rfl (y := 459) (n := 2) (pc' := 204) (g_vt ht7 rfl rfl) rfl rfl ⟨(Nat.le_of_ble_eq_true rfl), (Nat.le_of_ble_eq_true rfl), (Nat.le_of_ble_eq_true rfl)⟩ rfl (gm_G.mono H (pV_elim (fun h8 H' => ?_) (fun e9 h10 H => ?_)))
      · show gm_G _ 204 _ _ _ _
        replace H := H'
        clear H'
        refine g_iconst rfl rfl rfl (pc' := 205) ?_
        refine g_istore rfl rfl rfl (pc' := 207) ?_
        exact g_weak (show gm_Lle [some _, none, none, some _, some _] _ from ⟨rfl, ⟨rfl, ⟨rfl, trivial⟩⟩⟩) H
      · exact H
  · replace H := H.2 hc
    refine g_aload (r := some _) rfl rfl rfl (pc' := 126) ?_
    obtain ⟨ht11, H⟩ := H
    refine g_getRv rfl rfl rfl rfl ht11 (pc' := 129) rfl (fun r12 hr12 => ?_)
    replace H := H r12 hr12
    refine g_aload (r := some _) rfl rfl rfl (pc' := 130) ?_
    refine g_getRv rfl rfl rfl rfl ht2 (pc' := 133) rfl (fun r13 hr13 => ?_)
    replace H := H r13 hr13
    refine g_iload rfl rfl rfl (pc' := 134) ?_
    obtain ⟨a14, rfl, H⟩ := H
    obtain ⟨ht16, H⟩ := H
    obtain ⟨n15, hn15, H⟩ := H
    refine g_iaload rfl ht16 hn15 (pc' := 135) rfl ?_
    refine g_iconst rfl rfl rfl (pc' := 136) ?_
    refine g_iand rfl rfl (pc' := 137) ?_
    obtain ⟨a17, rfl, H⟩ := H
    obtain ⟨ht18, H⟩ := H
    refine g_call rfl (y := 459) (n := 2) (pc' := 140) (g_vt ht18 rfl rfl) rfl rfl ⟨(Nat.le_of_ble_eq_true rfl), (Nat.le_of_ble_eq_true rfl), (Nat.le_of_ble_eq_true rfl)⟩ rfl (gm_G.mono H (pV_elim (fun h19 H' => ?_) (fun e44 h45 H => ?_)))
    · show gm_G _ 140 _ _ _ _
      replace H := H'
      clear H'
      refine g_aload (r := some _) rfl rfl rfl (pc' := 141) ?_
      obtain ⟨ht20, H⟩ := H
      refine g_getRv rfl rfl rfl rfl ht20 (pc' := 144) rfl (fun r21 hr21 => ?_)
      replace H := H r21 hr21
      refine g_aload (r := some _) rfl rfl rfl (pc' := 145) ?_
      obtain ⟨ht22, H⟩ := H
      refine g_getRv rfl rfl rfl rfl ht22 (pc' := 148) rfl (fun r23 hr23 => ?_)
      replace H := H r23 hr23
      refine g_iload rfl rfl rfl (pc' := 149) ?_
      obtain ⟨a24, rfl, H⟩ := H
      obtain ⟨ht26, H⟩ := H
      obtain ⟨n25, hn25, H⟩ := H
      refine g_iaload rfl ht26 hn25 (pc' := 150) rfl ?_
      refine g_iconst rfl rfl rfl (pc' := 151) ?_
      refine g_ishr rfl rfl (pc' := 152) ?_
      refine g_iconst rfl rfl rfl (pc' := 154) ?_
      refine g_iand rfl rfl (pc' := 155) ?_
      obtain ⟨a27, rfl, H⟩ := H
      obtain ⟨ht28, H⟩ := H
      refine g_call rfl (y := 459) (n := 2) (pc' := 158) (g_vt ht28 rfl rfl) rfl rfl ⟨(Nat.le_of_ble_eq_true rfl), (Nat.le_of_ble_eq_true rfl), (Nat.le_of_ble_eq_true rfl)⟩ rfl (gm_G.mono H (pV_elim (fun h29 H' => ?_) (fun e42 h43 H => ?_)))
      · show gm_G _ 158 _ _ _ _
        replace H := H'
        clear H'
        refine g_aload (r := some _) rfl rfl rfl (pc' := 159) ?_
        obtain ⟨ht30, H⟩ := H
        refine g_getRv rfl rfl rfl rfl ht30 (pc' := 162) rfl (fun r31 hr31 => ?_)
        replace H := H r31 hr31
        refine g_aload (r := some _) rfl rfl rfl (pc' := 163) ?_
        obtain ⟨ht32, H⟩ := H
        refine g_getRv rfl rfl rfl rfl ht32 (pc' := 166) rfl (fun r33 hr33 => ?_)
        replace H := H r33 hr33
        refine g_iload rfl rfl rfl (pc' := 167) ?_
        obtain ⟨a34, rfl, H⟩ := H
        obtain ⟨ht36, H⟩ := H
        obtain ⟨n35, hn35, H⟩ := H
        refine g_iaload rfl ht36 hn35 (pc' := 168) rfl ?_
        refine g_iconst rfl rfl rfl (pc' := 170) ?_
        refine g_ishr rfl rfl (pc' := 171) ?_
        obtain ⟨a37, rfl, H⟩ := H
        obtain ⟨ht38, H⟩ := H
        refine g_call rfl (y := 459) (n := 2) (pc' := 174) (g_vt ht38 rfl rfl) rfl rfl ⟨(Nat.le_of_ble_eq_true rfl), (Nat.le_of_ble_eq_true rfl), (Nat.le_of_ble_eq_true rfl)⟩ rfl (gm_G.mono H (pV_elim (fun h39 H' => ?_) (fun e40 h41 H => ?_)))
        · show gm_G _ 174 _ _ _ _
          replace H := H'
          clear H'
          refine g_iinc (c := (Int32.ofNat 1)) rfl rfl rfl rfl rfl (pc' := 177) ?_
          refine g_goto rfl (pc' := 117) rfl ?_
          exact g_weak (show gm_Lle [some _, none, some _, some _] _ from ⟨rfl, ⟨rfl, ⟨rfl, trivial⟩⟩⟩) H
        · exact H
      · exact H
    · exact H
set_option maxRecDepth 20000 in
theorem w_550_207 {a0 : Nat} {r_3 : Option Nat} {x4 : Int32} {h : hh_T} {Q : Option Value ⊕ Nat → hh_T → Prop} (H : ∃ a1, r_3 = some a1 ∧ (gm_sub (hh_tg h a1) 25 = true ∧ ((¬ x4 < (hh_i h a1 6) → (Q (.inl none) h)) ∧ (x4 < (hh_i h a1 6) → (gm_sub (hh_tg h a0) 0 = true ∧ (∀ r4, r4 = hh_r h a0 54 → (gm_sub (hh_tg h a1) 27 = true ∧ (∀ r6, r6 = hh_r h a1 12 → (∃ a7, r6 = some a7 ∧ ((hh_tg h a7 = 103) ∧ (∃ n8, gm_ix x4 n8 (hh_ln h a7) ∧ (gm_G 14 0 [some (.long (hh_j h a7 n8)), none] [] h (pI (fun v11 h10 => ∃ a12, r4 = some a12 ∧ (hh_tg h10 a12 = 13 ∧ (gm_G 459 0 [some (.ref a12), some (.int v11)] [] h10 (pV (fun h14 => gm_sub (hh_tg h14 a0) 0 = true ∧ (∀ r16, r16 = hh_r h14 a0 54 → (gm_sub (hh_tg h14 a1) 27 = true ∧ (∀ r18, r18 = hh_r h14 a1 12 → (∃ a19, r18 = some a19 ∧ ((hh_tg h14 a19 = 103) ∧ (∃ n20, gm_ix x4 n20 (hh_ln h14 a19) ∧ (∃ a22, r16 = some a22 ∧ (hh_tg h14 a22 = 13 ∧ (gm_G 506 0 [some (.ref a22), some (.long (hh_j h14 a19 n20)), none] [] h14 (pV (fun h24 => gm_sub (hh_tg h24 a0) 0 = true ∧ (∀ r26, r26 = hh_r h24 a0 54 → (gm_sub (hh_tg h24 a1) 27 = true ∧ (∀ r28, r28 = hh_r h24 a1 13 → (∃ a29, r28 = some a29 ∧ ((hh_tg h24 a29 = 100 ∨ hh_tg h24 a29 = 105) ∧ (∃ n30, gm_ix x4 n30 (hh_ln h24 a29) ∧ (∃ a32, r26 = some a32 ∧ (hh_tg h24 a32 = 13 ∧ (gm_G 459 0 [some (.ref a32), some (.int (hh_i h24 a29 n30))] [] h24 (pV (fun h34 => gm_G 550 207 [some (.ref a0), none, none, some (.ref a1), some (.int (x4 + (Int32.ofNat 1)))] [] h34 Q) (fun e35 h36 => hh_tg h36 e35 = 21 ∧ Q (.inr e35) h36)))))))))))) (fun e37 h38 => hh_tg h38 e37 = 21 ∧ Q (.inr e37) h38)))))))))))) (fun e39 h40 => hh_tg h40 e39 = 21 ∧ Q (.inr e39) h40))))) (fun e41 h42 => hh_tg h42 e41 = 21 ∧ Q (.inr e41) h42)))))))))))))) : gm_G 550 207 [some (.ref a0), none, none, some (va_rf r_3), some (.int x4)] [] h Q := by
  refine g_iload rfl rfl rfl (pc' := 209) ?_
  refine g_aload (r := _) rfl rfl rfl (pc' := 210) ?_
  obtain ⟨a1, rfl, H⟩ := H
  obtain ⟨ht2, H⟩ := H
  refine g_getI rfl rfl rfl rfl ht2 (pc' := 213) rfl ?_
  refine g_ic_ge rfl (pc' := 216) (pt := 267) rfl rfl ⟨fun hc => ?_, fun hc => ?_⟩
  · replace H := H.1 hc
    refine g_goto rfl (pc' := 310) rfl ?_
    exact g_return rfl H
  · replace H := H.2 hc
    refine g_aload (r := some _) rfl rfl rfl (pc' := 217) ?_
    obtain ⟨ht3, H⟩ := H
    refine g_getRv rfl rfl rfl rfl ht3 (pc' := 220) rfl (fun r4 hr4 => ?_)
    replace H := H r4 hr4
    refine g_aload (r := some _) rfl rfl rfl (pc' := 221) ?_
    obtain ⟨ht5, H⟩ := H
    refine g_getRv rfl rfl rfl rfl ht5 (pc' := 224) rfl (fun r6 hr6 => ?_)
    replace H := H r6 hr6
    refine g_iload rfl rfl rfl (pc' := 226) ?_
    obtain ⟨a7, rfl, H⟩ := H
    obtain ⟨ht9, H⟩ := H
    obtain ⟨n8, hn8, H⟩ := H
    refine g_laload rfl ht9 hn8 (pc' := 227) rfl ?_
    refine g_call rfl (y := 14) (n := 1) (pc' := 230) (fun _ => rfl) rfl rfl ⟨(Nat.le_of_ble_eq_true rfl), (Nat.le_of_ble_eq_true rfl), (Nat.le_of_ble_eq_true rfl)⟩ rfl (gm_G.mono H (pI_elim (fun v11 h10 H' => ?_) (fun e41 h42 H => ?_)))
    · show gm_G _ 230 _ _ _ _
      replace H := H'
      clear H'
      obtain ⟨a12, rfl, H⟩ := H
      obtain ⟨ht13, H⟩ := H
      refine g_call rfl (y := 459) (n := 2) (pc' := 233) (g_vt ht13 rfl rfl) rfl rfl ⟨(Nat.le_of_ble_eq_true rfl), (Nat.le_of_ble_eq_true rfl), (Nat.le_of_ble_eq_true rfl)⟩ rfl (gm_G.mono H (pV_elim (fun h14 H' => ?_) (fun e39 h40 H => ?_)))
      · show gm_G _ 233 _ _ _ _
        replace H := H'
        clear H'
        refine g_aload (r := some _) rfl rfl rfl (pc' := 234) ?_
        obtain ⟨ht15, H⟩ := H
        refine g_getRv rfl rfl rfl rfl ht15 (pc' := 237) rfl (fun r16 hr16 => ?_)
        replace H := H r16 hr16
        refine g_aload (r := some _) rfl rfl rfl (pc' := 238) ?_
        obtain ⟨ht17, H⟩ := H
        refine g_getRv rfl rfl rfl rfl ht17 (pc' := 241) rfl (fun r18 hr18 => ?_)
        replace H := H r18 hr18
        refine g_iload rfl rfl rfl (pc' := 243) ?_
        obtain ⟨a19, rfl, H⟩ := H
        obtain ⟨ht21, H⟩ := H
        obtain ⟨n20, hn20, H⟩ := H
        refine g_laload rfl ht21 hn20 (pc' := 244) rfl ?_
        obtain ⟨a22, rfl, H⟩ := H
        obtain ⟨ht23, H⟩ := H
        refine g_call rfl (y := 506) (n := 2) (pc' := 247) (g_vt ht23 rfl rfl) rfl rfl ⟨(Nat.le_of_ble_eq_true rfl), (Nat.le_of_ble_eq_true rfl), (Nat.le_of_ble_eq_true rfl)⟩ rfl (gm_G.mono H (pV_elim (fun h24 H' => ?_) (fun e37 h38 H => ?_)))
        · show gm_G _ 247 _ _ _ _
          replace H := H'
          clear H'
          refine g_aload (r := some _) rfl rfl rfl (pc' := 248) ?_
          obtain ⟨ht25, H⟩ := H
          refine g_getRv rfl rfl rfl rfl ht25 (pc' := 251) rfl (fun r26 hr26 => ?_)
          replace H := H r26 hr26
          refine g_aload (r := some _) rfl rfl rfl (pc' := 252) ?_
          obtain ⟨ht27, H⟩ := H
          refine g_getRv rfl rfl rfl rfl ht27 (pc' := 255) rfl (fun r28 hr28 => ?_)
          replace H := H r28 hr28
          refine g_iload rfl rfl rfl (pc' := 257) ?_
          obtain ⟨a29, rfl, H⟩ := H
          obtain ⟨ht31, H⟩ := H
          obtain ⟨n30, hn30, H⟩ := H
          refine g_iaload rfl ht31 hn30 (pc' := 258) rfl ?_
          obtain ⟨a32, rfl, H⟩ := H
          obtain ⟨ht33, H⟩ := H
          refine g_call rfl (y := 459) (n := 2) (pc' := 261) (g_vt ht33 rfl rfl) rfl rfl ⟨(Nat.le_of_ble_eq_true rfl), (Nat.le_of_ble_eq_true rfl), (Nat.le_of_ble_eq_true rfl)⟩ rfl (gm_G.mono H (pV_elim (fun h34 H' => ?_) (fun e35 h36 H => ?_)))
          · show gm_G _ 261 _ _ _ _
            replace H := H'
            clear H'
            refine g_iinc (c := (Int32.ofNat 1)) rfl rfl rfl rfl rfl (pc' := 264) ?_
            refine g_goto rfl (pc' := 207) rfl ?_
            exact g_weak (show gm_Lle [some _, none, none, some _, some _] _ from ⟨rfl, ⟨rfl, ⟨rfl, trivial⟩⟩⟩) H
          · exact H
        · exact H
      · exact H
    · exact H
set_option maxRecDepth 20000 in
theorem w_550_280 {a0 : Nat} {r_2 : Option Nat} {x3 : Int32} {h : hh_T} {Q : Option Value ⊕ Nat → hh_T → Prop} (H : ∃ a1, r_2 = some a1 ∧ (gm_sub (hh_tg h a1) 25 = true ∧ ((¬ x3 < (hh_i h a1 6) → (Q (.inl none) h)) ∧ (x3 < (hh_i h a1 6) → (gm_sub (hh_tg h a0) 0 = true ∧ (∀ r4, r4 = hh_r h a0 54 → (gm_sub (hh_tg h a1) 28 = true ∧ (∀ r6, r6 = hh_r h a1 12 → (∃ a7, r6 = some a7 ∧ ((hh_tg h a7 = 101 ∨ hh_tg h a7 = 102) ∧ (∃ n8, gm_ix x3 n8 (hh_ln h a7) ∧ (∃ a10, r4 = some a10 ∧ (hh_tg h a10 = 13 ∧ (gm_G 459 0 [some (.ref a10), some (.int (hh_i h a7 n8))] [] h (pV (fun h12 => gm_G 550 280 [some (.ref a0), none, some (.ref a1), some (.int (x3 + (Int32.ofNat 1)))] [] h12 Q) (fun e13 h14 => hh_tg h14 e13 = 21 ∧ Q (.inr e13) h14)))))))))))))))) : gm_G 550 280 [some (.ref a0), none, some (va_rf r_2), some (.int x3)] [] h Q := by
  refine g_iload rfl rfl rfl (pc' := 281) ?_
  refine g_aload (r := _) rfl rfl rfl (pc' := 282) ?_
  obtain ⟨a1, rfl, H⟩ := H
  obtain ⟨ht2, H⟩ := H
  refine g_getI rfl rfl rfl rfl ht2 (pc' := 285) rfl ?_
  refine g_ic_ge rfl (pc' := 288) (pt := 310) rfl rfl ⟨fun hc => ?_, fun hc => ?_⟩
  · replace H := H.1 hc
    exact g_return rfl H
  · replace H := H.2 hc
    refine g_aload (r := some _) rfl rfl rfl (pc' := 289) ?_
    obtain ⟨ht3, H⟩ := H
    refine g_getRv rfl rfl rfl rfl ht3 (pc' := 292) rfl (fun r4 hr4 => ?_)
    replace H := H r4 hr4
    refine g_aload (r := some _) rfl rfl rfl (pc' := 293) ?_
    obtain ⟨ht5, H⟩ := H
    refine g_cast (r := some _) rfl (fun b hb => by cases hb; exact ht5) (pc' := 296) rfl ?_
    refine g_getRv rfl rfl rfl rfl ht5 (pc' := 299) rfl (fun r6 hr6 => ?_)
    replace H := H r6 hr6
    refine g_iload rfl rfl rfl (pc' := 300) ?_
    obtain ⟨a7, rfl, H⟩ := H
    obtain ⟨ht9, H⟩ := H
    obtain ⟨n8, hn8, H⟩ := H
    refine g_baload rfl ht9 hn8 (pc' := 301) rfl ?_
    obtain ⟨a10, rfl, H⟩ := H
    obtain ⟨ht11, H⟩ := H
    refine g_call rfl (y := 459) (n := 2) (pc' := 304) (g_vt ht11 rfl rfl) rfl rfl ⟨(Nat.le_of_ble_eq_true rfl), (Nat.le_of_ble_eq_true rfl), (Nat.le_of_ble_eq_true rfl)⟩ rfl (gm_G.mono H (pV_elim (fun h12 H' => ?_) (fun e13 h14 H => ?_)))
    · show gm_G _ 304 _ _ _ _
      replace H := H'
      clear H'
      refine g_iinc (c := (Int32.ofNat 1)) rfl rfl rfl rfl rfl (pc' := 307) ?_
      refine g_goto rfl (pc' := 280) rfl ?_
      exact g_weak (show gm_Lle [some _, none, some _, some _] _ from ⟨rfl, ⟨rfl, ⟨rfl, trivial⟩⟩⟩) H
    · exact H
set_option maxRecDepth 20000 in
theorem w_551_0 {a0 : Nat} {r_1 : Option Nat} {x2 : Int32} {r_3 : Option Nat} {x4 : Int32} {x5 : Int32} {h : hh_T} {Q : Option Value ⊕ Nat → hh_T → Prop} (H : gm_G 13 0 [some (va_rf r_3), some (.int x4), some (.int x5)] [] h (pI (fun v2 h1 => (¬ x4 < v2 → (gm_G 551 32 [none, some (va_rf r_1)] [.int x4, .int x4, va_rf r_3, .int x2, va_rf r_1, .ref a0] h1 Q)) ∧ (x4 < v2 → (gm_G 551 32 [none, some (va_rf r_1)] [.int (v2 - (Int32.ofNat 1)), .int x4, va_rf r_3, .int x2, va_rf r_1, .ref a0] h1 Q))) (fun e3 h4 => hh_tg h4 e3 = 21 ∧ Q (.inr e3) h4))) : gm_G 551 0 [some (.ref a0), some (va_rf r_1), some (.int x2), some (va_rf r_3), some (.int x4), some (.int x5)] [] h Q := by
  refine g_aload (r := _) rfl rfl rfl (pc' := 1) ?_
  refine g_iload rfl rfl rfl (pc' := 3) ?_
  refine g_iload rfl rfl rfl (pc' := 5) ?_
  refine g_call rfl (y := 13) (n := 3) (pc' := 8) (fun _ => rfl) (by cases r_3 <;> rfl) rfl ⟨(Nat.le_of_ble_eq_true rfl), (Nat.le_of_ble_eq_true rfl), (Nat.le_of_ble_eq_true rfl)⟩ rfl (gm_G.mono H (pI_elim (fun v2 h1 H' => ?_) (fun e3 h4 H => ?_)))
  · show gm_G _ 8 _ _ _ _
    replace H := H'
    clear H'
    refine g_istore rfl rfl rfl (pc' := 10) ?_
    refine g_aload (r := some _) rfl rfl rfl (pc' := 11) ?_
    refine g_aload (r := _) rfl rfl rfl (pc' := 12) ?_
    refine g_iload rfl rfl rfl (pc' := 13) ?_
    refine g_aload (r := _) rfl rfl rfl (pc' := 14) ?_
    refine g_iload rfl rfl rfl (pc' := 16) ?_
    refine g_iload rfl rfl rfl (pc' := 18) ?_
    refine g_iload rfl rfl rfl (pc' := 20) ?_
    refine g_ic_le rfl (pc' := 23) (pt := 30) rfl rfl ⟨fun hc => ?_, fun hc => ?_⟩
    · replace H := H.1 hc
      refine g_iload rfl rfl rfl (pc' := 32) ?_
      exact g_weak (show gm_Lle [none, some _] _ from ⟨rfl, trivial⟩) H
    · replace H := H.2 hc
      refine g_iload rfl rfl rfl (pc' := 25) ?_
      refine g_iconst rfl rfl rfl (pc' := 26) ?_
      refine g_isub rfl rfl (pc' := 27) ?_
      refine g_goto rfl (pc' := 32) rfl ?_
      exact g_weak (show gm_Lle [none, some _] _ from ⟨rfl, trivial⟩) H
  · exact H
set_option maxRecDepth 20000 in
theorem w_551_32 {a0 : Nat} {r_1 : Option Nat} {y0 : Int32} {y1 : Int32} {q2 : Option Nat} {y3 : Int32} {q4 : Option Nat} {q5 : Option Nat} {h : hh_T} {Q : Option Value ⊕ Nat → hh_T → Prop} (H : ∃ a1, q5 = some a1 ∧ (hh_tg h a1 = 1 ∧ (gm_G 533 0 [some (.ref a1), some (va_rf q4), some (.int y3), some (va_rf q2), some (.int y1), some (.int y0), some (.int (Int32.ofNat 1))] [] h (pI (fun v4 h3 => ∃ a5, r_1 = some a5 ∧ (gm_sub (hh_tg h3 a5) 24 = true ∧ (∀ r7, r7 = hh_r h3 a5 2 → (∃ a8, r7 = some a8 ∧ ((hh_tg h3 a8 = 104 ∨ 200 ≤ hh_tg h3 a8) ∧ (∃ n9, gm_ix v4 n9 (hh_ln h3 a8) ∧ (∀ r11, r11 = hh_r h3 a8 n9 → (∃ a12, r11 = some a12 ∧ (gm_sub (hh_tg h3 a12) 25 = true ∧ ((¬ (hh_i h3 a12 1) = (Int32.ofNat 2) → (gm_G 551 57 [none, none, none, none, none, none, none, some (.int v4)] [.int (Int32.ofNat 0)] h3 Q)) ∧ ((hh_i h3 a12 1) = (Int32.ofNat 2) → (gm_G 551 57 [none, none, none, none, none, none, none, some (.int v4)] [.int (Int32.ofNat 1)] h3 Q)))))))))))) (fun e14 h15 => hh_tg h15 e14 = 21 ∧ Q (.inr e14) h15))))) : gm_G 551 32 [none, some (va_rf r_1)] [.int y0, .int y1, va_rf q2, .int y3, va_rf q4, va_rf q5] h Q := by
  refine g_iconst rfl rfl rfl (pc' := 33) ?_
  obtain ⟨a1, rfl, H⟩ := H
  obtain ⟨ht2, H⟩ := H
  refine g_call rfl (y := 533) (n := 7) (pc' := 36) (g_vt ht2 rfl rfl) (by cases q2 <;> cases q4 <;> rfl) rfl ⟨(Nat.le_of_ble_eq_true rfl), (Nat.le_of_ble_eq_true rfl), (Nat.le_of_ble_eq_true rfl)⟩ rfl (gm_G.mono H (pI_elim (fun v4 h3 H' => ?_) (fun e14 h15 H => ?_)))
  · show gm_G _ 36 _ _ _ _
    replace H := H'
    clear H'
    refine g_istore rfl rfl rfl (pc' := 38) ?_
    refine g_aload (r := _) rfl rfl rfl (pc' := 39) ?_
    obtain ⟨a5, rfl, H⟩ := H
    obtain ⟨ht6, H⟩ := H
    refine g_getRv rfl rfl rfl rfl ht6 (pc' := 42) rfl (fun r7 hr7 => ?_)
    replace H := H r7 hr7
    refine g_iload rfl rfl rfl (pc' := 44) ?_
    obtain ⟨a8, rfl, H⟩ := H
    obtain ⟨ht10, H⟩ := H
    obtain ⟨n9, hn9, H⟩ := H
    refine g_aaloadv rfl ht10 hn9 (pc' := 45) rfl (fun r11 hr11 => ?_)
    replace H := H r11 hr11
    obtain ⟨a12, rfl, H⟩ := H
    obtain ⟨ht13, H⟩ := H
    refine g_getI rfl rfl rfl rfl ht13 (pc' := 48) rfl ?_
    refine g_iconst rfl rfl rfl (pc' := 49) ?_
    refine g_ic_ne rfl (pc' := 52) (pt := 56) rfl rfl ⟨fun hc => ?_, fun hc => ?_⟩
    · replace H := H.1 hc
      refine g_iconst rfl rfl rfl (pc' := 57) ?_
      exact g_weak (show gm_Lle [none, none, none, none, none, none, none, some _] _ from ⟨rfl, trivial⟩) H
    · replace H := H.2 hc
      refine g_iconst rfl rfl rfl (pc' := 53) ?_
      refine g_goto rfl (pc' := 57) rfl ?_
      exact g_weak (show gm_Lle [none, none, none, none, none, none, none, some _] _ from ⟨rfl, trivial⟩) H
  · exact H
set_option maxRecDepth 20000 in
theorem w_551_57 {a0 : Nat} {x7 : Int32} {y0 : Int32} {h : hh_T} {Q : Option Value ⊕ Nat → hh_T → Prop} (H : gm_G 431 0 [some (.int y0), some (.int (Int32.ofInt (-10)))] [] h (pV (fun h1 => Q (.inl (some (.int x7))) h1) (fun e2 h3 => hh_tg h3 e2 = 21 ∧ Q (.inr e2) h3))) : gm_G 551 57 [none, none, none, none, none, none, none, some (.int x7)] [.int y0] h Q := by
  refine g_iconst rfl rfl rfl (pc' := 59) ?_
  refine g_call rfl (y := 431) (n := 2) (pc' := 62) (fun _ => rfl) rfl rfl ⟨(Nat.le_of_ble_eq_true rfl), (Nat.le_of_ble_eq_true rfl), (Nat.le_of_ble_eq_true rfl)⟩ rfl (gm_G.mono H (pV_elim (fun h1 H' => ?_) (fun e2 h3 H => ?_)))
  · show gm_G _ 62 _ _ _ _
    replace H := H'
    clear H'
    refine g_iload rfl rfl rfl (pc' := 64) ?_
    exact g_ireturn rfl (Or.inl rfl) H
  · exact H
set_option maxRecDepth 20000 in
theorem w_552_0 {a0 : Nat} {x1 : Int32} {h : hh_T} {Q : Option Value ⊕ Nat → hh_T → Prop} (H : hh_tg h a0 = 1 ∧ (gm_G 243 0 [some (.ref a0)] [] h (pV (fun h2 => hh_tg h2 a0 = 1 ∧ (gm_G 456 0 [some (.ref a0)] [] h2 (pV (fun h4 => gm_sub (hh_tg h4 a0) 0 = true ∧ (∀ r6, r6 = hh_r h4 a0 58 → (∀ r7, r7 = hh_r h4 a0 58 → (∃ a8, r7 = some a8 ∧ (gm_sub (hh_tg h4 a8) 12 = true ∧ (gm_G 344 0 [some (va_rf r6), some (.int (Int32.ofNat 0)), some (.int (hh_i h4 a8 1))] [] h4 (pI (fun v11 h10 => gm_G 457 0 [some (.int v11)] [] h10 (pV (fun h12 => hh_tg h12 a0 = 1 ∧ (gm_G 453 0 [some (.ref a0), some (.int x1)] [] h12 (pR (fun r15 h14 => gm_G 552 32 [some (.ref a0), some (.int x1), some (va_rf r15)] [] h14 Q) (fun e16 h17 => hh_tg h17 e16 = 21 ∧ gm_G 552 191 [some (.ref a0)] [.ref e16] h17 Q)))) (fun e18 h19 => hh_tg h19 e18 = 21 ∧ gm_G 552 191 [some (.ref a0)] [.ref e18] h19 Q))) (fun e20 h21 => hh_tg h21 e20 = 21 ∧ gm_G 552 191 [some (.ref a0)] [.ref e20] h21 Q)))))))) (fun e22 h23 => hh_tg h23 e22 = 21 ∧ gm_G 552 191 [some (.ref a0)] [.ref e22] h23 Q)))) (fun e24 h25 => hh_tg h25 e24 = 21 ∧ Q (.inr e24) h25)))) : gm_G 552 0 [some (.ref a0), some (.int x1)] [] h Q := by
  refine g_aload (r := some _) rfl rfl rfl (pc' := 1) ?_
  obtain ⟨ht1, H⟩ := H
  refine g_call rfl (y := 243) (n := 1) (pc' := 4) (g_vt ht1 rfl rfl) rfl rfl ⟨(Nat.le_of_ble_eq_true rfl), (Nat.le_of_ble_eq_true rfl), (Nat.le_of_ble_eq_true rfl)⟩ rfl (gm_G.mono H (pV_elim (fun h2 H' => ?_) (fun e24 h25 H => ?_)))
  · show gm_G _ 4 _ _ _ _
    replace H := H'
    clear H'
    refine g_aload (r := some _) rfl rfl rfl (pc' := 5) ?_
    obtain ⟨ht3, H⟩ := H
    refine g_call rfl (y := 456) (n := 1) (pc' := 8) (g_vt ht3 rfl rfl) rfl rfl ⟨(Nat.le_of_ble_eq_true rfl), (Nat.le_of_ble_eq_true rfl), (Nat.le_of_ble_eq_true rfl)⟩ rfl (gm_G.mono H (pV_elim (fun h4 H' => ?_) (fun e22 h23 H => ?_)))
    · show gm_G _ 8 _ _ _ _
      replace H := H'
      clear H'
      refine g_aload (r := some _) rfl rfl rfl (pc' := 9) ?_
      obtain ⟨ht5, H⟩ := H
      refine g_getRv rfl rfl rfl rfl ht5 (pc' := 12) rfl (fun r6 hr6 => ?_)
      replace H := H r6 hr6
      refine g_iconst rfl rfl rfl (pc' := 13) ?_
      refine g_aload (r := some _) rfl rfl rfl (pc' := 14) ?_
      refine g_getRv rfl rfl rfl rfl ht5 (pc' := 17) rfl (fun r7 hr7 => ?_)
      replace H := H r7 hr7
      obtain ⟨a8, rfl, H⟩ := H
      obtain ⟨ht9, H⟩ := H
      refine g_getI rfl rfl rfl rfl ht9 (pc' := 20) rfl ?_
      refine g_call rfl (y := 344) (n := 3) (pc' := 23) (fun _ => rfl) (by cases r6 <;> rfl) rfl ⟨(Nat.le_of_ble_eq_true rfl), (Nat.le_of_ble_eq_true rfl), (Nat.le_of_ble_eq_true rfl)⟩ rfl (gm_G.mono H (pI_elim (fun v11 h10 H' => ?_) (fun e20 h21 H => ?_)))
      · show gm_G _ 23 _ _ _ _
        replace H := H'
        clear H'
        refine g_call rfl (y := 457) (n := 1) (pc' := 26) (fun _ => rfl) rfl rfl ⟨(Nat.le_of_ble_eq_true rfl), (Nat.le_of_ble_eq_true rfl), (Nat.le_of_ble_eq_true rfl)⟩ rfl (gm_G.mono H (pV_elim (fun h12 H' => ?_) (fun e18 h19 H => ?_)))
        · show gm_G _ 26 _ _ _ _
          replace H := H'
          clear H'
          refine g_aload (r := some _) rfl rfl rfl (pc' := 27) ?_
          refine g_iload rfl rfl rfl (pc' := 28) ?_
          obtain ⟨ht13, H⟩ := H
          refine g_call rfl (y := 453) (n := 2) (pc' := 31) (g_vt ht13 rfl rfl) rfl rfl ⟨(Nat.le_of_ble_eq_true rfl), (Nat.le_of_ble_eq_true rfl), (Nat.le_of_ble_eq_true rfl)⟩ rfl (gm_G.mono H (pR_elim (fun r15 h14 H' => ?_) (fun e16 h17 H => ?_)))
          · show gm_G _ 31 _ _ _ _
            replace H := H'
            clear H'
            refine g_astore (r := _) rfl rfl rfl (pc' := 32) ?_
            exact g_weak (show gm_Lle [some _, some _, some _] _ from ⟨rfl, ⟨rfl, ⟨rfl, trivial⟩⟩⟩) H
          · exact ⟨H.1, g_weak (show gm_Lle [some _] _ from ⟨rfl, trivial⟩) H.2⟩
        · exact ⟨H.1, g_weak (show gm_Lle [some _] _ from ⟨rfl, trivial⟩) H.2⟩
      · exact ⟨H.1, g_weak (show gm_Lle [some _] _ from ⟨rfl, trivial⟩) H.2⟩
    · exact ⟨H.1, g_weak (show gm_Lle [some _] _ from ⟨rfl, trivial⟩) H.2⟩
  · exact H
set_option maxRecDepth 20000 in
theorem w_552_32 {a0 : Nat} {x1 : Int32} {r_2 : Option Nat} {h : hh_T} {Q : Option Value ⊕ Nat → hh_T → Prop} (H : ∃ a1, r_2 = some a1 ∧ (gm_sub (hh_tg h a1) 23 = true ∧ ((¬ (hh_i h a1 2) = Int32.ofNat 0 → (gm_G 552 44 [some (.ref a0), some (.int x1), some (.ref a1)] [.int (Int32.ofNat 0)] h Q)) ∧ ((hh_i h a1 2) = Int32.ofNat 0 → (gm_G 552 44 [some (.ref a0), some (.int x1), some (.ref a1)] [.int (Int32.ofNat 1)] h Q))))) : gm_G 552 32 [some (.ref a0), some (.int x1), some (va_rf r_2)] [] h Q := by
  refine g_aload (r := _) rfl rfl rfl (pc' := 33) ?_
  obtain ⟨a1, rfl, H⟩ := H
  obtain ⟨ht2, H⟩ := H
  refine g_getI rfl rfl rfl rfl ht2 (pc' := 36) rfl ?_
  refine g_if_ne rfl (pc' := 39) (pt := 43) rfl rfl ⟨fun hc => ?_, fun hc => ?_⟩
  · replace H := H.1 hc
    refine g_iconst rfl rfl rfl (pc' := 44) ?_
    exact g_weak (show gm_Lle [some _, some _, some _] _ from ⟨rfl, ⟨rfl, ⟨rfl, trivial⟩⟩⟩) H
  · replace H := H.2 hc
    refine g_iconst rfl rfl rfl (pc' := 40) ?_
    refine g_goto rfl (pc' := 44) rfl ?_
    exact g_weak (show gm_Lle [some _, some _, some _] _ from ⟨rfl, ⟨rfl, ⟨rfl, trivial⟩⟩⟩) H
set_option maxRecDepth 20000 in
theorem w_552_44 {a0 : Nat} {x1 : Int32} {r_2 : Option Nat} {y0 : Int32} {h : hh_T} {Q : Option Value ⊕ Nat → hh_T → Prop} (H : gm_G 431 0 [some (.int y0), some (.int (Int32.ofInt (-10)))] [] h (pV (fun h1 => ∃ a2, r_2 = some a2 ∧ (gm_sub (hh_tg h1 a2) 23 = true ∧ (∀ r4, r4 = hh_r h1 a2 9 → (gm_sub (hh_tg h1 a0) 0 = true ∧ (∀ r6, r6 = hh_r h1 a0 58 → (∀ r7, r7 = hh_r h1 a0 58 → (∃ a8, r7 = some a8 ∧ (gm_sub (hh_tg h1 a8) 12 = true ∧ (hh_tg h1 a0 = 1 ∧ (gm_G 533 0 [some (.ref a0), some (va_rf r4), some (.int (hh_i h1 a0 41)), some (va_rf r6), some (.int (Int32.ofNat 0)), some (.int (hh_i h1 a8 1)), some (.int (Int32.ofNat 1))] [] h1 (pI (fun v12 h11 => gm_sub (hh_tg h11 a2) 23 = true ∧ (∀ r14, r14 = hh_r h11 a2 9 → (∃ a15, r14 = some a15 ∧ (gm_sub (hh_tg h11 a15) 24 = true ∧ (∀ r17, r17 = hh_r h11 a15 2 → (∃ a18, r17 = some a18 ∧ ((hh_tg h11 a18 = 104 ∨ 200 ≤ hh_tg h11 a18) ∧ (∃ n19, gm_ix v12 n19 (hh_ln h11 a18) ∧ (∀ r21, r21 = hh_r h11 a18 n19 → (∃ a22, r21 = some a22 ∧ (gm_sub (hh_tg h11 a22) 25 = true ∧ ((¬ (hh_i h11 a22 1) = (Int32.ofNat 2) → (gm_G 552 96 [some (.ref a0), some (.int x1), some (.ref a2), some (.int v12)] [.int (Int32.ofNat 0)] h11 Q)) ∧ ((hh_i h11 a22 1) = (Int32.ofNat 2) → (gm_G 552 96 [some (.ref a0), some (.int x1), some (.ref a2), some (.int v12)] [.int (Int32.ofNat 1)] h11 Q)))))))))))))) (fun e24 h25 => hh_tg h25 e24 = 21 ∧ gm_G 552 191 [some (.ref a0)] [.ref e24] h25 Q)))))))))))) (fun e26 h27 => hh_tg h27 e26 = 21 ∧ gm_G 552 191 [some (.ref a0)] [.ref e26] h27 Q))) : gm_G 552 44 [some (.ref a0), some (.int x1), some (va_rf r_2)] [.int y0] h Q := by
  refine g_iconst rfl rfl rfl (pc' := 46) ?_
  refine g_call rfl (y := 431) (n := 2) (pc' := 49) (fun _ => rfl) rfl rfl ⟨(Nat.le_of_ble_eq_true rfl), (Nat.le_of_ble_eq_true rfl), (Nat.le_of_ble_eq_true rfl)⟩ rfl (gm_G.mono H (pV_elim (fun h1 H' => ?_) (fun e26 h27 H => ?_)))
  · show gm_G _ 49 _ _ _ _
    replace H := H'
    clear H'
    refine g_aload (r := some _) rfl rfl rfl (pc' := 50) ?_
    refine g_aload (r := _) rfl rfl rfl (pc' := 51) ?_
    obtain ⟨a2, rfl, H⟩ := H
    obtain ⟨ht3, H⟩ := H
    refine g_getRv rfl rfl rfl rfl ht3 (pc' := 54) rfl (fun r4 hr4 => ?_)
    replace H := H r4 hr4
    refine g_aload (r := some _) rfl rfl rfl (pc' := 55) ?_
    obtain ⟨ht5, H⟩ := H
    refine g_getI rfl rfl rfl rfl ht5 (pc' := 58) rfl ?_
    refine g_aload (r := some _) rfl rfl rfl (pc' := 59) ?_
    refine g_getRv rfl rfl rfl rfl ht5 (pc' := 62) rfl (fun r6 hr6 => ?_)
    replace H := H r6 hr6
    refine g_iconst rfl rfl rfl (pc' := 63) ?_
    refine g_aload (r := some _) rfl rfl rfl (pc' := 64) ?_
    refine g_getRv rfl rfl rfl rfl ht5 (pc' := 67) rfl (fun r7 hr7 => ?_)
    replace H := H r7 hr7
    obtain ⟨a8, rfl, H⟩ := H
    obtain ⟨ht9, H⟩ := H
    refine g_getI rfl rfl rfl rfl ht9 (pc' := 70) rfl ?_
    refine g_iconst rfl rfl rfl (pc' := 71) ?_
    obtain ⟨ht10, H⟩ := H
    refine g_call rfl (y := 533) (n := 7) (pc' := 74) (g_vt ht10 rfl rfl) (by cases r4 <;> cases r6 <;> rfl) rfl ⟨(Nat.le_of_ble_eq_true rfl), (Nat.le_of_ble_eq_true rfl), (Nat.le_of_ble_eq_true rfl)⟩ rfl (gm_G.mono H (pI_elim (fun v12 h11 H' => ?_) (fun e24 h25 H => ?_)))
    · show gm_G _ 74 _ _ _ _
      replace H := H'
      clear H'
      refine g_istore rfl rfl rfl (pc' := 75) ?_
      refine g_aload (r := some _) rfl rfl rfl (pc' := 76) ?_
      obtain ⟨ht13, H⟩ := H
      refine g_getRv rfl rfl rfl rfl ht13 (pc' := 79) rfl (fun r14 hr14 => ?_)
      replace H := H r14 hr14
      obtain ⟨a15, rfl, H⟩ := H
      obtain ⟨ht16, H⟩ := H
      refine g_getRv rfl rfl rfl rfl ht16 (pc' := 82) rfl (fun r17 hr17 => ?_)
      replace H := H r17 hr17
      refine g_iload rfl rfl rfl (pc' := 83) ?_
      obtain ⟨a18, rfl, H⟩ := H
      obtain ⟨ht20, H⟩ := H
      obtain ⟨n19, hn19, H⟩ := H
      refine g_aaloadv rfl ht20 hn19 (pc' := 84) rfl (fun r21 hr21 => ?_)
      replace H := H r21 hr21
      obtain ⟨a22, rfl, H⟩ := H
      obtain ⟨ht23, H⟩ := H
      refine g_getI rfl rfl rfl rfl ht23 (pc' := 87) rfl ?_
      refine g_iconst rfl rfl rfl (pc' := 88) ?_
      refine g_ic_ne rfl (pc' := 91) (pt := 95) rfl rfl ⟨fun hc => ?_, fun hc => ?_⟩
      · replace H := H.1 hc
        refine g_iconst rfl rfl rfl (pc' := 96) ?_
        exact g_weak (show gm_Lle [some _, some _, some _, some _] _ from ⟨rfl, ⟨rfl, ⟨rfl, ⟨rfl, trivial⟩⟩⟩⟩) H
      · replace H := H.2 hc
        refine g_iconst rfl rfl rfl (pc' := 92) ?_
        refine g_goto rfl (pc' := 96) rfl ?_
        exact g_weak (show gm_Lle [some _, some _, some _, some _] _ from ⟨rfl, ⟨rfl, ⟨rfl, ⟨rfl, trivial⟩⟩⟩⟩) H
    · exact ⟨H.1, g_weak (show gm_Lle [some _] _ from ⟨rfl, trivial⟩) H.2⟩
  · exact ⟨H.1, g_weak (show gm_Lle [some _] _ from ⟨rfl, trivial⟩) H.2⟩
set_option maxRecDepth 20000 in
theorem w_552_96 {a0 : Nat} {x1 : Int32} {r_2 : Option Nat} {x3 : Int32} {y0 : Int32} {h : hh_T} {Q : Option Value ⊕ Nat → hh_T → Prop} (H : gm_G 431 0 [some (.int y0), some (.int (Int32.ofInt (-10)))] [] h (pV (fun h1 => ∃ a2, r_2 = some a2 ∧ (gm_sub (hh_tg h1 a2) 23 = true ∧ (∀ r4, r4 = hh_r h1 a2 9 → (∃ a5, r4 = some a5 ∧ (gm_sub (hh_tg h1 a5) 24 = true ∧ (∀ r7, r7 = hh_r h1 a5 2 → (∃ a8, r7 = some a8 ∧ ((hh_tg h1 a8 = 104 ∨ 200 ≤ hh_tg h1 a8) ∧ (∃ n9, gm_ix x3 n9 (hh_ln h1 a8) ∧ (∀ r11, r11 = hh_r h1 a8 n9 → (gm_sub (hh_tg h1 a0) 0 = true ∧ (hh_tg h1 a0 = 1 ∧ (gm_G 393 0 [some (.ref a0), some (va_rf r11), some (.int (hh_i h1 a0 41)), some (.int (Int32.ofNat 4))] [] h1 (pI (fun v15 h14 => gm_G 431 0 [some (.int v15), some (.int (Int32.ofInt (-6)))] [] h14 (pV (fun h16 => gm_G 552 127 [some (.ref a0), some (.int x1), none, some (.int x3), some (.int (Int32.ofNat 0))] [] h16 Q) (fun e17 h18 => hh_tg h18 e17 = 21 ∧ gm_G 552 191 [some (.ref a0)] [.ref e17] h18 Q))) (fun e19 h20 => hh_tg h20 e19 = 21 ∧ gm_G 552 191 [some (.ref a0)] [.ref e19] h20 Q))))))))))))))) (fun e21 h22 => hh_tg h22 e21 = 21 ∧ gm_G 552 191 [some (.ref a0)] [.ref e21] h22 Q))) : gm_G 552 96 [some (.ref a0), some (.int x1), some (va_rf r_2), some (.int x3)] [.int y0] h Q := by
  refine g_iconst rfl rfl rfl (pc' := 98) ?_
  refine g_call rfl (y := 431) (n := 2) (pc' := 101) (fun _ => rfl) rfl rfl ⟨(Nat.le_of_ble_eq_true rfl), (Nat.le_of_ble_eq_true rfl), (Nat.le_of_ble_eq_true rfl)⟩ rfl (gm_G.mono H (pV_elim (fun h1 H' => ?_) (fun e21 h22 H => ?_)))
  · show gm_G _ 101 _ _ _ _
    replace H := H'
    clear H'
    refine g_aload (r := some _) rfl rfl rfl (pc' := 102) ?_
    refine g_aload (r := _) rfl rfl rfl (pc' := 103) ?_
    obtain ⟨a2, rfl, H⟩ := H
    obtain ⟨ht3, H⟩ := H
    refine g_getRv rfl rfl rfl rfl ht3 (pc' := 106) rfl (fun r4 hr4 => ?_)
    replace H := H r4 hr4
    obtain ⟨a5, rfl, H⟩ := H
    obtain ⟨ht6, H⟩ := H
    refine g_getRv rfl rfl rfl rfl ht6 (pc' := 109) rfl (fun r7 hr7 => ?_)
    replace H := H r7 hr7
    refine g_iload rfl rfl rfl (pc' := 110) ?_
    obtain ⟨a8, rfl, H⟩ := H
    obtain ⟨ht10, H⟩ := H
    obtain ⟨n9, hn9, H⟩ := H
    refine g_aaloadv rfl ht10 hn9 (pc' := 111) rfl (fun r11 hr11 => ?_)
    replace H := H r11 hr11
    refine g_aload (r := some _) rfl rfl rfl (pc' := 112) ?_
    obtain ⟨ht12, H⟩ := H
    refine g_getI rfl rfl rfl rfl ht12 (pc' := 115) rfl ?_
    refine g_iconst rfl rfl rfl (pc' := 116) ?_
    obtain ⟨ht13, H⟩ := H
    refine g_call rfl (y := 393) (n := 4) (pc' := 119) (g_vt ht13 rfl rfl) (by cases r11 <;> rfl) rfl ⟨(Nat.le_of_ble_eq_true rfl), (Nat.le_of_ble_eq_true rfl), (Nat.le_of_ble_eq_true rfl)⟩ rfl (gm_G.mono H (pI_elim (fun v15 h14 H' => ?_) (fun e19 h20 H => ?_)))
    · show gm_G _ 119 _ _ _ _
      replace H := H'
      clear H'
      refine g_iconst rfl rfl rfl (pc' := 121) ?_
      refine g_call rfl (y := 431) (n := 2) (pc' := 124) (fun _ => rfl) rfl rfl ⟨(Nat.le_of_ble_eq_true rfl), (Nat.le_of_ble_eq_true rfl), (Nat.le_of_ble_eq_true rfl)⟩ rfl (gm_G.mono H (pV_elim (fun h16 H' => ?_) (fun e17 h18 H => ?_)))
      · show gm_G _ 124 _ _ _ _
        replace H := H'
        clear H'
        refine g_iconst rfl rfl rfl (pc' := 125) ?_
        refine g_istore rfl rfl rfl (pc' := 127) ?_
        exact g_weak (show gm_Lle [some _, some _, none, some _, some _] _ from ⟨rfl, ⟨rfl, ⟨rfl, ⟨rfl, trivial⟩⟩⟩⟩) H
      · exact ⟨H.1, g_weak (show gm_Lle [some _] _ from ⟨rfl, trivial⟩) H.2⟩
    · exact ⟨H.1, g_weak (show gm_Lle [some _] _ from ⟨rfl, trivial⟩) H.2⟩
  · exact ⟨H.1, g_weak (show gm_Lle [some _] _ from ⟨rfl, trivial⟩) H.2⟩
set_option maxRecDepth 20000 in
theorem w_552_127 {a0 : Nat} {x1 : Int32} {x3 : Int32} {x4 : Int32} {h : hh_T} {Q : Option Value ⊕ Nat → hh_T → Prop} (H : (¬ x4 < (Int32.ofNat 4) → (∀ a1 h2, a1 = hh_sz h → h2 = hh_al h 21 0 7 → (gm_G 425 0 [some (.ref a1), some (.int (Int32.ofInt (-3)))] [] h2 (pV (fun h3 => hh_tg h3 a1 = 21 ∧ gm_G 552 191 [some (.ref a0)] [.ref a1] h3 Q) (fun e4 h5 => hh_tg h5 e4 = 21 ∧ gm_G 552 191 [some (.ref a0)] [.ref e4] h5 Q))))) ∧ (x4 < (Int32.ofNat 4) → (gm_sub (hh_tg h a0) 0 = true ∧ (∀ r7, r7 = hh_r h a0 52 → (∃ a8, r7 = some a8 ∧ (gm_sub (hh_tg h a8) 15 = true ∧ (∀ r10, r10 = hh_r h a8 0 → (∃ a11, r10 = some a11 ∧ ((hh_tg h a11 = 104 ∨ 200 ≤ hh_tg h a11) ∧ (∃ n12, gm_ix x4 n12 (hh_ln h a11) ∧ (∀ r14, r14 = hh_r h a11 n12 → ((r14 = none → (∀ r16, r16 = hh_r h a0 52 → (∃ a17, r16 = some a17 ∧ (gm_sub (hh_tg h a17) 15 = true ∧ (∀ r19, r19 = hh_r h a17 0 → (∀ a20 h21, a20 = hh_sz h → h21 = hh_al h 48 0 5 → (gm_G 214 0 [some (.ref a20), some (.int x1), some (.int x3)] [] h21 (pV (fun h22 => ∃ a23, r19 = some a23 ∧ (200 ≤ hh_tg h22 a23 ∧ (gm_as (hh_tg h22 a23) (hh_tg h22 a20) = true) ∧ (∃ n24, gm_ix x4 n24 (hh_ln h22 a23) ∧ (∀ h25, h25 = hh_wr h22 a23 n24 (some a20) → (hh_tg h25 a0 = 1 ∧ (gm_G 4 0 [some (.ref a0), some (.int x4)] [] h25 (pI (fun v28 h27 => Q (.inl (some (.int v28))) h27) (fun e29 h30 => hh_tg h30 e29 = 21 ∧ gm_G 552 191 [some (.ref a0)] [.ref e29] h30 Q)))))))) (fun e31 h32 => hh_tg h32 e31 = 21 ∧ gm_G 552 191 [some (.ref a0)] [.ref e31] h32 Q))))))))) ∧ (∀ a15, r14 = some a15 → (gm_G 552 127 [some (.ref a0), some (.int x1), none, some (.int x3), some (.int (x4 + (Int32.ofNat 1)))] [] h Q)))))))))))))) : gm_G 552 127 [some (.ref a0), some (.int x1), none, some (.int x3), some (.int x4)] [] h Q := by
  refine g_iload rfl rfl rfl (pc' := 129) ?_
  refine g_iconst rfl rfl rfl (pc' := 130) ?_
  refine g_ic_ge rfl (pc' := 133) (pt := 181) rfl rfl ⟨fun hc => ?_, fun hc => ?_⟩
  · replace H := H.1 hc
    refine g_new rfl (t := 21) (s := 7) rfl rfl (pc' := 184) rfl ?_
    replace H := H _ _ rfl rfl
    refine g_dup_a (r := some _) rfl rfl (pc' := 185) ?_
    refine g_iconst rfl rfl rfl (pc' := 187) ?_
    refine g_call rfl (y := 425) (n := 2) (pc' := 190) (fun _ => rfl) rfl rfl ⟨(Nat.le_of_ble_eq_true rfl), (Nat.le_of_ble_eq_true rfl), (Nat.le_of_ble_eq_true rfl)⟩ rfl (gm_G.mono H (pV_elim (fun h3 H' => ?_) (fun e4 h5 H => ?_)))
    · show gm_G _ 190 _ _ _ _
      replace H := H'
      clear H'
      exact g_throw_c rfl H.1 rfl (g_weak (show gm_Lle [some _] _ from ⟨rfl, trivial⟩) H.2)
    · exact ⟨H.1, g_weak (show gm_Lle [some _] _ from ⟨rfl, trivial⟩) H.2⟩
  · replace H := H.2 hc
    refine g_aload (r := some _) rfl rfl rfl (pc' := 134) ?_
    obtain ⟨ht6, H⟩ := H
    refine g_getRv rfl rfl rfl rfl ht6 (pc' := 137) rfl (fun r7 hr7 => ?_)
    replace H := H r7 hr7
    obtain ⟨a8, rfl, H⟩ := H
    obtain ⟨ht9, H⟩ := H
    refine g_getRv rfl rfl rfl rfl ht9 (pc' := 140) rfl (fun r10 hr10 => ?_)
    replace H := H r10 hr10
    refine g_iload rfl rfl rfl (pc' := 142) ?_
    obtain ⟨a11, rfl, H⟩ := H
    obtain ⟨ht13, H⟩ := H
    obtain ⟨n12, hn12, H⟩ := H
    refine g_aaloadv rfl ht13 hn12 (pc' := 143) rfl (fun r14 hr14 => ?_)
    replace H := H r14 hr14
    refine g_ifnull rfl (pc' := 146) (pt := 149) rfl rfl ⟨fun hc => ?_, fun a15 hc => ?_⟩
    · replace H := H.1 hc
      subst hc
      refine g_aload (r := some _) rfl rfl rfl (pc' := 150) ?_
      refine g_getRv rfl rfl rfl rfl ht6 (pc' := 153) rfl (fun r16 hr16 => ?_)
      replace H := H r16 hr16
      obtain ⟨a17, rfl, H⟩ := H
      obtain ⟨ht18, H⟩ := H
      refine g_getRv rfl rfl rfl rfl ht18 (pc' := 156) rfl (fun r19 hr19 => ?_)
      replace H := H r19 hr19
      refine g_iload rfl rfl rfl (pc' := 158) ?_
      refine g_new rfl (t := 48) (s := 5) rfl rfl (pc' := 161) rfl ?_
      replace H := H _ _ rfl rfl
      refine g_dup_a (r := some _) rfl rfl (pc' := 162) ?_
      refine g_iload rfl rfl rfl (pc' := 163) ?_
      refine g_iload rfl rfl rfl (pc' := 164) ?_
      refine g_call rfl (y := 214) (n := 3) (pc' := 167) (fun _ => rfl) rfl rfl ⟨(Nat.le_of_ble_eq_true rfl), (Nat.le_of_ble_eq_true rfl), (Nat.le_of_ble_eq_true rfl)⟩ rfl (gm_G.mono H (pV_elim (fun h22 H' => ?_) (fun e31 h32 H => ?_)))
      · show gm_G _ 167 _ _ _ _
        replace H := H'
        clear H'
        obtain ⟨a23, rfl, H⟩ := H
        obtain ⟨Ha, Hb, H⟩ := H
        obtain ⟨n24, hn24, H⟩ := H
        refine g_aastore (r := some _) rfl Ha (fun b hb => by cases hb; exact Hb) hn24 (pc' := 168) rfl ?_
        replace H := H _ rfl
        refine g_aload (r := some _) rfl rfl rfl (pc' := 169) ?_
        refine g_iload rfl rfl rfl (pc' := 171) ?_
        obtain ⟨ht26, H⟩ := H
        refine g_call rfl (y := 4) (n := 2) (pc' := 174) (g_vt ht26 rfl rfl) rfl rfl ⟨(Nat.le_of_ble_eq_true rfl), (Nat.le_of_ble_eq_true rfl), (Nat.le_of_ble_eq_true rfl)⟩ rfl (gm_G.mono H (pI_elim (fun v28 h27 H' => ?_) (fun e29 h30 H => ?_)))
        · show gm_G _ 174 _ _ _ _
          replace H := H'
          clear H'
          exact g_ireturn rfl (Or.inl rfl) H
        · exact ⟨H.1, g_weak (show gm_Lle [some _] _ from ⟨rfl, trivial⟩) H.2⟩
      · exact ⟨H.1, g_weak (show gm_Lle [some _] _ from ⟨rfl, trivial⟩) H.2⟩
    · replace H := H.2 a15 hc
      subst hc
      refine g_goto rfl (pc' := 175) rfl ?_
      refine g_iinc (c := (Int32.ofNat 1)) rfl rfl rfl rfl rfl (pc' := 178) ?_
      refine g_goto rfl (pc' := 127) rfl ?_
      exact g_weak (show gm_Lle [some _, some _, none, some _, some _] _ from ⟨rfl, ⟨rfl, ⟨rfl, ⟨rfl, trivial⟩⟩⟩⟩) H
set_option maxRecDepth 20000 in
theorem w_552_191 {a0 : Nat} {ex : Nat} {h : hh_T} {Q : Option Value ⊕ Nat → hh_T → Prop} (H : hh_tg h a0 = 1 ∧ (gm_G 1 0 [some (.ref a0), some (.ref ex)] [] h (pI (fun v3 h2 => Q (.inl (some (.int v3))) h2) (fun e4 h5 => hh_tg h5 e4 = 21 ∧ Q (.inr e4) h5)))) : gm_G 552 191 [some (.ref a0)] [.ref ex] h Q := by
  refine g_astore (r := some _) rfl rfl rfl (pc' := 192) ?_
  refine g_aload (r := some _) rfl rfl rfl (pc' := 193) ?_
  refine g_aload (r := some _) rfl rfl rfl (pc' := 194) ?_
  obtain ⟨ht1, H⟩ := H
  refine g_call rfl (y := 1) (n := 2) (pc' := 197) (g_vt ht1 rfl rfl) rfl rfl ⟨(Nat.le_of_ble_eq_true rfl), (Nat.le_of_ble_eq_true rfl), (Nat.le_of_ble_eq_true rfl)⟩ rfl (gm_G.mono H (pI_elim (fun v3 h2 H' => ?_) (fun e4 h5 H => ?_)))
  · show gm_G _ 197 _ _ _ _
    replace H := H'
    clear H'
    exact g_ireturn rfl (Or.inl rfl) H
  · exact H
set_option maxRecDepth 20000 in
theorem w_553_0 {a0 : Nat}  {h : hh_T} {Q : Option Value ⊕ Nat → hh_T → Prop} (H : gm_sub (hh_tg h a0) 1 = true ∧ (∀ h2, h2 = hh_wi h a0 0 (Int32.ofNat 0) → (∀ r3, r3 = hh_r h2 a0 5 → (∃ a4, r3 = some a4 ∧ (hh_tg h2 a4 = 1 ∧ (gm_G 524 0 [some (.ref a4)] [] h2 (pV (fun h6 => ∀ a7 h8, a7 = hh_sz h6 → h8 = hh_al h6 21 0 7 → (gm_G 425 0 [some (.ref a7), some (.int (Int32.ofInt (-12)))] [] h8 (pV (fun h9 => hh_tg h9 a7 = 21 ∧ Q (.inr a7) h9) (fun e10 h11 => hh_tg h11 e10 = 21 ∧ Q (.inr e10) h11)))) (fun e12 h13 => hh_tg h13 e12 = 21 ∧ Q (.inr e12) h13)))))))) : gm_G 553 0 [some (.ref a0)] [] h Q := by
  refine g_aload (r := some _) rfl rfl rfl (pc' := 1) ?_
  refine g_iconst rfl rfl rfl (pc' := 2) ?_
  obtain ⟨ht1, H⟩ := H
  refine g_putZ rfl rfl rfl rfl ht1 (by decide) (pc' := 5) rfl ?_
  replace H := H _ rfl
  refine g_aload (r := some _) rfl rfl rfl (pc' := 6) ?_
  refine g_getRv rfl rfl rfl rfl ht1 (pc' := 9) rfl (fun r3 hr3 => ?_)
  replace H := H r3 hr3
  obtain ⟨a4, rfl, H⟩ := H
  obtain ⟨ht5, H⟩ := H
  refine g_call rfl (y := 524) (n := 1) (pc' := 12) (g_vt ht5 rfl rfl) rfl rfl ⟨(Nat.le_of_ble_eq_true rfl), (Nat.le_of_ble_eq_true rfl), (Nat.le_of_ble_eq_true rfl)⟩ rfl (gm_G.mono H (pV_elim (fun h6 H' => ?_) (fun e12 h13 H => ?_)))
  · show gm_G _ 12 _ _ _ _
    replace H := H'
    clear H'
    refine g_new rfl (t := 21) (s := 7) rfl rfl (pc' := 15) rfl ?_
    replace H := H _ _ rfl rfl
    refine g_dup_a (r := some _) rfl rfl (pc' := 16) ?_
    refine g_iconst rfl rfl rfl (pc' := 18) ?_
    refine g_call rfl (y := 425) (n := 2) (pc' := 21) (fun _ => rfl) rfl rfl ⟨(Nat.le_of_ble_eq_true rfl), (Nat.le_of_ble_eq_true rfl), (Nat.le_of_ble_eq_true rfl)⟩ rfl (gm_G.mono H (pV_elim (fun h9 H' => ?_) (fun e10 h11 H => ?_)))
    · show gm_G _ 21 _ _ _ _
      replace H := H'
      clear H'
      exact g_throw rfl H.1 rfl H.2
    · exact H
  · exact H
set_option maxRecDepth 20000 in
theorem w_554_0 {a0 : Nat} {r_1 : Option Nat} {h : hh_T} {Q : Option Value ⊕ Nat → hh_T → Prop} (H : gm_sub (hh_tg h a0) 17 = true ∧ (∀ r2, r2 = hh_r h a0 6 → (∃ a3, r2 = some a3 ∧ (gm_sub (hh_tg h a3) 12 = true ∧ ((¬ (hh_i h a3 1) = (Int32.ofNat 6) → (gm_G 554 18 [none, some (va_rf r_1)] [.int (Int32.ofNat 0), .ref a0] h Q)) ∧ ((hh_i h a3 1) = (Int32.ofNat 6) → (gm_G 554 18 [none, some (va_rf r_1)] [.int (Int32.ofNat 1), .ref a0] h Q))))))) : gm_G 554 0 [some (.ref a0), some (va_rf r_1)] [] h Q := by
  refine g_aload (r := some _) rfl rfl rfl (pc' := 1) ?_
  refine g_aload (r := some _) rfl rfl rfl (pc' := 2) ?_
  obtain ⟨ht1, H⟩ := H
  refine g_getRv rfl rfl rfl rfl ht1 (pc' := 5) rfl (fun r2 hr2 => ?_)
  replace H := H r2 hr2
  obtain ⟨a3, rfl, H⟩ := H
  obtain ⟨ht4, H⟩ := H
  refine g_getI rfl rfl rfl rfl ht4 (pc' := 8) rfl ?_
  refine g_iconst rfl rfl rfl (pc' := 10) ?_
  refine g_ic_ne rfl (pc' := 13) (pt := 17) rfl rfl ⟨fun hc => ?_, fun hc => ?_⟩
  · replace H := H.1 hc
    refine g_iconst rfl rfl rfl (pc' := 18) ?_
    exact g_weak (show gm_Lle [none, some _] _ from ⟨rfl, trivial⟩) H
  · replace H := H.2 hc
    refine g_iconst rfl rfl rfl (pc' := 14) ?_
    refine g_goto rfl (pc' := 18) rfl ?_
    exact g_weak (show gm_Lle [none, some _] _ from ⟨rfl, trivial⟩) H
set_option maxRecDepth 20000 in
theorem w_554_18 {a0 : Nat} {r_1 : Option Nat} {y0 : Int32} {q1 : Option Nat} {h : hh_T} {Q : Option Value ⊕ Nat → hh_T → Prop} (H : ∃ a1, q1 = some a1 ∧ (hh_tg h a1 = 18 ∧ (gm_G 461 0 [some (.ref a1), some (.int y0)] [] h (pR (fun r4 h3 => ∃ a5, r4 = some a5 ∧ (gm_sub (hh_tg h3 a5) 25 = true ∧ (∃ a7, r_1 = some a7 ∧ (hh_tg h3 a7 = 13 ∧ (gm_G 459 0 [some (.ref a7), some (.int (hh_i h3 a5 1))] [] h3 (pV (fun h9 => gm_sub (hh_tg h9 a5) 25 = true ∧ (hh_tg h9 a7 = 13 ∧ (gm_G 507 0 [some (.ref a7), some (.int (hh_i h9 a5 2))] [] h9 (pV (fun h12 => gm_sub (hh_tg h12 a5) 25 = true ∧ (hh_tg h12 a7 = 13 ∧ (gm_G 459 0 [some (.ref a7), some (.int (hh_i h12 a5 3))] [] h12 (pV (fun h15 => gm_sub (hh_tg h15 a5) 25 = true ∧ (hh_tg h15 a7 = 13 ∧ (gm_G 459 0 [some (.ref a7), some (.int (hh_i h15 a5 4))] [] h15 (pV (fun h18 => gm_G 554 54 [none, some (.ref a7), some (.ref a5)] [] h18 Q) (fun e19 h20 => hh_tg h20 e19 = 21 ∧ Q (.inr e19) h20))))) (fun e21 h22 => hh_tg h22 e21 = 21 ∧ Q (.inr e21) h22))))) (fun e23 h24 => hh_tg h24 e23 = 21 ∧ Q (.inr e23) h24))))) (fun e25 h26 => hh_tg h26 e25 = 21 ∧ Q (.inr e25) h26))))))) (fun e27 h28 => hh_tg h28 e27 = 21 ∧ Q (.inr e27) h28))))) : gm_G 554 18 [none, some (va_rf r_1)] [.int y0, va_rf q1] h Q := by
  obtain ⟨a1, rfl, H⟩ := H
  obtain ⟨ht2, H⟩ := H
  refine g_call rfl (y := 461) (n := 2) (pc' := 21) (g_vt ht2 rfl rfl) rfl rfl ⟨(Nat.le_of_ble_eq_true rfl), (Nat.le_of_ble_eq_true rfl), (Nat.le_of_ble_eq_true rfl)⟩ rfl (gm_G.mono H (pR_elim (fun r4 h3 H' => ?_) (fun e27 h28 H => ?_)))
  · show gm_G _ 21 _ _ _ _
    replace H := H'
    clear H'
    refine g_astore (r := _) rfl gm_sto_rf1 rfl (pc' := 22) ?_
    refine g_aload (r := _) rfl rfl rfl (pc' := 23) ?_
    refine g_aload (r := _) rfl rfl rfl (pc' := 24) ?_
    obtain ⟨a5, rfl, H⟩ := H
    obtain ⟨ht6, H⟩ := H
    refine g_getI rfl rfl rfl rfl ht6 (pc' := 27) rfl ?_
    obtain ⟨a7, rfl, H⟩ := H
    obtain ⟨ht8, H⟩ := H
    refine g_call rfl (y := 459) (n := 2) (pc' := 30) (g_vt ht8 rfl rfl) rfl rfl ⟨(Nat.le_of_ble_eq_true rfl), (Nat.le_of_ble_eq_true rfl), (Nat.le_of_ble_eq_true rfl)⟩ rfl (gm_G.mono H (pV_elim (fun h9 H' => ?_) (fun e25 h26 H => ?_)))
    · show gm_G _ 30 _ _ _ _
      replace H := H'
      clear H'
      refine g_aload (r := some _) rfl rfl rfl (pc' := 31) ?_
      refine g_aload (r := some _) rfl rfl rfl (pc' := 32) ?_
      obtain ⟨ht10, H⟩ := H
      refine g_getI rfl rfl rfl rfl ht10 (pc' := 35) rfl ?_
      obtain ⟨ht11, H⟩ := H
      refine g_call rfl (y := 507) (n := 2) (pc' := 38) (g_vt ht11 rfl rfl) rfl rfl ⟨(Nat.le_of_ble_eq_true rfl), (Nat.le_of_ble_eq_true rfl), (Nat.le_of_ble_eq_true rfl)⟩ rfl (gm_G.mono H (pV_elim (fun h12 H' => ?_) (fun e23 h24 H => ?_)))
      · show gm_G _ 38 _ _ _ _
        replace H := H'
        clear H'
        refine g_aload (r := some _) rfl rfl rfl (pc' := 39) ?_
        refine g_aload (r := some _) rfl rfl rfl (pc' := 40) ?_
        obtain ⟨ht13, H⟩ := H
        refine g_getI rfl rfl rfl rfl ht13 (pc' := 43) rfl ?_
        obtain ⟨ht14, H⟩ := H
        refine g_call rfl (y := 459) (n := 2) (pc' := 46) (g_vt ht14 rfl rfl) rfl rfl ⟨(Nat.le_of_ble_eq_true rfl), (Nat.le_of_ble_eq_true rfl), (Nat.le_of_ble_eq_true rfl)⟩ rfl (gm_G.mono H (pV_elim (fun h15 H' => ?_) (fun e21 h22 H => ?_)))
        · show gm_G _ 46 _ _ _ _
          replace H := H'
          clear H'
          refine g_aload (r := some _) rfl rfl rfl (pc' := 47) ?_
          refine g_aload (r := some _) rfl rfl rfl (pc' := 48) ?_
          obtain ⟨ht16, H⟩ := H
          refine g_getI rfl rfl rfl rfl ht16 (pc' := 51) rfl ?_
          obtain ⟨ht17, H⟩ := H
          refine g_call rfl (y := 459) (n := 2) (pc' := 54) (g_vt ht17 rfl rfl) rfl rfl ⟨(Nat.le_of_ble_eq_true rfl), (Nat.le_of_ble_eq_true rfl), (Nat.le_of_ble_eq_true rfl)⟩ rfl (gm_G.mono H (pV_elim (fun h18 H' => ?_) (fun e19 h20 H => ?_)))
          · show gm_G _ 54 _ _ _ _
            replace H := H'
            clear H'
            exact g_weak (show gm_Lle [none, some _, some _] _ from ⟨rfl, ⟨rfl, trivial⟩⟩) H
          · exact H
        · exact H
      · exact H
    · exact H
  · exact H
set_option maxRecDepth 20000 in
theorem w_554_54 {a0 : Nat} {r_1 : Option Nat} {r_2 : Option Nat} {h : hh_T} {Q : Option Value ⊕ Nat → hh_T → Prop} (H : ∃ a1, r_2 = some a1 ∧ (gm_sub (hh_tg h a1) 25 = true ∧ (∃ a3, r_1 = some a3 ∧ (hh_tg h a3 = 13 ∧ (gm_G 459 0 [some (.ref a3), some (.int (hh_i h a1 5))] [] h (pV (fun h5 => gm_sub (hh_tg h5 a1) 25 = true ∧ (hh_tg h5 a3 = 13 ∧ (gm_G 507 0 [some (.ref a3), some (.int (hh_i h5 a1 6))] [] h5 (pV (fun h8 => gm_sub (hh_tg h8 a1) 25 = true ∧ (hh_tg h8 a3 = 13 ∧ (gm_G 535 0 [some (.ref a3), some (.int (hh_i h8 a1 7))] [] h8 (pV (fun h11 => Q (.inl none) h11) (fun e12 h13 => hh_tg h13 e12 = 21 ∧ Q (.inr e12) h13))))) (fun e14 h15 => hh_tg h15 e14 = 21 ∧ Q (.inr e14) h15))))) (fun e16 h17 => hh_tg h17 e16 = 21 ∧ Q (.inr e16) h17))))))) : gm_G 554 54 [none, some (va_rf r_1), some (va_rf r_2)] [] h Q := by
  refine g_aload (r := _) rfl rfl rfl (pc' := 55) ?_
  refine g_aload (r := _) rfl rfl rfl (pc' := 56) ?_
  obtain ⟨a1, rfl, H⟩ := H
  obtain ⟨ht2, H⟩ := H
  refine g_getI rfl rfl rfl rfl ht2 (pc' := 59) rfl ?_
  obtain ⟨a3, rfl, H⟩ := H
  obtain ⟨ht4, H⟩ := H
  refine g_call rfl (y := 459) (n := 2) (pc' := 62) (g_vt ht4 rfl rfl) rfl rfl ⟨(Nat.le_of_ble_eq_true rfl), (Nat.le_of_ble_eq_true rfl), (Nat.le_of_ble_eq_true rfl)⟩ rfl (gm_G.mono H (pV_elim (fun h5 H' => ?_) (fun e16 h17 H => ?_)))
  · show gm_G _ 62 _ _ _ _
    replace H := H'
    clear H'
    refine g_aload (r := some _) rfl rfl rfl (pc' := 63) ?_
    refine g_aload (r := some _) rfl rfl rfl (pc' := 64) ?_
    obtain ⟨ht6, H⟩ := H
    refine g_getI rfl rfl rfl rfl ht6 (pc' := 67) rfl ?_
    obtain ⟨ht7, H⟩ := H
    refine g_call rfl (y := 507) (n := 2) (pc' := 70) (g_vt ht7 rfl rfl) rfl rfl ⟨(Nat.le_of_ble_eq_true rfl), (Nat.le_of_ble_eq_true rfl), (Nat.le_of_ble_eq_true rfl)⟩ rfl (gm_G.mono H (pV_elim (fun h8 H' => ?_) (fun e14 h15 H => ?_)))
    · show gm_G _ 70 _ _ _ _
      replace H := H'
      clear H'
      refine g_aload (r := some _) rfl rfl rfl (pc' := 71) ?_
      refine g_aload (r := some _) rfl rfl rfl (pc' := 72) ?_
      obtain ⟨ht9, H⟩ := H
      refine g_getI rfl rfl rfl rfl ht9 (pc' := 75) rfl ?_
      obtain ⟨ht10, H⟩ := H
      refine g_call rfl (y := 535) (n := 2) (pc' := 78) (g_vt ht10 rfl rfl) rfl rfl ⟨(Nat.le_of_ble_eq_true rfl), (Nat.le_of_ble_eq_true rfl), (Nat.le_of_ble_eq_true rfl)⟩ rfl (gm_G.mono H (pV_elim (fun h11 H' => ?_) (fun e12 h13 H => ?_)))
      · show gm_G _ 78 _ _ _ _
        replace H := H'
        clear H'
        exact g_return rfl H
      · exact H
    · exact H
  · exact H
set_option maxRecDepth 20000 in
theorem w_557_0 {a0 : Nat} {r_1 : Option Nat} {x2 : Int32} {r_3 : Option Nat} {h : hh_T} {Q : Option Value ⊕ Nat → hh_T → Prop} (H : gm_sub (hh_tg h a0) 0 = true ∧ (∀ r2, r2 = hh_r h a0 33 → (∃ a3, r2 = some a3 ∧ (hh_tg h a3 = 23 ∧ (gm_G 311 0 [some (.ref a3), some (va_rf r_3), some (.int (Int32.ofNat 0))] [] h (pI (fun v6 h5 => gm_sub (hh_tg h5 a0) 0 = true ∧ (∀ r8, r8 = hh_r h5 a0 33 → (∃ a9, r8 = some a9 ∧ (hh_tg h5 a9 = 23 ∧ (gm_G 311 0 [some (.ref a9), some (va_rf r_3), some (.int (Int32.ofNat 1))] [] h5 (pI (fun v12 h11 => gm_sub (hh_tg h11 a0) 0 = true ∧ (∀ r14, r14 = hh_r h11 a0 33 → (∃ a15, r14 = some a15 ∧ (hh_tg h11 a15 = 23 ∧ (gm_G 311 0 [some (.ref a15), some (va_rf r_3), some (.int (Int32.ofNat 2))] [] h11 (pI (fun v18 h17 => (¬ v18 = (Int32.ofNat 1) → (gm_G 557 39 [some (.ref a0)] [.int (Int32.ofNat 0), .int v12, .int v6, .int x2, va_rf r_1, .ref a0] h17 Q)) ∧ (v18 = (Int32.ofNat 1) → (gm_G 557 39 [some (.ref a0)] [.int (Int32.ofNat 1), .int v12, .int v6, .int x2, va_rf r_1, .ref a0] h17 Q))) (fun e19 h20 => hh_tg h20 e19 = 21 ∧ Q (.inr e19) h20))))))) (fun e21 h22 => hh_tg h22 e21 = 21 ∧ Q (.inr e21) h22))))))) (fun e23 h24 => hh_tg h24 e23 = 21 ∧ Q (.inr e23) h24))))))) : gm_G 557 0 [some (.ref a0), some (va_rf r_1), some (.int x2), some (va_rf r_3)] [] h Q := by
  refine g_aload (r := some _) rfl rfl rfl (pc' := 1) ?_
  refine g_aload (r := _) rfl rfl rfl (pc' := 2) ?_
  refine g_iload rfl rfl rfl (pc' := 3) ?_
  refine g_aload (r := some _) rfl rfl rfl (pc' := 4) ?_
  obtain ⟨ht1, H⟩ := H
  refine g_getRv rfl rfl rfl rfl ht1 (pc' := 7) rfl (fun r2 hr2 => ?_)
  replace H := H r2 hr2
  refine g_aload (r := _) rfl rfl rfl (pc' := 8) ?_
  refine g_iconst rfl rfl rfl (pc' := 9) ?_
  obtain ⟨a3, rfl, H⟩ := H
  obtain ⟨ht4, H⟩ := H
  refine g_call rfl (y := 311) (n := 3) (pc' := 12) (g_vt ht4 rfl rfl) (by cases r_3 <;> rfl) rfl ⟨(Nat.le_of_ble_eq_true rfl), (Nat.le_of_ble_eq_true rfl), (Nat.le_of_ble_eq_true rfl)⟩ rfl (gm_G.mono H (pI_elim (fun v6 h5 H' => ?_) (fun e23 h24 H => ?_)))
  · show gm_G _ 12 _ _ _ _
    replace H := H'
    clear H'
    refine g_aload (r := some _) rfl rfl rfl (pc' := 13) ?_
    obtain ⟨ht7, H⟩ := H
    refine g_getRv rfl rfl rfl rfl ht7 (pc' := 16) rfl (fun r8 hr8 => ?_)
    replace H := H r8 hr8
    refine g_aload (r := _) rfl rfl rfl (pc' := 17) ?_
    refine g_iconst rfl rfl rfl (pc' := 18) ?_
    obtain ⟨a9, rfl, H⟩ := H
    obtain ⟨ht10, H⟩ := H
    refine g_call rfl (y := 311) (n := 3) (pc' := 21) (g_vt ht10 rfl rfl) (by cases r_3 <;> rfl) rfl ⟨(Nat.le_of_ble_eq_true rfl), (Nat.le_of_ble_eq_true rfl), (Nat.le_of_ble_eq_true rfl)⟩ rfl (gm_G.mono H (pI_elim (fun v12 h11 H' => ?_) (fun e21 h22 H => ?_)))
    · show gm_G _ 21 _ _ _ _
      replace H := H'
      clear H'
      refine g_aload (r := some _) rfl rfl rfl (pc' := 22) ?_
      obtain ⟨ht13, H⟩ := H
      refine g_getRv rfl rfl rfl rfl ht13 (pc' := 25) rfl (fun r14 hr14 => ?_)
      replace H := H r14 hr14
      refine g_aload (r := _) rfl rfl rfl (pc' := 26) ?_
      refine g_iconst rfl rfl rfl (pc' := 27) ?_
      obtain ⟨a15, rfl, H⟩ := H
      obtain ⟨ht16, H⟩ := H
      refine g_call rfl (y := 311) (n := 3) (pc' := 30) (g_vt ht16 rfl rfl) (by cases r_3 <;> rfl) rfl ⟨(Nat.le_of_ble_eq_true rfl), (Nat.le_of_ble_eq_true rfl), (Nat.le_of_ble_eq_true rfl)⟩ rfl (gm_G.mono H (pI_elim (fun v18 h17 H' => ?_) (fun e19 h20 H => ?_)))
      · show gm_G _ 30 _ _ _ _
        replace H := H'
        clear H'
        refine g_iconst rfl rfl rfl (pc' := 31) ?_
        refine g_ic_ne rfl (pc' := 34) (pt := 38) rfl rfl ⟨fun hc => ?_, fun hc => ?_⟩
        · replace H := H.1 hc
          refine g_iconst rfl rfl rfl (pc' := 39) ?_
          exact g_weak (show gm_Lle [some _] _ from ⟨rfl, trivial⟩) H
        · replace H := H.2 hc
          refine g_iconst rfl rfl rfl (pc' := 35) ?_
          refine g_goto rfl (pc' := 39) rfl ?_
          exact g_weak (show gm_Lle [some _] _ from ⟨rfl, trivial⟩) H
      · exact H
    · exact H
  · exact H
set_option maxRecDepth 20000 in
theorem w_557_39 {a0 : Nat} {y0 : Int32} {y1 : Int32} {y2 : Int32} {y3 : Int32} {q4 : Option Nat} {q5 : Option Nat} {h : hh_T} {Q : Option Value ⊕ Nat → hh_T → Prop} (H : ∃ a1, q5 = some a1 ∧ (hh_tg h a1 = 1 ∧ (gm_G 549 0 [some (.ref a1), some (va_rf q4), some (.int y3), some (.int y2), some (.int y1), some (.int y0)] [] h (pR (fun r4 h3 => gm_sub (hh_tg h3 a0) 0 = true ∧ (∀ r6, r6 = hh_r h3 a0 27 → (∃ a7, r6 = some a7 ∧ (200 ≤ hh_tg h3 a7 ∧ (∀ b, r4 = some b → gm_as (hh_tg h3 a7) (hh_tg h3 b) = true) ∧ (∃ n8, gm_ix (hh_i h3 a0 28) n8 (hh_ln h3 a7) ∧ (∀ h9, h9 = hh_wr h3 a7 n8 r4 → (∀ h10, h10 = hh_wi h9 a0 28 ((hh_i h9 a0 28) + (Int32.ofNat 1)) → (Q (.inl (some (va_rf r4))) h10)))))))) (fun e11 h12 => hh_tg h12 e11 = 21 ∧ Q (.inr e11) h12))))) : gm_G 557 39 [some (.ref a0)] [.int y0, .int y1, .int y2, .int y3, va_rf q4, va_rf q5] h Q := by
  obtain ⟨a1, rfl, H⟩ := H
  obtain ⟨ht2, H⟩ := H
  refine g_call rfl (y := 549) (n := 6) (pc' := 42) (g_vt ht2 rfl rfl) (by cases q4 <;> rfl) rfl ⟨(Nat.le_of_ble_eq_true rfl), (Nat.le_of_ble_eq_true rfl), (Nat.le_of_ble_eq_true rfl)⟩ rfl (gm_G.mono H (pR_elim (fun r4 h3 H' => ?_) (fun e11 h12 H => ?_)))
  · show gm_G _ 42 _ _ _ _
    replace H := H'
    clear H'
    refine g_astore (r := _) rfl rfl rfl (pc' := 44) ?_
    refine g_aload (r := some _) rfl rfl rfl (pc' := 45) ?_
    obtain ⟨ht5, H⟩ := H
    refine g_getRv rfl rfl rfl rfl ht5 (pc' := 48) rfl (fun r6 hr6 => ?_)
    replace H := H r6 hr6
    refine g_aload (r := some _) rfl rfl rfl (pc' := 49) ?_
    refine g_getI rfl rfl rfl rfl ht5 (pc' := 52) rfl ?_
    refine g_aload (r := _) rfl rfl rfl (pc' := 54) ?_
    obtain ⟨a7, rfl, H⟩ := H
    obtain ⟨Ha, Hb, H⟩ := H
    obtain ⟨n8, hn8, H⟩ := H
    refine g_aastore (r := _) rfl Ha Hb hn8 (pc' := 55) rfl ?_
    replace H := H _ rfl
    refine g_aload (r := some _) rfl rfl rfl (pc' := 56) ?_
    refine g_dup_a (r := some _) rfl rfl (pc' := 57) ?_
    refine g_getI rfl rfl rfl rfl ht5 (pc' := 60) rfl ?_
    refine g_iconst rfl rfl rfl (pc' := 61) ?_
    refine g_iadd rfl rfl (pc' := 62) ?_
    refine g_putI rfl rfl rfl rfl ht5  (pc' := 65) rfl ?_
    replace H := H _ rfl
    refine g_aload (r := _) rfl rfl rfl (pc' := 67) ?_
    exact g_areturn (r := _) rfl H
  · exact H
set_option maxRecDepth 20000 in
theorem w_558_0 {a0 : Nat} {r_1 : Option Nat} {x2 : Int32} {r_3 : Option Nat} {x4 : Int32} {h : hh_T} {Q : Option Value ⊕ Nat → hh_T → Prop} (H : ∃ a1, r_1 = some a1 ∧ (gm_sub (hh_tg h a1) 21 = true ∧ ((¬ (hh_i h a1 4) = Int32.ofNat 0 → (hh_tg h a0 = 2 ∧ (gm_G 23 0 [some (.ref a0)] [] h (pI (fun v5 h4 => (v5 = Int32.ofNat 0 → (gm_sub (hh_tg h4 a0) 1 = true ∧ (gm_G 558 35 [some (.ref a0), some (.ref a1), some (.int x2), some (va_rf r_3), some (.int x4), some (.int v5)] [.int (hh_i h4 a0 2)] h4 Q))) ∧ (¬ v5 = Int32.ofNat 0 → (gm_G 558 35 [some (.ref a0), some (.ref a1), some (.int x2), some (va_rf r_3), some (.int x4), some (.int v5)] [.int (Int32.ofNat 8)] h4 Q))) (fun e7 h8 => hh_tg h8 e7 = 21 ∧ Q (.inr e7) h8))))) ∧ ((hh_i h a1 4) = Int32.ofNat 0 → (∀ r9, r9 = hh_r h a1 3 → (∃ a10, r9 = some a10 ∧ (hh_tg h a10 = 102 ∧ (∃ n11, gm_ix x2 n11 (hh_ln h a10) ∧ (∀ h12, h12 = hh_wi h a10 n11 (Int32.ofNat 1) → (Q (.inl none) h12)))))))))) : gm_G 558 0 [some (.ref a0), some (va_rf r_1), some (.int x2), some (va_rf r_3), some (.int x4)] [] h Q := by
  refine g_aload (r := _) rfl rfl rfl (pc' := 1) ?_
  obtain ⟨a1, rfl, H⟩ := H
  obtain ⟨ht2, H⟩ := H
  refine g_getZ rfl rfl rfl rfl ht2 (pc' := 4) rfl ?_
  refine g_if_ne rfl (pc' := 7) (pt := 15) rfl rfl ⟨fun hc => ?_, fun hc => ?_⟩
  · replace H := H.1 hc
    refine g_aload (r := some _) rfl rfl rfl (pc' := 16) ?_
    obtain ⟨ht3, H⟩ := H
    refine g_call rfl (y := 23) (n := 1) (pc' := 19) (g_vt ht3 rfl rfl) rfl rfl ⟨(Nat.le_of_ble_eq_true rfl), (Nat.le_of_ble_eq_true rfl), (Nat.le_of_ble_eq_true rfl)⟩ rfl (gm_G.mono H (pI_elim (fun v5 h4 H' => ?_) (fun e7 h8 H => ?_)))
    · show gm_G _ 19 _ _ _ _
      replace H := H'
      clear H'
      refine g_istore rfl rfl rfl (pc' := 21) ?_
      refine g_iload rfl rfl rfl (pc' := 23) ?_
      refine g_if_eq rfl (pc' := 26) (pt := 31) rfl rfl ⟨fun hc => ?_, fun hc => ?_⟩
      · replace H := H.1 hc
        refine g_aload (r := some _) rfl rfl rfl (pc' := 32) ?_
        obtain ⟨ht6, H⟩ := H
        refine g_getI rfl rfl rfl rfl ht6 (pc' := 35) rfl ?_
        exact g_weak (show gm_Lle [some _, some _, some _, some _, some _, some _] _ from ⟨rfl, ⟨rfl, ⟨rfl, ⟨rfl, ⟨rfl, ⟨rfl, trivial⟩⟩⟩⟩⟩⟩) H
      · replace H := H.2 hc
        refine g_iconst rfl rfl rfl (pc' := 28) ?_
        refine g_goto rfl (pc' := 35) rfl ?_
        exact g_weak (show gm_Lle [some _, some _, some _, some _, some _, some _] _ from ⟨rfl, ⟨rfl, ⟨rfl, ⟨rfl, ⟨rfl, ⟨rfl, trivial⟩⟩⟩⟩⟩⟩) H
    · exact H
  · replace H := H.2 hc
    refine g_aload (r := some _) rfl rfl rfl (pc' := 8) ?_
    refine g_getRv rfl rfl rfl rfl ht2 (pc' := 11) rfl (fun r9 hr9 => ?_)
    replace H := H r9 hr9
    refine g_iload rfl rfl rfl (pc' := 12) ?_
    refine g_iconst rfl rfl rfl (pc' := 13) ?_
    obtain ⟨a10, rfl, H⟩ := H
    obtain ⟨ht13, H⟩ := H
    obtain ⟨n11, hn11, H⟩ := H
    refine g_zastore rfl ht13 hn11 (by decide) (pc' := 14) rfl ?_
    replace H := H _ rfl
    exact g_return rfl H
set_option maxRecDepth 20000 in
theorem w_558_35 {a0 : Nat} {r_1 : Option Nat} {x2 : Int32} {r_3 : Option Nat} {x4 : Int32} {x5 : Int32} {y0 : Int32} {h : hh_T} {Q : Option Value ⊕ Nat → hh_T → Prop} (H : gm_G 558 40 [some (.ref a0), some (va_rf r_1), some (.int x2), some (va_rf r_3), some (.int x4), some (.int x5), some (.int y0), some (.int (Int32.ofNat 0))] [] h Q) : gm_G 558 35 [some (.ref a0), some (va_rf r_1), some (.int x2), some (va_rf r_3), some (.int x4), some (.int x5)] [.int y0] h Q := by
  refine g_istore rfl rfl rfl (pc' := 37) ?_
  refine g_iconst rfl rfl rfl (pc' := 38) ?_
  refine g_istore rfl rfl rfl (pc' := 40) ?_
  exact g_weak (show gm_Lle [some _, some _, some _, some _, some _, some _, some _, some _] _ from ⟨rfl, ⟨rfl, ⟨rfl, ⟨rfl, ⟨rfl, ⟨rfl, ⟨rfl, ⟨rfl, trivial⟩⟩⟩⟩⟩⟩⟩⟩) H
set_option maxRecDepth 20000 in
theorem w_558_40 {a0 : Nat} {r_1 : Option Nat} {x2 : Int32} {r_3 : Option Nat} {x4 : Int32} {x5 : Int32} {x6 : Int32} {x7 : Int32} {h : hh_T} {Q : Option Value ⊕ Nat → hh_T → Prop} (H : (¬ x7 < x6 → ((¬ x5 = Int32.ofNat 0 → (gm_G 558 81 [some (.ref a0), some (va_rf r_1), some (.int x2)] [] h Q)) ∧ (x5 = Int32.ofNat 0 → (hh_tg h a0 = 2 ∧ (gm_G 553 0 [some (.ref a0)] [] h (pV (fun h2 => gm_G 558 81 [some (.ref a0), some (va_rf r_1), some (.int x2)] [] h2 Q) (fun e3 h4 => hh_tg h4 e3 = 21 ∧ Q (.inr e3) h4))))))) ∧ (x7 < x6 → (∃ a5, r_1 = some a5 ∧ (gm_sub (hh_tg h a5) 21 = true ∧ (∀ r7, r7 = hh_r h a5 1 → (∃ a8, r_3 = some a8 ∧ ((hh_tg h a8 = 101 ∨ hh_tg h a8 = 102) ∧ (∃ n9, gm_ix (x4 + x7) n9 (hh_ln h a8) ∧ (∃ a11, r7 = some a11 ∧ (hh_tg h a11 = 101 ∧ (∃ n12, gm_ix (((Int32.ofNat 8) * x2) + x7) n12 (hh_ln h a11) ∧ (∀ h13, h13 = hh_wi h a11 n12 ((hh_i h a8 n9).toInt8.toInt32) → (gm_G 558 40 [some (.ref a0), some (.ref a5), some (.int x2), some (.ref a8), some (.int x4), some (.int x5), some (.int x6), some (.int (x7 + (Int32.ofNat 1)))] [] h13 Q))))))))))))) : gm_G 558 40 [some (.ref a0), some (va_rf r_1), some (.int x2), some (va_rf r_3), some (.int x4), some (.int x5), some (.int x6), some (.int x7)] [] h Q := by
  refine g_iload rfl rfl rfl (pc' := 42) ?_
  refine g_iload rfl rfl rfl (pc' := 44) ?_
  refine g_ic_ge rfl (pc' := 47) (pt := 72) rfl rfl ⟨fun hc => ?_, fun hc => ?_⟩
  · replace H := H.1 hc
    refine g_iload rfl rfl rfl (pc' := 74) ?_
    refine g_if_ne rfl (pc' := 77) (pt := 81) rfl rfl ⟨fun hc => ?_, fun hc => ?_⟩
    · replace H := H.1 hc
      exact g_weak (show gm_Lle [some _, some _, some _] _ from ⟨rfl, ⟨rfl, ⟨rfl, trivial⟩⟩⟩) H
    · replace H := H.2 hc
      refine g_aload (r := some _) rfl rfl rfl (pc' := 78) ?_
      obtain ⟨ht1, H⟩ := H
      refine g_call rfl (y := 553) (n := 1) (pc' := 81) (g_vt ht1 rfl rfl) rfl rfl ⟨(Nat.le_of_ble_eq_true rfl), (Nat.le_of_ble_eq_true rfl), (Nat.le_of_ble_eq_true rfl)⟩ rfl (gm_G.mono H (pV_elim (fun h2 H' => ?_) (fun e3 h4 H => ?_)))
      · show gm_G _ 81 _ _ _ _
        replace H := H'
        clear H'
        exact g_weak (show gm_Lle [some _, some _, some _] _ from ⟨rfl, ⟨rfl, ⟨rfl, trivial⟩⟩⟩) H
      · exact H
  · replace H := H.2 hc
    refine g_aload (r := _) rfl rfl rfl (pc' := 48) ?_
    obtain ⟨a5, rfl, H⟩ := H
    obtain ⟨ht6, H⟩ := H
    refine g_getRv rfl rfl rfl rfl ht6 (pc' := 51) rfl (fun r7 hr7 => ?_)
    replace H := H r7 hr7
    refine g_iconst rfl rfl rfl (pc' := 53) ?_
    refine g_iload rfl rfl rfl (pc' := 54) ?_
    refine g_imul rfl rfl (pc' := 55) ?_
    refine g_iload rfl rfl rfl (pc' := 57) ?_
    refine g_iadd rfl rfl (pc' := 58) ?_
    refine g_aload (r := _) rfl rfl rfl (pc' := 59) ?_
    refine g_iload rfl rfl rfl (pc' := 61) ?_
    refine g_iload rfl rfl rfl (pc' := 63) ?_
    refine g_iadd rfl rfl (pc' := 64) ?_
    obtain ⟨a8, rfl, H⟩ := H
    obtain ⟨ht10, H⟩ := H
    obtain ⟨n9, hn9, H⟩ := H
    refine g_baload rfl ht10 hn9 (pc' := 65) rfl ?_
    obtain ⟨a11, rfl, H⟩ := H
    obtain ⟨ht14, H⟩ := H
    obtain ⟨n12, hn12, H⟩ := H
    refine g_bastore rfl ht14 hn12  (pc' := 66) rfl ?_
    replace H := H _ rfl
    refine g_iinc (c := (Int32.ofNat 1)) rfl rfl rfl rfl rfl (pc' := 69) ?_
    refine g_goto rfl (pc' := 40) rfl ?_
    exact g_weak (show gm_Lle [some _, some _, some _, some _, some _, some _, some _, some _] _ from ⟨rfl, ⟨rfl, ⟨rfl, ⟨rfl, ⟨rfl, ⟨rfl, ⟨rfl, ⟨rfl, trivial⟩⟩⟩⟩⟩⟩⟩⟩) H
set_option maxRecDepth 20000 in
theorem w_558_81 {a0 : Nat} {r_1 : Option Nat} {x2 : Int32} {h : hh_T} {Q : Option Value ⊕ Nat → hh_T → Prop} (H : ∃ a1, r_1 = some a1 ∧ (gm_sub (hh_tg h a1) 21 = true ∧ (∀ r3, r3 = hh_r h a1 2 → (∃ a4, r3 = some a4 ∧ (hh_tg h a4 = 102 ∧ (∃ n5, gm_ix x2 n5 (hh_ln h a4) ∧ (∀ h6, h6 = hh_wi h a4 n5 (Int32.ofNat 0) → (∀ r7, r7 = hh_r h6 a1 3 → (∃ a8, r7 = some a8 ∧ (hh_tg h6 a8 = 102 ∧ (∃ n9, gm_ix x2 n9 (hh_ln h6 a8) ∧ (∀ h10, h10 = hh_wi h6 a8 n9 (Int32.ofNat 0) → (∀ h11, h11 = hh_wi h10 a1 6 ((hh_i h10 a1 6) + (Int32.ofNat 1)) → (gm_sub (hh_tg h11 a0) 1 = true ∧ (∀ h13, h13 = hh_wi h11 a0 3 ((hh_i h11 a0 3) + (Int32.ofNat 1)) → (Q (.inl none) h13)))))))))))))))) : gm_G 558 81 [some (.ref a0), some (va_rf r_1), some (.int x2)] [] h Q := by
  refine g_aload (r := _) rfl rfl rfl (pc' := 82) ?_
  obtain ⟨a1, rfl, H⟩ := H
  obtain ⟨ht2, H⟩ := H
  refine g_getRv rfl rfl rfl rfl ht2 (pc' := 85) rfl (fun r3 hr3 => ?_)
  replace H := H r3 hr3
  refine g_iload rfl rfl rfl (pc' := 86) ?_
  refine g_iconst rfl rfl rfl (pc' := 87) ?_
  obtain ⟨a4, rfl, H⟩ := H
  obtain ⟨ht15, H⟩ := H
  obtain ⟨n5, hn5, H⟩ := H
  refine g_zastore rfl ht15 hn5 (by decide) (pc' := 88) rfl ?_
  replace H := H _ rfl
  refine g_aload (r := some _) rfl rfl rfl (pc' := 89) ?_
  refine g_getRv rfl rfl rfl rfl ht2 (pc' := 92) rfl (fun r7 hr7 => ?_)
  replace H := H r7 hr7
  refine g_iload rfl rfl rfl (pc' := 93) ?_
  refine g_iconst rfl rfl rfl (pc' := 94) ?_
  obtain ⟨a8, rfl, H⟩ := H
  obtain ⟨ht14, H⟩ := H
  obtain ⟨n9, hn9, H⟩ := H
  refine g_zastore rfl ht14 hn9 (by decide) (pc' := 95) rfl ?_
  replace H := H _ rfl
  refine g_aload (r := some _) rfl rfl rfl (pc' := 96) ?_
  refine g_dup_a (r := some _) rfl rfl (pc' := 97) ?_
  refine g_getI rfl rfl rfl rfl ht2 (pc' := 100) rfl ?_
  refine g_iconst rfl rfl rfl (pc' := 101) ?_
  refine g_iadd rfl rfl (pc' := 102) ?_
  refine g_putI rfl rfl rfl rfl ht2  (pc' := 105) rfl ?_
  replace H := H _ rfl
  refine g_aload (r := some _) rfl rfl rfl (pc' := 106) ?_
  refine g_dup_a (r := some _) rfl rfl (pc' := 107) ?_
  obtain ⟨ht12, H⟩ := H
  refine g_getI rfl rfl rfl rfl ht12 (pc' := 110) rfl ?_
  refine g_iconst rfl rfl rfl (pc' := 111) ?_
  refine g_iadd rfl rfl (pc' := 112) ?_
  refine g_putI rfl rfl rfl rfl ht12  (pc' := 115) rfl ?_
  replace H := H _ rfl
  exact g_return rfl H
set_option maxRecDepth 20000 in
theorem w_559_0 {a0 : Nat}  {h : hh_T} {Q : Option Value ⊕ Nat → hh_T → Prop} (H : hh_tg h a0 = 2 ∧ (gm_G 23 0 [some (.ref a0)] [] h (pI (fun v3 h2 => (¬ v3 = Int32.ofNat 0 → (gm_G 559 11 [some (.ref a0)] [] h2 Q)) ∧ (v3 = Int32.ofNat 0 → (hh_tg h2 a0 = 2 ∧ (gm_G 553 0 [some (.ref a0)] [] h2 (pV (fun h5 => gm_G 559 11 [some (.ref a0)] [] h5 Q) (fun e6 h7 => hh_tg h7 e6 = 21 ∧ Q (.inr e6) h7)))))) (fun e8 h9 => hh_tg h9 e8 = 21 ∧ Q (.inr e8) h9)))) : gm_G 559 0 [some (.ref a0)] [] h Q := by
  refine g_aload (r := some _) rfl rfl rfl (pc' := 1) ?_
  obtain ⟨ht1, H⟩ := H
  refine g_call rfl (y := 23) (n := 1) (pc' := 4) (g_vt ht1 rfl rfl) rfl rfl ⟨(Nat.le_of_ble_eq_true rfl), (Nat.le_of_ble_eq_true rfl), (Nat.le_of_ble_eq_true rfl)⟩ rfl (gm_G.mono H (pI_elim (fun v3 h2 H' => ?_) (fun e8 h9 H => ?_)))
  · show gm_G _ 4 _ _ _ _
    replace H := H'
    clear H'
    refine g_if_ne rfl (pc' := 7) (pt := 11) rfl rfl ⟨fun hc => ?_, fun hc => ?_⟩
    · replace H := H.1 hc
      exact g_weak (show gm_Lle [some _] _ from ⟨rfl, trivial⟩) H
    · replace H := H.2 hc
      refine g_aload (r := some _) rfl rfl rfl (pc' := 8) ?_
      obtain ⟨ht4, H⟩ := H
      refine g_call rfl (y := 553) (n := 1) (pc' := 11) (g_vt ht4 rfl rfl) rfl rfl ⟨(Nat.le_of_ble_eq_true rfl), (Nat.le_of_ble_eq_true rfl), (Nat.le_of_ble_eq_true rfl)⟩ rfl (gm_G.mono H (pV_elim (fun h5 H' => ?_) (fun e6 h7 H => ?_)))
      · show gm_G _ 11 _ _ _ _
        replace H := H'
        clear H'
        exact g_weak (show gm_Lle [some _] _ from ⟨rfl, trivial⟩) H
      · exact H
  · exact H
set_option maxRecDepth 20000 in
theorem w_559_11 {a0 : Nat}  {h : hh_T} {Q : Option Value ⊕ Nat → hh_T → Prop} (H : gm_sub (hh_tg h a0) 1 = true ∧ (∀ h2, h2 = hh_wi h a0 3 ((hh_i h a0 3) + (Int32.ofNat 1)) → (Q (.inl none) h2))) : gm_G 559 11 [some (.ref a0)] [] h Q := by
  refine g_aload (r := some _) rfl rfl rfl (pc' := 12) ?_
  refine g_dup_a (r := some _) rfl rfl (pc' := 13) ?_
  obtain ⟨ht1, H⟩ := H
  refine g_getI rfl rfl rfl rfl ht1 (pc' := 16) rfl ?_
  refine g_iconst rfl rfl rfl (pc' := 17) ?_
  refine g_iadd rfl rfl (pc' := 18) ?_
  refine g_putI rfl rfl rfl rfl ht1  (pc' := 21) rfl ?_
  replace H := H _ rfl
  exact g_return rfl H
set_option maxRecDepth 20000 in
theorem w_561_0 {a0 : Nat}  {h : hh_T} {Q : Option Value ⊕ Nat → hh_T → Prop} (H : gm_sub (hh_tg h a0) 0 = true ∧ (∀ r2, r2 = hh_r h a0 2 → (∃ a3, r2 = some a3 ∧ (hh_tg h a3 = 2 ∧ (gm_G 559 0 [some (.ref a3)] [] h (pV (fun h5 => gm_sub (hh_tg h5 a0) 0 = true ∧ (∀ r7, r7 = hh_r h5 a0 33 → (∃ a8, r7 = some a8 ∧ (gm_sub (hh_tg h5 a8) 22 = true ∧ (∀ h10, h10 = hh_wi h5 a8 6 ((hh_i h5 a8 6) + (Int32.ofNat 1)) → (∀ r11, r11 = hh_r h10 a0 33 → (hh_tg h10 a0 = 1 ∧ (gm_G 351 0 [some (.ref a0), some (va_rf r11)] [] h10 (pR (fun r14 h13 => gm_sub (hh_tg h13 a0) 0 = true ∧ ((¬ (hh_i h13 a0 35) = (Int32.ofNat 3) → (gm_G 561 84 [some (.ref a0), some (va_rf r14)] [] h13 Q)) ∧ ((hh_i h13 a0 35) = (Int32.ofNat 3) → (∀ r16, r16 = hh_r h13 a0 34 → (∃ a17, r16 = some a17 ∧ ((hh_tg h13 a17 = 104 ∨ 200 ≤ hh_tg h13 a17) ∧ (0 < hh_ln h13 a17 ∧ (∀ r20, r20 = hh_r h13 a17 0 → (hh_tg h13 a0 = 1 ∧ (gm_G 496 0 [some (.ref a0), some (va_rf r20)] [] h13 (pV (fun h22 => gm_G 561 49 [some (.ref a0), some (va_rf r14), some (.int (Int32.ofNat 0))] [] h22 Q) (fun e23 h24 => hh_tg h24 e23 = 21 ∧ Q (.inr e23) h24)))))))))))) (fun e25 h26 => hh_tg h26 e25 = 21 ∧ Q (.inr e25) h26)))))))))) (fun e27 h28 => hh_tg h28 e27 = 21 ∧ Q (.inr e27) h28))))))) : gm_G 561 0 [some (.ref a0)] [] h Q := by
  refine g_aload (r := some _) rfl rfl rfl (pc' := 1) ?_
  obtain ⟨ht1, H⟩ := H
  refine g_getRv rfl rfl rfl rfl ht1 (pc' := 4) rfl (fun r2 hr2 => ?_)
  replace H := H r2 hr2
  obtain ⟨a3, rfl, H⟩ := H
  obtain ⟨ht4, H⟩ := H
  refine g_call rfl (y := 559) (n := 1) (pc' := 7) (g_vt ht4 rfl rfl) rfl rfl ⟨(Nat.le_of_ble_eq_true rfl), (Nat.le_of_ble_eq_true rfl), (Nat.le_of_ble_eq_true rfl)⟩ rfl (gm_G.mono H (pV_elim (fun h5 H' => ?_) (fun e27 h28 H => ?_)))
  · show gm_G _ 7 _ _ _ _
    replace H := H'
    clear H'
    refine g_aload (r := some _) rfl rfl rfl (pc' := 8) ?_
    obtain ⟨ht6, H⟩ := H
    refine g_getRv rfl rfl rfl rfl ht6 (pc' := 11) rfl (fun r7 hr7 => ?_)
    replace H := H r7 hr7
    refine g_dup_a (r := _) rfl rfl (pc' := 12) ?_
    obtain ⟨a8, rfl, H⟩ := H
    obtain ⟨ht9, H⟩ := H
    refine g_getI rfl rfl rfl rfl ht9 (pc' := 15) rfl ?_
    refine g_iconst rfl rfl rfl (pc' := 16) ?_
    refine g_iadd rfl rfl (pc' := 17) ?_
    refine g_putI rfl rfl rfl rfl ht9  (pc' := 20) rfl ?_
    replace H := H _ rfl
    refine g_aload (r := some _) rfl rfl rfl (pc' := 21) ?_
    refine g_aload (r := some _) rfl rfl rfl (pc' := 22) ?_
    refine g_getRv rfl rfl rfl rfl ht6 (pc' := 25) rfl (fun r11 hr11 => ?_)
    replace H := H r11 hr11
    obtain ⟨ht12, H⟩ := H
    refine g_call rfl (y := 351) (n := 2) (pc' := 28) (g_vt ht12 rfl rfl) (by cases r11 <;> rfl) rfl ⟨(Nat.le_of_ble_eq_true rfl), (Nat.le_of_ble_eq_true rfl), (Nat.le_of_ble_eq_true rfl)⟩ rfl (gm_G.mono H (pR_elim (fun r14 h13 H' => ?_) (fun e25 h26 H => ?_)))
    · show gm_G _ 28 _ _ _ _
      replace H := H'
      clear H'
      refine g_astore (r := _) rfl rfl rfl (pc' := 29) ?_
      refine g_aload (r := some _) rfl rfl rfl (pc' := 30) ?_
      obtain ⟨ht15, H⟩ := H
      refine g_getI rfl rfl rfl rfl ht15 (pc' := 33) rfl ?_
      refine g_iconst rfl rfl rfl (pc' := 34) ?_
      refine g_ic_ne rfl (pc' := 37) (pt := 84) rfl rfl ⟨fun hc => ?_, fun hc => ?_⟩
      · replace H := H.1 hc
        exact g_weak (show gm_Lle [some _, some _] _ from ⟨rfl, ⟨rfl, trivial⟩⟩) H
      · replace H := H.2 hc
        refine g_aload (r := some _) rfl rfl rfl (pc' := 38) ?_
        refine g_aload (r := some _) rfl rfl rfl (pc' := 39) ?_
        refine g_getRv rfl rfl rfl rfl ht15 (pc' := 42) rfl (fun r16 hr16 => ?_)
        replace H := H r16 hr16
        refine g_iconst rfl rfl rfl (pc' := 43) ?_
        obtain ⟨a17, rfl, H⟩ := H
        obtain ⟨ht19, H⟩ := H
        obtain ⟨hn18, H⟩ := H
        refine g_aaloadv rfl ht19 ⟨rfl, by decide, hn18⟩ (pc' := 44) rfl (fun r20 hr20 => ?_)
        replace H := H r20 hr20
        obtain ⟨ht21, H⟩ := H
        refine g_call rfl (y := 496) (n := 2) (pc' := 47) (g_vt ht21 rfl rfl) (by cases r20 <;> rfl) rfl ⟨(Nat.le_of_ble_eq_true rfl), (Nat.le_of_ble_eq_true rfl), (Nat.le_of_ble_eq_true rfl)⟩ rfl (gm_G.mono H (pV_elim (fun h22 H' => ?_) (fun e23 h24 H => ?_)))
        · show gm_G _ 47 _ _ _ _
          replace H := H'
          clear H'
          refine g_iconst rfl rfl rfl (pc' := 48) ?_
          refine g_istore rfl gm_sto_rf1 rfl (pc' := 49) ?_
          exact g_weak (show gm_Lle [some _, some _, some _] _ from ⟨rfl, ⟨rfl, ⟨rfl, trivial⟩⟩⟩) H
        · exact H
    · exact H
  · exact H
set_option maxRecDepth 20000 in
theorem w_561_49 {a0 : Nat} {r_1 : Option Nat} {x2 : Int32} {h : hh_T} {Q : Option Value ⊕ Nat → hh_T → Prop} (H : (¬ x2 < (Int32.ofNat 2) → (gm_sub (hh_tg h a0) 0 = true ∧ (∀ h2, h2 = hh_wi h a0 35 ((hh_i h a0 35) - (Int32.ofNat 1)) → (gm_G 561 84 [some (.ref a0), some (va_rf r_1)] [] h2 Q)))) ∧ (x2 < (Int32.ofNat 2) → (gm_sub (hh_tg h a0) 0 = true ∧ (∀ r4, r4 = hh_r h a0 34 → (∀ r5, r5 = hh_r h a0 34 → (∃ a6, r5 = some a6 ∧ ((hh_tg h a6 = 104 ∨ 200 ≤ hh_tg h a6) ∧ (∃ n7, gm_ix (x2 + (Int32.ofNat 1)) n7 (hh_ln h a6) ∧ (∀ r9, r9 = hh_r h a6 n7 → (∃ a10, r4 = some a10 ∧ (200 ≤ hh_tg h a10 ∧ (∀ b, r9 = some b → gm_as (hh_tg h a10) (hh_tg h b) = true) ∧ (∃ n11, gm_ix x2 n11 (hh_ln h a10) ∧ (∀ h12, h12 = hh_wr h a10 n11 r9 → (gm_G 561 49 [some (.ref a0), some (va_rf r_1), some (.int (x2 + (Int32.ofNat 1)))] [] h12 Q)))))))))))))) : gm_G 561 49 [some (.ref a0), some (va_rf r_1), some (.int x2)] [] h Q := by
  refine g_iload rfl rfl rfl (pc' := 50) ?_
  refine g_iconst rfl rfl rfl (pc' := 51) ?_
  refine g_ic_ge rfl (pc' := 54) (pt := 74) rfl rfl ⟨fun hc => ?_, fun hc => ?_⟩
  · replace H := H.1 hc
    refine g_aload (r := some _) rfl rfl rfl (pc' := 75) ?_
    refine g_dup_a (r := some _) rfl rfl (pc' := 76) ?_
    obtain ⟨ht1, H⟩ := H
    refine g_getI rfl rfl rfl rfl ht1 (pc' := 79) rfl ?_
    refine g_iconst rfl rfl rfl (pc' := 80) ?_
    refine g_isub rfl rfl (pc' := 81) ?_
    refine g_putI rfl rfl rfl rfl ht1  (pc' := 84) rfl ?_
    replace H := H _ rfl
    exact g_weak (show gm_Lle [some _, some _] _ from ⟨rfl, ⟨rfl, trivial⟩⟩) H
  · replace H := H.2 hc
    refine g_aload (r := some _) rfl rfl rfl (pc' := 55) ?_
    obtain ⟨ht3, H⟩ := H
    refine g_getRv rfl rfl rfl rfl ht3 (pc' := 58) rfl (fun r4 hr4 => ?_)
    replace H := H r4 hr4
    refine g_iload rfl rfl rfl (pc' := 59) ?_
    refine g_aload (r := some _) rfl rfl rfl (pc' := 60) ?_
    refine g_getRv rfl rfl rfl rfl ht3 (pc' := 63) rfl (fun r5 hr5 => ?_)
    replace H := H r5 hr5
    refine g_iload rfl rfl rfl (pc' := 64) ?_
    refine g_iconst rfl rfl rfl (pc' := 65) ?_
    refine g_iadd rfl rfl (pc' := 66) ?_
    obtain ⟨a6, rfl, H⟩ := H
    obtain ⟨ht8, H⟩ := H
    obtain ⟨n7, hn7, H⟩ := H
    refine g_aaloadv rfl ht8 hn7 (pc' := 67) rfl (fun r9 hr9 => ?_)
    replace H := H r9 hr9
    obtain ⟨a10, rfl, H⟩ := H
    obtain ⟨Ha, Hb, H⟩ := H
    obtain ⟨n11, hn11, H⟩ := H
    refine g_aastore (r := _) rfl Ha Hb hn11 (pc' := 68) rfl ?_
    replace H := H _ rfl
    refine g_iinc (c := (Int32.ofNat 1)) rfl rfl rfl gm_sto_rf1 rfl (pc' := 71) ?_
    refine g_goto rfl (pc' := 49) rfl ?_
    exact g_weak (show gm_Lle [some _, some _, some _] _ from ⟨rfl, ⟨rfl, ⟨rfl, trivial⟩⟩⟩) H
set_option maxRecDepth 20000 in
theorem w_561_84 {a0 : Nat} {r_1 : Option Nat} {h : hh_T} {Q : Option Value ⊕ Nat → hh_T → Prop} (H : gm_sub (hh_tg h a0) 0 = true ∧ (∀ r2, r2 = hh_r h a0 34 → (∃ a3, r2 = some a3 ∧ (200 ≤ hh_tg h a3 ∧ (∀ b, r_1 = some b → gm_as (hh_tg h a3) (hh_tg h b) = true) ∧ (∃ n4, gm_ix (hh_i h a0 35) n4 (hh_ln h a3) ∧ (∀ h5, h5 = hh_wr h a3 n4 r_1 → (∀ h6, h6 = hh_wi h5 a0 35 ((hh_i h5 a0 35) + (Int32.ofNat 1)) → (∀ r7, r7 = hh_r h6 a0 49 → (∃ a8, r7 = some a8 ∧ (hh_tg h6 a8 = 14 ∧ (gm_G 68 0 [some (.ref a8)] [] h6 (pV (fun h10 => gm_sub (hh_tg h10 a0) 0 = true ∧ (∀ r12, r12 = hh_r h10 a0 33 → (∃ a13, r12 = some a13 ∧ (gm_sub (hh_tg h10 a13) 22 = true ∧ (Q (.inl (some (.int (hh_i h10 a13 6)))) h10))))) (fun e15 h16 => hh_tg h16 e15 = 21 ∧ Q (.inr e15) h16))))))))))))) : gm_G 561 84 [some (.ref a0), some (va_rf r_1)] [] h Q := by
  refine g_aload (r := some _) rfl rfl rfl (pc' := 85) ?_
  obtain ⟨ht1, H⟩ := H
  refine g_getRv rfl rfl rfl rfl ht1 (pc' := 88) rfl (fun r2 hr2 => ?_)
  replace H := H r2 hr2
  refine g_aload (r := some _) rfl rfl rfl (pc' := 89) ?_
  refine g_getI rfl rfl rfl rfl ht1 (pc' := 92) rfl ?_
  refine g_aload (r := _) rfl rfl rfl (pc' := 93) ?_
  obtain ⟨a3, rfl, H⟩ := H
  obtain ⟨Ha, Hb, H⟩ := H
  obtain ⟨n4, hn4, H⟩ := H
  refine g_aastore (r := _) rfl Ha Hb hn4 (pc' := 94) rfl ?_
  replace H := H _ rfl
  refine g_aload (r := some _) rfl rfl rfl (pc' := 95) ?_
  refine g_dup_a (r := some _) rfl rfl (pc' := 96) ?_
  refine g_getI rfl rfl rfl rfl ht1 (pc' := 99) rfl ?_
  refine g_iconst rfl rfl rfl (pc' := 100) ?_
  refine g_iadd rfl rfl (pc' := 101) ?_
  refine g_putI rfl rfl rfl rfl ht1  (pc' := 104) rfl ?_
  replace H := H _ rfl
  refine g_aload (r := some _) rfl rfl rfl (pc' := 105) ?_
  refine g_getRv rfl rfl rfl rfl ht1 (pc' := 108) rfl (fun r7 hr7 => ?_)
  replace H := H r7 hr7
  obtain ⟨a8, rfl, H⟩ := H
  obtain ⟨ht9, H⟩ := H
  refine g_call rfl (y := 68) (n := 1) (pc' := 111) (g_vt ht9 rfl rfl) rfl rfl ⟨(Nat.le_of_ble_eq_true rfl), (Nat.le_of_ble_eq_true rfl), (Nat.le_of_ble_eq_true rfl)⟩ rfl (gm_G.mono H (pV_elim (fun h10 H' => ?_) (fun e15 h16 H => ?_)))
  · show gm_G _ 111 _ _ _ _
    replace H := H'
    clear H'
    refine g_aload (r := some _) rfl rfl rfl (pc' := 112) ?_
    obtain ⟨ht11, H⟩ := H
    refine g_getRv rfl rfl rfl rfl ht11 (pc' := 115) rfl (fun r12 hr12 => ?_)
    replace H := H r12 hr12
    obtain ⟨a13, rfl, H⟩ := H
    obtain ⟨ht14, H⟩ := H
    refine g_getI rfl rfl rfl rfl ht14 (pc' := 118) rfl ?_
    exact g_ireturn rfl (Or.inl rfl) H
  · exact H
set_option maxRecDepth 20000 in
theorem w_562_0 {a0 : Nat} {r_1 : Option Nat} {x2 : Int32} {r_3 : Option Nat} {x4 : Int32} {x5 : Int32} {h : hh_T} {Q : Option Value ⊕ Nat → hh_T → Prop} (H : (x5 = Int32.ofNat 0 → (gm_sub (hh_tg h a0) 3 = true ∧ (∀ r2, r2 = hh_r h a0 7 → (∃ a3, r2 = some a3 ∧ (gm_sub (hh_tg h a3) 0 = true ∧ (∀ r5, r5 = hh_r h a3 2 → (∃ a6, r5 = some a6 ∧ (hh_tg h a6 = 2 ∧ (gm_G 558 0 [some (.ref a6), some (va_rf r_1), some (.int x2), some (va_rf r_3), some (.int x4)] [] h (pV (fun h8 => Q (.inl none) h8) (fun e9 h10 => hh_tg h10 e9 = 21 ∧ Q (.inr e9) h10))))))))))) ∧ (¬ x5 = Int32.ofNat 0 → (∃ a11, r_1 = some a11 ∧ (gm_sub (hh_tg h a11) 21 = true ∧ (((hh_i h a11 4) = Int32.ofNat 0 → (Q (.inl none) h)) ∧ (¬ (hh_i h a11 4) = Int32.ofNat 0 → (hh_tg h a11 = 22 ∧ (gm_G 168 0 [some (.ref a11), some (.int x2), some (va_rf r_3), some (.int x4)] [] h (pI (fun v15 h14 => (v15 = Int32.ofNat 0 → (gm_sub (hh_tg h14 a0) 3 = true ∧ (∀ r17, r17 = hh_r h14 a0 7 → (∃ a18, r17 = some a18 ∧ (gm_sub (hh_tg h14 a18) 0 = true ∧ (∀ r20, r20 = hh_r h14 a18 2 → (∃ a21, r20 = some a21 ∧ (hh_tg h14 a21 = 2 ∧ (gm_G 558 0 [some (.ref a21), some (.ref a11), some (.int x2), some (va_rf r_3), some (.int x4)] [] h14 (pV (fun h23 => gm_sub (hh_tg h23 a0) 3 = true ∧ (∀ r25, r25 = hh_r h23 a0 7 → (∃ a26, r25 = some a26 ∧ (gm_sub (hh_tg h23 a26) 0 = true ∧ (∀ r28, r28 = hh_r h23 a26 2 → (∃ a29, r28 = some a29 ∧ (gm_sub (hh_tg h23 a29) 1 = true ∧ (∀ h31, h31 = hh_wi h23 a29 4 ((hh_i h23 a29 4) + (Int32.ofNat 1)) → (Q (.inl none) h31))))))))) (fun e32 h33 => hh_tg h33 e32 = 21 ∧ Q (.inr e32) h33))))))))))) ∧ (¬ v15 = Int32.ofNat 0 → (Q (.inl none) h14))) (fun e34 h35 => hh_tg h35 e34 = 21 ∧ Q (.inr e34) h35)))))))))) : gm_G 562 0 [some (.ref a0), some (va_rf r_1), some (.int x2), some (va_rf r_3), some (.int x4), some (.int x5)] [] h Q := by
  refine g_iload rfl rfl rfl (pc' := 2) ?_
  refine g_if_eq rfl (pc' := 5) (pt := 58) rfl rfl ⟨fun hc => ?_, fun hc => ?_⟩
  · replace H := H.1 hc
    refine g_aload (r := some _) rfl rfl rfl (pc' := 59) ?_
    obtain ⟨ht1, H⟩ := H
    refine g_getRv rfl rfl rfl rfl ht1 (pc' := 62) rfl (fun r2 hr2 => ?_)
    replace H := H r2 hr2
    obtain ⟨a3, rfl, H⟩ := H
    obtain ⟨ht4, H⟩ := H
    refine g_getRv rfl rfl rfl rfl ht4 (pc' := 65) rfl (fun r5 hr5 => ?_)
    replace H := H r5 hr5
    refine g_aload (r := _) rfl rfl rfl (pc' := 66) ?_
    refine g_iload rfl rfl rfl (pc' := 67) ?_
    refine g_aload (r := _) rfl rfl rfl (pc' := 68) ?_
    refine g_iload rfl rfl rfl (pc' := 70) ?_
    obtain ⟨a6, rfl, H⟩ := H
    obtain ⟨ht7, H⟩ := H
    refine g_call rfl (y := 558) (n := 5) (pc' := 73) (g_vt ht7 rfl rfl) (by cases r_1 <;> cases r_3 <;> rfl) rfl ⟨(Nat.le_of_ble_eq_true rfl), (Nat.le_of_ble_eq_true rfl), (Nat.le_of_ble_eq_true rfl)⟩ rfl (gm_G.mono H (pV_elim (fun h8 H' => ?_) (fun e9 h10 H => ?_)))
    · show gm_G _ 73 _ _ _ _
      replace H := H'
      clear H'
      exact g_return rfl H
    · exact H
  · replace H := H.2 hc
    refine g_aload (r := _) rfl rfl rfl (pc' := 6) ?_
    obtain ⟨a11, rfl, H⟩ := H
    obtain ⟨ht12, H⟩ := H
    refine g_getZ rfl rfl rfl rfl ht12 (pc' := 9) rfl ?_
    refine g_if_eq rfl (pc' := 12) (pt := 23) rfl rfl ⟨fun hc => ?_, fun hc => ?_⟩
    · replace H := H.1 hc
      exact g_return rfl H
    · replace H := H.2 hc
      refine g_aload (r := some _) rfl rfl rfl (pc' := 13) ?_
      refine g_iload rfl rfl rfl (pc' := 14) ?_
      refine g_aload (r := _) rfl rfl rfl (pc' := 15) ?_
      refine g_iload rfl rfl rfl (pc' := 17) ?_
      obtain ⟨ht13, H⟩ := H
      refine g_call rfl (y := 168) (n := 4) (pc' := 20) (g_vt ht13 rfl rfl) (by cases r_3 <;> rfl) rfl ⟨(Nat.le_of_ble_eq_true rfl), (Nat.le_of_ble_eq_true rfl), (Nat.le_of_ble_eq_true rfl)⟩ rfl (gm_G.mono H (pI_elim (fun v15 h14 H' => ?_) (fun e34 h35 H => ?_)))
      · show gm_G _ 20 _ _ _ _
        replace H := H'
        clear H'
        refine g_if_eq rfl (pc' := 23) (pt := 24) rfl rfl ⟨fun hc => ?_, fun hc => ?_⟩
        · replace H := H.1 hc
          refine g_aload (r := some _) rfl rfl rfl (pc' := 25) ?_
          obtain ⟨ht16, H⟩ := H
          refine g_getRv rfl rfl rfl rfl ht16 (pc' := 28) rfl (fun r17 hr17 => ?_)
          replace H := H r17 hr17
          obtain ⟨a18, rfl, H⟩ := H
          obtain ⟨ht19, H⟩ := H
          refine g_getRv rfl rfl rfl rfl ht19 (pc' := 31) rfl (fun r20 hr20 => ?_)
          replace H := H r20 hr20
          refine g_aload (r := some _) rfl rfl rfl (pc' := 32) ?_
          refine g_iload rfl rfl rfl (pc' := 33) ?_
          refine g_aload (r := _) rfl rfl rfl (pc' := 34) ?_
          refine g_iload rfl rfl rfl (pc' := 36) ?_
          obtain ⟨a21, rfl, H⟩ := H
          obtain ⟨ht22, H⟩ := H
          refine g_call rfl (y := 558) (n := 5) (pc' := 39) (g_vt ht22 rfl rfl) (by cases r_3 <;> rfl) rfl ⟨(Nat.le_of_ble_eq_true rfl), (Nat.le_of_ble_eq_true rfl), (Nat.le_of_ble_eq_true rfl)⟩ rfl (gm_G.mono H (pV_elim (fun h23 H' => ?_) (fun e32 h33 H => ?_)))
          · show gm_G _ 39 _ _ _ _
            replace H := H'
            clear H'
            refine g_aload (r := some _) rfl rfl rfl (pc' := 40) ?_
            obtain ⟨ht24, H⟩ := H
            refine g_getRv rfl rfl rfl rfl ht24 (pc' := 43) rfl (fun r25 hr25 => ?_)
            replace H := H r25 hr25
            obtain ⟨a26, rfl, H⟩ := H
            obtain ⟨ht27, H⟩ := H
            refine g_getRv rfl rfl rfl rfl ht27 (pc' := 46) rfl (fun r28 hr28 => ?_)
            replace H := H r28 hr28
            refine g_dup_a (r := _) rfl rfl (pc' := 47) ?_
            obtain ⟨a29, rfl, H⟩ := H
            obtain ⟨ht30, H⟩ := H
            refine g_getI rfl rfl rfl rfl ht30 (pc' := 50) rfl ?_
            refine g_iconst rfl rfl rfl (pc' := 51) ?_
            refine g_iadd rfl rfl (pc' := 52) ?_
            refine g_putI rfl rfl rfl rfl ht30  (pc' := 55) rfl ?_
            replace H := H _ rfl
            refine g_goto rfl (pc' := 73) rfl ?_
            exact g_return rfl H
          · exact H
        · replace H := H.2 hc
          exact g_return rfl H
      · exact H
set_option maxRecDepth 20000 in
theorem w_563_0 {a0 : Nat} {r_1 : Option Nat} {x2 : Int32} {x3 : Int32} {r_4 : Option Nat} {h : hh_T} {Q : Option Value ⊕ Nat → hh_T → Prop} (H : hh_tg h a0 = 33 ∧ (gm_G 322 0 [some (.ref a0)] [] h (pI (fun v3 h2 => (x3 = Int32.ofNat 0 → (gm_G 563 59 [some (.ref a0), some (va_rf r_1), some (.int x2), none, none, some (.int v3), some (va_rf none)] [] h2 Q)) ∧ (¬ x3 = Int32.ofNat 0 → (gm_sub (hh_tg h2 a0) 32 = true ∧ (∀ r5, r5 = hh_r h2 a0 2 → (∀ r6, r6 = hh_r h2 a0 0 → (∃ a7, r6 = some a7 ∧ (gm_sub (hh_tg h2 a7) 12 = true ∧ (∀ r9, r9 = hh_r h2 a7 0 → (∃ a10, r5 = some a10 ∧ (hh_tg h2 a10 = 1 ∧ (gm_G 557 0 [some (.ref a10), some (va_rf r9), some (.int (hh_i h2 a0 1)), some (va_rf r_4)] [] h2 (pR (fun r13 h12 => gm_sub (hh_tg h12 a0) 32 = true ∧ (∀ r15, r15 = hh_r h12 a0 2 → (∃ a16, r15 = some a16 ∧ (gm_sub (hh_tg h12 a16) 0 = true ∧ (∀ h18, h18 = hh_wi h12 a16 28 ((hh_i h12 a16 28) - (Int32.ofNat 1)) → (∀ h19, h19 = hh_wi h18 a0 1 ((hh_i h18 a0 1) + (Int32.ofNat 32)) → (gm_G 563 59 [some (.ref a0), some (va_rf r_1), some (.int x2), none, none, some (.int v3), some (va_rf r13)] [] h19 Q))))))) (fun e20 h21 => hh_tg h21 e20 = 21 ∧ Q (.inr e20) h21))))))))))))) (fun e22 h23 => hh_tg h23 e22 = 21 ∧ Q (.inr e22) h23)))) : gm_G 563 0 [some (.ref a0), some (va_rf r_1), some (.int x2), some (.int x3), some (va_rf r_4)] [] h Q := by
  refine g_aload (r := some _) rfl rfl rfl (pc' := 1) ?_
  obtain ⟨ht1, H⟩ := H
  refine g_call rfl (y := 322) (n := 1) (pc' := 4) (g_vt ht1 rfl rfl) rfl rfl ⟨(Nat.le_of_ble_eq_true rfl), (Nat.le_of_ble_eq_true rfl), (Nat.le_of_ble_eq_true rfl)⟩ rfl (gm_G.mono H (pI_elim (fun v3 h2 H' => ?_) (fun e22 h23 H => ?_)))
  · show gm_G _ 4 _ _ _ _
    replace H := H'
    clear H'
    refine g_istore rfl gm_sto_rf4 rfl (pc' := 6) ?_
    refine g_null rfl rfl (pc' := 7) ?_
    refine g_astore (r := _) rfl rfl rfl (pc' := 9) ?_
    refine g_iload rfl rfl rfl (pc' := 10) ?_
    refine g_if_eq rfl (pc' := 13) (pt := 59) rfl rfl ⟨fun hc => ?_, fun hc => ?_⟩
    · replace H := H.1 hc
      exact g_weak (show gm_Lle [some _, some _, some _, none, none, some _, some _] _ from ⟨rfl, ⟨rfl, ⟨rfl, ⟨rfl, ⟨rfl, trivial⟩⟩⟩⟩⟩) H
    · replace H := H.2 hc
      refine g_aload (r := some _) rfl rfl rfl (pc' := 14) ?_
      obtain ⟨ht4, H⟩ := H
      refine g_getRv rfl rfl rfl rfl ht4 (pc' := 17) rfl (fun r5 hr5 => ?_)
      replace H := H r5 hr5
      refine g_aload (r := some _) rfl rfl rfl (pc' := 18) ?_
      refine g_getRv rfl rfl rfl rfl ht4 (pc' := 21) rfl (fun r6 hr6 => ?_)
      replace H := H r6 hr6
      obtain ⟨a7, rfl, H⟩ := H
      obtain ⟨ht8, H⟩ := H
      refine g_getRv rfl rfl rfl rfl ht8 (pc' := 24) rfl (fun r9 hr9 => ?_)
      replace H := H r9 hr9
      refine g_aload (r := some _) rfl rfl rfl (pc' := 25) ?_
      refine g_getI rfl rfl rfl rfl ht4 (pc' := 28) rfl ?_
      refine g_aload (r := _) rfl rfl rfl (pc' := 30) ?_
      obtain ⟨a10, rfl, H⟩ := H
      obtain ⟨ht11, H⟩ := H
      refine g_call rfl (y := 557) (n := 4) (pc' := 33) (g_vt ht11 rfl rfl) (by cases r9 <;> cases r_4 <;> rfl) rfl ⟨(Nat.le_of_ble_eq_true rfl), (Nat.le_of_ble_eq_true rfl), (Nat.le_of_ble_eq_true rfl)⟩ rfl (gm_G.mono H (pR_elim (fun r13 h12 H' => ?_) (fun e20 h21 H => ?_)))
      · show gm_G _ 33 _ _ _ _
        replace H := H'
        clear H'
        refine g_astore (r := _) rfl rfl rfl (pc' := 35) ?_
        refine g_aload (r := some _) rfl rfl rfl (pc' := 36) ?_
        obtain ⟨ht14, H⟩ := H
        refine g_getRv rfl rfl rfl rfl ht14 (pc' := 39) rfl (fun r15 hr15 => ?_)
        replace H := H r15 hr15
        refine g_dup_a (r := _) rfl rfl (pc' := 40) ?_
        obtain ⟨a16, rfl, H⟩ := H
        obtain ⟨ht17, H⟩ := H
        refine g_getI rfl rfl rfl rfl ht17 (pc' := 43) rfl ?_
        refine g_iconst rfl rfl rfl (pc' := 44) ?_
        refine g_isub rfl rfl (pc' := 45) ?_
        refine g_putI rfl rfl rfl rfl ht17  (pc' := 48) rfl ?_
        replace H := H _ rfl
        refine g_aload (r := some _) rfl rfl rfl (pc' := 49) ?_
        refine g_dup_a (r := some _) rfl rfl (pc' := 50) ?_
        refine g_getI rfl rfl rfl rfl ht14 (pc' := 53) rfl ?_
        refine g_iconst rfl rfl rfl (pc' := 55) ?_
        refine g_iadd rfl rfl (pc' := 56) ?_
        refine g_putI rfl rfl rfl rfl ht14  (pc' := 59) rfl ?_
        replace H := H _ rfl
        exact g_weak (show gm_Lle [some _, some _, some _, none, none, some _, some _] _ from ⟨rfl, ⟨rfl, ⟨rfl, ⟨rfl, ⟨rfl, trivial⟩⟩⟩⟩⟩) H
      · exact H
  · exact H
set_option maxRecDepth 20000 in
theorem w_563_59 {a0 : Nat} {r_1 : Option Nat} {x2 : Int32} {x5 : Int32} {r_6 : Option Nat} {h : hh_T} {Q : Option Value ⊕ Nat → hh_T → Prop} (H : gm_sub (hh_tg h a0) 32 = true ∧ (∀ r2, r2 = hh_r h a0 2 → (∃ a3, r2 = some a3 ∧ (hh_tg h a3 = 1 ∧ (gm_G 395 0 [some (.ref a3), some (va_rf r_1), some (.int x2)] [] h (pR (fun r6 h5 => (∀ b, r6 = some b → gm_sub (hh_tg h5 b) 26 = true) ∧ (gm_sub (hh_tg h5 a0) 32 = true ∧ (∀ r8, r8 = hh_r h5 a0 2 → (∃ a9, r6 = some a9 ∧ (gm_sub (hh_tg h5 a9) 26 = true ∧ (∀ r11, r11 = hh_r h5 a9 12 → (∃ a12, r11 = some a12 ∧ ((hh_tg h5 a12 = 104 ∨ 200 ≤ hh_tg h5 a12) ∧ (∃ n13, gm_ix x5 n13 (hh_ln h5 a12) ∧ (∀ r15, r15 = hh_r h5 a12 n13 → (∃ a16, r8 = some a16 ∧ (hh_tg h5 a16 = 1 ∧ (gm_G 397 0 [some (.ref a16), some (va_rf r15)] [] h5 (pV (fun h18 => gm_sub (hh_tg h18 a9) 26 = true ∧ (∀ r20, r20 = hh_r h18 a9 12 → (∃ a21, r20 = some a21 ∧ (200 ≤ hh_tg h18 a21 ∧ (∀ b, r_6 = some b → gm_as (hh_tg h18 a21) (hh_tg h18 b) = true) ∧ (∃ n22, gm_ix x5 n22 (hh_ln h18 a21) ∧ (∀ h23, h23 = hh_wr h18 a21 n22 r_6 → (Q (.inl none) h23))))))) (fun e24 h25 => hh_tg h25 e24 = 21 ∧ Q (.inr e24) h25))))))))))))))) (fun e26 h27 => hh_tg h27 e26 = 21 ∧ Q (.inr e26) h27))))))) : gm_G 563 59 [some (.ref a0), some (va_rf r_1), some (.int x2), none, none, some (.int x5), some (va_rf r_6)] [] h Q := by
  refine g_aload (r := some _) rfl rfl rfl (pc' := 60) ?_
  obtain ⟨ht1, H⟩ := H
  refine g_getRv rfl rfl rfl rfl ht1 (pc' := 63) rfl (fun r2 hr2 => ?_)
  replace H := H r2 hr2
  refine g_aload (r := _) rfl rfl rfl (pc' := 64) ?_
  refine g_iload rfl rfl rfl (pc' := 65) ?_
  obtain ⟨a3, rfl, H⟩ := H
  obtain ⟨ht4, H⟩ := H
  refine g_call rfl (y := 395) (n := 3) (pc' := 68) (g_vt ht4 rfl rfl) (by cases r_1 <;> rfl) rfl ⟨(Nat.le_of_ble_eq_true rfl), (Nat.le_of_ble_eq_true rfl), (Nat.le_of_ble_eq_true rfl)⟩ rfl (gm_G.mono H (pR_elim (fun r6 h5 H' => ?_) (fun e26 h27 H => ?_)))
  · show gm_G _ 68 _ _ _ _
    replace H := H'
    clear H'
    obtain ⟨Hc, H⟩ := H
    refine g_cast rfl Hc (pc' := 71) rfl ?_
    refine g_astore (r := _) rfl gm_sto_rf6 rfl (pc' := 73) ?_
    refine g_aload (r := some _) rfl rfl rfl (pc' := 74) ?_
    obtain ⟨ht7, H⟩ := H
    refine g_getRv rfl rfl rfl rfl ht7 (pc' := 77) rfl (fun r8 hr8 => ?_)
    replace H := H r8 hr8
    refine g_aload (r := _) rfl rfl rfl (pc' := 79) ?_
    obtain ⟨a9, rfl, H⟩ := H
    obtain ⟨ht10, H⟩ := H
    refine g_getRv rfl rfl rfl rfl ht10 (pc' := 82) rfl (fun r11 hr11 => ?_)
    replace H := H r11 hr11
    refine g_iload rfl rfl rfl (pc' := 84) ?_
    obtain ⟨a12, rfl, H⟩ := H
    obtain ⟨ht14, H⟩ := H
    obtain ⟨n13, hn13, H⟩ := H
    refine g_aaloadv rfl ht14 hn13 (pc' := 85) rfl (fun r15 hr15 => ?_)
    replace H := H r15 hr15
    obtain ⟨a16, rfl, H⟩ := H
    obtain ⟨ht17, H⟩ := H
    refine g_call rfl (y := 397) (n := 2) (pc' := 88) (g_vt ht17 rfl rfl) (by cases r15 <;> rfl) rfl ⟨(Nat.le_of_ble_eq_true rfl), (Nat.le_of_ble_eq_true rfl), (Nat.le_of_ble_eq_true rfl)⟩ rfl (gm_G.mono H (pV_elim (fun h18 H' => ?_) (fun e24 h25 H => ?_)))
    · show gm_G _ 88 _ _ _ _
      replace H := H'
      clear H'
      refine g_aload (r := some _) rfl rfl rfl (pc' := 90) ?_
      obtain ⟨ht19, H⟩ := H
      refine g_getRv rfl rfl rfl rfl ht19 (pc' := 93) rfl (fun r20 hr20 => ?_)
      replace H := H r20 hr20
      refine g_iload rfl rfl rfl (pc' := 95) ?_
      refine g_aload (r := _) rfl rfl rfl (pc' := 97) ?_
      obtain ⟨a21, rfl, H⟩ := H
      obtain ⟨Ha, Hb, H⟩ := H
      obtain ⟨n22, hn22, H⟩ := H
      refine g_aastore (r := _) rfl Ha Hb hn22 (pc' := 98) rfl ?_
      replace H := H _ rfl
      exact g_return rfl H
    · exact H
  · exact H
set_option maxRecDepth 20000 in
theorem w_564_0 {a0 : Nat} {r_1 : Option Nat} {x2 : Int32} {h : hh_T} {Q : Option Value ⊕ Nat → hh_T → Prop} (H : gm_sub (hh_tg h a0) 40 = true ∧ (∀ r2, r2 = hh_r h a0 4 → (∃ a3, r2 = some a3 ∧ (gm_sub (hh_tg h a3) 0 = true ∧ (∀ r5, r5 = hh_r h a3 47 → (∀ r6, r6 = hh_r h a0 4 → (∀ r7, r7 = hh_r h a0 4 → (∃ a8, r7 = some a8 ∧ (gm_sub (hh_tg h a8) 0 = true ∧ (∀ r10, r10 = hh_r h a8 46 → (∃ a11, r6 = some a11 ∧ (hh_tg h a11 = 1 ∧ (gm_G 557 0 [some (.ref a11), some (va_rf r10), some (.int ((Int32.ofNat 32) * x2)), some (va_rf r_1)] [] h (pR (fun r14 h13 => ∃ a15, r5 = some a15 ∧ (200 ≤ hh_tg h13 a15 ∧ (∀ b, r14 = some b → gm_as (hh_tg h13 a15) (hh_tg h13 b) = true) ∧ (∃ n16, gm_ix x2 n16 (hh_ln h13 a15) ∧ (∀ h17, h17 = hh_wr h13 a15 n16 r14 → (gm_sub (hh_tg h17 a0) 40 = true ∧ (∀ r19, r19 = hh_r h17 a0 4 → (∃ a20, r19 = some a20 ∧ (gm_sub (hh_tg h17 a20) 0 = true ∧ (∀ r22, r22 = hh_r h17 a20 48 → (∃ a23, r22 = some a23 ∧ (hh_tg h17 a23 = 102 ∧ (∃ n24, gm_ix x2 n24 (hh_ln h17 a23) ∧ (∀ h25, h25 = hh_wi h17 a23 n24 (Int32.ofNat 1) → (Q (.inl none) h25)))))))))))))) (fun e27 h28 => hh_tg h28 e27 = 21 ∧ Q (.inr e27) h28))))))))))))))) : gm_G 564 0 [some (.ref a0), some (va_rf r_1), some (.int x2)] [] h Q := by
  refine g_aload (r := some _) rfl rfl rfl (pc' := 1) ?_
  obtain ⟨ht1, H⟩ := H
  refine g_getRv rfl rfl rfl rfl ht1 (pc' := 4) rfl (fun r2 hr2 => ?_)
  replace H := H r2 hr2
  obtain ⟨a3, rfl, H⟩ := H
  obtain ⟨ht4, H⟩ := H
  refine g_getRv rfl rfl rfl rfl ht4 (pc' := 7) rfl (fun r5 hr5 => ?_)
  replace H := H r5 hr5
  refine g_iload rfl rfl rfl (pc' := 8) ?_
  refine g_aload (r := some _) rfl rfl rfl (pc' := 9) ?_
  refine g_getRv rfl rfl rfl rfl ht1 (pc' := 12) rfl (fun r6 hr6 => ?_)
  replace H := H r6 hr6
  refine g_aload (r := some _) rfl rfl rfl (pc' := 13) ?_
  refine g_getRv rfl rfl rfl rfl ht1 (pc' := 16) rfl (fun r7 hr7 => ?_)
  replace H := H r7 hr7
  obtain ⟨a8, rfl, H⟩ := H
  obtain ⟨ht9, H⟩ := H
  refine g_getRv rfl rfl rfl rfl ht9 (pc' := 19) rfl (fun r10 hr10 => ?_)
  replace H := H r10 hr10
  refine g_iconst rfl rfl rfl (pc' := 21) ?_
  refine g_iload rfl rfl rfl (pc' := 22) ?_
  refine g_imul rfl rfl (pc' := 23) ?_
  refine g_aload (r := _) rfl rfl rfl (pc' := 24) ?_
  obtain ⟨a11, rfl, H⟩ := H
  obtain ⟨ht12, H⟩ := H
  refine g_call rfl (y := 557) (n := 4) (pc' := 27) (g_vt ht12 rfl rfl) (by cases r10 <;> cases r_1 <;> rfl) rfl ⟨(Nat.le_of_ble_eq_true rfl), (Nat.le_of_ble_eq_true rfl), (Nat.le_of_ble_eq_true rfl)⟩ rfl (gm_G.mono H (pR_elim (fun r14 h13 H' => ?_) (fun e27 h28 H => ?_)))
  · show gm_G _ 27 _ _ _ _
    replace H := H'
    clear H'
    obtain ⟨a15, rfl, H⟩ := H
    obtain ⟨Ha, Hb, H⟩ := H
    obtain ⟨n16, hn16, H⟩ := H
    refine g_aastore (r := _) rfl Ha Hb hn16 (pc' := 28) rfl ?_
    replace H := H _ rfl
    refine g_aload (r := some _) rfl rfl rfl (pc' := 29) ?_
    obtain ⟨ht18, H⟩ := H
    refine g_getRv rfl rfl rfl rfl ht18 (pc' := 32) rfl (fun r19 hr19 => ?_)
    replace H := H r19 hr19
    obtain ⟨a20, rfl, H⟩ := H
    obtain ⟨ht21, H⟩ := H
    refine g_getRv rfl rfl rfl rfl ht21 (pc' := 35) rfl (fun r22 hr22 => ?_)
    replace H := H r22 hr22
    refine g_iload rfl rfl rfl (pc' := 36) ?_
    refine g_iconst rfl rfl rfl (pc' := 37) ?_
    obtain ⟨a23, rfl, H⟩ := H
    obtain ⟨ht26, H⟩ := H
    obtain ⟨n24, hn24, H⟩ := H
    refine g_zastore rfl ht26 hn24 (by decide) (pc' := 38) rfl ?_
    replace H := H _ rfl
    exact g_return rfl H
  · exact H
set_option maxRecDepth 20000 in
theorem w_565_0 {a0 : Nat} {x1 : Int32} {h : hh_T} {Q : Option Value ⊕ Nat → hh_T → Prop} (H : hh_tg h a0 = 1 ∧ (gm_G 561 0 [some (.ref a0)] [] h (pI (fun v3 h2 => hh_tg h2 a0 = 1 ∧ (gm_G 4 0 [some (.ref a0), some (.int x1)] [] h2 (pI (fun v6 h5 => Q (.inl (some (.int v6))) h5) (fun e7 h8 => hh_tg h8 e7 = 21 ∧ Q (.inr e7) h8)))) (fun e9 h10 => hh_tg h10 e9 = 21 ∧ Q (.inr e9) h10)))) : gm_G 565 0 [some (.ref a0), some (.int x1)] [] h Q := by
  refine g_aload (r := some _) rfl rfl rfl (pc' := 1) ?_
  obtain ⟨ht1, H⟩ := H
  refine g_call rfl (y := 561) (n := 1) (pc' := 4) (g_vt ht1 rfl rfl) rfl rfl ⟨(Nat.le_of_ble_eq_true rfl), (Nat.le_of_ble_eq_true rfl), (Nat.le_of_ble_eq_true rfl)⟩ rfl (gm_G.mono H (pI_elim (fun v3 h2 H' => ?_) (fun e9 h10 H => ?_)))
  · show gm_G _ 4 _ _ _ _
    replace H := H'
    clear H'
    refine g_pop_i rfl rfl (pc' := 5) ?_
    refine g_aload (r := some _) rfl rfl rfl (pc' := 6) ?_
    refine g_iload rfl rfl rfl (pc' := 7) ?_
    obtain ⟨ht4, H⟩ := H
    refine g_call rfl (y := 4) (n := 2) (pc' := 10) (g_vt ht4 rfl rfl) rfl rfl ⟨(Nat.le_of_ble_eq_true rfl), (Nat.le_of_ble_eq_true rfl), (Nat.le_of_ble_eq_true rfl)⟩ rfl (gm_G.mono H (pI_elim (fun v6 h5 H' => ?_) (fun e7 h8 H => ?_)))
    · show gm_G _ 10 _ _ _ _
      replace H := H'
      clear H'
      exact g_ireturn rfl (Or.inl rfl) H
    · exact H
  · exact H
set_option maxRecDepth 20000 in
theorem w_566_0 {a0 : Nat}  {h : hh_T} {Q : Option Value ⊕ Nat → hh_T → Prop} (H : hh_tg h a0 = 1 ∧ (gm_G 243 0 [some (.ref a0)] [] h (pV (fun h2 => gm_sub (hh_tg h2 a0) 0 = true ∧ (∀ h4, h4 = hh_wi h2 a0 17 (Int32.ofNat 0) → (∀ h5, h5 = hh_wi h4 a0 29 (Int32.ofNat 0) → ((¬ (hh_i h5 a0 10) = Int32.ofNat 0 → (gm_G 566 26 [some (.ref a0)] [.int (Int32.ofNat 0)] h5 Q)) ∧ ((hh_i h5 a0 10) = Int32.ofNat 0 → (gm_G 566 26 [some (.ref a0)] [.int (Int32.ofNat 1)] h5 Q)))))) (fun e6 h7 => hh_tg h7 e6 = 21 ∧ Q (.inr e6) h7)))) : gm_G 566 0 [some (.ref a0)] [] h Q := by
  refine g_aload (r := some _) rfl rfl rfl (pc' := 1) ?_
  obtain ⟨ht1, H⟩ := H
  refine g_call rfl (y := 243) (n := 1) (pc' := 4) (g_vt ht1 rfl rfl) rfl rfl ⟨(Nat.le_of_ble_eq_true rfl), (Nat.le_of_ble_eq_true rfl), (Nat.le_of_ble_eq_true rfl)⟩ rfl (gm_G.mono H (pV_elim (fun h2 H' => ?_) (fun e6 h7 H => ?_)))
  · show gm_G _ 4 _ _ _ _
    replace H := H'
    clear H'
    refine g_aload (r := some _) rfl rfl rfl (pc' := 5) ?_
    refine g_iconst rfl rfl rfl (pc' := 6) ?_
    obtain ⟨ht3, H⟩ := H
    refine g_putI rfl rfl rfl rfl ht3  (pc' := 9) rfl ?_
    replace H := H _ rfl
    refine g_aload (r := some _) rfl rfl rfl (pc' := 10) ?_
    refine g_iconst rfl rfl rfl (pc' := 11) ?_
    refine g_putI rfl rfl rfl rfl ht3  (pc' := 14) rfl ?_
    replace H := H _ rfl
    refine g_aload (r := some _) rfl rfl rfl (pc' := 15) ?_
    refine g_getZ rfl rfl rfl rfl ht3 (pc' := 18) rfl ?_
    refine g_if_ne rfl (pc' := 21) (pt := 25) rfl rfl ⟨fun hc => ?_, fun hc => ?_⟩
    · replace H := H.1 hc
      refine g_iconst rfl rfl rfl (pc' := 26) ?_
      exact g_weak (show gm_Lle [some _] _ from ⟨rfl, trivial⟩) H
    · replace H := H.2 hc
      refine g_iconst rfl rfl rfl (pc' := 22) ?_
      refine g_goto rfl (pc' := 26) rfl ?_
      exact g_weak (show gm_Lle [some _] _ from ⟨rfl, trivial⟩) H
  · exact H
set_option maxRecDepth 20000 in
theorem w_566_26 {a0 : Nat} {y0 : Int32} {h : hh_T} {Q : Option Value ⊕ Nat → hh_T → Prop} (H : gm_G 431 0 [some (.int y0), some (.int (Int32.ofInt (-5)))] [] h (pV (fun h1 => gm_sub (hh_tg h1 a0) 0 = true ∧ (∀ r3, r3 = hh_r h1 a0 63 → (∃ a4, r3 = some a4 ∧ (hh_tg h1 a4 = 19 ∧ (gm_G 401 0 [some (.ref a4)] [] h1 (pI (fun v7 h6 => (v7 < Int32.ofNat 0 → (hh_tg h6 a0 = 1 ∧ (gm_G 523 0 [some (.ref a0)] [] h6 (pV (fun h9 => gm_sub (hh_tg h9 a0) 0 = true ∧ (∀ r11, r11 = hh_r h9 a0 63 → (∃ a12, r11 = some a12 ∧ (hh_tg h9 a12 = 19 ∧ (gm_G 400 0 [some (.ref a12)] [] h9 (pV (fun h14 => hh_tg h14 a0 = 1 ∧ (gm_G 237 0 [some (.ref a0)] [] h14 (pR (fun r17 h16 => gm_sub (hh_tg h16 a0) 0 = true ∧ (∀ h19, h19 = hh_wr h16 a0 33 r17 → (gm_G 566 67 [some (.ref a0)] [] h19 Q))) (fun e20 h21 => hh_tg h21 e20 = 21 ∧ gm_G 566 134 [some (.ref a0)] [.ref e20] h21 Q)))) (fun e22 h23 => hh_tg h23 e22 = 21 ∧ gm_G 566 134 [some (.ref a0)] [.ref e22] h23 Q))))))) (fun e24 h25 => hh_tg h25 e24 = 21 ∧ gm_G 566 134 [some (.ref a0)] [.ref e24] h25 Q))))) ∧ (¬ v7 < Int32.ofNat 0 → (Q (.inl (some (.int ((Int32.ofInt (-100)) - v7)))) h6))) (fun e26 h27 => hh_tg h27 e26 = 21 ∧ gm_G 566 134 [some (.ref a0)] [.ref e26] h27 Q))))))) (fun e28 h29 => hh_tg h29 e28 = 21 ∧ gm_G 566 134 [some (.ref a0)] [.ref e28] h29 Q))) : gm_G 566 26 [some (.ref a0)] [.int y0] h Q := by
  refine g_iconst rfl rfl rfl (pc' := 28) ?_
  refine g_call rfl (y := 431) (n := 2) (pc' := 31) (fun _ => rfl) rfl rfl ⟨(Nat.le_of_ble_eq_true rfl), (Nat.le_of_ble_eq_true rfl), (Nat.le_of_ble_eq_true rfl)⟩ rfl (gm_G.mono H (pV_elim (fun h1 H' => ?_) (fun e28 h29 H => ?_)))
  · show gm_G _ 31 _ _ _ _
    replace H := H'
    clear H'
    refine g_aload (r := some _) rfl rfl rfl (pc' := 32) ?_
    obtain ⟨ht2, H⟩ := H
    refine g_getRv rfl rfl rfl rfl ht2 (pc' := 35) rfl (fun r3 hr3 => ?_)
    replace H := H r3 hr3
    obtain ⟨a4, rfl, H⟩ := H
    obtain ⟨ht5, H⟩ := H
    refine g_call rfl (y := 401) (n := 1) (pc' := 38) (g_vt ht5 rfl rfl) rfl rfl ⟨(Nat.le_of_ble_eq_true rfl), (Nat.le_of_ble_eq_true rfl), (Nat.le_of_ble_eq_true rfl)⟩ rfl (gm_G.mono H (pI_elim (fun v7 h6 H' => ?_) (fun e26 h27 H => ?_)))
    · show gm_G _ 38 _ _ _ _
      replace H := H'
      clear H'
      refine g_istore rfl rfl rfl (pc' := 39) ?_
      refine g_iload rfl rfl rfl (pc' := 40) ?_
      refine g_if_lt rfl (pc' := 43) (pt := 48) rfl rfl ⟨fun hc => ?_, fun hc => ?_⟩
      · replace H := H.1 hc
        refine g_aload (r := some _) rfl rfl rfl (pc' := 49) ?_
        obtain ⟨ht8, H⟩ := H
        refine g_call rfl (y := 523) (n := 1) (pc' := 52) (g_vt ht8 rfl rfl) rfl rfl ⟨(Nat.le_of_ble_eq_true rfl), (Nat.le_of_ble_eq_true rfl), (Nat.le_of_ble_eq_true rfl)⟩ rfl (gm_G.mono H (pV_elim (fun h9 H' => ?_) (fun e24 h25 H => ?_)))
        · show gm_G _ 52 _ _ _ _
          replace H := H'
          clear H'
          refine g_aload (r := some _) rfl rfl rfl (pc' := 53) ?_
          obtain ⟨ht10, H⟩ := H
          refine g_getRv rfl rfl rfl rfl ht10 (pc' := 56) rfl (fun r11 hr11 => ?_)
          replace H := H r11 hr11
          obtain ⟨a12, rfl, H⟩ := H
          obtain ⟨ht13, H⟩ := H
          refine g_call rfl (y := 400) (n := 1) (pc' := 59) (g_vt ht13 rfl rfl) rfl rfl ⟨(Nat.le_of_ble_eq_true rfl), (Nat.le_of_ble_eq_true rfl), (Nat.le_of_ble_eq_true rfl)⟩ rfl (gm_G.mono H (pV_elim (fun h14 H' => ?_) (fun e22 h23 H => ?_)))
          · show gm_G _ 59 _ _ _ _
            replace H := H'
            clear H'
            refine g_aload (r := some _) rfl rfl rfl (pc' := 60) ?_
            refine g_aload (r := some _) rfl rfl rfl (pc' := 61) ?_
            obtain ⟨ht15, H⟩ := H
            refine g_call rfl (y := 237) (n := 1) (pc' := 64) (g_vt ht15 rfl rfl) rfl rfl ⟨(Nat.le_of_ble_eq_true rfl), (Nat.le_of_ble_eq_true rfl), (Nat.le_of_ble_eq_true rfl)⟩ rfl (gm_G.mono H (pR_elim (fun r17 h16 H' => ?_) (fun e20 h21 H => ?_)))
            · show gm_G _ 64 _ _ _ _
              replace H := H'
              clear H'
              obtain ⟨ht18, H⟩ := H
              refine g_putR rfl rfl rfl rfl ht18  (pc' := 67) rfl ?_
              replace H := H _ rfl
              exact g_weak (show gm_Lle [some _] _ from ⟨rfl, trivial⟩) H
            · exact ⟨H.1, g_weak (show gm_Lle [some _] _ from ⟨rfl, trivial⟩) H.2⟩
          · exact ⟨H.1, g_weak (show gm_Lle [some _] _ from ⟨rfl, trivial⟩) H.2⟩
        · exact ⟨H.1, g_weak (show gm_Lle [some _] _ from ⟨rfl, trivial⟩) H.2⟩
      · replace H := H.2 hc
        refine g_iconst rfl rfl rfl (pc' := 45) ?_
        refine g_iload rfl rfl rfl (pc' := 46) ?_
        refine g_isub rfl rfl (pc' := 47) ?_
        exact g_ireturn rfl (Or.inl rfl) H
    · exact ⟨H.1, g_weak (show gm_Lle [some _] _ from ⟨rfl, trivial⟩) H.2⟩
  · exact ⟨H.1, g_weak (show gm_Lle [some _] _ from ⟨rfl, trivial⟩) H.2⟩
set_option maxRecDepth 20000 in
theorem w_566_67 {a0 : Nat}  {h : hh_T} {Q : Option Value ⊕ Nat → hh_T → Prop} (H : hh_tg h a0 = 1 ∧ (gm_G 235 0 [some (.ref a0)] [] h (pR (fun r3 h2 => ∃ a4, r3 = some a4 ∧ (gm_sub (hh_tg h2 a4) 23 = true ∧ (∀ h6, h6 = hh_wi h2 a4 0 (Int32.ofNat 0) → (∀ h7, h7 = hh_wj h6 a4 4 (Int64.ofNat 0) → (∀ h8, h8 = hh_wi h7 a4 2 (Int32.ofNat 0) → (∀ h9, h9 = hh_wi h8 a4 1 (Int32.ofInt (-2)) → (gm_G 566 93 [some (.ref a0), none, some (.ref a4)] [] h9 Q))))))) (fun e10 h11 => hh_tg h11 e10 = 21 ∧ gm_G 566 134 [some (.ref a0)] [.ref e10] h11 Q)))) : gm_G 566 67 [some (.ref a0)] [] h Q := by
  refine g_aload (r := some _) rfl rfl rfl (pc' := 68) ?_
  obtain ⟨ht1, H⟩ := H
  refine g_call rfl (y := 235) (n := 1) (pc' := 71) (g_vt ht1 rfl rfl) rfl rfl ⟨(Nat.le_of_ble_eq_true rfl), (Nat.le_of_ble_eq_true rfl), (Nat.le_of_ble_eq_true rfl)⟩ rfl (gm_G.mono H (pR_elim (fun r3 h2 H' => ?_) (fun e10 h11 H => ?_)))
  · show gm_G _ 71 _ _ _ _
    replace H := H'
    clear H'
    refine g_astore (r := _) rfl rfl rfl (pc' := 72) ?_
    refine g_aload (r := _) rfl rfl rfl (pc' := 73) ?_
    refine g_iconst rfl rfl rfl (pc' := 74) ?_
    obtain ⟨a4, rfl, H⟩ := H
    obtain ⟨ht5, H⟩ := H
    refine g_putI rfl rfl rfl rfl ht5  (pc' := 77) rfl ?_
    replace H := H _ rfl
    refine g_aload (r := some _) rfl rfl rfl (pc' := 78) ?_
    refine g_lconst rfl rfl rfl (pc' := 79) ?_
    refine g_putJ rfl rfl rfl rfl ht5  (pc' := 82) rfl ?_
    replace H := H _ rfl
    refine g_aload (r := some _) rfl rfl rfl (pc' := 83) ?_
    refine g_iconst rfl rfl rfl (pc' := 84) ?_
    refine g_putI rfl rfl rfl rfl ht5  (pc' := 87) rfl ?_
    replace H := H _ rfl
    refine g_aload (r := some _) rfl rfl rfl (pc' := 88) ?_
    refine g_iconst rfl rfl rfl (pc' := 90) ?_
    refine g_putI rfl rfl rfl rfl ht5  (pc' := 93) rfl ?_
    replace H := H _ rfl
    exact g_weak (show gm_Lle [some _, none, some _] _ from ⟨rfl, ⟨rfl, trivial⟩⟩) H
  · exact ⟨H.1, g_weak (show gm_Lle [some _] _ from ⟨rfl, trivial⟩) H.2⟩
set_option maxRecDepth 20000 in
theorem w_566_93 {a0 : Nat} {r_2 : Option Nat} {h : hh_T} {Q : Option Value ⊕ Nat → hh_T → Prop} (H : hh_tg h a0 = 1 ∧ (gm_G 394 0 [some (.ref a0), some (.int (Int32.ofNat 0))] [] h (pR (fun r3 h2 => ∃ a4, r_2 = some a4 ∧ (gm_sub (hh_tg h2 a4) 23 = true ∧ (∀ h6, h6 = hh_wr h2 a4 9 r3 → (gm_sub (hh_tg h6 a0) 0 = true ∧ (∀ r8, r8 = hh_r h6 a0 33 → (∃ a9, r8 = some a9 ∧ (hh_tg h6 a9 = 23 ∧ (gm_G 172 0 [some (.ref a9), some (.ref a4)] [] h6 (pV (fun h11 => gm_sub (hh_tg h11 a0) 0 = true ∧ (∀ h13, h13 = hh_wi h11 a0 9 (Int32.ofNat 1) → (∀ h14, h14 = hh_wi h13 a0 10 (Int32.ofNat 1) → (gm_G 566 120 [some (.ref a0)] [] h14 Q)))) (fun e15 h16 => hh_tg h16 e15 = 21 ∧ gm_G 566 134 [some (.ref a0)] [.ref e15] h16 Q)))))))))) (fun e17 h18 => hh_tg h18 e17 = 21 ∧ gm_G 566 134 [some (.ref a0)] [.ref e17] h18 Q)))) : gm_G 566 93 [some (.ref a0), none, some (va_rf r_2)] [] h Q := by
  refine g_aload (r := _) rfl rfl rfl (pc' := 94) ?_
  refine g_aload (r := some _) rfl rfl rfl (pc' := 95) ?_
  refine g_iconst rfl rfl rfl (pc' := 96) ?_
  obtain ⟨ht1, H⟩ := H
  refine g_call rfl (y := 394) (n := 2) (pc' := 99) (g_vt ht1 rfl rfl) rfl rfl ⟨(Nat.le_of_ble_eq_true rfl), (Nat.le_of_ble_eq_true rfl), (Nat.le_of_ble_eq_true rfl)⟩ rfl (gm_G.mono H (pR_elim (fun r3 h2 H' => ?_) (fun e17 h18 H => ?_)))
  · show gm_G _ 99 _ _ _ _
    replace H := H'
    clear H'
    obtain ⟨a4, rfl, H⟩ := H
    obtain ⟨ht5, H⟩ := H
    refine g_putR rfl rfl rfl rfl ht5  (pc' := 102) rfl ?_
    replace H := H _ rfl
    refine g_aload (r := some _) rfl rfl rfl (pc' := 103) ?_
    obtain ⟨ht7, H⟩ := H
    refine g_getRv rfl rfl rfl rfl ht7 (pc' := 106) rfl (fun r8 hr8 => ?_)
    replace H := H r8 hr8
    refine g_aload (r := some _) rfl rfl rfl (pc' := 107) ?_
    obtain ⟨a9, rfl, H⟩ := H
    obtain ⟨ht10, H⟩ := H
    refine g_call rfl (y := 172) (n := 2) (pc' := 110) (g_vt ht10 rfl rfl) rfl rfl ⟨(Nat.le_of_ble_eq_true rfl), (Nat.le_of_ble_eq_true rfl), (Nat.le_of_ble_eq_true rfl)⟩ rfl (gm_G.mono H (pV_elim (fun h11 H' => ?_) (fun e15 h16 H => ?_)))
    · show gm_G _ 110 _ _ _ _
      replace H := H'
      clear H'
      refine g_aload (r := some _) rfl rfl rfl (pc' := 111) ?_
      refine g_iconst rfl rfl rfl (pc' := 112) ?_
      obtain ⟨ht12, H⟩ := H
      refine g_putZ rfl rfl rfl rfl ht12 (by decide) (pc' := 115) rfl ?_
      replace H := H _ rfl
      refine g_aload (r := some _) rfl rfl rfl (pc' := 116) ?_
      refine g_iconst rfl rfl rfl (pc' := 117) ?_
      refine g_putZ rfl rfl rfl rfl ht12 (by decide) (pc' := 120) rfl ?_
      replace H := H _ rfl
      exact g_weak (show gm_Lle [some _] _ from ⟨rfl, trivial⟩) H
    · exact ⟨H.1, g_weak (show gm_Lle [some _] _ from ⟨rfl, trivial⟩) H.2⟩
  · exact ⟨H.1, g_weak (show gm_Lle [some _] _ from ⟨rfl, trivial⟩) H.2⟩
set_option maxRecDepth 20000 in
theorem w_566_120 {a0 : Nat}  {h : hh_T} {Q : Option Value ⊕ Nat → hh_T → Prop} (H : hh_tg h a0 = 1 ∧ (gm_G 561 0 [some (.ref a0)] [] h (pI (fun v3 h2 => gm_sub (hh_tg h2 a0) 0 = true ∧ (hh_tg h2 a0 = 1 ∧ (gm_G 4 0 [some (.ref a0), some (.int (hh_i h2 a0 8))] [] h2 (pI (fun v7 h6 => Q (.inl (some (.int v7))) h6) (fun e8 h9 => hh_tg h9 e8 = 21 ∧ gm_G 566 134 [some (.ref a0)] [.ref e8] h9 Q))))) (fun e10 h11 => hh_tg h11 e10 = 21 ∧ gm_G 566 134 [some (.ref a0)] [.ref e10] h11 Q)))) : gm_G 566 120 [some (.ref a0)] [] h Q := by
  refine g_aload (r := some _) rfl rfl rfl (pc' := 121) ?_
  obtain ⟨ht1, H⟩ := H
  refine g_call rfl (y := 561) (n := 1) (pc' := 124) (g_vt ht1 rfl rfl) rfl rfl ⟨(Nat.le_of_ble_eq_true rfl), (Nat.le_of_ble_eq_true rfl), (Nat.le_of_ble_eq_true rfl)⟩ rfl (gm_G.mono H (pI_elim (fun v3 h2 H' => ?_) (fun e10 h11 H => ?_)))
  · show gm_G _ 124 _ _ _ _
    replace H := H'
    clear H'
    refine g_pop_i rfl rfl (pc' := 125) ?_
    refine g_aload (r := some _) rfl rfl rfl (pc' := 126) ?_
    refine g_aload (r := some _) rfl rfl rfl (pc' := 127) ?_
    obtain ⟨ht4, H⟩ := H
    refine g_getI rfl rfl rfl rfl ht4 (pc' := 130) rfl ?_
    obtain ⟨ht5, H⟩ := H
    refine g_call rfl (y := 4) (n := 2) (pc' := 133) (g_vt ht5 rfl rfl) rfl rfl ⟨(Nat.le_of_ble_eq_true rfl), (Nat.le_of_ble_eq_true rfl), (Nat.le_of_ble_eq_true rfl)⟩ rfl (gm_G.mono H (pI_elim (fun v7 h6 H' => ?_) (fun e8 h9 H => ?_)))
    · show gm_G _ 133 _ _ _ _
      replace H := H'
      clear H'
      exact g_ireturn rfl (Or.inl rfl) H
    · exact ⟨H.1, g_weak (show gm_Lle [some _] _ from ⟨rfl, trivial⟩) H.2⟩
  · exact ⟨H.1, g_weak (show gm_Lle [some _] _ from ⟨rfl, trivial⟩) H.2⟩
set_option maxRecDepth 20000 in
theorem w_566_134 {a0 : Nat} {ex : Nat} {h : hh_T} {Q : Option Value ⊕ Nat → hh_T → Prop} (H : hh_tg h a0 = 1 ∧ (gm_G 1 0 [some (.ref a0), some (.ref ex)] [] h (pI (fun v3 h2 => Q (.inl (some (.int v3))) h2) (fun e4 h5 => hh_tg h5 e4 = 21 ∧ Q (.inr e4) h5)))) : gm_G 566 134 [some (.ref a0)] [.ref ex] h Q := by
  refine g_astore (r := some _) rfl rfl rfl (pc' := 135) ?_
  refine g_aload (r := some _) rfl rfl rfl (pc' := 136) ?_
  refine g_aload (r := some _) rfl rfl rfl (pc' := 137) ?_
  obtain ⟨ht1, H⟩ := H
  refine g_call rfl (y := 1) (n := 2) (pc' := 140) (g_vt ht1 rfl rfl) rfl rfl ⟨(Nat.le_of_ble_eq_true rfl), (Nat.le_of_ble_eq_true rfl), (Nat.le_of_ble_eq_true rfl)⟩ rfl (gm_G.mono H (pI_elim (fun v3 h2 H' => ?_) (fun e4 h5 H => ?_)))
  · show gm_G _ 140 _ _ _ _
    replace H := H'
    clear H'
    exact g_ireturn rfl (Or.inl rfl) H
  · exact H
set_option maxRecDepth 20000 in
theorem w_567_0 {a0 : Nat} {r_1 : Option Nat} {h : hh_T} {Q : Option Value ⊕ Nat → hh_T → Prop} (H : ∃ a1, r_1 = some a1 ∧ (gm_sub (hh_tg h a1) 30 = true ∧ (∀ h3, h3 = hh_wi h a1 2 (hh_i h a1 1) → (gm_sub (hh_tg h3 a0) 0 = true ∧ (∀ r5, r5 = hh_r h3 a0 49 → (∃ a6, r5 = some a6 ∧ (hh_tg h3 a6 = 14 ∧ (gm_G 67 0 [some (.ref a6), some (.int (Int32.ofNat 1))] [] h3 (pI (fun v9 h8 => ((Int32.ofNat 16) < v9 → (gm_sub (hh_tg h8 a1) 30 = true ∧ (∀ h11, h11 = hh_wi h8 a1 2 (hh_i h a1 2) → (hh_tg h11 a0 = 1 ∧ (gm_G 561 0 [some (.ref a0)] [] h11 (pI (fun v14 h13 => Q (.inl none) h13) (fun e15 h16 => hh_tg h16 e15 = 21 ∧ Q (.inr e15) h16))))))) ∧ (¬ (Int32.ofNat 16) < v9 → (Q (.inl none) h8))) (fun e17 h18 => hh_tg h18 e17 = 21 ∧ Q (.inr e17) h18)))))))))) : gm_G 567 0 [some (.ref a0), some (va_rf r_1)] [] h Q := by
  refine g_aload (r := _) rfl rfl rfl (pc' := 1) ?_
  obtain ⟨a1, rfl, H⟩ := H
  obtain ⟨ht2, H⟩ := H
  refine g_getI rfl rfl rfl rfl ht2 (pc' := 4) rfl ?_
  refine g_istore rfl rfl rfl (pc' := 5) ?_
  refine g_aload (r := some _) rfl rfl rfl (pc' := 6) ?_
  refine g_aload (r := some _) rfl rfl rfl (pc' := 7) ?_
  refine g_getI rfl rfl rfl rfl ht2 (pc' := 10) rfl ?_
  refine g_putI rfl rfl rfl rfl ht2  (pc' := 13) rfl ?_
  replace H := H _ rfl
  refine g_aload (r := some _) rfl rfl rfl (pc' := 14) ?_
  obtain ⟨ht4, H⟩ := H
  refine g_getRv rfl rfl rfl rfl ht4 (pc' := 17) rfl (fun r5 hr5 => ?_)
  replace H := H r5 hr5
  refine g_iconst rfl rfl rfl (pc' := 18) ?_
  obtain ⟨a6, rfl, H⟩ := H
  obtain ⟨ht7, H⟩ := H
  refine g_call rfl (y := 67) (n := 2) (pc' := 21) (g_vt ht7 rfl rfl) rfl rfl ⟨(Nat.le_of_ble_eq_true rfl), (Nat.le_of_ble_eq_true rfl), (Nat.le_of_ble_eq_true rfl)⟩ rfl (gm_G.mono H (pI_elim (fun v9 h8 H' => ?_) (fun e17 h18 H => ?_)))
  · show gm_G _ 21 _ _ _ _
    replace H := H'
    clear H'
    refine g_iconst rfl rfl rfl (pc' := 23) ?_
    refine g_ic_gt rfl (pc' := 26) (pt := 27) rfl rfl ⟨fun hc => ?_, fun hc => ?_⟩
    · replace H := H.1 hc
      refine g_aload (r := some _) rfl rfl rfl (pc' := 28) ?_
      refine g_iload rfl rfl rfl (pc' := 29) ?_
      obtain ⟨ht10, H⟩ := H
      refine g_putI rfl rfl rfl rfl ht10  (pc' := 32) rfl ?_
      replace H := H _ rfl
      refine g_aload (r := some _) rfl rfl rfl (pc' := 33) ?_
      obtain ⟨ht12, H⟩ := H
      refine g_call rfl (y := 561) (n := 1) (pc' := 36) (g_vt ht12 rfl rfl) rfl rfl ⟨(Nat.le_of_ble_eq_true rfl), (Nat.le_of_ble_eq_true rfl), (Nat.le_of_ble_eq_true rfl)⟩ rfl (gm_G.mono H (pI_elim (fun v14 h13 H' => ?_) (fun e15 h16 H => ?_)))
      · show gm_G _ 36 _ _ _ _
        replace H := H'
        clear H'
        refine g_pop_i rfl rfl (pc' := 37) ?_
        exact g_return rfl H
      · exact H
    · replace H := H.2 hc
      exact g_return rfl H
  · exact H
set_option maxRecDepth 20000 in
theorem w_568_0 {a0 : Nat}  {h : hh_T} {Q : Option Value ⊕ Nat → hh_T → Prop} (H : hh_tg h a0 = 1 ∧ (gm_G 456 0 [some (.ref a0)] [] h (pV (fun h2 => hh_tg h2 a0 = 1 ∧ (gm_G 561 0 [some (.ref a0)] [] h2 (pI (fun v5 h4 => hh_tg h4 a0 = 1 ∧ (gm_G 524 0 [some (.ref a0)] [] h4 (pV (fun h7 => hh_tg h7 a0 = 1 ∧ (gm_G 4 0 [some (.ref a0), some (.int v5)] [] h7 (pI (fun v10 h9 => Q (.inl (some (.int v10))) h9) (fun e11 h12 => hh_tg h12 e11 = 21 ∧ gm_G 568 19 [some (.ref a0)] [.ref e11] h12 Q)))) (fun e13 h14 => hh_tg h14 e13 = 21 ∧ gm_G 568 19 [some (.ref a0)] [.ref e13] h14 Q)))) (fun e15 h16 => hh_tg h16 e15 = 21 ∧ gm_G 568 19 [some (.ref a0)] [.ref e15] h16 Q)))) (fun e17 h18 => hh_tg h18 e17 = 21 ∧ gm_G 568 19 [some (.ref a0)] [.ref e17] h18 Q)))) : gm_G 568 0 [some (.ref a0)] [] h Q := by
  refine g_aload (r := some _) rfl rfl rfl (pc' := 1) ?_
  obtain ⟨ht1, H⟩ := H
  refine g_call rfl (y := 456) (n := 1) (pc' := 4) (g_vt ht1 rfl rfl) rfl rfl ⟨(Nat.le_of_ble_eq_true rfl), (Nat.le_of_ble_eq_true rfl), (Nat.le_of_ble_eq_true rfl)⟩ rfl (gm_G.mono H (pV_elim (fun h2 H' => ?_) (fun e17 h18 H => ?_)))
  · show gm_G _ 4 _ _ _ _
    replace H := H'
    clear H'
    refine g_aload (r := some _) rfl rfl rfl (pc' := 5) ?_
    obtain ⟨ht3, H⟩ := H
    refine g_call rfl (y := 561) (n := 1) (pc' := 8) (g_vt ht3 rfl rfl) rfl rfl ⟨(Nat.le_of_ble_eq_true rfl), (Nat.le_of_ble_eq_true rfl), (Nat.le_of_ble_eq_true rfl)⟩ rfl (gm_G.mono H (pI_elim (fun v5 h4 H' => ?_) (fun e15 h16 H => ?_)))
    · show gm_G _ 8 _ _ _ _
      replace H := H'
      clear H'
      refine g_istore rfl rfl rfl (pc' := 9) ?_
      refine g_aload (r := some _) rfl rfl rfl (pc' := 10) ?_
      obtain ⟨ht6, H⟩ := H
      refine g_call rfl (y := 524) (n := 1) (pc' := 13) (g_vt ht6 rfl rfl) rfl rfl ⟨(Nat.le_of_ble_eq_true rfl), (Nat.le_of_ble_eq_true rfl), (Nat.le_of_ble_eq_true rfl)⟩ rfl (gm_G.mono H (pV_elim (fun h7 H' => ?_) (fun e13 h14 H => ?_)))
      · show gm_G _ 13 _ _ _ _
        replace H := H'
        clear H'
        refine g_aload (r := some _) rfl rfl rfl (pc' := 14) ?_
        refine g_iload rfl rfl rfl (pc' := 15) ?_
        obtain ⟨ht8, H⟩ := H
        refine g_call rfl (y := 4) (n := 2) (pc' := 18) (g_vt ht8 rfl rfl) rfl rfl ⟨(Nat.le_of_ble_eq_true rfl), (Nat.le_of_ble_eq_true rfl), (Nat.le_of_ble_eq_true rfl)⟩ rfl (gm_G.mono H (pI_elim (fun v10 h9 H' => ?_) (fun e11 h12 H => ?_)))
        · show gm_G _ 18 _ _ _ _
          replace H := H'
          clear H'
          exact g_ireturn rfl (Or.inl rfl) H
        · exact ⟨H.1, g_weak (show gm_Lle [some _] _ from ⟨rfl, trivial⟩) H.2⟩
      · exact ⟨H.1, g_weak (show gm_Lle [some _] _ from ⟨rfl, trivial⟩) H.2⟩
    · exact ⟨H.1, g_weak (show gm_Lle [some _] _ from ⟨rfl, trivial⟩) H.2⟩
  · exact ⟨H.1, g_weak (show gm_Lle [some _] _ from ⟨rfl, trivial⟩) H.2⟩
set_option maxRecDepth 20000 in
theorem w_568_19 {a0 : Nat} {ex : Nat} {h : hh_T} {Q : Option Value ⊕ Nat → hh_T → Prop} (H : hh_tg h a0 = 1 ∧ (gm_G 1 0 [some (.ref a0), some (.ref ex)] [] h (pI (fun v3 h2 => Q (.inl (some (.int v3))) h2) (fun e4 h5 => hh_tg h5 e4 = 21 ∧ Q (.inr e4) h5)))) : gm_G 568 19 [some (.ref a0)] [.ref ex] h Q := by
  refine g_astore (r := some _) rfl rfl rfl (pc' := 20) ?_
  refine g_aload (r := some _) rfl rfl rfl (pc' := 21) ?_
  refine g_aload (r := some _) rfl rfl rfl (pc' := 22) ?_
  obtain ⟨ht1, H⟩ := H
  refine g_call rfl (y := 1) (n := 2) (pc' := 25) (g_vt ht1 rfl rfl) rfl rfl ⟨(Nat.le_of_ble_eq_true rfl), (Nat.le_of_ble_eq_true rfl), (Nat.le_of_ble_eq_true rfl)⟩ rfl (gm_G.mono H (pI_elim (fun v3 h2 H' => ?_) (fun e4 h5 H => ?_)))
  · show gm_G _ 25 _ _ _ _
    replace H := H'
    clear H'
    exact g_ireturn rfl (Or.inl rfl) H
  · exact H
set_option maxRecDepth 20000 in
theorem w_569_0 {a0 : Nat}  {h : hh_T} {Q : Option Value ⊕ Nat → hh_T → Prop} (H : hh_tg h a0 = 1 ∧ (gm_G 456 0 [some (.ref a0)] [] h (pV (fun h2 => hh_tg h2 a0 = 1 ∧ (gm_G 561 0 [some (.ref a0)] [] h2 (pI (fun v5 h4 => hh_tg h4 a0 = 1 ∧ (gm_G 4 0 [some (.ref a0), some (.int v5)] [] h4 (pI (fun v8 h7 => Q (.inl (some (.int v8))) h7) (fun e9 h10 => hh_tg h10 e9 = 21 ∧ gm_G 569 13 [some (.ref a0)] [.ref e9] h10 Q)))) (fun e11 h12 => hh_tg h12 e11 = 21 ∧ gm_G 569 13 [some (.ref a0)] [.ref e11] h12 Q)))) (fun e13 h14 => hh_tg h14 e13 = 21 ∧ gm_G 569 13 [some (.ref a0)] [.ref e13] h14 Q)))) : gm_G 569 0 [some (.ref a0)] [] h Q := by
  refine g_aload (r := some _) rfl rfl rfl (pc' := 1) ?_
  obtain ⟨ht1, H⟩ := H
  refine g_call rfl (y := 456) (n := 1) (pc' := 4) (g_vt ht1 rfl rfl) rfl rfl ⟨(Nat.le_of_ble_eq_true rfl), (Nat.le_of_ble_eq_true rfl), (Nat.le_of_ble_eq_true rfl)⟩ rfl (gm_G.mono H (pV_elim (fun h2 H' => ?_) (fun e13 h14 H => ?_)))
  · show gm_G _ 4 _ _ _ _
    replace H := H'
    clear H'
    refine g_aload (r := some _) rfl rfl rfl (pc' := 5) ?_
    refine g_aload (r := some _) rfl rfl rfl (pc' := 6) ?_
    obtain ⟨ht3, H⟩ := H
    refine g_call rfl (y := 561) (n := 1) (pc' := 9) (g_vt ht3 rfl rfl) rfl rfl ⟨(Nat.le_of_ble_eq_true rfl), (Nat.le_of_ble_eq_true rfl), (Nat.le_of_ble_eq_true rfl)⟩ rfl (gm_G.mono H (pI_elim (fun v5 h4 H' => ?_) (fun e11 h12 H => ?_)))
    · show gm_G _ 9 _ _ _ _
      replace H := H'
      clear H'
      obtain ⟨ht6, H⟩ := H
      refine g_call rfl (y := 4) (n := 2) (pc' := 12) (g_vt ht6 rfl rfl) rfl rfl ⟨(Nat.le_of_ble_eq_true rfl), (Nat.le_of_ble_eq_true rfl), (Nat.le_of_ble_eq_true rfl)⟩ rfl (gm_G.mono H (pI_elim (fun v8 h7 H' => ?_) (fun e9 h10 H => ?_)))
      · show gm_G _ 12 _ _ _ _
        replace H := H'
        clear H'
        exact g_ireturn rfl (Or.inl rfl) H
      · exact ⟨H.1, g_weak (show gm_Lle [some _] _ from ⟨rfl, trivial⟩) H.2⟩
    · exact ⟨H.1, g_weak (show gm_Lle [some _] _ from ⟨rfl, trivial⟩) H.2⟩
  · exact ⟨H.1, g_weak (show gm_Lle [some _] _ from ⟨rfl, trivial⟩) H.2⟩
set_option maxRecDepth 20000 in
theorem w_569_13 {a0 : Nat} {ex : Nat} {h : hh_T} {Q : Option Value ⊕ Nat → hh_T → Prop} (H : hh_tg h a0 = 1 ∧ (gm_G 1 0 [some (.ref a0), some (.ref ex)] [] h (pI (fun v3 h2 => Q (.inl (some (.int v3))) h2) (fun e4 h5 => hh_tg h5 e4 = 21 ∧ Q (.inr e4) h5)))) : gm_G 569 13 [some (.ref a0)] [.ref ex] h Q := by
  refine g_astore (r := some _) rfl rfl rfl (pc' := 14) ?_
  refine g_aload (r := some _) rfl rfl rfl (pc' := 15) ?_
  refine g_aload (r := some _) rfl rfl rfl (pc' := 16) ?_
  obtain ⟨ht1, H⟩ := H
  refine g_call rfl (y := 1) (n := 2) (pc' := 19) (g_vt ht1 rfl rfl) rfl rfl ⟨(Nat.le_of_ble_eq_true rfl), (Nat.le_of_ble_eq_true rfl), (Nat.le_of_ble_eq_true rfl)⟩ rfl (gm_G.mono H (pI_elim (fun v3 h2 H' => ?_) (fun e4 h5 H => ?_)))
  · show gm_G _ 19 _ _ _ _
    replace H := H'
    clear H'
    exact g_ireturn rfl (Or.inl rfl) H
  · exact H
set_option maxRecDepth 20000 in
theorem w_570_0 {a0 : Nat} {x1 : Int32} {x2 : Int32} {r_3 : Option Nat} {x4 : Int32} {h : hh_T} {Q : Option Value ⊕ Nat → hh_T → Prop} (H : gm_G 570 3 [some (.ref a0), some (.int x1), some (.int x2), some (va_rf r_3), some (.int x4), some (.int (Int32.ofNat 0))] [] h Q) : gm_G 570 0 [some (.ref a0), some (.int x1), some (.int x2), some (va_rf r_3), some (.int x4)] [] h Q := by
  refine g_iconst rfl rfl rfl (pc' := 1) ?_
  refine g_istore rfl rfl rfl (pc' := 3) ?_
  exact g_weak (show gm_Lle [some _, some _, some _, some _, some _, some _] _ from ⟨rfl, ⟨rfl, ⟨rfl, ⟨rfl, ⟨rfl, ⟨rfl, trivial⟩⟩⟩⟩⟩⟩) H
set_option maxRecDepth 20000 in
theorem w_570_3 {a0 : Nat} {x1 : Int32} {x2 : Int32} {r_3 : Option Nat} {x4 : Int32} {x5 : Int32} {h : hh_T} {Q : Option Value ⊕ Nat → hh_T → Prop} (H : gm_sub (hh_tg h a0) 3 = true ∧ ((¬ x5 < (hh_i h a0 2) → (Q (.inl none) h)) ∧ (x5 < (hh_i h a0 2) → (gm_G 570 15 [some (.ref a0), some (.int x1), some (.int x2), some (va_rf r_3), some (.int x4), some (.int x5), some (.int (Int32.ofNat 0))] [] h Q)))) : gm_G 570 3 [some (.ref a0), some (.int x1), some (.int x2), some (va_rf r_3), some (.int x4), some (.int x5)] [] h Q := by
  refine g_iload rfl rfl rfl (pc' := 5) ?_
  refine g_aload (r := some _) rfl rfl rfl (pc' := 6) ?_
  obtain ⟨ht1, H⟩ := H
  refine g_getI rfl rfl rfl rfl ht1 (pc' := 9) rfl ?_
  refine g_ic_ge rfl (pc' := 12) (pt := 56) rfl rfl ⟨fun hc => ?_, fun hc => ?_⟩
  · replace H := H.1 hc
    exact g_return rfl H
  · replace H := H.2 hc
    refine g_iconst rfl rfl rfl (pc' := 13) ?_
    refine g_istore rfl rfl rfl (pc' := 15) ?_
    exact g_weak (show gm_Lle [some _, some _, some _, some _, some _, some _, some _] _ from ⟨rfl, ⟨rfl, ⟨rfl, ⟨rfl, ⟨rfl, ⟨rfl, ⟨rfl, trivial⟩⟩⟩⟩⟩⟩⟩) H
set_option maxRecDepth 20000 in
theorem w_570_15 {a0 : Nat} {x1 : Int32} {x2 : Int32} {r_3 : Option Nat} {x4 : Int32} {x5 : Int32} {x6 : Int32} {h : hh_T} {Q : Option Value ⊕ Nat → hh_T → Prop} (H : (¬ x6 < x2 → (gm_G 570 3 [some (.ref a0), some (.int x1), some (.int x2), some (va_rf r_3), some (.int x4), some (.int (x5 + (Int32.ofNat 1)))] [] h Q)) ∧ (x6 < x2 → (gm_sub (hh_tg h a0) 3 = true ∧ (∀ r2, r2 = hh_r h a0 1 → (∃ a3, r2 = some a3 ∧ ((hh_tg h a3 = 104 ∨ 200 ≤ hh_tg h a3) ∧ (∃ n4, gm_ix x5 n4 (hh_ln h a3) ∧ (∀ r6, r6 = hh_r h a3 n4 → (hh_tg h a0 = 5 ∧ (gm_G 562 0 [some (.ref a0), some (va_rf r6), some (.int (x1 + x6)), some (va_rf r_3), some (.int ((Int32.ofNat 8) * x6)), some (.int x4)] [] h (pV (fun h8 => gm_G 570 15 [some (.ref a0), some (.int x1), some (.int x2), some (va_rf r_3), some (.int x4), some (.int x5), some (.int (x6 + (Int32.ofNat 1)))] [] h8 Q) (fun e9 h10 => hh_tg h10 e9 = 21 ∧ Q (.inr e9) h10)))))))))))) : gm_G 570 15 [some (.ref a0), some (.int x1), some (.int x2), some (va_rf r_3), some (.int x4), some (.int x5), some (.int x6)] [] h Q := by
  refine g_iload rfl rfl rfl (pc' := 17) ?_
  refine g_iload rfl rfl rfl (pc' := 18) ?_
  refine g_ic_ge rfl (pc' := 21) (pt := 50) rfl rfl ⟨fun hc => ?_, fun hc => ?_⟩
  · replace H := H.1 hc
    refine g_iinc (c := (Int32.ofNat 1)) rfl rfl rfl rfl rfl (pc' := 53) ?_
    refine g_goto rfl (pc' := 3) rfl ?_
    exact g_weak (show gm_Lle [some _, some _, some _, some _, some _, some _] _ from ⟨rfl, ⟨rfl, ⟨rfl, ⟨rfl, ⟨rfl, ⟨rfl, trivial⟩⟩⟩⟩⟩⟩) H
  · replace H := H.2 hc
    refine g_aload (r := some _) rfl rfl rfl (pc' := 22) ?_
    refine g_aload (r := some _) rfl rfl rfl (pc' := 23) ?_
    obtain ⟨ht1, H⟩ := H
    refine g_getRv rfl rfl rfl rfl ht1 (pc' := 26) rfl (fun r2 hr2 => ?_)
    replace H := H r2 hr2
    refine g_iload rfl rfl rfl (pc' := 28) ?_
    obtain ⟨a3, rfl, H⟩ := H
    obtain ⟨ht5, H⟩ := H
    obtain ⟨n4, hn4, H⟩ := H
    refine g_aaloadv rfl ht5 hn4 (pc' := 29) rfl (fun r6 hr6 => ?_)
    replace H := H r6 hr6
    refine g_iload rfl rfl rfl (pc' := 30) ?_
    refine g_iload rfl rfl rfl (pc' := 32) ?_
    refine g_iadd rfl rfl (pc' := 33) ?_
    refine g_aload (r := _) rfl rfl rfl (pc' := 34) ?_
    refine g_iconst rfl rfl rfl (pc' := 36) ?_
    refine g_iload rfl rfl rfl (pc' := 38) ?_
    refine g_imul rfl rfl (pc' := 39) ?_
    refine g_iload rfl rfl rfl (pc' := 41) ?_
    obtain ⟨ht7, H⟩ := H
    refine g_call rfl (y := 562) (n := 6) (pc' := 44) (g_vt ht7 rfl rfl) (by cases r6 <;> cases r_3 <;> rfl) rfl ⟨(Nat.le_of_ble_eq_true rfl), (Nat.le_of_ble_eq_true rfl), (Nat.le_of_ble_eq_true rfl)⟩ rfl (gm_G.mono H (pV_elim (fun h8 H' => ?_) (fun e9 h10 H => ?_)))
    · show gm_G _ 44 _ _ _ _
      replace H := H'
      clear H'
      refine g_iinc (c := (Int32.ofNat 1)) rfl rfl rfl rfl rfl (pc' := 47) ?_
      refine g_goto rfl (pc' := 15) rfl ?_
      exact g_weak (show gm_Lle [some _, some _, some _, some _, some _, some _, some _] _ from ⟨rfl, ⟨rfl, ⟨rfl, ⟨rfl, ⟨rfl, ⟨rfl, ⟨rfl, trivial⟩⟩⟩⟩⟩⟩⟩) H
    · exact H
set_option maxRecDepth 20000 in
theorem w_571_0 {a0 : Nat} {x1 : Int32} {x2 : Int32} {r_3 : Option Nat} {x4 : Int32} {h : hh_T} {Q : Option Value ⊕ Nat → hh_T → Prop} (H : gm_G 571 6 [some (.ref a0), none, some (.int x2), some (va_rf r_3), some (.int x4), some (.int x1), some (.int (Int32.ofNat 0))] [] h Q) : gm_G 571 0 [some (.ref a0), some (.int x1), some (.int x2), some (va_rf r_3), some (.int x4)] [] h Q := by
  refine g_iload rfl rfl rfl (pc' := 1) ?_
  refine g_istore rfl rfl rfl (pc' := 3) ?_
  refine g_iconst rfl rfl rfl (pc' := 4) ?_
  refine g_istore rfl rfl rfl (pc' := 6) ?_
  exact g_weak (show gm_Lle [some _, none, some _, some _, some _, some _, some _] _ from ⟨rfl, ⟨rfl, ⟨rfl, ⟨rfl, ⟨rfl, ⟨rfl, trivial⟩⟩⟩⟩⟩⟩) H
set_option maxRecDepth 20000 in
theorem w_571_6 {a0 : Nat} {x2 : Int32} {r_3 : Option Nat} {x4 : Int32} {x5 : Int32} {x6 : Int32} {h : hh_T} {Q : Option Value ⊕ Nat → hh_T → Prop} (H : (¬ x6 < x2 → (Q (.inl none) h)) ∧ (x6 < x2 → (gm_sub (hh_tg h a0) 3 = true ∧ (gm_sub (hh_tg h a0) 6 = true ∧ (gm_G 571 33 [some (.ref a0), none, some (.int x2), some (va_rf r_3), some (.int x4), some (.int x5), some (.int x6), some (.int (if (x2 - x6) < ((hh_i h a0 2) - (hh_i h a0 8)) then (x2 - x6) else ((hh_i h a0 2) - (hh_i h a0 8)))), some (.int (Int32.ofNat 0))] [] h Q))))) : gm_G 571 6 [some (.ref a0), none, some (.int x2), some (va_rf r_3), some (.int x4), some (.int x5), some (.int x6)] [] h Q := by
  refine g_iload rfl rfl rfl (pc' := 8) ?_
  refine g_iload rfl rfl rfl (pc' := 9) ?_
  refine g_ic_ge rfl (pc' := 12) (pt := 235) rfl rfl ⟨fun hc => ?_, fun hc => ?_⟩
  · replace H := H.1 hc
    exact g_return rfl H
  · replace H := H.2 hc
    refine g_aload (r := some _) rfl rfl rfl (pc' := 13) ?_
    obtain ⟨ht1, H⟩ := H
    refine g_getI rfl rfl rfl rfl ht1 (pc' := 16) rfl ?_
    refine g_aload (r := some _) rfl rfl rfl (pc' := 17) ?_
    obtain ⟨ht2, H⟩ := H
    refine g_getI rfl rfl rfl rfl ht2 (pc' := 20) rfl ?_
    refine g_isub rfl rfl (pc' := 21) ?_
    refine g_iload rfl rfl rfl (pc' := 22) ?_
    refine g_iload rfl rfl rfl (pc' := 24) ?_
    refine g_isub rfl rfl (pc' := 25) ?_
    refine g_dsub rfl (Nat.le_of_ble_eq_true rfl) rfl (pc' := 28) ?_
    refine g_istore rfl rfl rfl (pc' := 30) ?_
    refine g_iconst rfl rfl rfl (pc' := 31) ?_
    refine g_istore rfl rfl rfl (pc' := 33) ?_
    exact g_weak (show gm_Lle [some _, none, some _, some _, some _, some _, some _, some _, some _] _ from ⟨rfl, ⟨rfl, ⟨rfl, ⟨rfl, ⟨rfl, ⟨rfl, ⟨rfl, ⟨rfl, trivial⟩⟩⟩⟩⟩⟩⟩⟩) H
set_option maxRecDepth 20000 in
theorem w_571_33 {a0 : Nat} {x2 : Int32} {r_3 : Option Nat} {x4 : Int32} {x5 : Int32} {x6 : Int32} {x7 : Int32} {x8 : Int32} {h : hh_T} {Q : Option Value ⊕ Nat → hh_T → Prop} (H : gm_sub (hh_tg h a0) 6 = true ∧ ((¬ x8 < (hh_i h a0 8) → (gm_G 571 175 [some (.ref a0), none, some (.int x2), some (va_rf r_3), some (.int x4), some (.int x5), some (.int x6), some (.int x7), some (.int (Int32.ofNat 0))] [] h Q)) ∧ (x8 < (hh_i h a0 8) → (gm_G 571 45 [some (.ref a0), none, some (.int x2), some (va_rf r_3), some (.int x4), some (.int x5), some (.int x6), some (.int x7), some (.int x8), some (.int (Int32.ofNat 0))] [] h Q)))) : gm_G 571 33 [some (.ref a0), none, some (.int x2), some (va_rf r_3), some (.int x4), some (.int x5), some (.int x6), some (.int x7), some (.int x8)] [] h Q := by
  refine g_iload rfl rfl rfl (pc' := 35) ?_
  refine g_aload (r := some _) rfl rfl rfl (pc' := 36) ?_
  obtain ⟨ht1, H⟩ := H
  refine g_getI rfl rfl rfl rfl ht1 (pc' := 39) rfl ?_
  refine g_ic_ge rfl (pc' := 42) (pt := 172) rfl rfl ⟨fun hc => ?_, fun hc => ?_⟩
  · replace H := H.1 hc
    refine g_iconst rfl rfl rfl (pc' := 173) ?_
    refine g_istore rfl rfl rfl (pc' := 175) ?_
    exact g_weak (show gm_Lle [some _, none, some _, some _, some _, some _, some _, some _, some _] _ from ⟨rfl, ⟨rfl, ⟨rfl, ⟨rfl, ⟨rfl, ⟨rfl, ⟨rfl, ⟨rfl, trivial⟩⟩⟩⟩⟩⟩⟩⟩) H
  · replace H := H.2 hc
    refine g_iconst rfl rfl rfl (pc' := 43) ?_
    refine g_istore rfl rfl rfl (pc' := 45) ?_
    exact g_weak (show gm_Lle [some _, none, some _, some _, some _, some _, some _, some _, some _, some _] _ from ⟨rfl, ⟨rfl, ⟨rfl, ⟨rfl, ⟨rfl, ⟨rfl, ⟨rfl, ⟨rfl, ⟨rfl, trivial⟩⟩⟩⟩⟩⟩⟩⟩⟩) H
set_option maxRecDepth 20000 in
theorem w_571_45 {a0 : Nat} {x2 : Int32} {r_3 : Option Nat} {x4 : Int32} {x5 : Int32} {x6 : Int32} {x7 : Int32} {x8 : Int32} {x9 : Int32} {h : hh_T} {Q : Option Value ⊕ Nat → hh_T → Prop} (H : (¬ x9 < (Int32.ofNat 8) → (gm_sub (hh_tg h a0) 3 = true ∧ (∀ r2, r2 = hh_r h a0 1 → ((hh_i h a0 2) ≠ 0 ∧ (∃ a3, r2 = some a3 ∧ ((hh_tg h a3 = 104 ∨ 200 ≤ hh_tg h a3) ∧ (∃ n4, gm_ix (x5 - x5 / (hh_i h a0 2) * (hh_i h a0 2)) n4 (hh_ln h a3) ∧ (∀ r6, r6 = hh_r h a3 n4 → ((hh_i h a0 2) ≠ 0 ∧ (gm_sub (hh_tg h a0) 6 = true ∧ (∀ r8, r8 = hh_r h a0 10 → (hh_tg h a0 = 7 ∧ (gm_G 562 0 [some (.ref a0), some (va_rf r6), some (.int (x5 / (hh_i h a0 2))), some (va_rf r8), some (.int (Int32.ofNat 0)), some (.int x4)] [] h (pV (fun h10 => gm_G 571 33 [some (.ref a0), none, some (.int x2), some (va_rf r_3), some (.int x4), some (.int (x5 + (Int32.ofNat 1))), some (.int x6), some (.int x7), some (.int (x8 + (Int32.ofNat 1)))] [] h10 Q) (fun e11 h12 => hh_tg h12 e11 = 21 ∧ Q (.inr e11) h12))))))))))))))) ∧ (x9 < (Int32.ofNat 8) → (gm_G 571 58 [some (.ref a0), none, some (.int x2), some (va_rf r_3), some (.int x4), some (.int x5), some (.int x6), some (.int x7), some (.int x8), some (.int x9), some (.int (Int32.ofNat 0)), some (.int (Int32.ofNat 0))] [] h Q))) : gm_G 571 45 [some (.ref a0), none, some (.int x2), some (va_rf r_3), some (.int x4), some (.int x5), some (.int x6), some (.int x7), some (.int x8), some (.int x9)] [] h Q := by
  refine g_iload rfl rfl rfl (pc' := 47) ?_
  refine g_iconst rfl rfl rfl (pc' := 49) ?_
  refine g_ic_ge rfl (pc' := 52) (pt := 133) rfl rfl ⟨fun hc => ?_, fun hc => ?_⟩
  · replace H := H.1 hc
    refine g_aload (r := some _) rfl rfl rfl (pc' := 134) ?_
    refine g_aload (r := some _) rfl rfl rfl (pc' := 135) ?_
    obtain ⟨ht1, H⟩ := H
    refine g_getRv rfl rfl rfl rfl ht1 (pc' := 138) rfl (fun r2 hr2 => ?_)
    replace H := H r2 hr2
    refine g_iload rfl rfl rfl (pc' := 140) ?_
    refine g_aload (r := some _) rfl rfl rfl (pc' := 141) ?_
    refine g_getI rfl rfl rfl rfl ht1 (pc' := 144) rfl ?_
    obtain ⟨Hp, H⟩ := H
    refine g_irem rfl Hp (pc' := 145) rfl ?_
    obtain ⟨a3, rfl, H⟩ := H
    obtain ⟨ht5, H⟩ := H
    obtain ⟨n4, hn4, H⟩ := H
    refine g_aaloadv rfl ht5 hn4 (pc' := 146) rfl (fun r6 hr6 => ?_)
    replace H := H r6 hr6
    refine g_iload rfl rfl rfl (pc' := 148) ?_
    refine g_aload (r := some _) rfl rfl rfl (pc' := 149) ?_
    refine g_getI rfl rfl rfl rfl ht1 (pc' := 152) rfl ?_
    obtain ⟨Hp, H⟩ := H
    refine g_idiv rfl Hp (pc' := 153) rfl ?_
    refine g_aload (r := some _) rfl rfl rfl (pc' := 154) ?_
    obtain ⟨ht7, H⟩ := H
    refine g_getRv rfl rfl rfl rfl ht7 (pc' := 157) rfl (fun r8 hr8 => ?_)
    replace H := H r8 hr8
    refine g_iconst rfl rfl rfl (pc' := 158) ?_
    refine g_iload rfl rfl rfl (pc' := 160) ?_
    obtain ⟨ht9, H⟩ := H
    refine g_call rfl (y := 562) (n := 6) (pc' := 163) (g_vt ht9 rfl rfl) (by cases r6 <;> cases r8 <;> rfl) rfl ⟨(Nat.le_of_ble_eq_true rfl), (Nat.le_of_ble_eq_true rfl), (Nat.le_of_ble_eq_true rfl)⟩ rfl (gm_G.mono H (pV_elim (fun h10 H' => ?_) (fun e11 h12 H => ?_)))
    · show gm_G _ 163 _ _ _ _
      replace H := H'
      clear H'
      refine g_iinc (c := (Int32.ofNat 1)) rfl rfl rfl rfl rfl (pc' := 166) ?_
      refine g_iinc (c := (Int32.ofNat 1)) rfl rfl rfl rfl rfl (pc' := 169) ?_
      refine g_goto rfl (pc' := 33) rfl ?_
      exact g_weak (show gm_Lle [some _, none, some _, some _, some _, some _, some _, some _, some _] _ from ⟨rfl, ⟨rfl, ⟨rfl, ⟨rfl, ⟨rfl, ⟨rfl, ⟨rfl, ⟨rfl, trivial⟩⟩⟩⟩⟩⟩⟩⟩) H
    · exact H
  · replace H := H.2 hc
    refine g_iconst rfl rfl rfl (pc' := 53) ?_
    refine g_istore rfl rfl rfl (pc' := 55) ?_
    refine g_iconst rfl rfl rfl (pc' := 56) ?_
    refine g_istore rfl rfl rfl (pc' := 58) ?_
    exact g_weak (show gm_Lle [some _, none, some _, some _, some _, some _, some _, some _, some _, some _, some _, some _] _ from ⟨rfl, ⟨rfl, ⟨rfl, ⟨rfl, ⟨rfl, ⟨rfl, ⟨rfl, ⟨rfl, ⟨rfl, ⟨rfl, ⟨rfl, trivial⟩⟩⟩⟩⟩⟩⟩⟩⟩⟩⟩) H
set_option maxRecDepth 20000 in
theorem w_571_58 {a0 : Nat} {x2 : Int32} {r_3 : Option Nat} {x4 : Int32} {x5 : Int32} {x6 : Int32} {x7 : Int32} {x8 : Int32} {x9 : Int32} {x10 : Int32} {x11 : Int32} {h : hh_T} {Q : Option Value ⊕ Nat → hh_T → Prop} (H : (¬ x11 < x7 → (gm_sub (hh_tg h a0) 6 = true ∧ (∀ r2, r2 = hh_r h a0 10 → (∃ a3, r2 = some a3 ∧ (hh_tg h a3 = 101 ∧ (∃ n4, gm_ix x9 n4 (hh_ln h a3) ∧ (∀ h5, h5 = hh_wi h a3 n4 ((x10.toInt8.toInt32).toInt8.toInt32) → (gm_G 571 45 [some (.ref a0), none, some (.int x2), some (va_rf r_3), some (.int x4), some (.int x5), some (.int x6), some (.int x7), some (.int x8), some (.int (x9 + (Int32.ofNat 1)))] [] h5 Q)))))))) ∧ (x11 < x7 → (gm_sub (hh_tg h a0) 6 = true ∧ (∀ r8, r8 = hh_r h a0 14 → (∃ a9, r8 = some a9 ∧ (gm_sub (hh_tg h a9) 0 = true ∧ (∀ r11, r11 = hh_r h a9 3 → (∀ r12, r12 = hh_r h a0 14 → (∃ a13, r12 = some a13 ∧ (gm_sub (hh_tg h a13) 0 = true ∧ (∀ r15, r15 = hh_r h a13 3 → (∃ a16, r15 = some a16 ∧ (hh_tg h a16 = 3 ∧ (gm_G 25 0 [some (.ref a16), some (.int x8), some (.int x11)] [] h (pI (fun v19 h18 => ∃ a20, r_3 = some a20 ∧ ((hh_tg h18 a20 = 101 ∨ hh_tg h18 a20 = 102) ∧ (∃ n21, gm_ix (((Int32.ofNat 8) * (x6 + x11)) + x9) n21 (hh_ln h18 a20) ∧ (∃ a23, r11 = some a23 ∧ (hh_tg h18 a23 = 3 ∧ (gm_G 27 0 [some (.ref a23), some (.int v19), some (.int ((hh_i h18 a20 n21) &&& (Int32.ofNat 255)))] [] h18 (pI (fun v26 h25 => gm_G 571 58 [some (.ref a0), none, some (.int x2), some (.ref a20), some (.int x4), some (.int x5), some (.int x6), some (.int x7), some (.int x8), some (.int x9), some (.int (x10 ^^^ v26)), some (.int (x11 + (Int32.ofNat 1)))] [] h25 Q) (fun e27 h28 => hh_tg h28 e27 = 21 ∧ Q (.inr e27) h28)))))))) (fun e29 h30 => hh_tg h30 e29 = 21 ∧ Q (.inr e29) h30)))))))))))))))) : gm_G 571 58 [some (.ref a0), none, some (.int x2), some (va_rf r_3), some (.int x4), some (.int x5), some (.int x6), some (.int x7), some (.int x8), some (.int x9), some (.int x10), some (.int x11)] [] h Q := by
  refine g_iload rfl rfl rfl (pc' := 60) ?_
  refine g_iload rfl rfl rfl (pc' := 62) ?_
  refine g_ic_ge rfl (pc' := 65) (pt := 117) rfl rfl ⟨fun hc => ?_, fun hc => ?_⟩
  · replace H := H.1 hc
    refine g_aload (r := some _) rfl rfl rfl (pc' := 118) ?_
    obtain ⟨ht1, H⟩ := H
    refine g_getRv rfl rfl rfl rfl ht1 (pc' := 121) rfl (fun r2 hr2 => ?_)
    replace H := H r2 hr2
    refine g_iload rfl rfl rfl (pc' := 123) ?_
    refine g_iload rfl rfl rfl (pc' := 125) ?_
    refine g_i2b rfl rfl (pc' := 126) ?_
    obtain ⟨a3, rfl, H⟩ := H
    obtain ⟨ht6, H⟩ := H
    obtain ⟨n4, hn4, H⟩ := H
    refine g_bastore rfl ht6 hn4  (pc' := 127) rfl ?_
    replace H := H _ rfl
    refine g_iinc (c := (Int32.ofNat 1)) rfl rfl rfl rfl rfl (pc' := 130) ?_
    refine g_goto rfl (pc' := 45) rfl ?_
    exact g_weak (show gm_Lle [some _, none, some _, some _, some _, some _, some _, some _, some _, some _] _ from ⟨rfl, ⟨rfl, ⟨rfl, ⟨rfl, ⟨rfl, ⟨rfl, ⟨rfl, ⟨rfl, ⟨rfl, trivial⟩⟩⟩⟩⟩⟩⟩⟩⟩) H
  · replace H := H.2 hc
    refine g_iload rfl rfl rfl (pc' := 67) ?_
    refine g_aload (r := some _) rfl rfl rfl (pc' := 68) ?_
    obtain ⟨ht7, H⟩ := H
    refine g_getRv rfl rfl rfl rfl ht7 (pc' := 71) rfl (fun r8 hr8 => ?_)
    replace H := H r8 hr8
    obtain ⟨a9, rfl, H⟩ := H
    obtain ⟨ht10, H⟩ := H
    refine g_getRv rfl rfl rfl rfl ht10 (pc' := 74) rfl (fun r11 hr11 => ?_)
    replace H := H r11 hr11
    refine g_aload (r := some _) rfl rfl rfl (pc' := 75) ?_
    refine g_getRv rfl rfl rfl rfl ht7 (pc' := 78) rfl (fun r12 hr12 => ?_)
    replace H := H r12 hr12
    obtain ⟨a13, rfl, H⟩ := H
    obtain ⟨ht14, H⟩ := H
    refine g_getRv rfl rfl rfl rfl ht14 (pc' := 81) rfl (fun r15 hr15 => ?_)
    replace H := H r15 hr15
    refine g_iload rfl rfl rfl (pc' := 83) ?_
    refine g_iload rfl rfl rfl (pc' := 85) ?_
    obtain ⟨a16, rfl, H⟩ := H
    obtain ⟨ht17, H⟩ := H
    refine g_call rfl (y := 25) (n := 3) (pc' := 88) (g_vt ht17 rfl rfl) rfl rfl ⟨(Nat.le_of_ble_eq_true rfl), (Nat.le_of_ble_eq_true rfl), (Nat.le_of_ble_eq_true rfl)⟩ rfl (gm_G.mono H (pI_elim (fun v19 h18 H' => ?_) (fun e29 h30 H => ?_)))
    · show gm_G _ 88 _ _ _ _
      replace H := H'
      clear H'
      refine g_aload (r := _) rfl rfl rfl (pc' := 89) ?_
      refine g_iconst rfl rfl rfl (pc' := 91) ?_
      refine g_iload rfl rfl rfl (pc' := 93) ?_
      refine g_iload rfl rfl rfl (pc' := 95) ?_
      refine g_iadd rfl rfl (pc' := 96) ?_
      refine g_imul rfl rfl (pc' := 97) ?_
      refine g_iload rfl rfl rfl (pc' := 99) ?_
      refine g_iadd rfl rfl (pc' := 100) ?_
      obtain ⟨a20, rfl, H⟩ := H
      obtain ⟨ht22, H⟩ := H
      obtain ⟨n21, hn21, H⟩ := H
      refine g_baload rfl ht22 hn21 (pc' := 101) rfl ?_
      refine g_iconst rfl rfl rfl (pc' := 104) ?_
      refine g_iand rfl rfl (pc' := 105) ?_
      obtain ⟨a23, rfl, H⟩ := H
      obtain ⟨ht24, H⟩ := H
      refine g_call rfl (y := 27) (n := 3) (pc' := 108) (g_vt ht24 rfl rfl) rfl rfl ⟨(Nat.le_of_ble_eq_true rfl), (Nat.le_of_ble_eq_true rfl), (Nat.le_of_ble_eq_true rfl)⟩ rfl (gm_G.mono H (pI_elim (fun v26 h25 H' => ?_) (fun e27 h28 H => ?_)))
      · show gm_G _ 108 _ _ _ _
        replace H := H'
        clear H'
        refine g_ixor rfl rfl (pc' := 109) ?_
        refine g_istore rfl rfl rfl (pc' := 111) ?_
        refine g_iinc (c := (Int32.ofNat 1)) rfl rfl rfl rfl rfl (pc' := 114) ?_
        refine g_goto rfl (pc' := 58) rfl ?_
        exact g_weak (show gm_Lle [some _, none, some _, some _, some _, some _, some _, some _, some _, some _, some _, some _] _ from ⟨rfl, ⟨rfl, ⟨rfl, ⟨rfl, ⟨rfl, ⟨rfl, ⟨rfl, ⟨rfl, ⟨rfl, ⟨rfl, ⟨rfl, trivial⟩⟩⟩⟩⟩⟩⟩⟩⟩⟩⟩) H
      · exact H
    · exact H
set_option maxRecDepth 20000 in
theorem w_571_175 {a0 : Nat} {x2 : Int32} {r_3 : Option Nat} {x4 : Int32} {x5 : Int32} {x6 : Int32} {x7 : Int32} {x8 : Int32} {h : hh_T} {Q : Option Value ⊕ Nat → hh_T → Prop} (H : (¬ x8 < x7 → (gm_G 571 6 [some (.ref a0), none, some (.int x2), some (va_rf r_3), some (.int x4), some (.int x5), some (.int (x6 + x7))] [] h Q)) ∧ (x8 < x7 → (gm_sub (hh_tg h a0) 3 = true ∧ (∀ r2, r2 = hh_r h a0 1 → ((hh_i h a0 2) ≠ 0 ∧ (∃ a3, r2 = some a3 ∧ ((hh_tg h a3 = 104 ∨ 200 ≤ hh_tg h a3) ∧ (∃ n4, gm_ix (x5 - x5 / (hh_i h a0 2) * (hh_i h a0 2)) n4 (hh_ln h a3) ∧ (∀ r6, r6 = hh_r h a3 n4 → ((hh_i h a0 2) ≠ 0 ∧ (hh_tg h a0 = 7 ∧ (gm_G 562 0 [some (.ref a0), some (va_rf r6), some (.int (x5 / (hh_i h a0 2))), some (va_rf r_3), some (.int ((Int32.ofNat 8) * (x6 + x8))), some (.int x4)] [] h (pV (fun h8 => gm_G 571 175 [some (.ref a0), none, some (.int x2), some (va_rf r_3), some (.int x4), some (.int (x5 + (Int32.ofNat 1))), some (.int x6), some (.int x7), some (.int (x8 + (Int32.ofNat 1)))] [] h8 Q) (fun e9 h10 => hh_tg h10 e9 = 21 ∧ Q (.inr e9) h10)))))))))))))) : gm_G 571 175 [some (.ref a0), none, some (.int x2), some (va_rf r_3), some (.int x4), some (.int x5), some (.int x6), some (.int x7), some (.int x8)] [] h Q := by
  refine g_iload rfl rfl rfl (pc' := 177) ?_
  refine g_iload rfl rfl rfl (pc' := 179) ?_
  refine g_ic_ge rfl (pc' := 182) (pt := 225) rfl rfl ⟨fun hc => ?_, fun hc => ?_⟩
  · replace H := H.1 hc
    refine g_iload rfl rfl rfl (pc' := 227) ?_
    refine g_iload rfl rfl rfl (pc' := 229) ?_
    refine g_iadd rfl rfl (pc' := 230) ?_
    refine g_istore rfl rfl rfl (pc' := 232) ?_
    refine g_goto rfl (pc' := 6) rfl ?_
    exact g_weak (show gm_Lle [some _, none, some _, some _, some _, some _, some _] _ from ⟨rfl, ⟨rfl, ⟨rfl, ⟨rfl, ⟨rfl, ⟨rfl, trivial⟩⟩⟩⟩⟩⟩) H
  · replace H := H.2 hc
    refine g_aload (r := some _) rfl rfl rfl (pc' := 183) ?_
    refine g_aload (r := some _) rfl rfl rfl (pc' := 184) ?_
    obtain ⟨ht1, H⟩ := H
    refine g_getRv rfl rfl rfl rfl ht1 (pc' := 187) rfl (fun r2 hr2 => ?_)
    replace H := H r2 hr2
    refine g_iload rfl rfl rfl (pc' := 189) ?_
    refine g_aload (r := some _) rfl rfl rfl (pc' := 190) ?_
    refine g_getI rfl rfl rfl rfl ht1 (pc' := 193) rfl ?_
    obtain ⟨Hp, H⟩ := H
    refine g_irem rfl Hp (pc' := 194) rfl ?_
    obtain ⟨a3, rfl, H⟩ := H
    obtain ⟨ht5, H⟩ := H
    obtain ⟨n4, hn4, H⟩ := H
    refine g_aaloadv rfl ht5 hn4 (pc' := 195) rfl (fun r6 hr6 => ?_)
    replace H := H r6 hr6
    refine g_iload rfl rfl rfl (pc' := 197) ?_
    refine g_aload (r := some _) rfl rfl rfl (pc' := 198) ?_
    refine g_getI rfl rfl rfl rfl ht1 (pc' := 201) rfl ?_
    obtain ⟨Hp, H⟩ := H
    refine g_idiv rfl Hp (pc' := 202) rfl ?_
    refine g_aload (r := _) rfl rfl rfl (pc' := 203) ?_
    refine g_iconst rfl rfl rfl (pc' := 205) ?_
    refine g_iload rfl rfl rfl (pc' := 207) ?_
    refine g_iload rfl rfl rfl (pc' := 209) ?_
    refine g_iadd rfl rfl (pc' := 210) ?_
    refine g_imul rfl rfl (pc' := 211) ?_
    refine g_iload rfl rfl rfl (pc' := 213) ?_
    obtain ⟨ht7, H⟩ := H
    refine g_call rfl (y := 562) (n := 6) (pc' := 216) (g_vt ht7 rfl rfl) (by cases r6 <;> cases r_3 <;> rfl) rfl ⟨(Nat.le_of_ble_eq_true rfl), (Nat.le_of_ble_eq_true rfl), (Nat.le_of_ble_eq_true rfl)⟩ rfl (gm_G.mono H (pV_elim (fun h8 H' => ?_) (fun e9 h10 H => ?_)))
    · show gm_G _ 216 _ _ _ _
      replace H := H'
      clear H'
      refine g_iinc (c := (Int32.ofNat 1)) rfl rfl rfl rfl rfl (pc' := 219) ?_
      refine g_iinc (c := (Int32.ofNat 1)) rfl rfl rfl rfl rfl (pc' := 222) ?_
      refine g_goto rfl (pc' := 175) rfl ?_
      exact g_weak (show gm_Lle [some _, none, some _, some _, some _, some _, some _, some _, some _] _ from ⟨rfl, ⟨rfl, ⟨rfl, ⟨rfl, ⟨rfl, ⟨rfl, ⟨rfl, ⟨rfl, trivial⟩⟩⟩⟩⟩⟩⟩⟩) H
    · exact H
set_option maxRecDepth 20000 in
theorem w_572_0 {a0 : Nat} {r_1 : Option Nat} {r_2 : Option Nat} {h : hh_T} {Q : Option Value ⊕ Nat → hh_T → Prop} (H : gm_sub (hh_tg h a0) 32 = true ∧ (∀ r2, r2 = hh_r h a0 0 → (∃ a3, r2 = some a3 ∧ (hh_tg h a3 = 13 ∧ (gm_G 63 0 [some (.ref a3), some (.int (Int32.ofNat 12))] [] h (pI (fun v6 h5 => gm_sub (hh_tg h5 a0) 32 = true ∧ (∀ h8, h8 = hh_wi h5 a0 1 ((Int32.ofNat 13) + v6) → (gm_G 572 16 [some (.ref a0), some (va_rf r_1), some (va_rf r_2)] [] h8 Q))) (fun e9 h10 => hh_tg h10 e9 = 21 ∧ Q (.inr e9) h10))))))) : gm_G 572 0 [some (.ref a0), some (va_rf r_1), some (va_rf r_2)] [] h Q := by
  refine g_aload (r := some _) rfl rfl rfl (pc' := 1) ?_
  refine g_iconst rfl rfl rfl (pc' := 3) ?_
  refine g_aload (r := some _) rfl rfl rfl (pc' := 4) ?_
  obtain ⟨ht1, H⟩ := H
  refine g_getRv rfl rfl rfl rfl ht1 (pc' := 7) rfl (fun r2 hr2 => ?_)
  replace H := H r2 hr2
  refine g_iconst rfl rfl rfl (pc' := 9) ?_
  obtain ⟨a3, rfl, H⟩ := H
  obtain ⟨ht4, H⟩ := H
  refine g_call rfl (y := 63) (n := 2) (pc' := 12) (g_vt ht4 rfl rfl) rfl rfl ⟨(Nat.le_of_ble_eq_true rfl), (Nat.le_of_ble_eq_true rfl), (Nat.le_of_ble_eq_true rfl)⟩ rfl (gm_G.mono H (pI_elim (fun v6 h5 H' => ?_) (fun e9 h10 H => ?_)))
  · show gm_G _ 12 _ _ _ _
    replace H := H'
    clear H'
    refine g_iadd rfl rfl (pc' := 13) ?_
    obtain ⟨ht7, H⟩ := H
    refine g_putI rfl rfl rfl rfl ht7  (pc' := 16) rfl ?_
    replace H := H _ rfl
    exact g_weak (show gm_Lle [some _, some _, some _] _ from ⟨rfl, ⟨rfl, ⟨rfl, trivial⟩⟩⟩) H
  · exact H
set_option maxRecDepth 20000 in
theorem w_572_16 {a0 : Nat} {r_1 : Option Nat} {r_2 : Option Nat} {h : hh_T} {Q : Option Value ⊕ Nat → hh_T → Prop} (H : hh_tg h a0 = 33 ∧ (gm_G 322 0 [some (.ref a0)] [] h (pI (fun v3 h2 => (¬ v3 = (Int32.ofNat 9) → (hh_tg h2 a0 = 33 ∧ (gm_G 322 0 [some (.ref a0)] [] h2 (pI (fun v6 h5 => (¬ v3 = (Int32.ofNat 1) → ((¬ v3 = (Int32.ofNat 4) → ((¬ v3 = (Int32.ofNat 2) → (gm_G 572 80 [some (.ref a0), some (va_rf r_1), some (va_rf r_2)] [.int (Int32.ofNat 0), .int v6, va_rf r_1, .ref a0] h5 Q)) ∧ (v3 = (Int32.ofNat 2) → (gm_G 572 80 [some (.ref a0), some (va_rf r_1), some (va_rf r_2)] [.int (Int32.ofNat 1), .int v6, va_rf r_1, .ref a0] h5 Q)))) ∧ (v3 = (Int32.ofNat 4) → (hh_tg h5 a0 = 33 ∧ (gm_G 444 0 [some (.ref a0), some (va_rf r_1), some (.int v6)] [] h5 (pV (fun h8 => gm_G 572 84 [some (.ref a0), some (va_rf r_1), some (va_rf r_2)] [] h8 Q) (fun e9 h10 => hh_tg h10 e9 = 21 ∧ Q (.inr e9) h10))))))) ∧ (v3 = (Int32.ofNat 1) → (hh_tg h5 a0 = 33 ∧ (gm_G 484 0 [some (.ref a0), some (va_rf r_1), some (.int v6)] [] h5 (pV (fun h12 => gm_G 572 84 [some (.ref a0), some (va_rf r_1), some (va_rf r_2)] [] h12 Q) (fun e13 h14 => hh_tg h14 e13 = 21 ∧ Q (.inr e13) h14)))))) (fun e15 h16 => hh_tg h16 e15 = 21 ∧ Q (.inr e15) h16))))) ∧ (v3 = (Int32.ofNat 9) → (gm_sub (hh_tg h2 a0) 32 = true ∧ (∀ r18, r18 = hh_r h2 a0 0 → (gm_G 341 0 [some (va_rf r18), some (.int (hh_i h2 a0 1))] [] h2 (pI (fun v20 h19 => ∃ a21, r_1 = some a21 ∧ (gm_sub (hh_tg h19 a21) 24 = true ∧ (∀ h23, h23 = hh_wi h19 a21 1 v20 → (Q (.inl none) h23)))) (fun e24 h25 => hh_tg h25 e24 = 21 ∧ Q (.inr e24) h25))))))) (fun e26 h27 => hh_tg h27 e26 = 21 ∧ Q (.inr e26) h27)))) : gm_G 572 16 [some (.ref a0), some (va_rf r_1), some (va_rf r_2)] [] h Q := by
  refine g_aload (r := some _) rfl rfl rfl (pc' := 17) ?_
  obtain ⟨ht1, H⟩ := H
  refine g_call rfl (y := 322) (n := 1) (pc' := 20) (g_vt ht1 rfl rfl) rfl rfl ⟨(Nat.le_of_ble_eq_true rfl), (Nat.le_of_ble_eq_true rfl), (Nat.le_of_ble_eq_true rfl)⟩ rfl (gm_G.mono H (pI_elim (fun v3 h2 H' => ?_) (fun e26 h27 H => ?_)))
  · show gm_G _ 20 _ _ _ _
    replace H := H'
    clear H'
    refine g_istore rfl gm_sto_rf2 rfl (pc' := 21) ?_
    refine g_iload rfl rfl rfl (pc' := 22) ?_
    refine g_iconst rfl rfl rfl (pc' := 24) ?_
    refine g_ic_ne rfl (pc' := 27) (pt := 30) rfl rfl ⟨fun hc => ?_, fun hc => ?_⟩
    · replace H := H.1 hc
      refine g_aload (r := some _) rfl rfl rfl (pc' := 31) ?_
      obtain ⟨ht4, H⟩ := H
      refine g_call rfl (y := 322) (n := 1) (pc' := 34) (g_vt ht4 rfl rfl) rfl rfl ⟨(Nat.le_of_ble_eq_true rfl), (Nat.le_of_ble_eq_true rfl), (Nat.le_of_ble_eq_true rfl)⟩ rfl (gm_G.mono H (pI_elim (fun v6 h5 H' => ?_) (fun e15 h16 H => ?_)))
      · show gm_G _ 34 _ _ _ _
        replace H := H'
        clear H'
        refine g_istore rfl rfl rfl (pc' := 36) ?_
        refine g_iload rfl rfl rfl (pc' := 37) ?_
        refine g_iconst rfl rfl rfl (pc' := 38) ?_
        refine g_ic_ne rfl (pc' := 41) (pt := 51) rfl rfl ⟨fun hc => ?_, fun hc => ?_⟩
        · replace H := H.1 hc
          refine g_iload rfl rfl rfl (pc' := 52) ?_
          refine g_iconst rfl rfl rfl (pc' := 53) ?_
          refine g_ic_ne rfl (pc' := 56) (pt := 66) rfl rfl ⟨fun hc => ?_, fun hc => ?_⟩
          · replace H := H.1 hc
            refine g_aload (r := some _) rfl rfl rfl (pc' := 67) ?_
            refine g_aload (r := _) rfl rfl rfl (pc' := 68) ?_
            refine g_iload rfl rfl rfl (pc' := 70) ?_
            refine g_iload rfl rfl rfl (pc' := 71) ?_
            refine g_iconst rfl rfl rfl (pc' := 72) ?_
            refine g_ic_ne rfl (pc' := 75) (pt := 79) rfl rfl ⟨fun hc => ?_, fun hc => ?_⟩
            · replace H := H.1 hc
              refine g_iconst rfl rfl rfl (pc' := 80) ?_
              exact g_weak (show gm_Lle [some _, some _, some _] _ from ⟨rfl, ⟨rfl, ⟨rfl, trivial⟩⟩⟩) H
            · replace H := H.2 hc
              refine g_iconst rfl rfl rfl (pc' := 76) ?_
              refine g_goto rfl (pc' := 80) rfl ?_
              exact g_weak (show gm_Lle [some _, some _, some _] _ from ⟨rfl, ⟨rfl, ⟨rfl, trivial⟩⟩⟩) H
          · replace H := H.2 hc
            refine g_aload (r := some _) rfl rfl rfl (pc' := 57) ?_
            refine g_aload (r := _) rfl rfl rfl (pc' := 58) ?_
            refine g_iload rfl rfl rfl (pc' := 60) ?_
            obtain ⟨ht7, H⟩ := H
            refine g_call rfl (y := 444) (n := 3) (pc' := 63) (g_vt ht7 rfl rfl) (by cases r_1 <;> rfl) rfl ⟨(Nat.le_of_ble_eq_true rfl), (Nat.le_of_ble_eq_true rfl), (Nat.le_of_ble_eq_true rfl)⟩ rfl (gm_G.mono H (pV_elim (fun h8 H' => ?_) (fun e9 h10 H => ?_)))
            · show gm_G _ 63 _ _ _ _
              replace H := H'
              clear H'
              refine g_goto rfl (pc' := 84) rfl ?_
              exact g_weak (show gm_Lle [some _, some _, some _] _ from ⟨rfl, ⟨rfl, ⟨rfl, trivial⟩⟩⟩) H
            · exact H
        · replace H := H.2 hc
          refine g_aload (r := some _) rfl rfl rfl (pc' := 42) ?_
          refine g_aload (r := _) rfl rfl rfl (pc' := 43) ?_
          refine g_iload rfl rfl rfl (pc' := 45) ?_
          obtain ⟨ht11, H⟩ := H
          refine g_call rfl (y := 484) (n := 3) (pc' := 48) (g_vt ht11 rfl rfl) (by cases r_1 <;> rfl) rfl ⟨(Nat.le_of_ble_eq_true rfl), (Nat.le_of_ble_eq_true rfl), (Nat.le_of_ble_eq_true rfl)⟩ rfl (gm_G.mono H (pV_elim (fun h12 H' => ?_) (fun e13 h14 H => ?_)))
          · show gm_G _ 48 _ _ _ _
            replace H := H'
            clear H'
            refine g_goto rfl (pc' := 84) rfl ?_
            exact g_weak (show gm_Lle [some _, some _, some _] _ from ⟨rfl, ⟨rfl, ⟨rfl, trivial⟩⟩⟩) H
          · exact H
      · exact H
    · replace H := H.2 hc
      refine g_goto rfl (pc' := 87) rfl ?_
      refine g_aload (r := _) rfl rfl rfl (pc' := 88) ?_
      refine g_aload (r := some _) rfl rfl rfl (pc' := 89) ?_
      obtain ⟨ht17, H⟩ := H
      refine g_getRv rfl rfl rfl rfl ht17 (pc' := 92) rfl (fun r18 hr18 => ?_)
      replace H := H r18 hr18
      refine g_aload (r := some _) rfl rfl rfl (pc' := 93) ?_
      refine g_getI rfl rfl rfl rfl ht17 (pc' := 96) rfl ?_
      refine g_call rfl (y := 341) (n := 2) (pc' := 99) (fun _ => rfl) (by cases r18 <;> rfl) rfl ⟨(Nat.le_of_ble_eq_true rfl), (Nat.le_of_ble_eq_true rfl), (Nat.le_of_ble_eq_true rfl)⟩ rfl (gm_G.mono H (pI_elim (fun v20 h19 H' => ?_) (fun e24 h25 H => ?_)))
      · show gm_G _ 99 _ _ _ _
        replace H := H'
        clear H'
        obtain ⟨a21, rfl, H⟩ := H
        obtain ⟨ht22, H⟩ := H
        refine g_putI rfl rfl rfl rfl ht22  (pc' := 102) rfl ?_
        replace H := H _ rfl
        exact g_return rfl H
      · exact H
  · exact H
set_option maxRecDepth 20000 in
theorem w_572_80 {a0 : Nat} {r_1 : Option Nat} {r_2 : Option Nat} {y0 : Int32} {y1 : Int32} {q2 : Option Nat} {q3 : Option Nat} {h : hh_T} {Q : Option Value ⊕ Nat → hh_T → Prop} (H : ∃ a1, q3 = some a1 ∧ (hh_tg h a1 = 33 ∧ (gm_G 563 0 [some (.ref a1), some (va_rf q2), some (.int y1), some (.int y0), some (va_rf r_2)] [] h (pV (fun h3 => gm_G 572 84 [some (.ref a0), some (va_rf r_1), some (va_rf r_2)] [] h3 Q) (fun e4 h5 => hh_tg h5 e4 = 21 ∧ Q (.inr e4) h5))))) : gm_G 572 80 [some (.ref a0), some (va_rf r_1), some (va_rf r_2)] [.int y0, .int y1, va_rf q2, va_rf q3] h Q := by
  refine g_aload (r := _) rfl rfl rfl (pc' := 81) ?_
  obtain ⟨a1, rfl, H⟩ := H
  obtain ⟨ht2, H⟩ := H
  refine g_call rfl (y := 563) (n := 5) (pc' := 84) (g_vt ht2 rfl rfl) (by cases q2 <;> cases r_2 <;> rfl) rfl ⟨(Nat.le_of_ble_eq_true rfl), (Nat.le_of_ble_eq_true rfl), (Nat.le_of_ble_eq_true rfl)⟩ rfl (gm_G.mono H (pV_elim (fun h3 H' => ?_) (fun e4 h5 H => ?_)))
  · show gm_G _ 84 _ _ _ _
    replace H := H'
    clear H'
    exact g_weak (show gm_Lle [some _, some _, some _] _ from ⟨rfl, ⟨rfl, ⟨rfl, trivial⟩⟩⟩) H
  · exact H
set_option maxRecDepth 20000 in
theorem w_572_84 {a0 : Nat} {r_1 : Option Nat} {r_2 : Option Nat} {h : hh_T} {Q : Option Value ⊕ Nat → hh_T → Prop} (H : gm_G 572 16 [some (.ref a0), some (va_rf r_1), some (va_rf r_2)] [] h Q) : gm_G 572 84 [some (.ref a0), some (va_rf r_1), some (va_rf r_2)] [] h Q := by
  refine g_goto rfl (pc' := 16) rfl ?_
  exact g_weak (show gm_Lle [some _, some _, some _] _ from ⟨rfl, ⟨rfl, ⟨rfl, trivial⟩⟩⟩) H
set_option maxRecDepth 20000 in
theorem w_573_0 {a0 : Nat} {x1 : Int32} {x2 : Int32} {h : hh_T} {Q : Option Value ⊕ Nat → hh_T → Prop} (H : hh_tg h a0 = 1 ∧ (gm_G 243 0 [some (.ref a0)] [] h (pV (fun h2 => hh_tg h2 a0 = 1 ∧ (gm_G 456 0 [some (.ref a0)] [] h2 (pV (fun h4 => hh_tg h4 a0 = 1 ∧ (gm_G 498 0 [some (.ref a0)] [] h4 (pL (fun v7 h6 => hh_tg h6 a0 = 1 ∧ (gm_G 454 0 [some (.ref a0), some (.int x1)] [] h6 (pR (fun r10 h9 => gm_sub (hh_tg h9 a0) 0 = true ∧ (∀ r12, r12 = hh_r h9 a0 33 → (∃ a13, r10 = some a13 ∧ (gm_sub (hh_tg h9 a13) 29 = true ∧ (∃ a15, r12 = some a15 ∧ (hh_tg h9 a15 = 23 ∧ (gm_G 178 0 [some (.ref a15), some (.int (hh_i h9 a13 1))] [] h9 (pR (fun r18 h17 => ∃ a19, r18 = some a19 ∧ (gm_sub (hh_tg h17 a19) 23 = true ∧ (gm_sub (hh_tg h17 a13) 29 = true ∧ (∀ r22, r22 = hh_r h17 a13 5 → (hh_tg h17 a0 = 1 ∧ (gm_G 485 0 [some (.ref a0), some (.int x2), some (.long v7), none, some (.int (hh_i h17 a19 2)), some (va_rf r22), some (.int x1)] [] h17 (pR (fun r25 h24 => ∃ a26, r25 = some a26 ∧ (gm_sub (hh_tg h24 a26) 23 = true ∧ (hh_tg h24 a0 = 1 ∧ (gm_G 565 0 [some (.ref a0), some (.int (hh_i h24 a26 0))] [] h24 (pI (fun v30 h29 => Q (.inl (some (.int v30))) h29) (fun e31 h32 => hh_tg h32 e31 = 21 ∧ gm_G 573 55 [some (.ref a0)] [.ref e31] h32 Q)))))) (fun e33 h34 => hh_tg h34 e33 = 21 ∧ gm_G 573 55 [some (.ref a0)] [.ref e33] h34 Q)))))))) (fun e35 h36 => hh_tg h36 e35 = 21 ∧ gm_G 573 55 [some (.ref a0)] [.ref e35] h36 Q))))))))) (fun e37 h38 => hh_tg h38 e37 = 21 ∧ gm_G 573 55 [some (.ref a0)] [.ref e37] h38 Q)))) (fun e39 h40 => hh_tg h40 e39 = 21 ∧ gm_G 573 55 [some (.ref a0)] [.ref e39] h40 Q)))) (fun e41 h42 => hh_tg h42 e41 = 21 ∧ gm_G 573 55 [some (.ref a0)] [.ref e41] h42 Q)))) (fun e43 h44 => hh_tg h44 e43 = 21 ∧ Q (.inr e43) h44)))) : gm_G 573 0 [some (.ref a0), some (.int x1), some (.int x2)] [] h Q := by
  refine g_aload (r := some _) rfl rfl rfl (pc' := 1) ?_
  obtain ⟨ht1, H⟩ := H
  refine g_call rfl (y := 243) (n := 1) (pc' := 4) (g_vt ht1 rfl rfl) rfl rfl ⟨(Nat.le_of_ble_eq_true rfl), (Nat.le_of_ble_eq_true rfl), (Nat.le_of_ble_eq_true rfl)⟩ rfl (gm_G.mono H (pV_elim (fun h2 H' => ?_) (fun e43 h44 H => ?_)))
  · show gm_G _ 4 _ _ _ _
    replace H := H'
    clear H'
    refine g_aload (r := some _) rfl rfl rfl (pc' := 5) ?_
    obtain ⟨ht3, H⟩ := H
    refine g_call rfl (y := 456) (n := 1) (pc' := 8) (g_vt ht3 rfl rfl) rfl rfl ⟨(Nat.le_of_ble_eq_true rfl), (Nat.le_of_ble_eq_true rfl), (Nat.le_of_ble_eq_true rfl)⟩ rfl (gm_G.mono H (pV_elim (fun h4 H' => ?_) (fun e41 h42 H => ?_)))
    · show gm_G _ 8 _ _ _ _
      replace H := H'
      clear H'
      refine g_aload (r := some _) rfl rfl rfl (pc' := 9) ?_
      obtain ⟨ht5, H⟩ := H
      refine g_call rfl (y := 498) (n := 1) (pc' := 12) (g_vt ht5 rfl rfl) rfl rfl ⟨(Nat.le_of_ble_eq_true rfl), (Nat.le_of_ble_eq_true rfl), (Nat.le_of_ble_eq_true rfl)⟩ rfl (gm_G.mono H (pL_elim (fun v7 h6 H' => ?_) (fun e39 h40 H => ?_)))
      · show gm_G _ 12 _ _ _ _
        replace H := H'
        clear H'
        refine g_lstore rfl rfl rfl (pc' := 13) ?_
        refine g_aload (r := some _) rfl rfl rfl (pc' := 14) ?_
        refine g_iload rfl rfl rfl (pc' := 15) ?_
        obtain ⟨ht8, H⟩ := H
        refine g_call rfl (y := 454) (n := 2) (pc' := 18) (g_vt ht8 rfl rfl) rfl rfl ⟨(Nat.le_of_ble_eq_true rfl), (Nat.le_of_ble_eq_true rfl), (Nat.le_of_ble_eq_true rfl)⟩ rfl (gm_G.mono H (pR_elim (fun r10 h9 H' => ?_) (fun e37 h38 H => ?_)))
        · show gm_G _ 18 _ _ _ _
          replace H := H'
          clear H'
          refine g_astore (r := _) rfl rfl rfl (pc' := 20) ?_
          refine g_aload (r := some _) rfl rfl rfl (pc' := 21) ?_
          refine g_aload (r := some _) rfl rfl rfl (pc' := 22) ?_
          refine g_iload rfl rfl rfl (pc' := 23) ?_
          refine g_lload rfl rfl rfl (pc' := 24) ?_
          refine g_aload (r := some _) rfl rfl rfl (pc' := 25) ?_
          obtain ⟨ht11, H⟩ := H
          refine g_getRv rfl rfl rfl rfl ht11 (pc' := 28) rfl (fun r12 hr12 => ?_)
          replace H := H r12 hr12
          refine g_aload (r := _) rfl rfl rfl (pc' := 30) ?_
          obtain ⟨a13, rfl, H⟩ := H
          obtain ⟨ht14, H⟩ := H
          refine g_getI rfl rfl rfl rfl ht14 (pc' := 33) rfl ?_
          obtain ⟨a15, rfl, H⟩ := H
          obtain ⟨ht16, H⟩ := H
          refine g_call rfl (y := 178) (n := 2) (pc' := 36) (g_vt ht16 rfl rfl) rfl rfl ⟨(Nat.le_of_ble_eq_true rfl), (Nat.le_of_ble_eq_true rfl), (Nat.le_of_ble_eq_true rfl)⟩ rfl (gm_G.mono H (pR_elim (fun r18 h17 H' => ?_) (fun e35 h36 H => ?_)))
          · show gm_G _ 36 _ _ _ _
            replace H := H'
            clear H'
            obtain ⟨a19, rfl, H⟩ := H
            obtain ⟨ht20, H⟩ := H
            refine g_getI rfl rfl rfl rfl ht20 (pc' := 39) rfl ?_
            refine g_aload (r := some _) rfl rfl rfl (pc' := 41) ?_
            obtain ⟨ht21, H⟩ := H
            refine g_getRv rfl rfl rfl rfl ht21 (pc' := 44) rfl (fun r22 hr22 => ?_)
            replace H := H r22 hr22
            refine g_iload rfl rfl rfl (pc' := 45) ?_
            obtain ⟨ht23, H⟩ := H
            refine g_call rfl (y := 485) (n := 6) (pc' := 48) (g_vt ht23 rfl rfl) (by cases r22 <;> rfl) rfl ⟨(Nat.le_of_ble_eq_true rfl), (Nat.le_of_ble_eq_true rfl), (Nat.le_of_ble_eq_true rfl)⟩ rfl (gm_G.mono H (pR_elim (fun r25 h24 H' => ?_) (fun e33 h34 H => ?_)))
            · show gm_G _ 48 _ _ _ _
              replace H := H'
              clear H'
              obtain ⟨a26, rfl, H⟩ := H
              obtain ⟨ht27, H⟩ := H
              refine g_getI rfl rfl rfl rfl ht27 (pc' := 51) rfl ?_
              obtain ⟨ht28, H⟩ := H
              refine g_call rfl (y := 565) (n := 2) (pc' := 54) (g_vt ht28 rfl rfl) rfl rfl ⟨(Nat.le_of_ble_eq_true rfl), (Nat.le_of_ble_eq_true rfl), (Nat.le_of_ble_eq_true rfl)⟩ rfl (gm_G.mono H (pI_elim (fun v30 h29 H' => ?_) (fun e31 h32 H => ?_)))
              · show gm_G _ 54 _ _ _ _
                replace H := H'
                clear H'
                exact g_ireturn rfl (Or.inl rfl) H
              · exact ⟨H.1, g_weak (show gm_Lle [some _] _ from ⟨rfl, trivial⟩) H.2⟩
            · exact ⟨H.1, g_weak (show gm_Lle [some _] _ from ⟨rfl, trivial⟩) H.2⟩
          · exact ⟨H.1, g_weak (show gm_Lle [some _] _ from ⟨rfl, trivial⟩) H.2⟩
        · exact ⟨H.1, g_weak (show gm_Lle [some _] _ from ⟨rfl, trivial⟩) H.2⟩
      · exact ⟨H.1, g_weak (show gm_Lle [some _] _ from ⟨rfl, trivial⟩) H.2⟩
    · exact ⟨H.1, g_weak (show gm_Lle [some _] _ from ⟨rfl, trivial⟩) H.2⟩
  · exact H
set_option maxRecDepth 20000 in
theorem w_573_55 {a0 : Nat} {ex : Nat} {h : hh_T} {Q : Option Value ⊕ Nat → hh_T → Prop} (H : hh_tg h a0 = 1 ∧ (gm_G 1 0 [some (.ref a0), some (.ref ex)] [] h (pI (fun v3 h2 => Q (.inl (some (.int v3))) h2) (fun e4 h5 => hh_tg h5 e4 = 21 ∧ Q (.inr e4) h5)))) : gm_G 573 55 [some (.ref a0)] [.ref ex] h Q := by
  refine g_astore (r := some _) rfl rfl rfl (pc' := 56) ?_
  refine g_aload (r := some _) rfl rfl rfl (pc' := 57) ?_
  refine g_aload (r := some _) rfl rfl rfl (pc' := 58) ?_
  obtain ⟨ht1, H⟩ := H
  refine g_call rfl (y := 1) (n := 2) (pc' := 61) (g_vt ht1 rfl rfl) rfl rfl ⟨(Nat.le_of_ble_eq_true rfl), (Nat.le_of_ble_eq_true rfl), (Nat.le_of_ble_eq_true rfl)⟩ rfl (gm_G.mono H (pI_elim (fun v3 h2 H' => ?_) (fun e4 h5 H => ?_)))
  · show gm_G _ 61 _ _ _ _
    replace H := H'
    clear H'
    exact g_ireturn rfl (Or.inl rfl) H
  · exact H
set_option maxRecDepth 20000 in
theorem w_574_0 {a0 : Nat}  {h : hh_T} {Q : Option Value ⊕ Nat → hh_T → Prop} (H : gm_G 574 2 [some (.ref a0), some (.int (Int32.ofNat 0))] [] h Q) : gm_G 574 0 [some (.ref a0)] [] h Q := by
  refine g_iconst rfl rfl rfl (pc' := 1) ?_
  refine g_istore rfl rfl rfl (pc' := 2) ?_
  exact g_weak (show gm_Lle [some _, some _] _ from ⟨rfl, ⟨rfl, trivial⟩⟩) H
set_option maxRecDepth 20000 in
theorem w_574_2 {a0 : Nat} {x1 : Int32} {h : hh_T} {Q : Option Value ⊕ Nat → hh_T → Prop} (H : gm_sub (hh_tg h a0) 0 = true ∧ ((¬ x1 < (hh_i h a0 25) → (∀ h2, h2 = hh_wi h a0 25 (Int32.ofNat 0) → (∀ h3, h3 = hh_wi h2 a0 28 (Int32.ofNat 0) → (Q (.inl none) h3)))) ∧ (x1 < (hh_i h a0 25) → (∀ r4, r4 = hh_r h a0 23 → (∃ a5, r4 = some a5 ∧ ((hh_tg h a5 = 104 ∨ 200 ≤ hh_tg h a5) ∧ (∃ n6, gm_ix x1 n6 (hh_ln h a5) ∧ (∀ r8, r8 = hh_r h a5 n6 → (gm_G 574 19 [some (.ref a0), some (.int x1), some (va_rf r8), some (.int (Int32.ofNat 0))] [] h Q))))))))) : gm_G 574 2 [some (.ref a0), some (.int x1)] [] h Q := by
  refine g_iload rfl rfl rfl (pc' := 3) ?_
  refine g_aload (r := some _) rfl rfl rfl (pc' := 4) ?_
  obtain ⟨ht1, H⟩ := H
  refine g_getI rfl rfl rfl rfl ht1 (pc' := 7) rfl ?_
  refine g_ic_ge rfl (pc' := 10) (pt := 104) rfl rfl ⟨fun hc => ?_, fun hc => ?_⟩
  · replace H := H.1 hc
    refine g_aload (r := some _) rfl rfl rfl (pc' := 105) ?_
    refine g_iconst rfl rfl rfl (pc' := 106) ?_
    refine g_putI rfl rfl rfl rfl ht1  (pc' := 109) rfl ?_
    replace H := H _ rfl
    refine g_aload (r := some _) rfl rfl rfl (pc' := 110) ?_
    refine g_iconst rfl rfl rfl (pc' := 111) ?_
    refine g_putI rfl rfl rfl rfl ht1  (pc' := 114) rfl ?_
    replace H := H _ rfl
    exact g_return rfl H
  · replace H := H.2 hc
    refine g_aload (r := some _) rfl rfl rfl (pc' := 11) ?_
    refine g_getRv rfl rfl rfl rfl ht1 (pc' := 14) rfl (fun r4 hr4 => ?_)
    replace H := H r4 hr4
    refine g_iload rfl rfl rfl (pc' := 15) ?_
    obtain ⟨a5, rfl, H⟩ := H
    obtain ⟨ht7, H⟩ := H
    obtain ⟨n6, hn6, H⟩ := H
    refine g_aaloadv rfl ht7 hn6 (pc' := 16) rfl (fun r8 hr8 => ?_)
    replace H := H r8 hr8
    refine g_astore (r := _) rfl rfl rfl (pc' := 17) ?_
    refine g_iconst rfl rfl rfl (pc' := 18) ?_
    refine g_istore rfl gm_sto_rf2 rfl (pc' := 19) ?_
    exact g_weak (show gm_Lle [some _, some _, some _, some _] _ from ⟨rfl, ⟨rfl, ⟨rfl, ⟨rfl, trivial⟩⟩⟩⟩) H
set_option maxRecDepth 20000 in
theorem w_574_19 {a0 : Nat} {x1 : Int32} {r_2 : Option Nat} {x3 : Int32} {h : hh_T} {Q : Option Value ⊕ Nat → hh_T → Prop} (H : ∃ a1, r_2 = some a1 ∧ (gm_sub (hh_tg h a1) 31 = true ∧ ((¬ x3 < ((Int32.ofNat 8) * (hh_i h a1 1)) → (gm_G 574 55 [some (.ref a0), some (.int x1), some (.ref a1), some (.int (Int32.ofNat 0))] [] h Q)) ∧ (x3 < ((Int32.ofNat 8) * (hh_i h a1 1)) → (gm_sub (hh_tg h a0) 0 = true ∧ (∀ r4, r4 = hh_r h a0 19 → (∀ r5, r5 = hh_r h a0 24 → (∃ a6, r5 = some a6 ∧ ((hh_tg h a6 = 101 ∨ hh_tg h a6 = 102) ∧ (∃ n7, gm_ix (((Int32.ofNat 32) * x1) + x3) n7 (hh_ln h a6) ∧ (∃ a9, r4 = some a9 ∧ (hh_tg h a9 = 101 ∧ (∃ n10, gm_ix x3 n10 (hh_ln h a9) ∧ (∀ h11, h11 = hh_wi h a9 n10 ((hh_i h a6 n7).toInt8.toInt32) → (gm_G 574 19 [some (.ref a0), some (.int x1), some (.ref a1), some (.int (x3 + (Int32.ofNat 1)))] [] h11 Q))))))))))))))) : gm_G 574 19 [some (.ref a0), some (.int x1), some (va_rf r_2), some (.int x3)] [] h Q := by
  refine g_iload rfl rfl rfl (pc' := 20) ?_
  refine g_iconst rfl rfl rfl (pc' := 22) ?_
  refine g_aload (r := _) rfl rfl rfl (pc' := 23) ?_
  obtain ⟨a1, rfl, H⟩ := H
  obtain ⟨ht2, H⟩ := H
  refine g_getI rfl rfl rfl rfl ht2 (pc' := 26) rfl ?_
  refine g_imul rfl rfl (pc' := 27) ?_
  refine g_ic_ge rfl (pc' := 30) (pt := 53) rfl rfl ⟨fun hc => ?_, fun hc => ?_⟩
  · replace H := H.1 hc
    refine g_iconst rfl rfl rfl (pc' := 54) ?_
    refine g_istore rfl rfl rfl (pc' := 55) ?_
    exact g_weak (show gm_Lle [some _, some _, some _, some _] _ from ⟨rfl, ⟨rfl, ⟨rfl, ⟨rfl, trivial⟩⟩⟩⟩) H
  · replace H := H.2 hc
    refine g_aload (r := some _) rfl rfl rfl (pc' := 31) ?_
    obtain ⟨ht3, H⟩ := H
    refine g_getRv rfl rfl rfl rfl ht3 (pc' := 34) rfl (fun r4 hr4 => ?_)
    replace H := H r4 hr4
    refine g_iload rfl rfl rfl (pc' := 35) ?_
    refine g_aload (r := some _) rfl rfl rfl (pc' := 36) ?_
    refine g_getRv rfl rfl rfl rfl ht3 (pc' := 39) rfl (fun r5 hr5 => ?_)
    replace H := H r5 hr5
    refine g_iconst rfl rfl rfl (pc' := 41) ?_
    refine g_iload rfl rfl rfl (pc' := 42) ?_
    refine g_imul rfl rfl (pc' := 43) ?_
    refine g_iload rfl rfl rfl (pc' := 44) ?_
    refine g_iadd rfl rfl (pc' := 45) ?_
    obtain ⟨a6, rfl, H⟩ := H
    obtain ⟨ht8, H⟩ := H
    obtain ⟨n7, hn7, H⟩ := H
    refine g_baload rfl ht8 hn7 (pc' := 46) rfl ?_
    obtain ⟨a9, rfl, H⟩ := H
    obtain ⟨ht12, H⟩ := H
    obtain ⟨n10, hn10, H⟩ := H
    refine g_bastore rfl ht12 hn10  (pc' := 47) rfl ?_
    replace H := H _ rfl
    refine g_iinc (c := (Int32.ofNat 1)) rfl rfl rfl rfl rfl (pc' := 50) ?_
    refine g_goto rfl (pc' := 19) rfl ?_
    exact g_weak (show gm_Lle [some _, some _, some _, some _] _ from ⟨rfl, ⟨rfl, ⟨rfl, ⟨rfl, trivial⟩⟩⟩⟩) H
set_option maxRecDepth 20000 in
theorem w_574_55 {a0 : Nat} {x1 : Int32} {r_2 : Option Nat} {x3 : Int32} {h : hh_T} {Q : Option Value ⊕ Nat → hh_T → Prop} (H : ∃ a1, r_2 = some a1 ∧ (gm_sub (hh_tg h a1) 31 = true ∧ ((¬ x3 < (hh_i h a1 2) → (gm_G 574 2 [some (.ref a0), some (.int (x1 + (Int32.ofNat 1)))] [] h Q)) ∧ (x3 < (hh_i h a1 2) → (gm_sub (hh_tg h a0) 0 = true ∧ (∀ r4, r4 = hh_r h a0 7 → (∀ r5, r5 = hh_r h a1 4 → (∃ a6, r5 = some a6 ∧ ((hh_tg h a6 = 100 ∨ hh_tg h a6 = 105) ∧ (∃ n7, gm_ix x3 n7 (hh_ln h a6) ∧ (∃ a9, r4 = some a9 ∧ ((hh_tg h a9 = 104 ∨ 200 ≤ hh_tg h a9) ∧ (∃ n10, gm_ix (hh_i h a6 n7) n10 (hh_ln h a9) ∧ (∀ r12, r12 = hh_r h a9 n10 → (∀ r13, r13 = hh_r h a1 5 → (∃ a14, r13 = some a14 ∧ ((hh_tg h a14 = 100 ∨ hh_tg h a14 = 105) ∧ (∃ n15, gm_ix x3 n15 (hh_ln h a14) ∧ (∀ r17, r17 = hh_r h a0 19 → (∃ a18, r12 = some a18 ∧ ((hh_tg h a18 = 5 ∧ (gm_G 570 0 [some (.ref a18), some (.int (hh_i h a14 n15)), some (.int (hh_i h a1 1)), some (va_rf r17), some (.int (Int32.ofNat 0))] [] h (pV (fun h19 => gm_G 574 55 [some (.ref a0), some (.int x1), some (.ref a1), some (.int (x3 + (Int32.ofNat 1)))] [] h19 Q) (fun e20 h21 => hh_tg h21 e20 = 21 ∧ Q (.inr e20) h21)))) ∨ (hh_tg h a18 = 7 ∧ (gm_G 571 0 [some (.ref a18), some (.int (hh_i h a14 n15)), some (.int (hh_i h a1 1)), some (va_rf r17), some (.int (Int32.ofNat 0))] [] h (pV (fun h22 => gm_G 574 55 [some (.ref a0), some (.int x1), some (.ref a1), some (.int (x3 + (Int32.ofNat 1)))] [] h22 Q) (fun e23 h24 => hh_tg h24 e23 = 21 ∧ Q (.inr e23) h24))))))))))))))))))))))))) : gm_G 574 55 [some (.ref a0), some (.int x1), some (va_rf r_2), some (.int x3)] [] h Q := by
  refine g_iload rfl rfl rfl (pc' := 56) ?_
  refine g_aload (r := _) rfl rfl rfl (pc' := 57) ?_
  obtain ⟨a1, rfl, H⟩ := H
  obtain ⟨ht2, H⟩ := H
  refine g_getI rfl rfl rfl rfl ht2 (pc' := 60) rfl ?_
  refine g_ic_ge rfl (pc' := 63) (pt := 98) rfl rfl ⟨fun hc => ?_, fun hc => ?_⟩
  · replace H := H.1 hc
    refine g_iinc (c := (Int32.ofNat 1)) rfl rfl rfl rfl rfl (pc' := 101) ?_
    refine g_goto rfl (pc' := 2) rfl ?_
    exact g_weak (show gm_Lle [some _, some _] _ from ⟨rfl, ⟨rfl, trivial⟩⟩) H
  · replace H := H.2 hc
    refine g_aload (r := some _) rfl rfl rfl (pc' := 64) ?_
    obtain ⟨ht3, H⟩ := H
    refine g_getRv rfl rfl rfl rfl ht3 (pc' := 67) rfl (fun r4 hr4 => ?_)
    replace H := H r4 hr4
    refine g_aload (r := some _) rfl rfl rfl (pc' := 68) ?_
    refine g_getRv rfl rfl rfl rfl ht2 (pc' := 71) rfl (fun r5 hr5 => ?_)
    replace H := H r5 hr5
    refine g_iload rfl rfl rfl (pc' := 72) ?_
    obtain ⟨a6, rfl, H⟩ := H
    obtain ⟨ht8, H⟩ := H
    obtain ⟨n7, hn7, H⟩ := H
    refine g_iaload rfl ht8 hn7 (pc' := 73) rfl ?_
    obtain ⟨a9, rfl, H⟩ := H
    obtain ⟨ht11, H⟩ := H
    obtain ⟨n10, hn10, H⟩ := H
    refine g_aaloadv rfl ht11 hn10 (pc' := 74) rfl (fun r12 hr12 => ?_)
    replace H := H r12 hr12
    refine g_aload (r := some _) rfl rfl rfl (pc' := 75) ?_
    refine g_getRv rfl rfl rfl rfl ht2 (pc' := 78) rfl (fun r13 hr13 => ?_)
    replace H := H r13 hr13
    refine g_iload rfl rfl rfl (pc' := 79) ?_
    obtain ⟨a14, rfl, H⟩ := H
    obtain ⟨ht16, H⟩ := H
    obtain ⟨n15, hn15, H⟩ := H
    refine g_iaload rfl ht16 hn15 (pc' := 80) rfl ?_
    refine g_aload (r := some _) rfl rfl rfl (pc' := 81) ?_
    refine g_getI rfl rfl rfl rfl ht2 (pc' := 84) rfl ?_
    refine g_aload (r := some _) rfl rfl rfl (pc' := 85) ?_
    refine g_getRv rfl rfl rfl rfl ht3 (pc' := 88) rfl (fun r17 hr17 => ?_)
    replace H := H r17 hr17
    refine g_iconst rfl rfl rfl (pc' := 89) ?_
    obtain ⟨a18, rfl, H⟩ := H
    rcases H with ⟨ht, H⟩ | ⟨ht, H⟩
    · refine g_call rfl (y := 570) (n := 5) (pc' := 92) (g_vt ht rfl rfl) (by cases r17 <;> rfl) rfl ⟨(Nat.le_of_ble_eq_true rfl), (Nat.le_of_ble_eq_true rfl), (Nat.le_of_ble_eq_true rfl)⟩ rfl (gm_G.mono H (pV_elim (fun h19 H' => ?_) (fun e20 h21 H => ?_)))
      · show gm_G _ 92 _ _ _ _
        replace H := H'
        clear H'
        refine g_iinc (c := (Int32.ofNat 1)) rfl rfl rfl rfl rfl (pc' := 95) ?_
        refine g_goto rfl (pc' := 55) rfl ?_
        exact g_weak (show gm_Lle [some _, some _, some _, some _] _ from ⟨rfl, ⟨rfl, ⟨rfl, ⟨rfl, trivial⟩⟩⟩⟩) H
      · exact H
    · refine g_call rfl (y := 571) (n := 5) (pc' := 92) (g_vt ht rfl rfl) (by cases r17 <;> rfl) rfl ⟨(Nat.le_of_ble_eq_true rfl), (Nat.le_of_ble_eq_true rfl), (Nat.le_of_ble_eq_true rfl)⟩ rfl (gm_G.mono H (pV_elim (fun h22 H' => ?_) (fun e23 h24 H => ?_)))
      · show gm_G _ 92 _ _ _ _
        replace H := H'
        clear H'
        refine g_iinc (c := (Int32.ofNat 1)) rfl rfl rfl rfl rfl (pc' := 95) ?_
        refine g_goto rfl (pc' := 55) rfl ?_
        exact g_weak (show gm_Lle [some _, some _, some _, some _] _ from ⟨rfl, ⟨rfl, ⟨rfl, ⟨rfl, trivial⟩⟩⟩⟩) H
      · exact H
set_option maxRecDepth 20000 in
theorem w_575_0 {a0 : Nat} {x1 : Int32} {x2 : Int32} {h : hh_T} {Q : Option Value ⊕ Nat → hh_T → Prop} (H : hh_tg h a0 = 1 ∧ (gm_G 243 0 [some (.ref a0)] [] h (pV (fun h2 => hh_tg h2 a0 = 1 ∧ (gm_G 456 0 [some (.ref a0)] [] h2 (pV (fun h4 => gm_G 5 0 [some (.int x2), some (.int (Int32.ofNat 0)), some (.int (Int32.ofNat 8))] [] h4 (pI (fun v6 h5 => gm_G 452 0 [some (.int v6)] [] h5 (pV (fun h7 => hh_tg h7 a0 = 1 ∧ (gm_G 498 0 [some (.ref a0)] [] h7 (pL (fun v10 h9 => gm_G 575 23 [some (.ref a0), some (.int x1), some (.int x2), some (.long v10)] [] h9 Q) (fun e11 h12 => hh_tg h12 e11 = 21 ∧ gm_G 575 41 [some (.ref a0)] [.ref e11] h12 Q)))) (fun e13 h14 => hh_tg h14 e13 = 21 ∧ gm_G 575 41 [some (.ref a0)] [.ref e13] h14 Q))) (fun e15 h16 => hh_tg h16 e15 = 21 ∧ gm_G 575 41 [some (.ref a0)] [.ref e15] h16 Q))) (fun e17 h18 => hh_tg h18 e17 = 21 ∧ gm_G 575 41 [some (.ref a0)] [.ref e17] h18 Q)))) (fun e19 h20 => hh_tg h20 e19 = 21 ∧ Q (.inr e19) h20)))) : gm_G 575 0 [some (.ref a0), some (.int x1), some (.int x2)] [] h Q := by
  refine g_aload (r := some _) rfl rfl rfl (pc' := 1) ?_
  obtain ⟨ht1, H⟩ := H
  refine g_call rfl (y := 243) (n := 1) (pc' := 4) (g_vt ht1 rfl rfl) rfl rfl ⟨(Nat.le_of_ble_eq_true rfl), (Nat.le_of_ble_eq_true rfl), (Nat.le_of_ble_eq_true rfl)⟩ rfl (gm_G.mono H (pV_elim (fun h2 H' => ?_) (fun e19 h20 H => ?_)))
  · show gm_G _ 4 _ _ _ _
    replace H := H'
    clear H'
    refine g_aload (r := some _) rfl rfl rfl (pc' := 5) ?_
    obtain ⟨ht3, H⟩ := H
    refine g_call rfl (y := 456) (n := 1) (pc' := 8) (g_vt ht3 rfl rfl) rfl rfl ⟨(Nat.le_of_ble_eq_true rfl), (Nat.le_of_ble_eq_true rfl), (Nat.le_of_ble_eq_true rfl)⟩ rfl (gm_G.mono H (pV_elim (fun h4 H' => ?_) (fun e17 h18 H => ?_)))
    · show gm_G _ 8 _ _ _ _
      replace H := H'
      clear H'
      refine g_iload rfl rfl rfl (pc' := 9) ?_
      refine g_iconst rfl rfl rfl (pc' := 10) ?_
      refine g_iconst rfl rfl rfl (pc' := 12) ?_
      refine g_call rfl (y := 5) (n := 3) (pc' := 15) (fun _ => rfl) rfl rfl ⟨(Nat.le_of_ble_eq_true rfl), (Nat.le_of_ble_eq_true rfl), (Nat.le_of_ble_eq_true rfl)⟩ rfl (gm_G.mono H (pI_elim (fun v6 h5 H' => ?_) (fun e15 h16 H => ?_)))
      · show gm_G _ 15 _ _ _ _
        replace H := H'
        clear H'
        refine g_call rfl (y := 452) (n := 1) (pc' := 18) (fun _ => rfl) rfl rfl ⟨(Nat.le_of_ble_eq_true rfl), (Nat.le_of_ble_eq_true rfl), (Nat.le_of_ble_eq_true rfl)⟩ rfl (gm_G.mono H (pV_elim (fun h7 H' => ?_) (fun e13 h14 H => ?_)))
        · show gm_G _ 18 _ _ _ _
          replace H := H'
          clear H'
          refine g_aload (r := some _) rfl rfl rfl (pc' := 19) ?_
          obtain ⟨ht8, H⟩ := H
          refine g_call rfl (y := 498) (n := 1) (pc' := 22) (g_vt ht8 rfl rfl) rfl rfl ⟨(Nat.le_of_ble_eq_true rfl), (Nat.le_of_ble_eq_true rfl), (Nat.le_of_ble_eq_true rfl)⟩ rfl (gm_G.mono H (pL_elim (fun v10 h9 H' => ?_) (fun e11 h12 H => ?_)))
          · show gm_G _ 22 _ _ _ _
            replace H := H'
            clear H'
            refine g_lstore rfl rfl rfl (pc' := 23) ?_
            exact g_weak (show gm_Lle [some _, some _, some _, some _] _ from ⟨rfl, ⟨rfl, ⟨rfl, ⟨rfl, trivial⟩⟩⟩⟩) H
          · exact ⟨H.1, g_weak (show gm_Lle [some _] _ from ⟨rfl, trivial⟩) H.2⟩
        · exact ⟨H.1, g_weak (show gm_Lle [some _] _ from ⟨rfl, trivial⟩) H.2⟩
      · exact ⟨H.1, g_weak (show gm_Lle [some _] _ from ⟨rfl, trivial⟩) H.2⟩
    · exact ⟨H.1, g_weak (show gm_Lle [some _] _ from ⟨rfl, trivial⟩) H.2⟩
  · exact H
set_option maxRecDepth 20000 in
theorem w_575_23 {a0 : Nat} {x1 : Int32} {x2 : Int32} {j3 : Int64} {h : hh_T} {Q : Option Value ⊕ Nat → hh_T → Prop} (H : hh_tg h a0 = 1 ∧ (gm_G 485 0 [some (.ref a0), some (.int x1), some (.long j3), none, some (.int x2), some (va_rf none), some (.int (Int32.ofInt (-2)))] [] h (pR (fun r3 h2 => ∃ a4, r3 = some a4 ∧ (gm_sub (hh_tg h2 a4) 23 = true ∧ (hh_tg h2 a0 = 1 ∧ (gm_G 565 0 [some (.ref a0), some (.int (hh_i h2 a4 0))] [] h2 (pI (fun v8 h7 => Q (.inl (some (.int v8))) h7) (fun e9 h10 => hh_tg h10 e9 = 21 ∧ gm_G 575 41 [some (.ref a0)] [.ref e9] h10 Q)))))) (fun e11 h12 => hh_tg h12 e11 = 21 ∧ gm_G 575 41 [some (.ref a0)] [.ref e11] h12 Q)))) : gm_G 575 23 [some (.ref a0), some (.int x1), some (.int x2), some (.long j3)] [] h Q := by
  refine g_aload (r := some _) rfl rfl rfl (pc' := 24) ?_
  refine g_aload (r := some _) rfl rfl rfl (pc' := 25) ?_
  refine g_iload rfl rfl rfl (pc' := 26) ?_
  refine g_lload rfl rfl rfl (pc' := 27) ?_
  refine g_iload rfl rfl rfl (pc' := 28) ?_
  refine g_null rfl rfl (pc' := 29) ?_
  refine g_iconst rfl rfl rfl (pc' := 31) ?_
  obtain ⟨ht1, H⟩ := H
  refine g_call rfl (y := 485) (n := 6) (pc' := 34) (g_vt ht1 rfl rfl) rfl rfl ⟨(Nat.le_of_ble_eq_true rfl), (Nat.le_of_ble_eq_true rfl), (Nat.le_of_ble_eq_true rfl)⟩ rfl (gm_G.mono H (pR_elim (fun r3 h2 H' => ?_) (fun e11 h12 H => ?_)))
  · show gm_G _ 34 _ _ _ _
    replace H := H'
    clear H'
    obtain ⟨a4, rfl, H⟩ := H
    obtain ⟨ht5, H⟩ := H
    refine g_getI rfl rfl rfl rfl ht5 (pc' := 37) rfl ?_
    obtain ⟨ht6, H⟩ := H
    refine g_call rfl (y := 565) (n := 2) (pc' := 40) (g_vt ht6 rfl rfl) rfl rfl ⟨(Nat.le_of_ble_eq_true rfl), (Nat.le_of_ble_eq_true rfl), (Nat.le_of_ble_eq_true rfl)⟩ rfl (gm_G.mono H (pI_elim (fun v8 h7 H' => ?_) (fun e9 h10 H => ?_)))
    · show gm_G _ 40 _ _ _ _
      replace H := H'
      clear H'
      exact g_ireturn rfl (Or.inl rfl) H
    · exact ⟨H.1, g_weak (show gm_Lle [some _] _ from ⟨rfl, trivial⟩) H.2⟩
  · exact ⟨H.1, g_weak (show gm_Lle [some _] _ from ⟨rfl, trivial⟩) H.2⟩
set_option maxRecDepth 20000 in
theorem w_575_41 {a0 : Nat} {ex : Nat} {h : hh_T} {Q : Option Value ⊕ Nat → hh_T → Prop} (H : hh_tg h a0 = 1 ∧ (gm_G 1 0 [some (.ref a0), some (.ref ex)] [] h (pI (fun v3 h2 => Q (.inl (some (.int v3))) h2) (fun e4 h5 => hh_tg h5 e4 = 21 ∧ Q (.inr e4) h5)))) : gm_G 575 41 [some (.ref a0)] [.ref ex] h Q := by
  refine g_astore (r := some _) rfl rfl rfl (pc' := 42) ?_
  refine g_aload (r := some _) rfl rfl rfl (pc' := 43) ?_
  refine g_aload (r := some _) rfl rfl rfl (pc' := 44) ?_
  obtain ⟨ht1, H⟩ := H
  refine g_call rfl (y := 1) (n := 2) (pc' := 47) (g_vt ht1 rfl rfl) rfl rfl ⟨(Nat.le_of_ble_eq_true rfl), (Nat.le_of_ble_eq_true rfl), (Nat.le_of_ble_eq_true rfl)⟩ rfl (gm_G.mono H (pI_elim (fun v3 h2 H' => ?_) (fun e4 h5 H => ?_)))
  · show gm_G _ 47 _ _ _ _
    replace H := H'
    clear H'
    exact g_ireturn rfl (Or.inl rfl) H
  · exact H
set_option maxRecDepth 20000 in
theorem w_576_0 {a0 : Nat} {x1 : Int32} {h : hh_T} {Q : Option Value ⊕ Nat → hh_T → Prop} (H : hh_tg h a0 = 1 ∧ (gm_G 456 0 [some (.ref a0)] [] h (pV (fun h2 => (x1 = Int32.ofNat 0 → (gm_G 576 13 [some (.ref a0), some (.int x1)] [.int (Int32.ofNat 0)] h2 Q)) ∧ (¬ x1 = Int32.ofNat 0 → (gm_G 576 13 [some (.ref a0), some (.int x1)] [.int (Int32.ofNat 1)] h2 Q))) (fun e3 h4 => hh_tg h4 e3 = 21 ∧ gm_G 576 148 [some (.ref a0)] [.ref e3] h4 Q)))) : gm_G 576 0 [some (.ref a0), some (.int x1)] [] h Q := by
  refine g_aload (r := some _) rfl rfl rfl (pc' := 1) ?_
  obtain ⟨ht1, H⟩ := H
  refine g_call rfl (y := 456) (n := 1) (pc' := 4) (g_vt ht1 rfl rfl) rfl rfl ⟨(Nat.le_of_ble_eq_true rfl), (Nat.le_of_ble_eq_true rfl), (Nat.le_of_ble_eq_true rfl)⟩ rfl (gm_G.mono H (pV_elim (fun h2 H' => ?_) (fun e3 h4 H => ?_)))
  · show gm_G _ 4 _ _ _ _
    replace H := H'
    clear H'
    refine g_iload rfl rfl rfl (pc' := 5) ?_
    refine g_if_eq rfl (pc' := 8) (pt := 12) rfl rfl ⟨fun hc => ?_, fun hc => ?_⟩
    · replace H := H.1 hc
      refine g_iconst rfl rfl rfl (pc' := 13) ?_
      exact g_weak (show gm_Lle [some _, some _] _ from ⟨rfl, ⟨rfl, trivial⟩⟩) H
    · replace H := H.2 hc
      refine g_iconst rfl rfl rfl (pc' := 9) ?_
      refine g_goto rfl (pc' := 13) rfl ?_
      exact g_weak (show gm_Lle [some _, some _] _ from ⟨rfl, ⟨rfl, trivial⟩⟩) H
  · exact ⟨H.1, g_weak (show gm_Lle [some _] _ from ⟨rfl, trivial⟩) H.2⟩
set_option maxRecDepth 20000 in
theorem w_576_13 {a0 : Nat} {x1 : Int32} {y0 : Int32} {h : hh_T} {Q : Option Value ⊕ Nat → hh_T → Prop} (H : gm_G 452 0 [some (.int y0)] [] h (pV (fun h1 => hh_tg h1 a0 = 1 ∧ (gm_G 453 0 [some (.ref a0), some (.int x1)] [] h1 (pR (fun r4 h3 => gm_G 576 24 [some (.ref a0), some (.int x1), some (va_rf r4), some (.int (Int32.ofNat 0))] [] h3 Q) (fun e5 h6 => hh_tg h6 e5 = 21 ∧ gm_G 576 148 [some (.ref a0)] [.ref e5] h6 Q)))) (fun e7 h8 => hh_tg h8 e7 = 21 ∧ gm_G 576 148 [some (.ref a0)] [.ref e7] h8 Q))) : gm_G 576 13 [some (.ref a0), some (.int x1)] [.int y0] h Q := by
  refine g_call rfl (y := 452) (n := 1) (pc' := 16) (fun _ => rfl) rfl rfl ⟨(Nat.le_of_ble_eq_true rfl), (Nat.le_of_ble_eq_true rfl), (Nat.le_of_ble_eq_true rfl)⟩ rfl (gm_G.mono H (pV_elim (fun h1 H' => ?_) (fun e7 h8 H => ?_)))
  · show gm_G _ 16 _ _ _ _
    replace H := H'
    clear H'
    refine g_aload (r := some _) rfl rfl rfl (pc' := 17) ?_
    refine g_iload rfl rfl rfl (pc' := 18) ?_
    obtain ⟨ht2, H⟩ := H
    refine g_call rfl (y := 453) (n := 2) (pc' := 21) (g_vt ht2 rfl rfl) rfl rfl ⟨(Nat.le_of_ble_eq_true rfl), (Nat.le_of_ble_eq_true rfl), (Nat.le_of_ble_eq_true rfl)⟩ rfl (gm_G.mono H (pR_elim (fun r4 h3 H' => ?_) (fun e5 h6 H => ?_)))
    · show gm_G _ 21 _ _ _ _
      replace H := H'
      clear H'
      refine g_astore (r := _) rfl rfl rfl (pc' := 22) ?_
      refine g_iconst rfl rfl rfl (pc' := 23) ?_
      refine g_istore rfl gm_sto_rf2 rfl (pc' := 24) ?_
      exact g_weak (show gm_Lle [some _, some _, some _, some _] _ from ⟨rfl, ⟨rfl, ⟨rfl, ⟨rfl, trivial⟩⟩⟩⟩) H
    · exact ⟨H.1, g_weak (show gm_Lle [some _] _ from ⟨rfl, trivial⟩) H.2⟩
  · exact ⟨H.1, g_weak (show gm_Lle [some _] _ from ⟨rfl, trivial⟩) H.2⟩
set_option maxRecDepth 20000 in
theorem w_576_24 {a0 : Nat} {x1 : Int32} {r_2 : Option Nat} {x3 : Int32} {h : hh_T} {Q : Option Value ⊕ Nat → hh_T → Prop} (H : gm_sub (hh_tg h a0) 0 = true ∧ (∀ r2, r2 = hh_r h a0 33 → (∃ a3, r2 = some a3 ∧ (gm_sub (hh_tg h a3) 22 = true ∧ ((¬ x3 < (hh_i h a3 2) → (∃ a5, r_2 = some a5 ∧ (gm_sub (hh_tg h a5) 23 = true ∧ ((¬ (hh_i h a5 8) = Int32.ofNat 0 → (gm_G 576 106 [some (.ref a0), some (.int x1), some (.ref a5)] [] h Q)) ∧ ((hh_i h a5 8) = Int32.ofNat 0 → (∀ r7, r7 = hh_r h a0 51 → (∃ a8, r7 = some a8 ∧ (hh_tg h a8 = 15 ∧ (gm_G 75 0 [some (.ref a8), some (.int ((Int32.ofNat 2) * x1))] [] h (pI (fun v11 h10 => (¬ v11 = Int32.ofNat 0 → (gm_G 576 106 [some (.ref a0), some (.int x1), some (.ref a5)] [] h10 Q)) ∧ (v11 = Int32.ofNat 0 → (gm_G 576 107 [some (.ref a0), some (.int x1), some (.ref a5)] [.int (Int32.ofNat 1)] h10 Q))) (fun e12 h13 => hh_tg h13 e12 = 21 ∧ gm_G 576 148 [some (.ref a0)] [.ref e12] h13 Q))))))))))) ∧ (x3 < (hh_i h a3 2) → (∀ r14, r14 = hh_r h a0 33 → (∃ a15, r14 = some a15 ∧ (gm_sub (hh_tg h a15) 22 = true ∧ (∀ r17, r17 = hh_r h a15 0 → (∃ a18, r17 = some a18 ∧ ((hh_tg h a18 = 104 ∨ 200 ≤ hh_tg h a18) ∧ (∃ n19, gm_ix x3 n19 (hh_ln h a18) ∧ (∀ r21, r21 = hh_r h a18 n19 → (∃ a22, r21 = some a22 ∧ (gm_sub (hh_tg h a22) 23 = true ∧ (((hh_i h a22 0) = Int32.ofNat 0 → (gm_G 576 66 [some (.ref a0), some (.int x1), some (va_rf r_2), some (.int x3)] [] h Q)) ∧ (¬ (hh_i h a22 0) = Int32.ofNat 0 → (∀ r24, r24 = hh_r h a0 33 → (∃ a25, r24 = some a25 ∧ (gm_sub (hh_tg h a25) 22 = true ∧ (∀ r27, r27 = hh_r h a25 0 → (∃ a28, r27 = some a28 ∧ ((hh_tg h a28 = 104 ∨ 200 ≤ hh_tg h a28) ∧ (∃ n29, gm_ix x3 n29 (hh_ln h a28) ∧ (∀ r31, r31 = hh_r h a28 n29 → (∃ a32, r31 = some a32 ∧ (gm_sub (hh_tg h a32) 23 = true ∧ (((hh_i h a32 1) = x1 → (gm_G 576 71 [some (.ref a0), some (.int x1), some (va_rf r_2), some (.int x3)] [.int (Int32.ofNat 0)] h Q)) ∧ (¬ (hh_i h a32 1) = x1 → (gm_G 576 66 [some (.ref a0), some (.int x1), some (va_rf r_2), some (.int x3)] [] h Q))))))))))))))))))))))))))))))) : gm_G 576 24 [some (.ref a0), some (.int x1), some (va_rf r_2), some (.int x3)] [] h Q := by
  refine g_iload rfl rfl rfl (pc' := 25) ?_
  refine g_aload (r := some _) rfl rfl rfl (pc' := 26) ?_
  obtain ⟨ht1, H⟩ := H
  refine g_getRv rfl rfl rfl rfl ht1 (pc' := 29) rfl (fun r2 hr2 => ?_)
  replace H := H r2 hr2
  obtain ⟨a3, rfl, H⟩ := H
  obtain ⟨ht4, H⟩ := H
  refine g_getI rfl rfl rfl rfl ht4 (pc' := 32) rfl ?_
  refine g_ic_ge rfl (pc' := 35) (pt := 82) rfl rfl ⟨fun hc => ?_, fun hc => ?_⟩
  · replace H := H.1 hc
    refine g_aload (r := _) rfl rfl rfl (pc' := 83) ?_
    obtain ⟨a5, rfl, H⟩ := H
    obtain ⟨ht6, H⟩ := H
    refine g_getI rfl rfl rfl rfl ht6 (pc' := 86) rfl ?_
    refine g_if_ne rfl (pc' := 89) (pt := 106) rfl rfl ⟨fun hc => ?_, fun hc => ?_⟩
    · replace H := H.1 hc
      exact g_weak (show gm_Lle [some _, some _, some _] _ from ⟨rfl, ⟨rfl, ⟨rfl, trivial⟩⟩⟩) H
    · replace H := H.2 hc
      refine g_aload (r := some _) rfl rfl rfl (pc' := 90) ?_
      refine g_getRv rfl rfl rfl rfl ht1 (pc' := 93) rfl (fun r7 hr7 => ?_)
      replace H := H r7 hr7
      refine g_iconst rfl rfl rfl (pc' := 94) ?_
      refine g_iload rfl rfl rfl (pc' := 95) ?_
      refine g_imul rfl rfl (pc' := 96) ?_
      obtain ⟨a8, rfl, H⟩ := H
      obtain ⟨ht9, H⟩ := H
      refine g_call rfl (y := 75) (n := 2) (pc' := 99) (g_vt ht9 rfl rfl) rfl rfl ⟨(Nat.le_of_ble_eq_true rfl), (Nat.le_of_ble_eq_true rfl), (Nat.le_of_ble_eq_true rfl)⟩ rfl (gm_G.mono H (pI_elim (fun v11 h10 H' => ?_) (fun e12 h13 H => ?_)))
      · show gm_G _ 99 _ _ _ _
        replace H := H'
        clear H'
        refine g_if_ne rfl (pc' := 102) (pt := 106) rfl rfl ⟨fun hc => ?_, fun hc => ?_⟩
        · replace H := H.1 hc
          exact g_weak (show gm_Lle [some _, some _, some _] _ from ⟨rfl, ⟨rfl, ⟨rfl, trivial⟩⟩⟩) H
        · replace H := H.2 hc
          refine g_iconst rfl rfl rfl (pc' := 103) ?_
          refine g_goto rfl (pc' := 107) rfl ?_
          exact g_weak (show gm_Lle [some _, some _, some _] _ from ⟨rfl, ⟨rfl, ⟨rfl, trivial⟩⟩⟩) H
      · exact ⟨H.1, g_weak (show gm_Lle [some _] _ from ⟨rfl, trivial⟩) H.2⟩
  · replace H := H.2 hc
    refine g_aload (r := some _) rfl rfl rfl (pc' := 36) ?_
    refine g_getRv rfl rfl rfl rfl ht1 (pc' := 39) rfl (fun r14 hr14 => ?_)
    replace H := H r14 hr14
    obtain ⟨a15, rfl, H⟩ := H
    obtain ⟨ht16, H⟩ := H
    refine g_getRv rfl rfl rfl rfl ht16 (pc' := 42) rfl (fun r17 hr17 => ?_)
    replace H := H r17 hr17
    refine g_iload rfl rfl rfl (pc' := 43) ?_
    obtain ⟨a18, rfl, H⟩ := H
    obtain ⟨ht20, H⟩ := H
    obtain ⟨n19, hn19, H⟩ := H
    refine g_aaloadv rfl ht20 hn19 (pc' := 44) rfl (fun r21 hr21 => ?_)
    replace H := H r21 hr21
    obtain ⟨a22, rfl, H⟩ := H
    obtain ⟨ht23, H⟩ := H
    refine g_getI rfl rfl rfl rfl ht23 (pc' := 47) rfl ?_
    refine g_if_eq rfl (pc' := 50) (pt := 66) rfl rfl ⟨fun hc => ?_, fun hc => ?_⟩
    · replace H := H.1 hc
      exact g_weak (show gm_Lle [some _, some _, some _, some _] _ from ⟨rfl, ⟨rfl, ⟨rfl, ⟨rfl, trivial⟩⟩⟩⟩) H
    · replace H := H.2 hc
      refine g_aload (r := some _) rfl rfl rfl (pc' := 51) ?_
      refine g_getRv rfl rfl rfl rfl ht1 (pc' := 54) rfl (fun r24 hr24 => ?_)
      replace H := H r24 hr24
      obtain ⟨a25, rfl, H⟩ := H
      obtain ⟨ht26, H⟩ := H
      refine g_getRv rfl rfl rfl rfl ht26 (pc' := 57) rfl (fun r27 hr27 => ?_)
      replace H := H r27 hr27
      refine g_iload rfl rfl rfl (pc' := 58) ?_
      obtain ⟨a28, rfl, H⟩ := H
      obtain ⟨ht30, H⟩ := H
      obtain ⟨n29, hn29, H⟩ := H
      refine g_aaloadv rfl ht30 hn29 (pc' := 59) rfl (fun r31 hr31 => ?_)
      replace H := H r31 hr31
      obtain ⟨a32, rfl, H⟩ := H
      obtain ⟨ht33, H⟩ := H
      refine g_getI rfl rfl rfl rfl ht33 (pc' := 62) rfl ?_
      refine g_iload rfl rfl rfl (pc' := 63) ?_
      refine g_ic_eq rfl (pc' := 66) (pt := 70) rfl rfl ⟨fun hc => ?_, fun hc => ?_⟩
      · replace H := H.1 hc
        refine g_iconst rfl rfl rfl (pc' := 71) ?_
        exact g_weak (show gm_Lle [some _, some _, some _, some _] _ from ⟨rfl, ⟨rfl, ⟨rfl, ⟨rfl, trivial⟩⟩⟩⟩) H
      · replace H := H.2 hc
        exact g_weak (show gm_Lle [some _, some _, some _, some _] _ from ⟨rfl, ⟨rfl, ⟨rfl, ⟨rfl, trivial⟩⟩⟩⟩) H
set_option maxRecDepth 20000 in
theorem w_576_66 {a0 : Nat} {x1 : Int32} {r_2 : Option Nat} {x3 : Int32} {h : hh_T} {Q : Option Value ⊕ Nat → hh_T → Prop} (H : gm_G 576 71 [some (.ref a0), some (.int x1), some (va_rf r_2), some (.int x3)] [.int (Int32.ofNat 1)] h Q) : gm_G 576 66 [some (.ref a0), some (.int x1), some (va_rf r_2), some (.int x3)] [] h Q := by
  refine g_iconst rfl rfl rfl (pc' := 67) ?_
  refine g_goto rfl (pc' := 71) rfl ?_
  exact g_weak (show gm_Lle [some _, some _, some _, some _] _ from ⟨rfl, ⟨rfl, ⟨rfl, ⟨rfl, trivial⟩⟩⟩⟩) H
set_option maxRecDepth 20000 in
theorem w_576_71 {a0 : Nat} {x1 : Int32} {r_2 : Option Nat} {x3 : Int32} {y0 : Int32} {h : hh_T} {Q : Option Value ⊕ Nat → hh_T → Prop} (H : gm_G 431 0 [some (.int y0), some (.int (Int32.ofInt (-5)))] [] h (pV (fun h1 => gm_G 576 24 [some (.ref a0), some (.int x1), some (va_rf r_2), some (.int (x3 + (Int32.ofNat 1)))] [] h1 Q) (fun e2 h3 => hh_tg h3 e2 = 21 ∧ gm_G 576 148 [some (.ref a0)] [.ref e2] h3 Q))) : gm_G 576 71 [some (.ref a0), some (.int x1), some (va_rf r_2), some (.int x3)] [.int y0] h Q := by
  refine g_iconst rfl rfl rfl (pc' := 73) ?_
  refine g_call rfl (y := 431) (n := 2) (pc' := 76) (fun _ => rfl) rfl rfl ⟨(Nat.le_of_ble_eq_true rfl), (Nat.le_of_ble_eq_true rfl), (Nat.le_of_ble_eq_true rfl)⟩ rfl (gm_G.mono H (pV_elim (fun h1 H' => ?_) (fun e2 h3 H => ?_)))
  · show gm_G _ 76 _ _ _ _
    replace H := H'
    clear H'
    refine g_iinc (c := (Int32.ofNat 1)) rfl rfl rfl gm_sto_rf2 rfl (pc' := 79) ?_
    refine g_goto rfl (pc' := 24) rfl ?_
    exact g_weak (show gm_Lle [some _, some _, some _, some _] _ from ⟨rfl, ⟨rfl, ⟨rfl, ⟨rfl, trivial⟩⟩⟩⟩) H
  · exact ⟨H.1, g_weak (show gm_Lle [some _] _ from ⟨rfl, trivial⟩) H.2⟩
set_option maxRecDepth 20000 in
theorem w_576_106 {a0 : Nat} {x1 : Int32} {r_2 : Option Nat} {h : hh_T} {Q : Option Value ⊕ Nat → hh_T → Prop} (H : gm_G 576 107 [some (.ref a0), some (.int x1), some (va_rf r_2)] [.int (Int32.ofNat 0)] h Q) : gm_G 576 106 [some (.ref a0), some (.int x1), some (va_rf r_2)] [] h Q := by
  refine g_iconst rfl rfl rfl (pc' := 107) ?_
  exact g_weak (show gm_Lle [some _, some _, some _] _ from ⟨rfl, ⟨rfl, ⟨rfl, trivial⟩⟩⟩) H
set_option maxRecDepth 20000 in
theorem w_576_107 {a0 : Nat} {x1 : Int32} {r_2 : Option Nat} {y0 : Int32} {h : hh_T} {Q : Option Value ⊕ Nat → hh_T → Prop} (H : gm_G 431 0 [some (.int y0), some (.int (Int32.ofInt (-5)))] [] h (pV (fun h1 => gm_sub (hh_tg h1 a0) 0 = true ∧ (∀ r3, r3 = hh_r h1 a0 33 → (∃ a4, r3 = some a4 ∧ (hh_tg h1 a4 = 23 ∧ (gm_G 176 0 [some (.ref a4), some (va_rf r_2)] [] h1 (pV (fun h6 => hh_tg h6 a0 = 1 ∧ (gm_G 450 0 [some (.ref a0), some (va_rf r_2)] [] h6 (pV (fun h8 => gm_sub (hh_tg h8 a0) 0 = true ∧ (∀ r10, r10 = hh_r h8 a0 52 → (∃ a11, r10 = some a11 ∧ (hh_tg h8 a11 = 16 ∧ (gm_G 82 0 [some (.ref a11), some (.int x1), some (.int (Int32.ofInt (-1)))] [] h8 (pV (fun h13 => gm_sub (hh_tg h13 a0) 0 = true ∧ (∀ r15, r15 = hh_r h13 a0 56 → (∃ a16, r15 = some a16 ∧ (hh_tg h13 a16 = 18 ∧ (gm_G 268 0 [some (.ref a16), some (.int x1)] [] h13 (pV (fun h18 => gm_G 576 142 [some (.ref a0)] [] h18 Q) (fun e19 h20 => hh_tg h20 e19 = 21 ∧ gm_G 576 148 [some (.ref a0)] [.ref e19] h20 Q))))))) (fun e21 h22 => hh_tg h22 e21 = 21 ∧ gm_G 576 148 [some (.ref a0)] [.ref e21] h22 Q))))))) (fun e23 h24 => hh_tg h24 e23 = 21 ∧ gm_G 576 148 [some (.ref a0)] [.ref e23] h24 Q)))) (fun e25 h26 => hh_tg h26 e25 = 21 ∧ gm_G 576 148 [some (.ref a0)] [.ref e25] h26 Q))))))) (fun e27 h28 => hh_tg h28 e27 = 21 ∧ gm_G 576 148 [some (.ref a0)] [.ref e27] h28 Q))) : gm_G 576 107 [some (.ref a0), some (.int x1), some (va_rf r_2)] [.int y0] h Q := by
  refine g_iconst rfl rfl rfl (pc' := 109) ?_
  refine g_call rfl (y := 431) (n := 2) (pc' := 112) (fun _ => rfl) rfl rfl ⟨(Nat.le_of_ble_eq_true rfl), (Nat.le_of_ble_eq_true rfl), (Nat.le_of_ble_eq_true rfl)⟩ rfl (gm_G.mono H (pV_elim (fun h1 H' => ?_) (fun e27 h28 H => ?_)))
  · show gm_G _ 112 _ _ _ _
    replace H := H'
    clear H'
    refine g_aload (r := some _) rfl rfl rfl (pc' := 113) ?_
    obtain ⟨ht2, H⟩ := H
    refine g_getRv rfl rfl rfl rfl ht2 (pc' := 116) rfl (fun r3 hr3 => ?_)
    replace H := H r3 hr3
    refine g_aload (r := _) rfl rfl rfl (pc' := 117) ?_
    obtain ⟨a4, rfl, H⟩ := H
    obtain ⟨ht5, H⟩ := H
    refine g_call rfl (y := 176) (n := 2) (pc' := 120) (g_vt ht5 rfl rfl) (by cases r_2 <;> rfl) rfl ⟨(Nat.le_of_ble_eq_true rfl), (Nat.le_of_ble_eq_true rfl), (Nat.le_of_ble_eq_true rfl)⟩ rfl (gm_G.mono H (pV_elim (fun h6 H' => ?_) (fun e25 h26 H => ?_)))
    · show gm_G _ 120 _ _ _ _
      replace H := H'
      clear H'
      refine g_aload (r := some _) rfl rfl rfl (pc' := 121) ?_
      refine g_aload (r := _) rfl rfl rfl (pc' := 122) ?_
      obtain ⟨ht7, H⟩ := H
      refine g_call rfl (y := 450) (n := 2) (pc' := 125) (g_vt ht7 rfl rfl) (by cases r_2 <;> rfl) rfl ⟨(Nat.le_of_ble_eq_true rfl), (Nat.le_of_ble_eq_true rfl), (Nat.le_of_ble_eq_true rfl)⟩ rfl (gm_G.mono H (pV_elim (fun h8 H' => ?_) (fun e23 h24 H => ?_)))
      · show gm_G _ 125 _ _ _ _
        replace H := H'
        clear H'
        refine g_aload (r := some _) rfl rfl rfl (pc' := 126) ?_
        obtain ⟨ht9, H⟩ := H
        refine g_getRv rfl rfl rfl rfl ht9 (pc' := 129) rfl (fun r10 hr10 => ?_)
        replace H := H r10 hr10
        refine g_iload rfl rfl rfl (pc' := 130) ?_
        refine g_iconst rfl rfl rfl (pc' := 131) ?_
        obtain ⟨a11, rfl, H⟩ := H
        obtain ⟨ht12, H⟩ := H
        refine g_call rfl (y := 82) (n := 3) (pc' := 134) (g_vt ht12 rfl rfl) rfl rfl ⟨(Nat.le_of_ble_eq_true rfl), (Nat.le_of_ble_eq_true rfl), (Nat.le_of_ble_eq_true rfl)⟩ rfl (gm_G.mono H (pV_elim (fun h13 H' => ?_) (fun e21 h22 H => ?_)))
        · show gm_G _ 134 _ _ _ _
          replace H := H'
          clear H'
          refine g_aload (r := some _) rfl rfl rfl (pc' := 135) ?_
          obtain ⟨ht14, H⟩ := H
          refine g_getRv rfl rfl rfl rfl ht14 (pc' := 138) rfl (fun r15 hr15 => ?_)
          replace H := H r15 hr15
          refine g_iload rfl rfl rfl (pc' := 139) ?_
          obtain ⟨a16, rfl, H⟩ := H
          obtain ⟨ht17, H⟩ := H
          refine g_call rfl (y := 268) (n := 2) (pc' := 142) (g_vt ht17 rfl rfl) rfl rfl ⟨(Nat.le_of_ble_eq_true rfl), (Nat.le_of_ble_eq_true rfl), (Nat.le_of_ble_eq_true rfl)⟩ rfl (gm_G.mono H (pV_elim (fun h18 H' => ?_) (fun e19 h20 H => ?_)))
          · show gm_G _ 142 _ _ _ _
            replace H := H'
            clear H'
            exact g_weak (show gm_Lle [some _] _ from ⟨rfl, trivial⟩) H
          · exact ⟨H.1, g_weak (show gm_Lle [some _] _ from ⟨rfl, trivial⟩) H.2⟩
        · exact ⟨H.1, g_weak (show gm_Lle [some _] _ from ⟨rfl, trivial⟩) H.2⟩
      · exact ⟨H.1, g_weak (show gm_Lle [some _] _ from ⟨rfl, trivial⟩) H.2⟩
    · exact ⟨H.1, g_weak (show gm_Lle [some _] _ from ⟨rfl, trivial⟩) H.2⟩
  · exact ⟨H.1, g_weak (show gm_Lle [some _] _ from ⟨rfl, trivial⟩) H.2⟩
set_option maxRecDepth 20000 in
theorem w_576_142 {a0 : Nat}  {h : hh_T} {Q : Option Value ⊕ Nat → hh_T → Prop} (H : hh_tg h a0 = 1 ∧ (gm_G 565 0 [some (.ref a0), some (.int (Int32.ofNat 0))] [] h (pI (fun v3 h2 => Q (.inl (some (.int v3))) h2) (fun e4 h5 => hh_tg h5 e4 = 21 ∧ gm_G 576 148 [some (.ref a0)] [.ref e4] h5 Q)))) : gm_G 576 142 [some (.ref a0)] [] h Q := by
  refine g_aload (r := some _) rfl rfl rfl (pc' := 143) ?_
  refine g_iconst rfl rfl rfl (pc' := 144) ?_
  obtain ⟨ht1, H⟩ := H
  refine g_call rfl (y := 565) (n := 2) (pc' := 147) (g_vt ht1 rfl rfl) rfl rfl ⟨(Nat.le_of_ble_eq_true rfl), (Nat.le_of_ble_eq_true rfl), (Nat.le_of_ble_eq_true rfl)⟩ rfl (gm_G.mono H (pI_elim (fun v3 h2 H' => ?_) (fun e4 h5 H => ?_)))
  · show gm_G _ 147 _ _ _ _
    replace H := H'
    clear H'
    exact g_ireturn rfl (Or.inl rfl) H
  · exact ⟨H.1, g_weak (show gm_Lle [some _] _ from ⟨rfl, trivial⟩) H.2⟩
set_option maxRecDepth 20000 in
theorem w_576_148 {a0 : Nat} {ex : Nat} {h : hh_T} {Q : Option Value ⊕ Nat → hh_T → Prop} (H : hh_tg h a0 = 1 ∧ (gm_G 1 0 [some (.ref a0), some (.ref ex)] [] h (pI (fun v3 h2 => Q (.inl (some (.int v3))) h2) (fun e4 h5 => hh_tg h5 e4 = 21 ∧ Q (.inr e4) h5)))) : gm_G 576 148 [some (.ref a0)] [.ref ex] h Q := by
  refine g_astore (r := some _) rfl rfl rfl (pc' := 149) ?_
  refine g_aload (r := some _) rfl rfl rfl (pc' := 150) ?_
  refine g_aload (r := some _) rfl rfl rfl (pc' := 151) ?_
  obtain ⟨ht1, H⟩ := H
  refine g_call rfl (y := 1) (n := 2) (pc' := 154) (g_vt ht1 rfl rfl) rfl rfl ⟨(Nat.le_of_ble_eq_true rfl), (Nat.le_of_ble_eq_true rfl), (Nat.le_of_ble_eq_true rfl)⟩ rfl (gm_G.mono H (pI_elim (fun v3 h2 H' => ?_) (fun e4 h5 H => ?_)))
  · show gm_G _ 154 _ _ _ _
    replace H := H'
    clear H'
    exact g_ireturn rfl (Or.inl rfl) H
  · exact H
set_option maxRecDepth 20000 in
theorem w_577_0 {a0 : Nat} {x1 : Int32} {h : hh_T} {Q : Option Value ⊕ Nat → hh_T → Prop} (H : hh_tg h a0 = 1 ∧ (gm_G 456 0 [some (.ref a0)] [] h (pV (fun h2 => hh_tg h2 a0 = 1 ∧ (gm_G 454 0 [some (.ref a0), some (.int x1)] [] h2 (pR (fun r5 h4 => ∃ a6, r5 = some a6 ∧ (gm_sub (hh_tg h4 a6) 29 = true ∧ ((¬ (hh_i h4 a6 2) = Int32.ofNat 0 → (gm_G 577 47 [some (.ref a0), some (.int x1), some (.ref a6)] [] h4 Q)) ∧ ((hh_i h4 a6 2) = Int32.ofNat 0 → (gm_sub (hh_tg h4 a0) 0 = true ∧ (∀ r9, r9 = hh_r h4 a0 33 → (∃ a10, r9 = some a10 ∧ (hh_tg h4 a10 = 23 ∧ (gm_G 175 0 [some (.ref a10), some (.int x1)] [] h4 (pI (fun v13 h12 => (¬ v13 = Int32.ofNat 0 → (gm_G 577 47 [some (.ref a0), some (.int x1), some (.ref a6)] [] h12 Q)) ∧ (v13 = Int32.ofNat 0 → (gm_sub (hh_tg h12 a0) 0 = true ∧ (∀ r15, r15 = hh_r h12 a0 51 → (∃ a16, r15 = some a16 ∧ (hh_tg h12 a16 = 15 ∧ (gm_G 75 0 [some (.ref a16), some (.int (((Int32.ofNat 2) * x1) + (Int32.ofNat 1)))] [] h12 (pI (fun v19 h18 => (¬ v19 = Int32.ofNat 0 → (gm_G 577 47 [some (.ref a0), some (.int x1), some (.ref a6)] [] h18 Q)) ∧ (v19 = Int32.ofNat 0 → (gm_G 577 48 [some (.ref a0), some (.int x1), some (.ref a6)] [.int (Int32.ofNat 1)] h18 Q))) (fun e20 h21 => hh_tg h21 e20 = 21 ∧ gm_G 577 93 [some (.ref a0)] [.ref e20] h21 Q))))))))) (fun e22 h23 => hh_tg h23 e22 = 21 ∧ gm_G 577 93 [some (.ref a0)] [.ref e22] h23 Q))))))))))) (fun e24 h25 => hh_tg h25 e24 = 21 ∧ gm_G 577 93 [some (.ref a0)] [.ref e24] h25 Q)))) (fun e26 h27 => hh_tg h27 e26 = 21 ∧ gm_G 577 93 [some (.ref a0)] [.ref e26] h27 Q)))) : gm_G 577 0 [some (.ref a0), some (.int x1)] [] h Q := by
  refine g_aload (r := some _) rfl rfl rfl (pc' := 1) ?_
  obtain ⟨ht1, H⟩ := H
  refine g_call rfl (y := 456) (n := 1) (pc' := 4) (g_vt ht1 rfl rfl) rfl rfl ⟨(Nat.le_of_ble_eq_true rfl), (Nat.le_of_ble_eq_true rfl), (Nat.le_of_ble_eq_true rfl)⟩ rfl (gm_G.mono H (pV_elim (fun h2 H' => ?_) (fun e26 h27 H => ?_)))
  · show gm_G _ 4 _ _ _ _
    replace H := H'
    clear H'
    refine g_aload (r := some _) rfl rfl rfl (pc' := 5) ?_
    refine g_iload rfl rfl rfl (pc' := 6) ?_
    obtain ⟨ht3, H⟩ := H
    refine g_call rfl (y := 454) (n := 2) (pc' := 9) (g_vt ht3 rfl rfl) rfl rfl ⟨(Nat.le_of_ble_eq_true rfl), (Nat.le_of_ble_eq_true rfl), (Nat.le_of_ble_eq_true rfl)⟩ rfl (gm_G.mono H (pR_elim (fun r5 h4 H' => ?_) (fun e24 h25 H => ?_)))
    · show gm_G _ 9 _ _ _ _
      replace H := H'
      clear H'
      refine g_astore (r := _) rfl rfl rfl (pc' := 10) ?_
      refine g_aload (r := _) rfl rfl rfl (pc' := 11) ?_
      obtain ⟨a6, rfl, H⟩ := H
      obtain ⟨ht7, H⟩ := H
      refine g_getI rfl rfl rfl rfl ht7 (pc' := 14) rfl ?_
      refine g_if_ne rfl (pc' := 17) (pt := 47) rfl rfl ⟨fun hc => ?_, fun hc => ?_⟩
      · replace H := H.1 hc
        exact g_weak (show gm_Lle [some _, some _, some _] _ from ⟨rfl, ⟨rfl, ⟨rfl, trivial⟩⟩⟩) H
      · replace H := H.2 hc
        refine g_aload (r := some _) rfl rfl rfl (pc' := 18) ?_
        obtain ⟨ht8, H⟩ := H
        refine g_getRv rfl rfl rfl rfl ht8 (pc' := 21) rfl (fun r9 hr9 => ?_)
        replace H := H r9 hr9
        refine g_iload rfl rfl rfl (pc' := 22) ?_
        obtain ⟨a10, rfl, H⟩ := H
        obtain ⟨ht11, H⟩ := H
        refine g_call rfl (y := 175) (n := 2) (pc' := 25) (g_vt ht11 rfl rfl) rfl rfl ⟨(Nat.le_of_ble_eq_true rfl), (Nat.le_of_ble_eq_true rfl), (Nat.le_of_ble_eq_true rfl)⟩ rfl (gm_G.mono H (pI_elim (fun v13 h12 H' => ?_) (fun e22 h23 H => ?_)))
        · show gm_G _ 25 _ _ _ _
          replace H := H'
          clear H'
          refine g_if_ne rfl (pc' := 28) (pt := 47) rfl rfl ⟨fun hc => ?_, fun hc => ?_⟩
          · replace H := H.1 hc
            exact g_weak (show gm_Lle [some _, some _, some _] _ from ⟨rfl, ⟨rfl, ⟨rfl, trivial⟩⟩⟩) H
          · replace H := H.2 hc
            refine g_aload (r := some _) rfl rfl rfl (pc' := 29) ?_
            obtain ⟨ht14, H⟩ := H
            refine g_getRv rfl rfl rfl rfl ht14 (pc' := 32) rfl (fun r15 hr15 => ?_)
            replace H := H r15 hr15
            refine g_iconst rfl rfl rfl (pc' := 33) ?_
            refine g_iload rfl rfl rfl (pc' := 34) ?_
            refine g_imul rfl rfl (pc' := 35) ?_
            refine g_iconst rfl rfl rfl (pc' := 36) ?_
            refine g_iadd rfl rfl (pc' := 37) ?_
            obtain ⟨a16, rfl, H⟩ := H
            obtain ⟨ht17, H⟩ := H
            refine g_call rfl (y := 75) (n := 2) (pc' := 40) (g_vt ht17 rfl rfl) rfl rfl ⟨(Nat.le_of_ble_eq_true rfl), (Nat.le_of_ble_eq_true rfl), (Nat.le_of_ble_eq_true rfl)⟩ rfl (gm_G.mono H (pI_elim (fun v19 h18 H' => ?_) (fun e20 h21 H => ?_)))
            · show gm_G _ 40 _ _ _ _
              replace H := H'
              clear H'
              refine g_if_ne rfl (pc' := 43) (pt := 47) rfl rfl ⟨fun hc => ?_, fun hc => ?_⟩
              · replace H := H.1 hc
                exact g_weak (show gm_Lle [some _, some _, some _] _ from ⟨rfl, ⟨rfl, ⟨rfl, trivial⟩⟩⟩) H
              · replace H := H.2 hc
                refine g_iconst rfl rfl rfl (pc' := 44) ?_
                refine g_goto rfl (pc' := 48) rfl ?_
                exact g_weak (show gm_Lle [some _, some _, some _] _ from ⟨rfl, ⟨rfl, ⟨rfl, trivial⟩⟩⟩) H
            · exact ⟨H.1, g_weak (show gm_Lle [some _] _ from ⟨rfl, trivial⟩) H.2⟩
        · exact ⟨H.1, g_weak (show gm_Lle [some _] _ from ⟨rfl, trivial⟩) H.2⟩
    · exact ⟨H.1, g_weak (show gm_Lle [some _] _ from ⟨rfl, trivial⟩) H.2⟩
  · exact ⟨H.1, g_weak (show gm_Lle [some _] _ from ⟨rfl, trivial⟩) H.2⟩
set_option maxRecDepth 20000 in
theorem w_577_47 {a0 : Nat} {x1 : Int32} {r_2 : Option Nat} {h : hh_T} {Q : Option Value ⊕ Nat → hh_T → Prop} (H : gm_G 577 48 [some (.ref a0), some (.int x1), some (va_rf r_2)] [.int (Int32.ofNat 0)] h Q) : gm_G 577 47 [some (.ref a0), some (.int x1), some (va_rf r_2)] [] h Q := by
  refine g_iconst rfl rfl rfl (pc' := 48) ?_
  exact g_weak (show gm_Lle [some _, some _, some _] _ from ⟨rfl, ⟨rfl, ⟨rfl, trivial⟩⟩⟩) H
set_option maxRecDepth 20000 in
theorem w_577_48 {a0 : Nat} {x1 : Int32} {r_2 : Option Nat} {y0 : Int32} {h : hh_T} {Q : Option Value ⊕ Nat → hh_T → Prop} (H : gm_G 431 0 [some (.int y0), some (.int (Int32.ofInt (-5)))] [] h (pV (fun h1 => gm_sub (hh_tg h1 a0) 0 = true ∧ (∀ r3, r3 = hh_r h1 a0 33 → (∃ a4, r_2 = some a4 ∧ (gm_sub (hh_tg h1 a4) 29 = true ∧ (∃ a6, r3 = some a6 ∧ (hh_tg h1 a6 = 23 ∧ (gm_G 178 0 [some (.ref a6), some (.int (hh_i h1 a4 1))] [] h1 (pR (fun r9 h8 => ∃ a10, r9 = some a10 ∧ (hh_tg h8 a10 = 24 ∧ (gm_G 185 0 [some (.ref a10), some (.int x1)] [] h8 (pI (fun v13 h12 => hh_tg h12 a10 = 24 ∧ (gm_G 183 0 [some (.ref a10), some (.int v13)] [] h12 (pV (fun h15 => gm_sub (hh_tg h15 a0) 0 = true ∧ (∀ r17, r17 = hh_r h15 a0 33 → (∃ a18, r17 = some a18 ∧ (hh_tg h15 a18 = 23 ∧ (gm_G 177 0 [some (.ref a18), some (.ref a4)] [] h15 (pV (fun h20 => gm_G 577 82 [some (.ref a0), none, some (.ref a4)] [] h20 Q) (fun e21 h22 => hh_tg h22 e21 = 21 ∧ gm_G 577 93 [some (.ref a0)] [.ref e21] h22 Q))))))) (fun e23 h24 => hh_tg h24 e23 = 21 ∧ gm_G 577 93 [some (.ref a0)] [.ref e23] h24 Q)))) (fun e25 h26 => hh_tg h26 e25 = 21 ∧ gm_G 577 93 [some (.ref a0)] [.ref e25] h26 Q))))) (fun e27 h28 => hh_tg h28 e27 = 21 ∧ gm_G 577 93 [some (.ref a0)] [.ref e27] h28 Q))))))))) (fun e29 h30 => hh_tg h30 e29 = 21 ∧ gm_G 577 93 [some (.ref a0)] [.ref e29] h30 Q))) : gm_G 577 48 [some (.ref a0), some (.int x1), some (va_rf r_2)] [.int y0] h Q := by
  refine g_iconst rfl rfl rfl (pc' := 50) ?_
  refine g_call rfl (y := 431) (n := 2) (pc' := 53) (fun _ => rfl) rfl rfl ⟨(Nat.le_of_ble_eq_true rfl), (Nat.le_of_ble_eq_true rfl), (Nat.le_of_ble_eq_true rfl)⟩ rfl (gm_G.mono H (pV_elim (fun h1 H' => ?_) (fun e29 h30 H => ?_)))
  · show gm_G _ 53 _ _ _ _
    replace H := H'
    clear H'
    refine g_aload (r := some _) rfl rfl rfl (pc' := 54) ?_
    obtain ⟨ht2, H⟩ := H
    refine g_getRv rfl rfl rfl rfl ht2 (pc' := 57) rfl (fun r3 hr3 => ?_)
    replace H := H r3 hr3
    refine g_aload (r := _) rfl rfl rfl (pc' := 58) ?_
    obtain ⟨a4, rfl, H⟩ := H
    obtain ⟨ht5, H⟩ := H
    refine g_getI rfl rfl rfl rfl ht5 (pc' := 61) rfl ?_
    obtain ⟨a6, rfl, H⟩ := H
    obtain ⟨ht7, H⟩ := H
    refine g_call rfl (y := 178) (n := 2) (pc' := 64) (g_vt ht7 rfl rfl) rfl rfl ⟨(Nat.le_of_ble_eq_true rfl), (Nat.le_of_ble_eq_true rfl), (Nat.le_of_ble_eq_true rfl)⟩ rfl (gm_G.mono H (pR_elim (fun r9 h8 H' => ?_) (fun e27 h28 H => ?_)))
    · show gm_G _ 64 _ _ _ _
      replace H := H'
      clear H'
      refine g_astore (r := _) rfl rfl rfl (pc' := 65) ?_
      refine g_aload (r := _) rfl rfl rfl (pc' := 66) ?_
      refine g_aload (r := _) rfl rfl rfl (pc' := 67) ?_
      refine g_iload rfl rfl rfl (pc' := 68) ?_
      obtain ⟨a10, rfl, H⟩ := H
      obtain ⟨ht11, H⟩ := H
      refine g_call rfl (y := 185) (n := 2) (pc' := 71) (g_vt ht11 rfl rfl) rfl rfl ⟨(Nat.le_of_ble_eq_true rfl), (Nat.le_of_ble_eq_true rfl), (Nat.le_of_ble_eq_true rfl)⟩ rfl (gm_G.mono H (pI_elim (fun v13 h12 H' => ?_) (fun e25 h26 H => ?_)))
      · show gm_G _ 71 _ _ _ _
        replace H := H'
        clear H'
        obtain ⟨ht14, H⟩ := H
        refine g_call rfl (y := 183) (n := 2) (pc' := 74) (g_vt ht14 rfl rfl) rfl rfl ⟨(Nat.le_of_ble_eq_true rfl), (Nat.le_of_ble_eq_true rfl), (Nat.le_of_ble_eq_true rfl)⟩ rfl (gm_G.mono H (pV_elim (fun h15 H' => ?_) (fun e23 h24 H => ?_)))
        · show gm_G _ 74 _ _ _ _
          replace H := H'
          clear H'
          refine g_aload (r := some _) rfl rfl rfl (pc' := 75) ?_
          obtain ⟨ht16, H⟩ := H
          refine g_getRv rfl rfl rfl rfl ht16 (pc' := 78) rfl (fun r17 hr17 => ?_)
          replace H := H r17 hr17
          refine g_aload (r := some _) rfl rfl rfl (pc' := 79) ?_
          obtain ⟨a18, rfl, H⟩ := H
          obtain ⟨ht19, H⟩ := H
          refine g_call rfl (y := 177) (n := 2) (pc' := 82) (g_vt ht19 rfl rfl) rfl rfl ⟨(Nat.le_of_ble_eq_true rfl), (Nat.le_of_ble_eq_true rfl), (Nat.le_of_ble_eq_true rfl)⟩ rfl (gm_G.mono H (pV_elim (fun h20 H' => ?_) (fun e21 h22 H => ?_)))
          · show gm_G _ 82 _ _ _ _
            replace H := H'
            clear H'
            exact g_weak (show gm_Lle [some _, none, some _] _ from ⟨rfl, ⟨rfl, trivial⟩⟩) H
          · exact ⟨H.1, g_weak (show gm_Lle [some _] _ from ⟨rfl, trivial⟩) H.2⟩
        · exact ⟨H.1, g_weak (show gm_Lle [some _] _ from ⟨rfl, trivial⟩) H.2⟩
      · exact ⟨H.1, g_weak (show gm_Lle [some _] _ from ⟨rfl, trivial⟩) H.2⟩
    · exact ⟨H.1, g_weak (show gm_Lle [some _] _ from ⟨rfl, trivial⟩) H.2⟩
  · exact ⟨H.1, g_weak (show gm_Lle [some _] _ from ⟨rfl, trivial⟩) H.2⟩
set_option maxRecDepth 20000 in
theorem w_577_82 {a0 : Nat} {r_2 : Option Nat} {h : hh_T} {Q : Option Value ⊕ Nat → hh_T → Prop} (H : hh_tg h a0 = 1 ∧ (gm_G 451 0 [some (.ref a0), some (va_rf r_2)] [] h (pV (fun h2 => hh_tg h2 a0 = 1 ∧ (gm_G 565 0 [some (.ref a0), some (.int (Int32.ofNat 0))] [] h2 (pI (fun v5 h4 => Q (.inl (some (.int v5))) h4) (fun e6 h7 => hh_tg h7 e6 = 21 ∧ gm_G 577 93 [some (.ref a0)] [.ref e6] h7 Q)))) (fun e8 h9 => hh_tg h9 e8 = 21 ∧ gm_G 577 93 [some (.ref a0)] [.ref e8] h9 Q)))) : gm_G 577 82 [some (.ref a0), none, some (va_rf r_2)] [] h Q := by
  refine g_aload (r := some _) rfl rfl rfl (pc' := 83) ?_
  refine g_aload (r := _) rfl rfl rfl (pc' := 84) ?_
  obtain ⟨ht1, H⟩ := H
  refine g_call rfl (y := 451) (n := 2) (pc' := 87) (g_vt ht1 rfl rfl) (by cases r_2 <;> rfl) rfl ⟨(Nat.le_of_ble_eq_true rfl), (Nat.le_of_ble_eq_true rfl), (Nat.le_of_ble_eq_true rfl)⟩ rfl (gm_G.mono H (pV_elim (fun h2 H' => ?_) (fun e8 h9 H => ?_)))
  · show gm_G _ 87 _ _ _ _
    replace H := H'
    clear H'
    refine g_aload (r := some _) rfl rfl rfl (pc' := 88) ?_
    refine g_iconst rfl rfl rfl (pc' := 89) ?_
    obtain ⟨ht3, H⟩ := H
    refine g_call rfl (y := 565) (n := 2) (pc' := 92) (g_vt ht3 rfl rfl) rfl rfl ⟨(Nat.le_of_ble_eq_true rfl), (Nat.le_of_ble_eq_true rfl), (Nat.le_of_ble_eq_true rfl)⟩ rfl (gm_G.mono H (pI_elim (fun v5 h4 H' => ?_) (fun e6 h7 H => ?_)))
    · show gm_G _ 92 _ _ _ _
      replace H := H'
      clear H'
      exact g_ireturn rfl (Or.inl rfl) H
    · exact ⟨H.1, g_weak (show gm_Lle [some _] _ from ⟨rfl, trivial⟩) H.2⟩
  · exact ⟨H.1, g_weak (show gm_Lle [some _] _ from ⟨rfl, trivial⟩) H.2⟩
set_option maxRecDepth 20000 in
theorem w_577_93 {a0 : Nat} {ex : Nat} {h : hh_T} {Q : Option Value ⊕ Nat → hh_T → Prop} (H : hh_tg h a0 = 1 ∧ (gm_G 1 0 [some (.ref a0), some (.ref ex)] [] h (pI (fun v3 h2 => Q (.inl (some (.int v3))) h2) (fun e4 h5 => hh_tg h5 e4 = 21 ∧ Q (.inr e4) h5)))) : gm_G 577 93 [some (.ref a0)] [.ref ex] h Q := by
  refine g_astore (r := some _) rfl rfl rfl (pc' := 94) ?_
  refine g_aload (r := some _) rfl rfl rfl (pc' := 95) ?_
  refine g_aload (r := some _) rfl rfl rfl (pc' := 96) ?_
  obtain ⟨ht1, H⟩ := H
  refine g_call rfl (y := 1) (n := 2) (pc' := 99) (g_vt ht1 rfl rfl) rfl rfl ⟨(Nat.le_of_ble_eq_true rfl), (Nat.le_of_ble_eq_true rfl), (Nat.le_of_ble_eq_true rfl)⟩ rfl (gm_G.mono H (pI_elim (fun v3 h2 H' => ?_) (fun e4 h5 H => ?_)))
  · show gm_G _ 99 _ _ _ _
    replace H := H'
    clear H'
    exact g_ireturn rfl (Or.inl rfl) H
  · exact H
set_option maxRecDepth 20000 in
theorem w_578_0 {a0 : Nat} {x1 : Int32} {x2 : Int32} {h : hh_T} {Q : Option Value ⊕ Nat → hh_T → Prop} (H : hh_tg h a0 = 1 ∧ (gm_G 456 0 [some (.ref a0)] [] h (pV (fun h2 => hh_tg h2 a0 = 1 ∧ (gm_G 454 0 [some (.ref a0), some (.int x1)] [] h2 (pR (fun r5 h4 => (x2 = Int32.ofNat 0 → (gm_G 578 23 [some (.ref a0), none, some (.int x2), some (va_rf r5)] [] h4 Q)) ∧ (¬ x2 = Int32.ofNat 0 → (∃ a6, r5 = some a6 ∧ (gm_sub (hh_tg h4 a6) 29 = true ∧ ((¬ (hh_i h4 a6 2) < (Int32.ofNat 100) → (gm_G 578 28 [some (.ref a0), none, some (.int x2), some (.ref a6)] [.int (Int32.ofNat 0)] h4 Q)) ∧ ((hh_i h4 a6 2) < (Int32.ofNat 100) → (gm_G 578 23 [some (.ref a0), none, some (.int x2), some (.ref a6)] [] h4 Q))))))) (fun e8 h9 => hh_tg h9 e8 = 21 ∧ gm_G 578 79 [some (.ref a0)] [.ref e8] h9 Q)))) (fun e10 h11 => hh_tg h11 e10 = 21 ∧ gm_G 578 79 [some (.ref a0)] [.ref e10] h11 Q)))) : gm_G 578 0 [some (.ref a0), some (.int x1), some (.int x2)] [] h Q := by
  refine g_aload (r := some _) rfl rfl rfl (pc' := 1) ?_
  obtain ⟨ht1, H⟩ := H
  refine g_call rfl (y := 456) (n := 1) (pc' := 4) (g_vt ht1 rfl rfl) rfl rfl ⟨(Nat.le_of_ble_eq_true rfl), (Nat.le_of_ble_eq_true rfl), (Nat.le_of_ble_eq_true rfl)⟩ rfl (gm_G.mono H (pV_elim (fun h2 H' => ?_) (fun e10 h11 H => ?_)))
  · show gm_G _ 4 _ _ _ _
    replace H := H'
    clear H'
    refine g_aload (r := some _) rfl rfl rfl (pc' := 5) ?_
    refine g_iload rfl rfl rfl (pc' := 6) ?_
    obtain ⟨ht3, H⟩ := H
    refine g_call rfl (y := 454) (n := 2) (pc' := 9) (g_vt ht3 rfl rfl) rfl rfl ⟨(Nat.le_of_ble_eq_true rfl), (Nat.le_of_ble_eq_true rfl), (Nat.le_of_ble_eq_true rfl)⟩ rfl (gm_G.mono H (pR_elim (fun r5 h4 H' => ?_) (fun e8 h9 H => ?_)))
    · show gm_G _ 9 _ _ _ _
      replace H := H'
      clear H'
      refine g_astore (r := _) rfl rfl rfl (pc' := 10) ?_
      refine g_iload rfl rfl rfl (pc' := 11) ?_
      refine g_if_eq rfl (pc' := 14) (pt := 23) rfl rfl ⟨fun hc => ?_, fun hc => ?_⟩
      · replace H := H.1 hc
        exact g_weak (show gm_Lle [some _, none, some _, some _] _ from ⟨rfl, ⟨rfl, ⟨rfl, trivial⟩⟩⟩) H
      · replace H := H.2 hc
        refine g_aload (r := _) rfl rfl rfl (pc' := 15) ?_
        obtain ⟨a6, rfl, H⟩ := H
        obtain ⟨ht7, H⟩ := H
        refine g_getI rfl rfl rfl rfl ht7 (pc' := 18) rfl ?_
        refine g_iconst rfl rfl rfl (pc' := 20) ?_
        refine g_ic_ge rfl (pc' := 23) (pt := 27) rfl rfl ⟨fun hc => ?_, fun hc => ?_⟩
        · replace H := H.1 hc
          refine g_iconst rfl rfl rfl (pc' := 28) ?_
          exact g_weak (show gm_Lle [some _, none, some _, some _] _ from ⟨rfl, ⟨rfl, ⟨rfl, trivial⟩⟩⟩) H
        · replace H := H.2 hc
          exact g_weak (show gm_Lle [some _, none, some _, some _] _ from ⟨rfl, ⟨rfl, ⟨rfl, trivial⟩⟩⟩) H
    · exact ⟨H.1, g_weak (show gm_Lle [some _] _ from ⟨rfl, trivial⟩) H.2⟩
  · exact ⟨H.1, g_weak (show gm_Lle [some _] _ from ⟨rfl, trivial⟩) H.2⟩
