/-! STAGE 2, 7: the component, label by label (printed) -/
set_option maxRecDepth 20000 in
theorem w_619_102 {a0 : Nat} {r_1 : Option Nat} {r_3 : Option Nat} {x4 : Int32} {x5 : Int32} {y0 : Int32} {h : hh_T} {Q : Option Value ⊕ Nat → hh_T → Prop} (H : gm_G 431 0 [some (.int y0), some (.int (Int32.ofInt (-3)))] [] h (pV (fun h1 => ∃ n4, x5.toNatClampNeg = n4 ∧ (0 ≤ x5 ∧ x5 ≤ 100000) ∧ (∀ a2 h3, a2 = hh_sz h1 → h3 = hh_al h1 101 n4 n4 → (gm_G 619 116 [some (.ref a0), some (va_rf r_1), none, some (va_rf r_3), some (.int x4), some (.int x5), some (.ref a2), some (.int (Int32.ofNat 0))] [] h3 Q))) (fun e5 h6 => hh_tg h6 e5 = 21 ∧ Q (.inr e5) h6))) : gm_G 619 102 [some (.ref a0), some (va_rf r_1), none, some (va_rf r_3), some (.int x4), some (.int x5)] [.int y0] h Q := by
  refine g_iconst rfl rfl rfl (pc' := 104) ?_
  refine g_call rfl (y := 431) (n := 2) (pc' := 107) (fun _ => rfl) rfl rfl ⟨(Nat.le_of_ble_eq_true rfl), (Nat.le_of_ble_eq_true rfl), (Nat.le_of_ble_eq_true rfl)⟩ rfl (gm_G.mono H (pV_elim (fun h1 H' => ?_) (fun e5 h6 H => ?_)))
  · show gm_G _ 107 _ _ _ _
    replace H := H'
    clear H'
    refine g_iload rfl rfl rfl (pc' := 109) ?_
    obtain ⟨n4, Hn, Hr, H⟩ := H
    refine g_newarray rfl (u := 101) (n := n4) rfl (by decide) Hn Hr (pc' := 111) rfl ?_
    replace H := H _ _ rfl rfl
    refine g_astore (r := some _) rfl rfl rfl (pc' := 113) ?_
    refine g_iconst rfl rfl rfl (pc' := 114) ?_
    refine g_istore rfl rfl rfl (pc' := 116) ?_
    exact g_weak (show gm_Lle [some _, some _, none, some _, some _, some _, some _, some _] _ from ⟨rfl, ⟨rfl, ⟨rfl, ⟨rfl, ⟨rfl, ⟨rfl, ⟨rfl, trivial⟩⟩⟩⟩⟩⟩⟩) H
  · exact H
set_option maxRecDepth 20000 in
theorem w_619_116 {a0 : Nat} {r_1 : Option Nat} {r_3 : Option Nat} {x4 : Int32} {x5 : Int32} {r_6 : Option Nat} {x7 : Int32} {h : hh_T} {Q : Option Value ⊕ Nat → hh_T → Prop} (H : (¬ x7 < x5 → (gm_sub (hh_tg h a0) 17 = true ∧ (∀ r2, r2 = hh_r h a0 11 → (∀ a3 h4, a3 = hh_sz h → h4 = hh_al h 45 0 8 → (gm_sub (hh_tg h4 a0) 17 = true ∧ (∀ r6, r6 = hh_r h4 a0 11 → (gm_G 388 0 [some (.ref a3), some (va_rf r6), some (.int (hh_i h4 a0 7)), some (.int (hh_i h4 a0 10)), some (.int x4), some (va_rf r_6)] [] h4 (pV (fun h7 => ∃ a8, r2 = some a8 ∧ (hh_tg h7 a8 = 1 ∧ (gm_G 605 0 [some (.ref a8), some (va_rf r_3), some (.ref a3)] [] h7 (pV (fun h10 => gm_sub (hh_tg h10 a0) 17 = true ∧ (∀ r12, r12 = hh_r h10 a0 11 → (∃ a13, r12 = some a13 ∧ (gm_sub (hh_tg h10 a13) 0 = true ∧ (∀ r15, r15 = hh_r h10 a13 52 → (∃ a16, r15 = some a16 ∧ (hh_tg h10 a16 = 16 ∧ (gm_G 262 0 [some (.ref a16), some (va_rf r_3), some (.int (Int32.ofNat 5)), some (.int (hh_i h10 a0 10))] [] h10 (pV (fun h18 => gm_G 619 194 [none, some (va_rf r_1), none, none, none, some (.int x5)] [] h18 Q) (fun e19 h20 => hh_tg h20 e19 = 21 ∧ Q (.inr e19) h20)))))))))) (fun e21 h22 => hh_tg h22 e21 = 21 ∧ Q (.inr e21) h22))))) (fun e23 h24 => hh_tg h24 e23 = 21 ∧ Q (.inr e23) h24))))))))) ∧ (x7 < x5 → (gm_sub (hh_tg h a0) 17 = true ∧ (∀ r26, r26 = hh_r h a0 6 → (∃ a27, r26 = some a27 ∧ (gm_sub (hh_tg h a27) 12 = true ∧ (∀ r29, r29 = hh_r h a27 0 → (∃ a30, r29 = some a30 ∧ ((hh_tg h a30 = 101 ∨ hh_tg h a30 = 102) ∧ (∃ n31, gm_ix ((Int32.ofNat 8) + x7) n31 (hh_ln h a30) ∧ (∃ a33, r_6 = some a33 ∧ (hh_tg h a33 = 101 ∧ (∃ n34, gm_ix x7 n34 (hh_ln h a33) ∧ (∀ h35, h35 = hh_wi h a33 n34 ((hh_i h a30 n31).toInt8.toInt32) → (gm_G 619 116 [some (.ref a0), some (va_rf r_1), none, some (va_rf r_3), some (.int x4), some (.int x5), some (.ref a33), some (.int (x7 + (Int32.ofNat 1)))] [] h35 Q))))))))))))))) : gm_G 619 116 [some (.ref a0), some (va_rf r_1), none, some (va_rf r_3), some (.int x4), some (.int x5), some (va_rf r_6), some (.int x7)] [] h Q := by
  refine g_iload rfl rfl rfl (pc' := 118) ?_
  refine g_iload rfl rfl rfl (pc' := 120) ?_
  refine g_ic_ge rfl (pc' := 123) (pt := 147) rfl rfl ⟨fun hc => ?_, fun hc => ?_⟩
  · replace H := H.1 hc
    refine g_aload (r := some _) rfl rfl rfl (pc' := 148) ?_
    obtain ⟨ht1, H⟩ := H
    refine g_getRv rfl rfl rfl rfl ht1 (pc' := 151) rfl (fun r2 hr2 => ?_)
    replace H := H r2 hr2
    refine g_aload (r := _) rfl rfl rfl (pc' := 152) ?_
    refine g_new rfl (t := 45) (s := 8) rfl rfl (pc' := 155) rfl ?_
    replace H := H _ _ rfl rfl
    refine g_dup_a (r := some _) rfl rfl (pc' := 156) ?_
    refine g_aload (r := some _) rfl rfl rfl (pc' := 157) ?_
    obtain ⟨ht5, H⟩ := H
    refine g_getRv rfl rfl rfl rfl ht5 (pc' := 160) rfl (fun r6 hr6 => ?_)
    replace H := H r6 hr6
    refine g_aload (r := some _) rfl rfl rfl (pc' := 161) ?_
    refine g_getI rfl rfl rfl rfl ht5 (pc' := 164) rfl ?_
    refine g_aload (r := some _) rfl rfl rfl (pc' := 165) ?_
    refine g_getI rfl rfl rfl rfl ht5 (pc' := 168) rfl ?_
    refine g_iload rfl rfl rfl (pc' := 170) ?_
    refine g_aload (r := _) rfl rfl rfl (pc' := 172) ?_
    refine g_call rfl (y := 388) (n := 6) (pc' := 175) (fun _ => rfl) (by cases r6 <;> cases r_6 <;> rfl) rfl ⟨(Nat.le_of_ble_eq_true rfl), (Nat.le_of_ble_eq_true rfl), (Nat.le_of_ble_eq_true rfl)⟩ rfl (gm_G.mono H (pV_elim (fun h7 H' => ?_) (fun e23 h24 H => ?_)))
    · show gm_G _ 175 _ _ _ _
      replace H := H'
      clear H'
      obtain ⟨a8, rfl, H⟩ := H
      obtain ⟨ht9, H⟩ := H
      refine g_call rfl (y := 605) (n := 3) (pc' := 178) (g_vt ht9 rfl rfl) (by cases r_3 <;> rfl) rfl ⟨(Nat.le_of_ble_eq_true rfl), (Nat.le_of_ble_eq_true rfl), (Nat.le_of_ble_eq_true rfl)⟩ rfl (gm_G.mono H (pV_elim (fun h10 H' => ?_) (fun e21 h22 H => ?_)))
      · show gm_G _ 178 _ _ _ _
        replace H := H'
        clear H'
        refine g_aload (r := some _) rfl rfl rfl (pc' := 179) ?_
        obtain ⟨ht11, H⟩ := H
        refine g_getRv rfl rfl rfl rfl ht11 (pc' := 182) rfl (fun r12 hr12 => ?_)
        replace H := H r12 hr12
        obtain ⟨a13, rfl, H⟩ := H
        obtain ⟨ht14, H⟩ := H
        refine g_getRv rfl rfl rfl rfl ht14 (pc' := 185) rfl (fun r15 hr15 => ?_)
        replace H := H r15 hr15
        refine g_aload (r := _) rfl rfl rfl (pc' := 186) ?_
        refine g_iconst rfl rfl rfl (pc' := 187) ?_
        refine g_aload (r := some _) rfl rfl rfl (pc' := 188) ?_
        refine g_getI rfl rfl rfl rfl ht11 (pc' := 191) rfl ?_
        obtain ⟨a16, rfl, H⟩ := H
        obtain ⟨ht17, H⟩ := H
        refine g_call rfl (y := 262) (n := 4) (pc' := 194) (g_vt ht17 rfl rfl) (by cases r_3 <;> rfl) rfl ⟨(Nat.le_of_ble_eq_true rfl), (Nat.le_of_ble_eq_true rfl), (Nat.le_of_ble_eq_true rfl)⟩ rfl (gm_G.mono H (pV_elim (fun h18 H' => ?_) (fun e19 h20 H => ?_)))
        · show gm_G _ 194 _ _ _ _
          replace H := H'
          clear H'
          exact g_weak (show gm_Lle [none, some _, none, none, none, some _] _ from ⟨rfl, ⟨rfl, trivial⟩⟩) H
        · exact H
      · exact H
    · exact H
  · replace H := H.2 hc
    refine g_aload (r := _) rfl rfl rfl (pc' := 125) ?_
    refine g_iload rfl rfl rfl (pc' := 127) ?_
    refine g_aload (r := some _) rfl rfl rfl (pc' := 128) ?_
    obtain ⟨ht25, H⟩ := H
    refine g_getRv rfl rfl rfl rfl ht25 (pc' := 131) rfl (fun r26 hr26 => ?_)
    replace H := H r26 hr26
    obtain ⟨a27, rfl, H⟩ := H
    obtain ⟨ht28, H⟩ := H
    refine g_getRv rfl rfl rfl rfl ht28 (pc' := 134) rfl (fun r29 hr29 => ?_)
    replace H := H r29 hr29
    refine g_iconst rfl rfl rfl (pc' := 136) ?_
    refine g_iload rfl rfl rfl (pc' := 138) ?_
    refine g_iadd rfl rfl (pc' := 139) ?_
    obtain ⟨a30, rfl, H⟩ := H
    obtain ⟨ht32, H⟩ := H
    obtain ⟨n31, hn31, H⟩ := H
    refine g_baload rfl ht32 hn31 (pc' := 140) rfl ?_
    obtain ⟨a33, rfl, H⟩ := H
    obtain ⟨ht36, H⟩ := H
    obtain ⟨n34, hn34, H⟩ := H
    refine g_bastore rfl ht36 hn34  (pc' := 141) rfl ?_
    replace H := H _ rfl
    refine g_iinc (c := (Int32.ofNat 1)) rfl rfl rfl rfl rfl (pc' := 144) ?_
    refine g_goto rfl (pc' := 116) rfl ?_
    exact g_weak (show gm_Lle [some _, some _, none, some _, some _, some _, some _, some _] _ from ⟨rfl, ⟨rfl, ⟨rfl, ⟨rfl, ⟨rfl, ⟨rfl, ⟨rfl, trivial⟩⟩⟩⟩⟩⟩⟩) H
set_option maxRecDepth 20000 in
theorem w_619_194 {a0 : Nat} {r_1 : Option Nat} {x5 : Int32} {h : hh_T} {Q : Option Value ⊕ Nat → hh_T → Prop} (H : ∃ a1, r_1 = some a1 ∧ (hh_tg h a1 = 13 ∧ (gm_G 459 0 [some (.ref a1), some (.int x5)] [] h (pV (fun h3 => Q (.inl none) h3) (fun e4 h5 => hh_tg h5 e4 = 21 ∧ Q (.inr e4) h5))))) : gm_G 619 194 [none, some (va_rf r_1), none, none, none, some (.int x5)] [] h Q := by
  refine g_aload (r := _) rfl rfl rfl (pc' := 195) ?_
  refine g_iload rfl rfl rfl (pc' := 197) ?_
  obtain ⟨a1, rfl, H⟩ := H
  obtain ⟨ht2, H⟩ := H
  refine g_call rfl (y := 459) (n := 2) (pc' := 200) (g_vt ht2 rfl rfl) rfl rfl ⟨(Nat.le_of_ble_eq_true rfl), (Nat.le_of_ble_eq_true rfl), (Nat.le_of_ble_eq_true rfl)⟩ rfl (gm_G.mono H (pV_elim (fun h3 H' => ?_) (fun e4 h5 H => ?_)))
  · show gm_G _ 200 _ _ _ _
    replace H := H'
    clear H'
    exact g_return rfl H
  · exact H
set_option maxRecDepth 20000 in
theorem w_620_0 {a0 : Nat} {r_1 : Option Nat} {x2 : Int32} {x3 : Int32} {x4 : Int32} {h : hh_T} {Q : Option Value ⊕ Nat → hh_T → Prop} (H : ∃ a1, r_1 = some a1 ∧ (gm_sub (hh_tg h a1) 23 = true ∧ (∀ r3, r3 = hh_r h a1 9 → (∃ a4, r3 = some a4 ∧ (gm_sub (hh_tg h a4) 24 = true ∧ (∀ r6, r6 = hh_r h a4 2 → (∃ a7, r6 = some a7 ∧ ((hh_tg h a7 = 104 ∨ 200 ≤ hh_tg h a7) ∧ (0 < hh_ln h a7 ∧ (∀ r10, r10 = hh_r h a7 0 → ((∀ b, r10 = some b → gm_sub (hh_tg h b) 26 = true) ∧ ((¬ (0 ≤ x3.toInt ∧ x3.toInt ≤ 4) → (gm_sub (hh_tg h a0) 0 = true ∧ (∀ r12, r12 = hh_r h a0 56 → (∃ a13, r12 = some a13 ∧ (hh_tg h a13 = 18 ∧ (gm_G 267 0 [some (.ref a13), some (.int (hh_i h a1 0))] [] h (pI (fun v16 h15 => (v16 = x2 → (gm_sub (hh_tg h15 a0) 0 = true ∧ (∀ r18, r18 = hh_r h15 a0 56 → (gm_sub (hh_tg h15 a1) 23 = true ∧ (∃ a20, r18 = some a20 ∧ (hh_tg h15 a20 = 18 ∧ (gm_G 268 0 [some (.ref a20), some (.int (hh_i h15 a1 0))] [] h15 (pV (fun h22 => Q (.inl (some (.int (Int32.ofNat 1)))) h22) (fun e23 h24 => hh_tg h24 e23 = 21 ∧ Q (.inr e23) h24))))))))) ∧ (¬ v16 = x2 → (gm_G 620 257 [] [] h15 Q))) (fun e25 h26 => hh_tg h26 e25 = 21 ∧ Q (.inr e25) h26)))))))) ∧ (x3.toInt = 0 → (∃ a27, r10 = some a27 ∧ (gm_sub (hh_tg h a27) 26 = true ∧ (∀ r29, r29 = hh_r h a27 12 → (∃ a30, r29 = some a30 ∧ ((hh_tg h a30 = 104 ∨ 200 ≤ hh_tg h a30) ∧ (∃ n31, gm_ix x4 n31 (hh_ln h a30) ∧ (∀ r33, r33 = hh_r h a30 n31 → (gm_sub (hh_tg h a0) 0 = true ∧ (∀ r35, r35 = hh_r h a0 46 → (hh_tg h a0 = 1 ∧ (gm_G 592 0 [some (.ref a0), some (va_rf r33), some (va_rf r35), some (.int ((Int32.ofNat 32) * x4))] [] h (pV (fun h37 => gm_sub (hh_tg h37 a0) 0 = true ∧ (∀ r39, r39 = hh_r h37 a0 59 → (∃ a40, r39 = some a40 ∧ (gm_sub (hh_tg h37 a40) 12 = true ∧ (∀ h42, h42 = hh_wi h37 a40 1 (Int32.ofNat 0) → (gm_G 620 85 [some (.ref a0), none, none, none, none, some (.int ((Int32.ofNat 32) * x4)), none, some (.int (Int32.ofNat 0))] [] h42 Q)))))) (fun e43 h44 => hh_tg h44 e43 = 21 ∧ Q (.inr e43) h44)))))))))))))) ∧ (x3.toInt = 1 → (hh_tg h a0 = 1 ∧ (gm_G 613 0 [some (.ref a0), some (.ref a1), some (.int ((Int32.ofNat 32) * x4)), some (.int (Int32.ofNat 0))] [] h (pV (fun h46 => Q (.inl (some (.int (Int32.ofNat 0)))) h46) (fun e47 h48 => hh_tg h48 e47 = 21 ∧ Q (.inr e47) h48))))) ∧ (x3.toInt = 2 → (∃ a49, r10 = some a49 ∧ (gm_sub (hh_tg h a49) 26 = true ∧ (∀ r51, r51 = hh_r h a49 12 → (∃ a52, r51 = some a52 ∧ ((hh_tg h a52 = 104 ∨ 200 ≤ hh_tg h a52) ∧ (∃ n53, gm_ix x4 n53 (hh_ln h a52) ∧ (∀ r55, r55 = hh_r h a52 n53 → (gm_sub (hh_tg h a0) 0 = true ∧ (∀ r57, r57 = hh_r h a0 46 → (hh_tg h a0 = 1 ∧ (gm_G 592 0 [some (.ref a0), some (va_rf r55), some (va_rf r57), some (.int ((Int32.ofNat 32) * x4))] [] h (pV (fun h59 => gm_G 620 149 [some (.ref a0), some (.ref a1), none, none, none, some (.int ((Int32.ofNat 32) * x4)), none, some (.int (Int32.ofNat 0))] [] h59 Q) (fun e60 h61 => hh_tg h61 e60 = 21 ∧ Q (.inr e60) h61)))))))))))))) ∧ (x3.toInt = 3 → (∀ a62 h63, a62 = hh_sz h → h63 = hh_al h 46 0 8 → (gm_sub (hh_tg h63 a0) 0 = true ∧ (gm_G 389 0 [some (.ref a62), some (.ref a0), some (.int (hh_i h63 a0 41)), some (.int (Int32.ofNat 0)), some (.int ((Int32.ofNat 32) * x4)), some (.int (Int32.ofNat 32))] [] h63 (pV (fun h65 => hh_tg h65 a0 = 1 ∧ (gm_G 605 0 [some (.ref a0), some (.ref a1), some (.ref a62)] [] h65 (pV (fun h67 => Q (.inl (some (.int (Int32.ofNat 0)))) h67) (fun e68 h69 => hh_tg h69 e68 = 21 ∧ Q (.inr e68) h69)))) (fun e70 h71 => hh_tg h71 e70 = 21 ∧ Q (.inr e70) h71)))))) ∧ (x3.toInt = 4 → (gm_sub (hh_tg h a0) 0 = true ∧ (∀ r73, r73 = hh_r h a0 56 → (∃ a74, r73 = some a74 ∧ (hh_tg h a74 = 18 ∧ (gm_G 266 0 [some (.ref a74), some (.int (hh_i h a1 0)), some (.int x2)] [] h (pV (fun h76 => Q (.inl (some (.int (Int32.ofNat 0)))) h76) (fun e77 h78 => hh_tg h78 e77 = 21 ∧ Q (.inr e77) h78)))))))))))))))))))) : gm_G 620 0 [some (.ref a0), some (va_rf r_1), some (.int x2), some (.int x3), some (.int x4)] [] h Q := by
  refine g_iconst rfl rfl rfl (pc' := 2) ?_
  refine g_iload rfl rfl rfl (pc' := 4) ?_
  refine g_imul rfl rfl (pc' := 5) ?_
  refine g_istore rfl rfl rfl (pc' := 7) ?_
  refine g_aload (r := _) rfl rfl rfl (pc' := 8) ?_
  obtain ⟨a1, rfl, H⟩ := H
  obtain ⟨ht2, H⟩ := H
  refine g_getRv rfl rfl rfl rfl ht2 (pc' := 11) rfl (fun r3 hr3 => ?_)
  replace H := H r3 hr3
  obtain ⟨a4, rfl, H⟩ := H
  obtain ⟨ht5, H⟩ := H
  refine g_getRv rfl rfl rfl rfl ht5 (pc' := 14) rfl (fun r6 hr6 => ?_)
  replace H := H r6 hr6
  refine g_iconst rfl rfl rfl (pc' := 15) ?_
  obtain ⟨a7, rfl, H⟩ := H
  obtain ⟨ht9, H⟩ := H
  obtain ⟨hn8, H⟩ := H
  refine g_aaloadv rfl ht9 ⟨rfl, by decide, hn8⟩ (pc' := 16) rfl (fun r10 hr10 => ?_)
  replace H := H r10 hr10
  obtain ⟨Hc, H⟩ := H
  refine g_cast rfl Hc (pc' := 19) rfl ?_
  refine g_astore (r := _) rfl rfl rfl (pc' := 21) ?_
  refine g_iload rfl rfl rfl (pc' := 22) ?_
  refine g_switch rfl ⟨fun hc => ?_, fun hc => ?_⟩
  · replace H := H.1 (fun hq => by omega)
    refine g_aload (r := some _) rfl rfl rfl (pc' := 243) ?_
    obtain ⟨ht11, H⟩ := H
    refine g_getRv rfl rfl rfl rfl ht11 (pc' := 246) rfl (fun r12 hr12 => ?_)
    replace H := H r12 hr12
    refine g_aload (r := some _) rfl rfl rfl (pc' := 247) ?_
    refine g_getI rfl rfl rfl rfl ht2 (pc' := 250) rfl ?_
    obtain ⟨a13, rfl, H⟩ := H
    obtain ⟨ht14, H⟩ := H
    refine g_call rfl (y := 267) (n := 2) (pc' := 253) (g_vt ht14 rfl rfl) rfl rfl ⟨(Nat.le_of_ble_eq_true rfl), (Nat.le_of_ble_eq_true rfl), (Nat.le_of_ble_eq_true rfl)⟩ rfl (gm_G.mono H (pI_elim (fun v16 h15 H' => ?_) (fun e25 h26 H => ?_)))
    · show gm_G _ 253 _ _ _ _
      replace H := H'
      clear H'
      refine g_iload rfl rfl rfl (pc' := 254) ?_
      refine g_ic_eq rfl (pc' := 257) (pt := 259) rfl rfl ⟨fun hc => ?_, fun hc => ?_⟩
      · replace H := H.1 hc
        refine g_aload (r := some _) rfl rfl rfl (pc' := 260) ?_
        obtain ⟨ht17, H⟩ := H
        refine g_getRv rfl rfl rfl rfl ht17 (pc' := 263) rfl (fun r18 hr18 => ?_)
        replace H := H r18 hr18
        refine g_aload (r := some _) rfl rfl rfl (pc' := 264) ?_
        obtain ⟨ht19, H⟩ := H
        refine g_getI rfl rfl rfl rfl ht19 (pc' := 267) rfl ?_
        obtain ⟨a20, rfl, H⟩ := H
        obtain ⟨ht21, H⟩ := H
        refine g_call rfl (y := 268) (n := 2) (pc' := 270) (g_vt ht21 rfl rfl) rfl rfl ⟨(Nat.le_of_ble_eq_true rfl), (Nat.le_of_ble_eq_true rfl), (Nat.le_of_ble_eq_true rfl)⟩ rfl (gm_G.mono H (pV_elim (fun h22 H' => ?_) (fun e23 h24 H => ?_)))
        · show gm_G _ 270 _ _ _ _
          replace H := H'
          clear H'
          refine g_iconst rfl rfl rfl (pc' := 271) ?_
          exact g_ireturn rfl (Or.inl rfl) H
        · exact H
      · replace H := H.2 hc
        exact g_weak (show gm_Lle [] _ from trivial) H
    · exact H
  · replace H := H.2
    have hq : x3.toInt = 0 ∨ x3.toInt = 1 ∨ x3.toInt = 2 ∨ x3.toInt = 3 ∨ x3.toInt = 4 := by omega
    rcases hq with hq | hq | hq | hq | hq
    · replace H := (H.1) hq
      refine ⟨56, by rw [hq]; rfl, ?_⟩
      show gm_G _ 56 _ _ _ _
      refine g_aload (r := some _) rfl rfl rfl (pc' := 57) ?_
      refine g_aload (r := _) rfl rfl rfl (pc' := 59) ?_
      obtain ⟨a27, rfl, H⟩ := H
      obtain ⟨ht28, H⟩ := H
      refine g_getRv rfl rfl rfl rfl ht28 (pc' := 62) rfl (fun r29 hr29 => ?_)
      replace H := H r29 hr29
      refine g_iload rfl rfl rfl (pc' := 64) ?_
      obtain ⟨a30, rfl, H⟩ := H
      obtain ⟨ht32, H⟩ := H
      obtain ⟨n31, hn31, H⟩ := H
      refine g_aaloadv rfl ht32 hn31 (pc' := 65) rfl (fun r33 hr33 => ?_)
      replace H := H r33 hr33
      refine g_aload (r := some _) rfl rfl rfl (pc' := 66) ?_
      obtain ⟨ht34, H⟩ := H
      refine g_getRv rfl rfl rfl rfl ht34 (pc' := 69) rfl (fun r35 hr35 => ?_)
      replace H := H r35 hr35
      refine g_iload rfl rfl rfl (pc' := 71) ?_
      obtain ⟨ht36, H⟩ := H
      refine g_call rfl (y := 592) (n := 4) (pc' := 74) (g_vt ht36 rfl rfl) (by cases r33 <;> cases r35 <;> rfl) rfl ⟨(Nat.le_of_ble_eq_true rfl), (Nat.le_of_ble_eq_true rfl), (Nat.le_of_ble_eq_true rfl)⟩ rfl (gm_G.mono H (pV_elim (fun h37 H' => ?_) (fun e43 h44 H => ?_)))
      · show gm_G _ 74 _ _ _ _
        replace H := H'
        clear H'
        refine g_aload (r := some _) rfl rfl rfl (pc' := 75) ?_
        obtain ⟨ht38, H⟩ := H
        refine g_getRv rfl rfl rfl rfl ht38 (pc' := 78) rfl (fun r39 hr39 => ?_)
        replace H := H r39 hr39
        refine g_iconst rfl rfl rfl (pc' := 79) ?_
        obtain ⟨a40, rfl, H⟩ := H
        obtain ⟨ht41, H⟩ := H
        refine g_putI rfl rfl rfl rfl ht41  (pc' := 82) rfl ?_
        replace H := H _ rfl
        refine g_iconst rfl rfl rfl (pc' := 83) ?_
        refine g_istore rfl rfl rfl (pc' := 85) ?_
        exact g_weak (show gm_Lle [some _, none, none, none, none, some _, none, some _] _ from ⟨rfl, ⟨rfl, ⟨rfl, trivial⟩⟩⟩) H
      · exact H
    · replace H := (H.2.1) hq
      refine ⟨118, by rw [hq]; rfl, ?_⟩
      show gm_G _ 118 _ _ _ _
      refine g_aload (r := some _) rfl rfl rfl (pc' := 119) ?_
      refine g_aload (r := some _) rfl rfl rfl (pc' := 120) ?_
      refine g_iload rfl rfl rfl (pc' := 122) ?_
      refine g_iconst rfl rfl rfl (pc' := 123) ?_
      obtain ⟨ht45, H⟩ := H
      refine g_call rfl (y := 613) (n := 4) (pc' := 126) (g_vt ht45 rfl rfl) rfl rfl ⟨(Nat.le_of_ble_eq_true rfl), (Nat.le_of_ble_eq_true rfl), (Nat.le_of_ble_eq_true rfl)⟩ rfl (gm_G.mono H (pV_elim (fun h46 H' => ?_) (fun e47 h48 H => ?_)))
      · show gm_G _ 126 _ _ _ _
        replace H := H'
        clear H'
        refine g_iconst rfl rfl rfl (pc' := 127) ?_
        exact g_ireturn rfl (Or.inl rfl) H
      · exact H
    · replace H := (H.2.2.1) hq
      refine ⟨128, by rw [hq]; rfl, ?_⟩
      show gm_G _ 128 _ _ _ _
      refine g_aload (r := some _) rfl rfl rfl (pc' := 129) ?_
      refine g_aload (r := _) rfl rfl rfl (pc' := 131) ?_
      obtain ⟨a49, rfl, H⟩ := H
      obtain ⟨ht50, H⟩ := H
      refine g_getRv rfl rfl rfl rfl ht50 (pc' := 134) rfl (fun r51 hr51 => ?_)
      replace H := H r51 hr51
      refine g_iload rfl rfl rfl (pc' := 136) ?_
      obtain ⟨a52, rfl, H⟩ := H
      obtain ⟨ht54, H⟩ := H
      obtain ⟨n53, hn53, H⟩ := H
      refine g_aaloadv rfl ht54 hn53 (pc' := 137) rfl (fun r55 hr55 => ?_)
      replace H := H r55 hr55
      refine g_aload (r := some _) rfl rfl rfl (pc' := 138) ?_
      obtain ⟨ht56, H⟩ := H
      refine g_getRv rfl rfl rfl rfl ht56 (pc' := 141) rfl (fun r57 hr57 => ?_)
      replace H := H r57 hr57
      refine g_iload rfl rfl rfl (pc' := 143) ?_
      obtain ⟨ht58, H⟩ := H
      refine g_call rfl (y := 592) (n := 4) (pc' := 146) (g_vt ht58 rfl rfl) (by cases r55 <;> cases r57 <;> rfl) rfl ⟨(Nat.le_of_ble_eq_true rfl), (Nat.le_of_ble_eq_true rfl), (Nat.le_of_ble_eq_true rfl)⟩ rfl (gm_G.mono H (pV_elim (fun h59 H' => ?_) (fun e60 h61 H => ?_)))
      · show gm_G _ 146 _ _ _ _
        replace H := H'
        clear H'
        refine g_iconst rfl rfl rfl (pc' := 147) ?_
        refine g_istore rfl rfl rfl (pc' := 149) ?_
        exact g_weak (show gm_Lle [some _, some _, none, none, none, some _, none, some _] _ from ⟨rfl, ⟨rfl, ⟨rfl, ⟨rfl, trivial⟩⟩⟩⟩) H
      · exact H
    · replace H := (H.2.2.2.1) hq
      refine ⟨204, by rw [hq]; rfl, ?_⟩
      show gm_G _ 204 _ _ _ _
      refine g_aload (r := some _) rfl rfl rfl (pc' := 205) ?_
      refine g_aload (r := some _) rfl rfl rfl (pc' := 206) ?_
      refine g_new rfl (t := 46) (s := 8) rfl rfl (pc' := 209) rfl ?_
      replace H := H _ _ rfl rfl
      refine g_dup_a (r := some _) rfl rfl (pc' := 210) ?_
      refine g_aload (r := some _) rfl rfl rfl (pc' := 211) ?_
      refine g_aload (r := some _) rfl rfl rfl (pc' := 212) ?_
      obtain ⟨ht64, H⟩ := H
      refine g_getI rfl rfl rfl rfl ht64 (pc' := 215) rfl ?_
      refine g_iconst rfl rfl rfl (pc' := 216) ?_
      refine g_iload rfl rfl rfl (pc' := 218) ?_
      refine g_iconst rfl rfl rfl (pc' := 220) ?_
      refine g_call rfl (y := 389) (n := 6) (pc' := 223) (fun _ => rfl) rfl rfl ⟨(Nat.le_of_ble_eq_true rfl), (Nat.le_of_ble_eq_true rfl), (Nat.le_of_ble_eq_true rfl)⟩ rfl (gm_G.mono H (pV_elim (fun h65 H' => ?_) (fun e70 h71 H => ?_)))
      · show gm_G _ 223 _ _ _ _
        replace H := H'
        clear H'
        obtain ⟨ht66, H⟩ := H
        refine g_call rfl (y := 605) (n := 3) (pc' := 226) (g_vt ht66 rfl rfl) rfl rfl ⟨(Nat.le_of_ble_eq_true rfl), (Nat.le_of_ble_eq_true rfl), (Nat.le_of_ble_eq_true rfl)⟩ rfl (gm_G.mono H (pV_elim (fun h67 H' => ?_) (fun e68 h69 H => ?_)))
        · show gm_G _ 226 _ _ _ _
          replace H := H'
          clear H'
          refine g_iconst rfl rfl rfl (pc' := 227) ?_
          exact g_ireturn rfl (Or.inl rfl) H
        · exact H
      · exact H
    · replace H := (H.2.2.2.2) hq
      refine ⟨228, by rw [hq]; rfl, ?_⟩
      show gm_G _ 228 _ _ _ _
      refine g_aload (r := some _) rfl rfl rfl (pc' := 229) ?_
      obtain ⟨ht72, H⟩ := H
      refine g_getRv rfl rfl rfl rfl ht72 (pc' := 232) rfl (fun r73 hr73 => ?_)
      replace H := H r73 hr73
      refine g_aload (r := some _) rfl rfl rfl (pc' := 233) ?_
      refine g_getI rfl rfl rfl rfl ht2 (pc' := 236) rfl ?_
      refine g_iload rfl rfl rfl (pc' := 237) ?_
      obtain ⟨a74, rfl, H⟩ := H
      obtain ⟨ht75, H⟩ := H
      refine g_call rfl (y := 266) (n := 3) (pc' := 240) (g_vt ht75 rfl rfl) rfl rfl ⟨(Nat.le_of_ble_eq_true rfl), (Nat.le_of_ble_eq_true rfl), (Nat.le_of_ble_eq_true rfl)⟩ rfl (gm_G.mono H (pV_elim (fun h76 H' => ?_) (fun e77 h78 H => ?_)))
      · show gm_G _ 240 _ _ _ _
        replace H := H'
        clear H'
        refine g_iconst rfl rfl rfl (pc' := 241) ?_
        exact g_ireturn rfl (Or.inl rfl) H
      · exact H
set_option maxRecDepth 20000 in
theorem w_620_85 {a0 : Nat} {x5 : Int32} {x7 : Int32} {h : hh_T} {Q : Option Value ⊕ Nat → hh_T → Prop} (H : (¬ x7 < (Int32.ofNat 32) → (Q (.inl (some (.int (Int32.ofNat 32)))) h)) ∧ (x7 < (Int32.ofNat 32) → (gm_sub (hh_tg h a0) 0 = true ∧ (∀ r2, r2 = hh_r h a0 59 → (∀ r3, r3 = hh_r h a0 46 → (∃ a4, r3 = some a4 ∧ ((hh_tg h a4 = 101 ∨ hh_tg h a4 = 102) ∧ (∃ n5, gm_ix (x5 + x7) n5 (hh_ln h a4) ∧ (∃ a7, r2 = some a7 ∧ (hh_tg h a7 = 13 ∧ (gm_G 459 0 [some (.ref a7), some (.int (hh_i h a4 n5))] [] h (pV (fun h9 => gm_G 620 85 [some (.ref a0), none, none, none, none, some (.int x5), none, some (.int (x7 + (Int32.ofNat 1)))] [] h9 Q) (fun e10 h11 => hh_tg h11 e10 = 21 ∧ Q (.inr e10) h11))))))))))))) : gm_G 620 85 [some (.ref a0), none, none, none, none, some (.int x5), none, some (.int x7)] [] h Q := by
  refine g_iload rfl rfl rfl (pc' := 87) ?_
  refine g_iconst rfl rfl rfl (pc' := 89) ?_
  refine g_ic_ge rfl (pc' := 92) (pt := 115) rfl rfl ⟨fun hc => ?_, fun hc => ?_⟩
  · replace H := H.1 hc
    refine g_iconst rfl rfl rfl (pc' := 117) ?_
    exact g_ireturn rfl (Or.inl rfl) H
  · replace H := H.2 hc
    refine g_aload (r := some _) rfl rfl rfl (pc' := 93) ?_
    obtain ⟨ht1, H⟩ := H
    refine g_getRv rfl rfl rfl rfl ht1 (pc' := 96) rfl (fun r2 hr2 => ?_)
    replace H := H r2 hr2
    refine g_aload (r := some _) rfl rfl rfl (pc' := 97) ?_
    refine g_getRv rfl rfl rfl rfl ht1 (pc' := 100) rfl (fun r3 hr3 => ?_)
    replace H := H r3 hr3
    refine g_iload rfl rfl rfl (pc' := 102) ?_
    refine g_iload rfl rfl rfl (pc' := 104) ?_
    refine g_iadd rfl rfl (pc' := 105) ?_
    obtain ⟨a4, rfl, H⟩ := H
    obtain ⟨ht6, H⟩ := H
    obtain ⟨n5, hn5, H⟩ := H
    refine g_baload rfl ht6 hn5 (pc' := 106) rfl ?_
    obtain ⟨a7, rfl, H⟩ := H
    obtain ⟨ht8, H⟩ := H
    refine g_call rfl (y := 459) (n := 2) (pc' := 109) (g_vt ht8 rfl rfl) rfl rfl ⟨(Nat.le_of_ble_eq_true rfl), (Nat.le_of_ble_eq_true rfl), (Nat.le_of_ble_eq_true rfl)⟩ rfl (gm_G.mono H (pV_elim (fun h9 H' => ?_) (fun e10 h11 H => ?_)))
    · show gm_G _ 109 _ _ _ _
      replace H := H'
      clear H'
      refine g_iinc (c := (Int32.ofNat 1)) rfl rfl rfl rfl rfl (pc' := 112) ?_
      refine g_goto rfl (pc' := 85) rfl ?_
      exact g_weak (show gm_Lle [some _, none, none, none, none, some _, none, some _] _ from ⟨rfl, ⟨rfl, ⟨rfl, trivial⟩⟩⟩) H
    · exact H
set_option maxRecDepth 20000 in
theorem w_620_149 {a0 : Nat} {r_1 : Option Nat} {x5 : Int32} {x7 : Int32} {h : hh_T} {Q : Option Value ⊕ Nat → hh_T → Prop} (H : (¬ x7 < (Int32.ofNat 32) → (gm_G 620 185 [some (.ref a0), some (va_rf r_1), none, none, none, some (.int x5), none, some (.int x7)] [] h Q)) ∧ (x7 < (Int32.ofNat 32) → (gm_sub (hh_tg h a0) 0 = true ∧ (∀ r2, r2 = hh_r h a0 46 → (∃ a3, r2 = some a3 ∧ ((hh_tg h a3 = 101 ∨ hh_tg h a3 = 102) ∧ (∃ n4, gm_ix (x5 + x7) n4 (hh_ln h a3) ∧ (∀ r6, r6 = hh_r h a0 58 → (∃ a7, r6 = some a7 ∧ (gm_sub (hh_tg h a7) 12 = true ∧ (∀ r9, r9 = hh_r h a7 0 → (∃ a10, r9 = some a10 ∧ ((hh_tg h a10 = 101 ∨ hh_tg h a10 = 102) ∧ (∃ n11, gm_ix x7 n11 (hh_ln h a10) ∧ ((¬ (hh_i h a3 n4) = (hh_i h a10 n11) → (gm_G 620 185 [some (.ref a0), some (va_rf r_1), none, none, none, some (.int x5), none, some (.int x7)] [] h Q)) ∧ ((hh_i h a3 n4) = (hh_i h a10 n11) → (gm_G 620 149 [some (.ref a0), some (va_rf r_1), none, none, none, some (.int x5), none, some (.int (x7 + (Int32.ofNat 1)))] [] h Q))))))))))))))))) : gm_G 620 149 [some (.ref a0), some (va_rf r_1), none, none, none, some (.int x5), none, some (.int x7)] [] h Q := by
  refine g_iload rfl rfl rfl (pc' := 151) ?_
  refine g_iconst rfl rfl rfl (pc' := 153) ?_
  refine g_ic_ge rfl (pc' := 156) (pt := 185) rfl rfl ⟨fun hc => ?_, fun hc => ?_⟩
  · replace H := H.1 hc
    exact g_weak (show gm_Lle [some _, some _, none, none, none, some _, none, some _] _ from ⟨rfl, ⟨rfl, ⟨rfl, ⟨rfl, trivial⟩⟩⟩⟩) H
  · replace H := H.2 hc
    refine g_aload (r := some _) rfl rfl rfl (pc' := 157) ?_
    obtain ⟨ht1, H⟩ := H
    refine g_getRv rfl rfl rfl rfl ht1 (pc' := 160) rfl (fun r2 hr2 => ?_)
    replace H := H r2 hr2
    refine g_iload rfl rfl rfl (pc' := 162) ?_
    refine g_iload rfl rfl rfl (pc' := 164) ?_
    refine g_iadd rfl rfl (pc' := 165) ?_
    obtain ⟨a3, rfl, H⟩ := H
    obtain ⟨ht5, H⟩ := H
    obtain ⟨n4, hn4, H⟩ := H
    refine g_baload rfl ht5 hn4 (pc' := 166) rfl ?_
    refine g_aload (r := some _) rfl rfl rfl (pc' := 167) ?_
    refine g_getRv rfl rfl rfl rfl ht1 (pc' := 170) rfl (fun r6 hr6 => ?_)
    replace H := H r6 hr6
    obtain ⟨a7, rfl, H⟩ := H
    obtain ⟨ht8, H⟩ := H
    refine g_getRv rfl rfl rfl rfl ht8 (pc' := 173) rfl (fun r9 hr9 => ?_)
    replace H := H r9 hr9
    refine g_iload rfl rfl rfl (pc' := 175) ?_
    obtain ⟨a10, rfl, H⟩ := H
    obtain ⟨ht12, H⟩ := H
    obtain ⟨n11, hn11, H⟩ := H
    refine g_baload rfl ht12 hn11 (pc' := 176) rfl ?_
    refine g_ic_ne rfl (pc' := 179) (pt := 185) rfl rfl ⟨fun hc => ?_, fun hc => ?_⟩
    · replace H := H.1 hc
      exact g_weak (show gm_Lle [some _, some _, none, none, none, some _, none, some _] _ from ⟨rfl, ⟨rfl, ⟨rfl, ⟨rfl, trivial⟩⟩⟩⟩) H
    · replace H := H.2 hc
      refine g_iinc (c := (Int32.ofNat 1)) rfl rfl rfl rfl rfl (pc' := 182) ?_
      refine g_goto rfl (pc' := 149) rfl ?_
      exact g_weak (show gm_Lle [some _, some _, none, none, none, some _, none, some _] _ from ⟨rfl, ⟨rfl, ⟨rfl, ⟨rfl, trivial⟩⟩⟩⟩) H
set_option maxRecDepth 20000 in
theorem w_620_185 {a0 : Nat} {r_1 : Option Nat} {x5 : Int32} {x7 : Int32} {h : hh_T} {Q : Option Value ⊕ Nat → hh_T → Prop} (H : (¬ x7 = (Int32.ofNat 32) → (gm_G 620 201 [none, none, none, none, none, none, none, some (.int x7)] [] h Q)) ∧ (x7 = (Int32.ofNat 32) → (hh_tg h a0 = 1 ∧ (gm_G 613 0 [some (.ref a0), some (va_rf r_1), some (.int x5), some (.int (Int32.ofNat 32))] [] h (pV (fun h2 => gm_G 620 201 [none, none, none, none, none, none, none, some (.int x7)] [] h2 Q) (fun e3 h4 => hh_tg h4 e3 = 21 ∧ Q (.inr e3) h4)))))) : gm_G 620 185 [some (.ref a0), some (va_rf r_1), none, none, none, some (.int x5), none, some (.int x7)] [] h Q := by
  refine g_iload rfl rfl rfl (pc' := 187) ?_
  refine g_iconst rfl rfl rfl (pc' := 189) ?_
  refine g_ic_ne rfl (pc' := 192) (pt := 201) rfl rfl ⟨fun hc => ?_, fun hc => ?_⟩
  · replace H := H.1 hc
    exact g_weak (show gm_Lle [none, none, none, none, none, none, none, some _] _ from ⟨rfl, trivial⟩) H
  · replace H := H.2 hc
    refine g_aload (r := some _) rfl rfl rfl (pc' := 193) ?_
    refine g_aload (r := _) rfl rfl rfl (pc' := 194) ?_
    refine g_iload rfl rfl rfl (pc' := 196) ?_
    refine g_iconst rfl rfl rfl (pc' := 198) ?_
    obtain ⟨ht1, H⟩ := H
    refine g_call rfl (y := 613) (n := 4) (pc' := 201) (g_vt ht1 rfl rfl) (by cases r_1 <;> rfl) rfl ⟨(Nat.le_of_ble_eq_true rfl), (Nat.le_of_ble_eq_true rfl), (Nat.le_of_ble_eq_true rfl)⟩ rfl (gm_G.mono H (pV_elim (fun h2 H' => ?_) (fun e3 h4 H => ?_)))
    · show gm_G _ 201 _ _ _ _
      replace H := H'
      clear H'
      exact g_weak (show gm_Lle [none, none, none, none, none, none, none, some _] _ from ⟨rfl, trivial⟩) H
    · exact H
set_option maxRecDepth 20000 in
theorem w_620_201 {a0 : Nat} {x7 : Int32} {h : hh_T} {Q : Option Value ⊕ Nat → hh_T → Prop} (H : Q (.inl (some (.int x7))) h) : gm_G 620 201 [none, none, none, none, none, none, none, some (.int x7)] [] h Q := by
  refine g_iload rfl rfl rfl (pc' := 203) ?_
  exact g_ireturn rfl (Or.inl rfl) H
set_option maxRecDepth 20000 in
theorem w_620_257 {a0 : Nat}  {h : hh_T} {Q : Option Value ⊕ Nat → hh_T → Prop} (H : Q (.inl (some (.int (Int32.ofNat 0)))) h) : gm_G 620 257 [] [] h Q := by
  refine g_iconst rfl rfl rfl (pc' := 258) ?_
  exact g_ireturn rfl (Or.inl rfl) H
set_option maxRecDepth 20000 in
theorem w_621_0 {a0 : Nat} {r_1 : Option Nat} {x2 : Int32} {x3 : Int32} {x4 : Int32} {r_5 : Option Nat} {h : hh_T} {Q : Option Value ⊕ Nat → hh_T → Prop} (H : ∃ a1, r_1 = some a1 ∧ (gm_sub (hh_tg h a1) 23 = true ∧ (∀ r3, r3 = hh_r h a1 9 → (gm_sub (hh_tg h a0) 0 = true ∧ (∀ r5, r5 = hh_r h a0 58 → (hh_tg h a0 = 1 ∧ (gm_G 551 0 [some (.ref a0), some (va_rf r3), some (.int (hh_i h a0 41)), some (va_rf r5), some (.int x2), some (.int x3)] [] h (pI (fun v8 h7 => gm_sub (hh_tg h7 a0) 0 = true ∧ (∀ r10, r10 = hh_r h7 a0 58 → (∀ r11, r11 = hh_r h7 a0 58 → (gm_G 13 0 [some (va_rf r11), some (.int x2), some (.int x3)] [] h7 (pI (fun v13 h12 => gm_G 233 0 [some (va_rf r10), some (.int v13), some (.int x3)] [] h12 (pL (fun v15 h14 => hh_tg h14 a0 = 1 ∧ (gm_G 611 0 [some (.ref a0), some (.ref a1), some (.int v8), some (.long v15), none, some (.int x4), some (va_rf r_5)] [] h14 (pI (fun v18 h17 => Q (.inl (some (.int v18))) h17) (fun e19 h20 => hh_tg h20 e19 = 21 ∧ Q (.inr e19) h20)))) (fun e21 h22 => hh_tg h22 e21 = 21 ∧ Q (.inr e21) h22))) (fun e23 h24 => hh_tg h24 e23 = 21 ∧ Q (.inr e23) h24)))))) (fun e25 h26 => hh_tg h26 e25 = 21 ∧ Q (.inr e25) h26))))))))) : gm_G 621 0 [some (.ref a0), some (va_rf r_1), some (.int x2), some (.int x3), some (.int x4), some (va_rf r_5)] [] h Q := by
  refine g_aload (r := some _) rfl rfl rfl (pc' := 1) ?_
  refine g_aload (r := _) rfl rfl rfl (pc' := 2) ?_
  obtain ⟨a1, rfl, H⟩ := H
  obtain ⟨ht2, H⟩ := H
  refine g_getRv rfl rfl rfl rfl ht2 (pc' := 5) rfl (fun r3 hr3 => ?_)
  replace H := H r3 hr3
  refine g_aload (r := some _) rfl rfl rfl (pc' := 6) ?_
  obtain ⟨ht4, H⟩ := H
  refine g_getI rfl rfl rfl rfl ht4 (pc' := 9) rfl ?_
  refine g_aload (r := some _) rfl rfl rfl (pc' := 10) ?_
  refine g_getRv rfl rfl rfl rfl ht4 (pc' := 13) rfl (fun r5 hr5 => ?_)
  replace H := H r5 hr5
  refine g_iload rfl rfl rfl (pc' := 14) ?_
  refine g_iload rfl rfl rfl (pc' := 15) ?_
  obtain ⟨ht6, H⟩ := H
  refine g_call rfl (y := 551) (n := 6) (pc' := 18) (g_vt ht6 rfl rfl) (by cases r3 <;> cases r5 <;> rfl) rfl ⟨(Nat.le_of_ble_eq_true rfl), (Nat.le_of_ble_eq_true rfl), (Nat.le_of_ble_eq_true rfl)⟩ rfl (gm_G.mono H (pI_elim (fun v8 h7 H' => ?_) (fun e25 h26 H => ?_)))
  · show gm_G _ 18 _ _ _ _
    replace H := H'
    clear H'
    refine g_istore rfl gm_sto_rf5 rfl (pc' := 20) ?_
    refine g_aload (r := some _) rfl rfl rfl (pc' := 21) ?_
    refine g_aload (r := some _) rfl rfl rfl (pc' := 22) ?_
    refine g_iload rfl rfl rfl (pc' := 24) ?_
    refine g_aload (r := some _) rfl rfl rfl (pc' := 25) ?_
    obtain ⟨ht9, H⟩ := H
    refine g_getRv rfl rfl rfl rfl ht9 (pc' := 28) rfl (fun r10 hr10 => ?_)
    replace H := H r10 hr10
    refine g_aload (r := some _) rfl rfl rfl (pc' := 29) ?_
    refine g_getRv rfl rfl rfl rfl ht9 (pc' := 32) rfl (fun r11 hr11 => ?_)
    replace H := H r11 hr11
    refine g_iload rfl rfl rfl (pc' := 33) ?_
    refine g_iload rfl rfl rfl (pc' := 34) ?_
    refine g_call rfl (y := 13) (n := 3) (pc' := 37) (fun _ => rfl) (by cases r11 <;> rfl) rfl ⟨(Nat.le_of_ble_eq_true rfl), (Nat.le_of_ble_eq_true rfl), (Nat.le_of_ble_eq_true rfl)⟩ rfl (gm_G.mono H (pI_elim (fun v13 h12 H' => ?_) (fun e23 h24 H => ?_)))
    · show gm_G _ 37 _ _ _ _
      replace H := H'
      clear H'
      refine g_iload rfl rfl rfl (pc' := 38) ?_
      refine g_call rfl (y := 233) (n := 3) (pc' := 41) (fun _ => rfl) (by cases r10 <;> rfl) rfl ⟨(Nat.le_of_ble_eq_true rfl), (Nat.le_of_ble_eq_true rfl), (Nat.le_of_ble_eq_true rfl)⟩ rfl (gm_G.mono H (pL_elim (fun v15 h14 H' => ?_) (fun e21 h22 H => ?_)))
      · show gm_G _ 41 _ _ _ _
        replace H := H'
        clear H'
        refine g_iload rfl rfl rfl (pc' := 43) ?_
        refine g_aload (r := _) rfl rfl rfl (pc' := 45) ?_
        obtain ⟨ht16, H⟩ := H
        refine g_call rfl (y := 611) (n := 6) (pc' := 48) (g_vt ht16 rfl rfl) (by cases r_5 <;> rfl) rfl ⟨(Nat.le_of_ble_eq_true rfl), (Nat.le_of_ble_eq_true rfl), (Nat.le_of_ble_eq_true rfl)⟩ rfl (gm_G.mono H (pI_elim (fun v18 h17 H' => ?_) (fun e19 h20 H => ?_)))
        · show gm_G _ 48 _ _ _ _
          replace H := H'
          clear H'
          exact g_ireturn rfl (Or.inl rfl) H
        · exact H
      · exact H
    · exact H
  · exact H
set_option maxRecDepth 20000 in
theorem w_622_0 {a0 : Nat} {x1 : Int32} {r_2 : Option Nat} {x3 : Int32} {h : hh_T} {Q : Option Value ⊕ Nat → hh_T → Prop} (H : ((x3 &&& (Int32.ofNat 4)) = Int32.ofNat 0 → (gm_G 622 117 [some (.ref a0), some (.int x1), some (va_rf r_2), some (.int x3)] [] h Q)) ∧ (¬ (x3 &&& (Int32.ofNat 4)) = Int32.ofNat 0 → (gm_sub (hh_tg h a0) 0 = true ∧ (∀ r2, r2 = hh_r h a0 58 → (∀ r3, r3 = hh_r h a0 58 → (∃ a4, r3 = some a4 ∧ (gm_sub (hh_tg h a4) 12 = true ∧ (gm_G 339 0 [some (va_rf r2), some (.int (Int32.ofNat 0)), some (.int (hh_i h a4 1))] [] h (pI (fun v7 h6 => (v7 = Int32.ofNat 0 → (gm_G 622 117 [some (.ref a0), some (.int x1), some (va_rf r_2), some (.int x3)] [] h6 Q)) ∧ (¬ v7 = Int32.ofNat 0 → (gm_sub (hh_tg h6 a0) 0 = true ∧ (∀ r9, r9 = hh_r h6 a0 58 → (∀ r10, r10 = hh_r h6 a0 58 → (∃ a11, r10 = some a11 ∧ (gm_sub (hh_tg h6 a11) 12 = true ∧ (hh_tg h6 a0 = 1 ∧ (gm_G 551 0 [some (.ref a0), some (va_rf r_2), some (.int (hh_i h6 a0 41)), some (va_rf r9), some (.int (Int32.ofNat 0)), some (.int (hh_i h6 a11 1))] [] h6 (pI (fun v15 h14 => gm_sub (hh_tg h14 a0) 0 = true ∧ (∀ r17, r17 = hh_r h14 a0 58 → (∀ r18, r18 = hh_r h14 a0 58 → (∀ r19, r19 = hh_r h14 a0 58 → (∃ a20, r19 = some a20 ∧ (gm_sub (hh_tg h14 a20) 12 = true ∧ (gm_G 13 0 [some (va_rf r18), some (.int (Int32.ofNat 0)), some (.int (hh_i h14 a20 1))] [] h14 (pI (fun v23 h22 => gm_sub (hh_tg h22 a0) 0 = true ∧ (∀ r25, r25 = hh_r h22 a0 58 → (∃ a26, r25 = some a26 ∧ (gm_sub (hh_tg h22 a26) 12 = true ∧ (gm_G 233 0 [some (va_rf r17), some (.int v23), some (.int (hh_i h22 a26 1))] [] h22 (pL (fun v29 h28 => ∃ a30, r_2 = some a30 ∧ (gm_sub (hh_tg h28 a30) 24 = true ∧ (∀ r32, r32 = hh_r h28 a30 2 → (∃ a33, r32 = some a33 ∧ ((hh_tg h28 a33 = 104 ∨ 200 ≤ hh_tg h28 a33) ∧ (∃ n34, gm_ix v15 n34 (hh_ln h28 a33) ∧ (∀ r36, r36 = hh_r h28 a33 n34 → ((∀ b, r36 = some b → gm_sub (hh_tg h28 b) 27 = true) ∧ (∃ a37, r36 = some a37 ∧ (hh_tg h28 a37 = 28 ∧ (gm_G 196 0 [some (.ref a37), some (.long v29), none] [] h28 (pI (fun v40 h39 => (¬ v40 < Int32.ofNat 0 → (gm_G 622 117 [some (.ref a0), some (.int x1), some (.ref a30), some (.int x3)] [] h39 Q)) ∧ (v40 < Int32.ofNat 0 → (gm_G 622 96 [some (.ref a0), some (.int x1), none, none, some (.int v15), some (.long v29)] [] h39 Q))) (fun e41 h42 => hh_tg h42 e41 = 21 ∧ Q (.inr e41) h42))))))))))))) (fun e43 h44 => hh_tg h44 e43 = 21 ∧ Q (.inr e43) h44))))))) (fun e45 h46 => hh_tg h46 e45 = 21 ∧ Q (.inr e45) h46))))))))) (fun e47 h48 => hh_tg h48 e47 = 21 ∧ Q (.inr e47) h48))))))))))) (fun e49 h50 => hh_tg h50 e49 = 21 ∧ Q (.inr e49) h50)))))))))) : gm_G 622 0 [some (.ref a0), some (.int x1), some (va_rf r_2), some (.int x3)] [] h Q := by
  refine g_iload rfl rfl rfl (pc' := 1) ?_
  refine g_iconst rfl rfl rfl (pc' := 2) ?_
  refine g_iand rfl rfl (pc' := 3) ?_
  refine g_if_eq rfl (pc' := 6) (pt := 117) rfl rfl ⟨fun hc => ?_, fun hc => ?_⟩
  · replace H := H.1 hc
    exact g_weak (show gm_Lle [some _, some _, some _, some _] _ from ⟨rfl, ⟨rfl, ⟨rfl, ⟨rfl, trivial⟩⟩⟩⟩) H
  · replace H := H.2 hc
    refine g_aload (r := some _) rfl rfl rfl (pc' := 7) ?_
    obtain ⟨ht1, H⟩ := H
    refine g_getRv rfl rfl rfl rfl ht1 (pc' := 10) rfl (fun r2 hr2 => ?_)
    replace H := H r2 hr2
    refine g_iconst rfl rfl rfl (pc' := 11) ?_
    refine g_aload (r := some _) rfl rfl rfl (pc' := 12) ?_
    refine g_getRv rfl rfl rfl rfl ht1 (pc' := 15) rfl (fun r3 hr3 => ?_)
    replace H := H r3 hr3
    obtain ⟨a4, rfl, H⟩ := H
    obtain ⟨ht5, H⟩ := H
    refine g_getI rfl rfl rfl rfl ht5 (pc' := 18) rfl ?_
    refine g_call rfl (y := 339) (n := 3) (pc' := 21) (fun _ => rfl) (by cases r2 <;> rfl) rfl ⟨(Nat.le_of_ble_eq_true rfl), (Nat.le_of_ble_eq_true rfl), (Nat.le_of_ble_eq_true rfl)⟩ rfl (gm_G.mono H (pI_elim (fun v7 h6 H' => ?_) (fun e49 h50 H => ?_)))
    · show gm_G _ 21 _ _ _ _
      replace H := H'
      clear H'
      refine g_if_eq rfl (pc' := 24) (pt := 117) rfl rfl ⟨fun hc => ?_, fun hc => ?_⟩
      · replace H := H.1 hc
        exact g_weak (show gm_Lle [some _, some _, some _, some _] _ from ⟨rfl, ⟨rfl, ⟨rfl, ⟨rfl, trivial⟩⟩⟩⟩) H
      · replace H := H.2 hc
        refine g_aload (r := some _) rfl rfl rfl (pc' := 25) ?_
        refine g_aload (r := _) rfl rfl rfl (pc' := 26) ?_
        refine g_aload (r := some _) rfl rfl rfl (pc' := 27) ?_
        obtain ⟨ht8, H⟩ := H
        refine g_getI rfl rfl rfl rfl ht8 (pc' := 30) rfl ?_
        refine g_aload (r := some _) rfl rfl rfl (pc' := 31) ?_
        refine g_getRv rfl rfl rfl rfl ht8 (pc' := 34) rfl (fun r9 hr9 => ?_)
        replace H := H r9 hr9
        refine g_iconst rfl rfl rfl (pc' := 35) ?_
        refine g_aload (r := some _) rfl rfl rfl (pc' := 36) ?_
        refine g_getRv rfl rfl rfl rfl ht8 (pc' := 39) rfl (fun r10 hr10 => ?_)
        replace H := H r10 hr10
        obtain ⟨a11, rfl, H⟩ := H
        obtain ⟨ht12, H⟩ := H
        refine g_getI rfl rfl rfl rfl ht12 (pc' := 42) rfl ?_
        obtain ⟨ht13, H⟩ := H
        refine g_call rfl (y := 551) (n := 6) (pc' := 45) (g_vt ht13 rfl rfl) (by cases r9 <;> cases r_2 <;> rfl) rfl ⟨(Nat.le_of_ble_eq_true rfl), (Nat.le_of_ble_eq_true rfl), (Nat.le_of_ble_eq_true rfl)⟩ rfl (gm_G.mono H (pI_elim (fun v15 h14 H' => ?_) (fun e47 h48 H => ?_)))
        · show gm_G _ 45 _ _ _ _
          replace H := H'
          clear H'
          refine g_istore rfl rfl rfl (pc' := 47) ?_
          refine g_aload (r := some _) rfl rfl rfl (pc' := 48) ?_
          obtain ⟨ht16, H⟩ := H
          refine g_getRv rfl rfl rfl rfl ht16 (pc' := 51) rfl (fun r17 hr17 => ?_)
          replace H := H r17 hr17
          refine g_aload (r := some _) rfl rfl rfl (pc' := 52) ?_
          refine g_getRv rfl rfl rfl rfl ht16 (pc' := 55) rfl (fun r18 hr18 => ?_)
          replace H := H r18 hr18
          refine g_iconst rfl rfl rfl (pc' := 56) ?_
          refine g_aload (r := some _) rfl rfl rfl (pc' := 57) ?_
          refine g_getRv rfl rfl rfl rfl ht16 (pc' := 60) rfl (fun r19 hr19 => ?_)
          replace H := H r19 hr19
          obtain ⟨a20, rfl, H⟩ := H
          obtain ⟨ht21, H⟩ := H
          refine g_getI rfl rfl rfl rfl ht21 (pc' := 63) rfl ?_
          refine g_call rfl (y := 13) (n := 3) (pc' := 66) (fun _ => rfl) (by cases r18 <;> rfl) rfl ⟨(Nat.le_of_ble_eq_true rfl), (Nat.le_of_ble_eq_true rfl), (Nat.le_of_ble_eq_true rfl)⟩ rfl (gm_G.mono H (pI_elim (fun v23 h22 H' => ?_) (fun e45 h46 H => ?_)))
          · show gm_G _ 66 _ _ _ _
            replace H := H'
            clear H'
            refine g_aload (r := some _) rfl rfl rfl (pc' := 67) ?_
            obtain ⟨ht24, H⟩ := H
            refine g_getRv rfl rfl rfl rfl ht24 (pc' := 70) rfl (fun r25 hr25 => ?_)
            replace H := H r25 hr25
            obtain ⟨a26, rfl, H⟩ := H
            obtain ⟨ht27, H⟩ := H
            refine g_getI rfl rfl rfl rfl ht27 (pc' := 73) rfl ?_
            refine g_call rfl (y := 233) (n := 3) (pc' := 76) (fun _ => rfl) (by cases r17 <;> rfl) rfl ⟨(Nat.le_of_ble_eq_true rfl), (Nat.le_of_ble_eq_true rfl), (Nat.le_of_ble_eq_true rfl)⟩ rfl (gm_G.mono H (pL_elim (fun v29 h28 H' => ?_) (fun e43 h44 H => ?_)))
            · show gm_G _ 76 _ _ _ _
              replace H := H'
              clear H'
              refine g_lstore rfl rfl rfl (pc' := 78) ?_
              refine g_aload (r := _) rfl rfl rfl (pc' := 79) ?_
              obtain ⟨a30, rfl, H⟩ := H
              obtain ⟨ht31, H⟩ := H
              refine g_getRv rfl rfl rfl rfl ht31 (pc' := 82) rfl (fun r32 hr32 => ?_)
              replace H := H r32 hr32
              refine g_iload rfl rfl rfl (pc' := 84) ?_
              obtain ⟨a33, rfl, H⟩ := H
              obtain ⟨ht35, H⟩ := H
              obtain ⟨n34, hn34, H⟩ := H
              refine g_aaloadv rfl ht35 hn34 (pc' := 85) rfl (fun r36 hr36 => ?_)
              replace H := H r36 hr36
              obtain ⟨Hc, H⟩ := H
              refine g_cast rfl Hc (pc' := 88) rfl ?_
              refine g_lload rfl rfl rfl (pc' := 90) ?_
              obtain ⟨a37, rfl, H⟩ := H
              obtain ⟨ht38, H⟩ := H
              refine g_call rfl (y := 196) (n := 2) (pc' := 93) (g_vt ht38 rfl rfl) rfl rfl ⟨(Nat.le_of_ble_eq_true rfl), (Nat.le_of_ble_eq_true rfl), (Nat.le_of_ble_eq_true rfl)⟩ rfl (gm_G.mono H (pI_elim (fun v40 h39 H' => ?_) (fun e41 h42 H => ?_)))
              · show gm_G _ 93 _ _ _ _
                replace H := H'
                clear H'
                refine g_if_ge rfl (pc' := 96) (pt := 117) rfl rfl ⟨fun hc => ?_, fun hc => ?_⟩
                · replace H := H.1 hc
                  exact g_weak (show gm_Lle [some _, some _, some _, some _] _ from ⟨rfl, ⟨rfl, ⟨rfl, ⟨rfl, trivial⟩⟩⟩⟩) H
                · replace H := H.2 hc
                  exact g_weak (show gm_Lle [some _, some _, none, none, some _, some _] _ from ⟨rfl, ⟨rfl, ⟨rfl, ⟨rfl, trivial⟩⟩⟩⟩) H
              · exact H
            · exact H
          · exact H
        · exact H
    · exact H
set_option maxRecDepth 20000 in
theorem w_622_96 {a0 : Nat} {x1 : Int32} {x4 : Int32} {j5 : Int64} {h : hh_T} {Q : Option Value ⊕ Nat → hh_T → Prop} (H : gm_sub (hh_tg h a0) 0 = true ∧ (∀ r2, r2 = hh_r h a0 33 → (∃ a3, r2 = some a3 ∧ (hh_tg h a3 = 23 ∧ (gm_G 178 0 [some (.ref a3), some (.int (x1 / (Int32.ofNat 2)))] [] h (pR (fun r6 h5 => hh_tg h5 a0 = 1 ∧ (gm_G 611 0 [some (.ref a0), some (va_rf r6), some (.int x4), some (.long j5), none, some (.int (Int32.ofNat 1)), some (va_rf none)] [] h5 (pI (fun v9 h8 => Q (.inl (some (.int v9))) h8) (fun e10 h11 => hh_tg h11 e10 = 21 ∧ Q (.inr e10) h11)))) (fun e12 h13 => hh_tg h13 e12 = 21 ∧ Q (.inr e12) h13))))))) : gm_G 622 96 [some (.ref a0), some (.int x1), none, none, some (.int x4), some (.long j5)] [] h Q := by
  refine g_aload (r := some _) rfl rfl rfl (pc' := 97) ?_
  refine g_aload (r := some _) rfl rfl rfl (pc' := 98) ?_
  obtain ⟨ht1, H⟩ := H
  refine g_getRv rfl rfl rfl rfl ht1 (pc' := 101) rfl (fun r2 hr2 => ?_)
  replace H := H r2 hr2
  refine g_iload rfl rfl rfl (pc' := 102) ?_
  refine g_iconst rfl rfl rfl (pc' := 103) ?_
  refine g_idiv rfl (by decide) (pc' := 104) rfl ?_
  obtain ⟨a3, rfl, H⟩ := H
  obtain ⟨ht4, H⟩ := H
  refine g_call rfl (y := 178) (n := 2) (pc' := 107) (g_vt ht4 rfl rfl) rfl rfl ⟨(Nat.le_of_ble_eq_true rfl), (Nat.le_of_ble_eq_true rfl), (Nat.le_of_ble_eq_true rfl)⟩ rfl (gm_G.mono H (pR_elim (fun r6 h5 H' => ?_) (fun e12 h13 H => ?_)))
  · show gm_G _ 107 _ _ _ _
    replace H := H'
    clear H'
    refine g_iload rfl rfl rfl (pc' := 109) ?_
    refine g_lload rfl rfl rfl (pc' := 111) ?_
    refine g_iconst rfl rfl rfl (pc' := 112) ?_
    refine g_null rfl rfl (pc' := 113) ?_
    obtain ⟨ht7, H⟩ := H
    refine g_call rfl (y := 611) (n := 6) (pc' := 116) (g_vt ht7 rfl rfl) (by cases r6 <;> rfl) rfl ⟨(Nat.le_of_ble_eq_true rfl), (Nat.le_of_ble_eq_true rfl), (Nat.le_of_ble_eq_true rfl)⟩ rfl (gm_G.mono H (pI_elim (fun v9 h8 H' => ?_) (fun e10 h11 H => ?_)))
    · show gm_G _ 116 _ _ _ _
      replace H := H'
      clear H'
      exact g_ireturn rfl (Or.inl rfl) H
    · exact H
  · exact H
set_option maxRecDepth 20000 in
theorem w_622_117 {a0 : Nat} {x1 : Int32} {r_2 : Option Nat} {x3 : Int32} {h : hh_T} {Q : Option Value ⊕ Nat → hh_T → Prop} (H : gm_sub (hh_tg h a0) 0 = true ∧ (∀ r2, r2 = hh_r h a0 58 → (∀ r3, r3 = hh_r h a0 58 → (∃ a4, r3 = some a4 ∧ (gm_sub (hh_tg h a4) 12 = true ∧ (hh_tg h a0 = 1 ∧ (gm_G 533 0 [some (.ref a0), some (va_rf r_2), some (.int (hh_i h a0 41)), some (va_rf r2), some (.int (Int32.ofNat 0)), some (.int (hh_i h a4 1)), some (.int (Int32.ofNat 1))] [] h (pI (fun v8 h7 => ∃ a9, r_2 = some a9 ∧ (gm_sub (hh_tg h7 a9) 24 = true ∧ (∀ r11, r11 = hh_r h7 a9 2 → (∃ a12, r11 = some a12 ∧ ((hh_tg h7 a12 = 104 ∨ 200 ≤ hh_tg h7 a12) ∧ (∃ n13, gm_ix v8 n13 (hh_ln h7 a12) ∧ (∀ r15, r15 = hh_r h7 a12 n13 → ((¬ (x3 &&& (Int32.ofNat 8)) = Int32.ofNat 0 → (gm_G 622 162 [some (.ref a0), some (.int x1), none, some (.int x3), some (.int v8), some (va_rf r15)] [.int (Int32.ofNat 0)] h7 Q)) ∧ ((x3 &&& (Int32.ofNat 8)) = Int32.ofNat 0 → (gm_G 622 162 [some (.ref a0), some (.int x1), none, some (.int x3), some (.int v8), some (va_rf r15)] [.int (Int32.ofNat 1)] h7 Q)))))))))) (fun e16 h17 => hh_tg h17 e16 = 21 ∧ Q (.inr e16) h17))))))))) : gm_G 622 117 [some (.ref a0), some (.int x1), some (va_rf r_2), some (.int x3)] [] h Q := by
  refine g_aload (r := some _) rfl rfl rfl (pc' := 118) ?_
  refine g_aload (r := _) rfl rfl rfl (pc' := 119) ?_
  refine g_aload (r := some _) rfl rfl rfl (pc' := 120) ?_
  obtain ⟨ht1, H⟩ := H
  refine g_getI rfl rfl rfl rfl ht1 (pc' := 123) rfl ?_
  refine g_aload (r := some _) rfl rfl rfl (pc' := 124) ?_
  refine g_getRv rfl rfl rfl rfl ht1 (pc' := 127) rfl (fun r2 hr2 => ?_)
  replace H := H r2 hr2
  refine g_iconst rfl rfl rfl (pc' := 128) ?_
  refine g_aload (r := some _) rfl rfl rfl (pc' := 129) ?_
  refine g_getRv rfl rfl rfl rfl ht1 (pc' := 132) rfl (fun r3 hr3 => ?_)
  replace H := H r3 hr3
  obtain ⟨a4, rfl, H⟩ := H
  obtain ⟨ht5, H⟩ := H
  refine g_getI rfl rfl rfl rfl ht5 (pc' := 135) rfl ?_
  refine g_iconst rfl rfl rfl (pc' := 136) ?_
  obtain ⟨ht6, H⟩ := H
  refine g_call rfl (y := 533) (n := 7) (pc' := 139) (g_vt ht6 rfl rfl) (by cases r2 <;> cases r_2 <;> rfl) rfl ⟨(Nat.le_of_ble_eq_true rfl), (Nat.le_of_ble_eq_true rfl), (Nat.le_of_ble_eq_true rfl)⟩ rfl (gm_G.mono H (pI_elim (fun v8 h7 H' => ?_) (fun e16 h17 H => ?_)))
  · show gm_G _ 139 _ _ _ _
    replace H := H'
    clear H'
    refine g_istore rfl rfl rfl (pc' := 141) ?_
    refine g_aload (r := _) rfl rfl rfl (pc' := 142) ?_
    obtain ⟨a9, rfl, H⟩ := H
    obtain ⟨ht10, H⟩ := H
    refine g_getRv rfl rfl rfl rfl ht10 (pc' := 145) rfl (fun r11 hr11 => ?_)
    replace H := H r11 hr11
    refine g_iload rfl rfl rfl (pc' := 147) ?_
    obtain ⟨a12, rfl, H⟩ := H
    obtain ⟨ht14, H⟩ := H
    obtain ⟨n13, hn13, H⟩ := H
    refine g_aaloadv rfl ht14 hn13 (pc' := 148) rfl (fun r15 hr15 => ?_)
    replace H := H r15 hr15
    refine g_astore (r := _) rfl rfl rfl (pc' := 150) ?_
    refine g_iload rfl rfl rfl (pc' := 151) ?_
    refine g_iconst rfl rfl rfl (pc' := 153) ?_
    refine g_iand rfl rfl (pc' := 154) ?_
    refine g_if_ne rfl (pc' := 157) (pt := 161) rfl rfl ⟨fun hc => ?_, fun hc => ?_⟩
    · replace H := H.1 hc
      refine g_iconst rfl rfl rfl (pc' := 162) ?_
      exact g_weak (show gm_Lle [some _, some _, none, some _, some _, some _] _ from ⟨rfl, ⟨rfl, ⟨rfl, ⟨rfl, ⟨rfl, trivial⟩⟩⟩⟩⟩) H
    · replace H := H.2 hc
      refine g_iconst rfl rfl rfl (pc' := 158) ?_
      refine g_goto rfl (pc' := 162) rfl ?_
      exact g_weak (show gm_Lle [some _, some _, none, some _, some _, some _] _ from ⟨rfl, ⟨rfl, ⟨rfl, ⟨rfl, ⟨rfl, trivial⟩⟩⟩⟩⟩) H
  · exact H
set_option maxRecDepth 20000 in
theorem w_622_162 {a0 : Nat} {x1 : Int32} {x3 : Int32} {x4 : Int32} {r_5 : Option Nat} {y0 : Int32} {h : hh_T} {Q : Option Value ⊕ Nat → hh_T → Prop} (H : gm_G 431 0 [some (.int y0), some (.int (Int32.ofInt (-4)))] [] h (pV (fun h1 => ∃ a2, r_5 = some a2 ∧ (gm_sub (hh_tg h1 a2) 25 = true ∧ ((¬ (hh_i h1 a2 1) = (Int32.ofNat 1) → (gm_G 622 181 [some (.ref a0), some (.int x1), none, some (.int x3), some (.int x4), some (.ref a2)] [.int (Int32.ofNat 0)] h1 Q)) ∧ ((hh_i h1 a2 1) = (Int32.ofNat 1) → (gm_G 622 181 [some (.ref a0), some (.int x1), none, some (.int x3), some (.int x4), some (.ref a2)] [.int (Int32.ofNat 1)] h1 Q))))) (fun e4 h5 => hh_tg h5 e4 = 21 ∧ Q (.inr e4) h5))) : gm_G 622 162 [some (.ref a0), some (.int x1), none, some (.int x3), some (.int x4), some (va_rf r_5)] [.int y0] h Q := by
  refine g_iconst rfl rfl rfl (pc' := 164) ?_
  refine g_call rfl (y := 431) (n := 2) (pc' := 167) (fun _ => rfl) rfl rfl ⟨(Nat.le_of_ble_eq_true rfl), (Nat.le_of_ble_eq_true rfl), (Nat.le_of_ble_eq_true rfl)⟩ rfl (gm_G.mono H (pV_elim (fun h1 H' => ?_) (fun e4 h5 H => ?_)))
  · show gm_G _ 167 _ _ _ _
    replace H := H'
    clear H'
    refine g_aload (r := _) rfl rfl rfl (pc' := 169) ?_
    obtain ⟨a2, rfl, H⟩ := H
    obtain ⟨ht3, H⟩ := H
    refine g_getI rfl rfl rfl rfl ht3 (pc' := 172) rfl ?_
    refine g_iconst rfl rfl rfl (pc' := 173) ?_
    refine g_ic_ne rfl (pc' := 176) (pt := 180) rfl rfl ⟨fun hc => ?_, fun hc => ?_⟩
    · replace H := H.1 hc
      refine g_iconst rfl rfl rfl (pc' := 181) ?_
      exact g_weak (show gm_Lle [some _, some _, none, some _, some _, some _] _ from ⟨rfl, ⟨rfl, ⟨rfl, ⟨rfl, ⟨rfl, trivial⟩⟩⟩⟩⟩) H
    · replace H := H.2 hc
      refine g_iconst rfl rfl rfl (pc' := 177) ?_
      refine g_goto rfl (pc' := 181) rfl ?_
      exact g_weak (show gm_Lle [some _, some _, none, some _, some _, some _] _ from ⟨rfl, ⟨rfl, ⟨rfl, ⟨rfl, ⟨rfl, trivial⟩⟩⟩⟩⟩) H
  · exact H
set_option maxRecDepth 20000 in
theorem w_622_181 {a0 : Nat} {x1 : Int32} {x3 : Int32} {x4 : Int32} {r_5 : Option Nat} {y0 : Int32} {h : hh_T} {Q : Option Value ⊕ Nat → hh_T → Prop} (H : gm_G 431 0 [some (.int y0), some (.int (Int32.ofInt (-10)))] [] h (pV (fun h1 => ((x3 &&& (Int32.ofNat 1)) = Int32.ofNat 0 → (gm_G 622 206 [some (.ref a0), some (.int x1), none, some (.int x3), some (.int x4), some (va_rf r_5)] [] h1 Q)) ∧ (¬ (x3 &&& (Int32.ofNat 1)) = Int32.ofNat 0 → (gm_sub (hh_tg h1 a0) 0 = true ∧ (hh_tg h1 a0 = 1 ∧ (gm_G 393 0 [some (.ref a0), some (va_rf r_5), some (.int (hh_i h1 a0 41)), some (.int (Int32.ofNat 4))] [] h1 (pI (fun v5 h4 => (v5 = Int32.ofNat 0 → (gm_G 622 230 [some (.ref a0), some (.int x1), none, some (.int x3), some (.int x4), some (va_rf r_5)] [] h4 Q)) ∧ (¬ v5 = Int32.ofNat 0 → (gm_G 622 206 [some (.ref a0), some (.int x1), none, some (.int x3), some (.int x4), some (va_rf r_5)] [] h4 Q))) (fun e6 h7 => hh_tg h7 e6 = 21 ∧ Q (.inr e6) h7))))))) (fun e8 h9 => hh_tg h9 e8 = 21 ∧ Q (.inr e8) h9))) : gm_G 622 181 [some (.ref a0), some (.int x1), none, some (.int x3), some (.int x4), some (va_rf r_5)] [.int y0] h Q := by
  refine g_iconst rfl rfl rfl (pc' := 183) ?_
  refine g_call rfl (y := 431) (n := 2) (pc' := 186) (fun _ => rfl) rfl rfl ⟨(Nat.le_of_ble_eq_true rfl), (Nat.le_of_ble_eq_true rfl), (Nat.le_of_ble_eq_true rfl)⟩ rfl (gm_G.mono H (pV_elim (fun h1 H' => ?_) (fun e8 h9 H => ?_)))
  · show gm_G _ 186 _ _ _ _
    replace H := H'
    clear H'
    refine g_iload rfl rfl rfl (pc' := 187) ?_
    refine g_iconst rfl rfl rfl (pc' := 188) ?_
    refine g_iand rfl rfl (pc' := 189) ?_
    refine g_if_eq rfl (pc' := 192) (pt := 206) rfl rfl ⟨fun hc => ?_, fun hc => ?_⟩
    · replace H := H.1 hc
      exact g_weak (show gm_Lle [some _, some _, none, some _, some _, some _] _ from ⟨rfl, ⟨rfl, ⟨rfl, ⟨rfl, ⟨rfl, trivial⟩⟩⟩⟩⟩) H
    · replace H := H.2 hc
      refine g_aload (r := some _) rfl rfl rfl (pc' := 193) ?_
      refine g_aload (r := _) rfl rfl rfl (pc' := 195) ?_
      refine g_aload (r := some _) rfl rfl rfl (pc' := 196) ?_
      obtain ⟨ht2, H⟩ := H
      refine g_getI rfl rfl rfl rfl ht2 (pc' := 199) rfl ?_
      refine g_iconst rfl rfl rfl (pc' := 200) ?_
      obtain ⟨ht3, H⟩ := H
      refine g_call rfl (y := 393) (n := 4) (pc' := 203) (g_vt ht3 rfl rfl) (by cases r_5 <;> rfl) rfl ⟨(Nat.le_of_ble_eq_true rfl), (Nat.le_of_ble_eq_true rfl), (Nat.le_of_ble_eq_true rfl)⟩ rfl (gm_G.mono H (pI_elim (fun v5 h4 H' => ?_) (fun e6 h7 H => ?_)))
      · show gm_G _ 203 _ _ _ _
        replace H := H'
        clear H'
        refine g_if_eq rfl (pc' := 206) (pt := 230) rfl rfl ⟨fun hc => ?_, fun hc => ?_⟩
        · replace H := H.1 hc
          exact g_weak (show gm_Lle [some _, some _, none, some _, some _, some _] _ from ⟨rfl, ⟨rfl, ⟨rfl, ⟨rfl, ⟨rfl, trivial⟩⟩⟩⟩⟩) H
        · replace H := H.2 hc
          exact g_weak (show gm_Lle [some _, some _, none, some _, some _, some _] _ from ⟨rfl, ⟨rfl, ⟨rfl, ⟨rfl, ⟨rfl, trivial⟩⟩⟩⟩⟩) H
      · exact H
  · exact H
set_option maxRecDepth 20000 in
theorem w_622_206 {a0 : Nat} {x1 : Int32} {x3 : Int32} {x4 : Int32} {r_5 : Option Nat} {h : hh_T} {Q : Option Value ⊕ Nat → hh_T → Prop} (H : ((x3 &&& (Int32.ofNat 2)) = Int32.ofNat 0 → (gm_G 622 226 [some (.ref a0), some (.int x1), none, some (.int x3), some (.int x4), some (va_rf r_5)] [] h Q)) ∧ (¬ (x3 &&& (Int32.ofNat 2)) = Int32.ofNat 0 → (gm_sub (hh_tg h a0) 0 = true ∧ (hh_tg h a0 = 1 ∧ (gm_G 393 0 [some (.ref a0), some (va_rf r_5), some (.int (hh_i h a0 41)), some (.int (Int32.ofNat 2))] [] h (pI (fun v4 h3 => (v4 = Int32.ofNat 0 → (gm_G 622 230 [some (.ref a0), some (.int x1), none, some (.int x3), some (.int x4), some (va_rf r_5)] [] h3 Q)) ∧ (¬ v4 = Int32.ofNat 0 → (gm_G 622 226 [some (.ref a0), some (.int x1), none, some (.int x3), some (.int x4), some (va_rf r_5)] [] h3 Q))) (fun e5 h6 => hh_tg h6 e5 = 21 ∧ Q (.inr e5) h6))))))) : gm_G 622 206 [some (.ref a0), some (.int x1), none, some (.int x3), some (.int x4), some (va_rf r_5)] [] h Q := by
  refine g_iload rfl rfl rfl (pc' := 207) ?_
  refine g_iconst rfl rfl rfl (pc' := 208) ?_
  refine g_iand rfl rfl (pc' := 209) ?_
  refine g_if_eq rfl (pc' := 212) (pt := 226) rfl rfl ⟨fun hc => ?_, fun hc => ?_⟩
  · replace H := H.1 hc
    exact g_weak (show gm_Lle [some _, some _, none, some _, some _, some _] _ from ⟨rfl, ⟨rfl, ⟨rfl, ⟨rfl, ⟨rfl, trivial⟩⟩⟩⟩⟩) H
  · replace H := H.2 hc
    refine g_aload (r := some _) rfl rfl rfl (pc' := 213) ?_
    refine g_aload (r := _) rfl rfl rfl (pc' := 215) ?_
    refine g_aload (r := some _) rfl rfl rfl (pc' := 216) ?_
    obtain ⟨ht1, H⟩ := H
    refine g_getI rfl rfl rfl rfl ht1 (pc' := 219) rfl ?_
    refine g_iconst rfl rfl rfl (pc' := 220) ?_
    obtain ⟨ht2, H⟩ := H
    refine g_call rfl (y := 393) (n := 4) (pc' := 223) (g_vt ht2 rfl rfl) (by cases r_5 <;> rfl) rfl ⟨(Nat.le_of_ble_eq_true rfl), (Nat.le_of_ble_eq_true rfl), (Nat.le_of_ble_eq_true rfl)⟩ rfl (gm_G.mono H (pI_elim (fun v4 h3 H' => ?_) (fun e5 h6 H => ?_)))
    · show gm_G _ 223 _ _ _ _
      replace H := H'
      clear H'
      refine g_if_eq rfl (pc' := 226) (pt := 230) rfl rfl ⟨fun hc => ?_, fun hc => ?_⟩
      · replace H := H.1 hc
        exact g_weak (show gm_Lle [some _, some _, none, some _, some _, some _] _ from ⟨rfl, ⟨rfl, ⟨rfl, ⟨rfl, ⟨rfl, trivial⟩⟩⟩⟩⟩) H
      · replace H := H.2 hc
        exact g_weak (show gm_Lle [some _, some _, none, some _, some _, some _] _ from ⟨rfl, ⟨rfl, ⟨rfl, ⟨rfl, ⟨rfl, trivial⟩⟩⟩⟩⟩) H
    · exact H
set_option maxRecDepth 20000 in
theorem w_622_226 {a0 : Nat} {x1 : Int32} {x3 : Int32} {x4 : Int32} {r_5 : Option Nat} {h : hh_T} {Q : Option Value ⊕ Nat → hh_T → Prop} (H : gm_G 622 231 [some (.ref a0), some (.int x1), none, some (.int x3), some (.int x4), some (va_rf r_5)] [.int (Int32.ofNat 1)] h Q) : gm_G 622 226 [some (.ref a0), some (.int x1), none, some (.int x3), some (.int x4), some (va_rf r_5)] [] h Q := by
  refine g_iconst rfl rfl rfl (pc' := 227) ?_
  refine g_goto rfl (pc' := 231) rfl ?_
  exact g_weak (show gm_Lle [some _, some _, none, some _, some _, some _] _ from ⟨rfl, ⟨rfl, ⟨rfl, ⟨rfl, ⟨rfl, trivial⟩⟩⟩⟩⟩) H
set_option maxRecDepth 20000 in
theorem w_622_230 {a0 : Nat} {x1 : Int32} {x3 : Int32} {x4 : Int32} {r_5 : Option Nat} {h : hh_T} {Q : Option Value ⊕ Nat → hh_T → Prop} (H : gm_G 622 231 [some (.ref a0), some (.int x1), none, some (.int x3), some (.int x4), some (va_rf r_5)] [.int (Int32.ofNat 0)] h Q) : gm_G 622 230 [some (.ref a0), some (.int x1), none, some (.int x3), some (.int x4), some (va_rf r_5)] [] h Q := by
  refine g_iconst rfl rfl rfl (pc' := 231) ?_
  exact g_weak (show gm_Lle [some _, some _, none, some _, some _, some _] _ from ⟨rfl, ⟨rfl, ⟨rfl, ⟨rfl, ⟨rfl, trivial⟩⟩⟩⟩⟩) H
set_option maxRecDepth 20000 in
theorem w_622_231 {a0 : Nat} {x1 : Int32} {x3 : Int32} {x4 : Int32} {r_5 : Option Nat} {y0 : Int32} {h : hh_T} {Q : Option Value ⊕ Nat → hh_T → Prop} (H : gm_G 431 0 [some (.int y0), some (.int (Int32.ofInt (-6)))] [] h (pV (fun h1 => gm_sub (hh_tg h1 a0) 0 = true ∧ (∀ r3, r3 = hh_r h1 a0 51 → (∃ a4, r3 = some a4 ∧ (hh_tg h1 a4 = 15 ∧ (gm_G 77 0 [some (.ref a4), some (.int x1), some (.int x4)] [] h1 (pI (fun v7 h6 => (v7 = Int32.ofNat 0 → (gm_G 622 269 [some (.ref a0), some (.int x1), none, some (.int x3), some (.int x4), some (va_rf r_5)] [] h6 Q)) ∧ (¬ v7 = Int32.ofNat 0 → ((¬ (x3 &&& (Int32.ofNat 64)) = Int32.ofNat 0 → (gm_G 622 273 [some (.ref a0), some (.int x1), none, some (.int x3), some (.int x4), some (va_rf r_5)] [] h6 Q)) ∧ ((x3 &&& (Int32.ofNat 64)) = Int32.ofNat 0 → (gm_sub (hh_tg h6 a0) 0 = true ∧ (∀ r9, r9 = hh_r h6 a0 51 → (∃ a10, r9 = some a10 ∧ (hh_tg h6 a10 = 15 ∧ (gm_G 74 0 [some (.ref a10), some (.int x1), some (.int x4)] [] h6 (pI (fun v13 h12 => (¬ v13 = Int32.ofNat 0 → (gm_G 622 273 [some (.ref a0), some (.int x1), none, some (.int x3), some (.int x4), some (va_rf r_5)] [] h12 Q)) ∧ (v13 = Int32.ofNat 0 → (gm_G 622 269 [some (.ref a0), some (.int x1), none, some (.int x3), some (.int x4), some (va_rf r_5)] [] h12 Q))) (fun e14 h15 => hh_tg h15 e14 = 21 ∧ Q (.inr e14) h15))))))))))) (fun e16 h17 => hh_tg h17 e16 = 21 ∧ Q (.inr e16) h17))))))) (fun e18 h19 => hh_tg h19 e18 = 21 ∧ Q (.inr e18) h19))) : gm_G 622 231 [some (.ref a0), some (.int x1), none, some (.int x3), some (.int x4), some (va_rf r_5)] [.int y0] h Q := by
  refine g_iconst rfl rfl rfl (pc' := 233) ?_
  refine g_call rfl (y := 431) (n := 2) (pc' := 236) (fun _ => rfl) rfl rfl ⟨(Nat.le_of_ble_eq_true rfl), (Nat.le_of_ble_eq_true rfl), (Nat.le_of_ble_eq_true rfl)⟩ rfl (gm_G.mono H (pV_elim (fun h1 H' => ?_) (fun e18 h19 H => ?_)))
  · show gm_G _ 236 _ _ _ _
    replace H := H'
    clear H'
    refine g_aload (r := some _) rfl rfl rfl (pc' := 237) ?_
    obtain ⟨ht2, H⟩ := H
    refine g_getRv rfl rfl rfl rfl ht2 (pc' := 240) rfl (fun r3 hr3 => ?_)
    replace H := H r3 hr3
    refine g_iload rfl rfl rfl (pc' := 241) ?_
    refine g_iload rfl rfl rfl (pc' := 243) ?_
    obtain ⟨a4, rfl, H⟩ := H
    obtain ⟨ht5, H⟩ := H
    refine g_call rfl (y := 77) (n := 3) (pc' := 246) (g_vt ht5 rfl rfl) rfl rfl ⟨(Nat.le_of_ble_eq_true rfl), (Nat.le_of_ble_eq_true rfl), (Nat.le_of_ble_eq_true rfl)⟩ rfl (gm_G.mono H (pI_elim (fun v7 h6 H' => ?_) (fun e16 h17 H => ?_)))
    · show gm_G _ 246 _ _ _ _
      replace H := H'
      clear H'
      refine g_if_eq rfl (pc' := 249) (pt := 269) rfl rfl ⟨fun hc => ?_, fun hc => ?_⟩
      · replace H := H.1 hc
        exact g_weak (show gm_Lle [some _, some _, none, some _, some _, some _] _ from ⟨rfl, ⟨rfl, ⟨rfl, ⟨rfl, ⟨rfl, trivial⟩⟩⟩⟩⟩) H
      · replace H := H.2 hc
        refine g_iload rfl rfl rfl (pc' := 250) ?_
        refine g_iconst rfl rfl rfl (pc' := 252) ?_
        refine g_iand rfl rfl (pc' := 253) ?_
        refine g_if_ne rfl (pc' := 256) (pt := 273) rfl rfl ⟨fun hc => ?_, fun hc => ?_⟩
        · replace H := H.1 hc
          exact g_weak (show gm_Lle [some _, some _, none, some _, some _, some _] _ from ⟨rfl, ⟨rfl, ⟨rfl, ⟨rfl, ⟨rfl, trivial⟩⟩⟩⟩⟩) H
        · replace H := H.2 hc
          refine g_aload (r := some _) rfl rfl rfl (pc' := 257) ?_
          obtain ⟨ht8, H⟩ := H
          refine g_getRv rfl rfl rfl rfl ht8 (pc' := 260) rfl (fun r9 hr9 => ?_)
          replace H := H r9 hr9
          refine g_iload rfl rfl rfl (pc' := 261) ?_
          refine g_iload rfl rfl rfl (pc' := 263) ?_
          obtain ⟨a10, rfl, H⟩ := H
          obtain ⟨ht11, H⟩ := H
          refine g_call rfl (y := 74) (n := 3) (pc' := 266) (g_vt ht11 rfl rfl) rfl rfl ⟨(Nat.le_of_ble_eq_true rfl), (Nat.le_of_ble_eq_true rfl), (Nat.le_of_ble_eq_true rfl)⟩ rfl (gm_G.mono H (pI_elim (fun v13 h12 H' => ?_) (fun e14 h15 H => ?_)))
          · show gm_G _ 266 _ _ _ _
            replace H := H'
            clear H'
            refine g_if_ne rfl (pc' := 269) (pt := 273) rfl rfl ⟨fun hc => ?_, fun hc => ?_⟩
            · replace H := H.1 hc
              exact g_weak (show gm_Lle [some _, some _, none, some _, some _, some _] _ from ⟨rfl, ⟨rfl, ⟨rfl, ⟨rfl, ⟨rfl, trivial⟩⟩⟩⟩⟩) H
            · replace H := H.2 hc
              exact g_weak (show gm_Lle [some _, some _, none, some _, some _, some _] _ from ⟨rfl, ⟨rfl, ⟨rfl, ⟨rfl, ⟨rfl, trivial⟩⟩⟩⟩⟩) H
          · exact H
    · exact H
  · exact H
set_option maxRecDepth 20000 in
theorem w_622_269 {a0 : Nat} {x1 : Int32} {x3 : Int32} {x4 : Int32} {r_5 : Option Nat} {h : hh_T} {Q : Option Value ⊕ Nat → hh_T → Prop} (H : gm_G 622 274 [some (.ref a0), some (.int x1), none, some (.int x3), some (.int x4), some (va_rf r_5)] [.int (Int32.ofNat 1)] h Q) : gm_G 622 269 [some (.ref a0), some (.int x1), none, some (.int x3), some (.int x4), some (va_rf r_5)] [] h Q := by
  refine g_iconst rfl rfl rfl (pc' := 270) ?_
  refine g_goto rfl (pc' := 274) rfl ?_
  exact g_weak (show gm_Lle [some _, some _, none, some _, some _, some _] _ from ⟨rfl, ⟨rfl, ⟨rfl, ⟨rfl, ⟨rfl, trivial⟩⟩⟩⟩⟩) H
set_option maxRecDepth 20000 in
theorem w_622_273 {a0 : Nat} {x1 : Int32} {x3 : Int32} {x4 : Int32} {r_5 : Option Nat} {h : hh_T} {Q : Option Value ⊕ Nat → hh_T → Prop} (H : gm_G 622 274 [some (.ref a0), some (.int x1), none, some (.int x3), some (.int x4), some (va_rf r_5)] [.int (Int32.ofNat 0)] h Q) : gm_G 622 273 [some (.ref a0), some (.int x1), none, some (.int x3), some (.int x4), some (va_rf r_5)] [] h Q := by
  refine g_iconst rfl rfl rfl (pc' := 274) ?_
  exact g_weak (show gm_Lle [some _, some _, none, some _, some _, some _] _ from ⟨rfl, ⟨rfl, ⟨rfl, ⟨rfl, ⟨rfl, trivial⟩⟩⟩⟩⟩) H
set_option maxRecDepth 20000 in
theorem w_622_274 {a0 : Nat} {x1 : Int32} {x3 : Int32} {x4 : Int32} {r_5 : Option Nat} {y0 : Int32} {h : hh_T} {Q : Option Value ⊕ Nat → hh_T → Prop} (H : gm_G 431 0 [some (.int y0), some (.int (Int32.ofInt (-5)))] [] h (pV (fun h1 => gm_sub (hh_tg h1 a0) 0 = true ∧ (∀ r3, r3 = hh_r h1 a0 51 → (((x3 &&& (Int32.ofNat 2)) = Int32.ofNat 0 → (gm_G 622 297 [some (.ref a0), some (.int x1), none, some (.int x3), some (.int x4), some (va_rf r_5)] [.int (Int32.ofNat 0), .int x4, .int x1, va_rf r3] h1 Q)) ∧ (¬ (x3 &&& (Int32.ofNat 2)) = Int32.ofNat 0 → (gm_G 622 297 [some (.ref a0), some (.int x1), none, some (.int x3), some (.int x4), some (va_rf r_5)] [.int (Int32.ofNat 1), .int x4, .int x1, va_rf r3] h1 Q))))) (fun e4 h5 => hh_tg h5 e4 = 21 ∧ Q (.inr e4) h5))) : gm_G 622 274 [some (.ref a0), some (.int x1), none, some (.int x3), some (.int x4), some (va_rf r_5)] [.int y0] h Q := by
  refine g_iconst rfl rfl rfl (pc' := 276) ?_
  refine g_call rfl (y := 431) (n := 2) (pc' := 279) (fun _ => rfl) rfl rfl ⟨(Nat.le_of_ble_eq_true rfl), (Nat.le_of_ble_eq_true rfl), (Nat.le_of_ble_eq_true rfl)⟩ rfl (gm_G.mono H (pV_elim (fun h1 H' => ?_) (fun e4 h5 H => ?_)))
  · show gm_G _ 279 _ _ _ _
    replace H := H'
    clear H'
    refine g_aload (r := some _) rfl rfl rfl (pc' := 280) ?_
    obtain ⟨ht2, H⟩ := H
    refine g_getRv rfl rfl rfl rfl ht2 (pc' := 283) rfl (fun r3 hr3 => ?_)
    replace H := H r3 hr3
    refine g_iload rfl rfl rfl (pc' := 284) ?_
    refine g_iload rfl rfl rfl (pc' := 286) ?_
    refine g_iload rfl rfl rfl (pc' := 287) ?_
    refine g_iconst rfl rfl rfl (pc' := 288) ?_
    refine g_iand rfl rfl (pc' := 289) ?_
    refine g_if_eq rfl (pc' := 292) (pt := 296) rfl rfl ⟨fun hc => ?_, fun hc => ?_⟩
    · replace H := H.1 hc
      refine g_iconst rfl rfl rfl (pc' := 297) ?_
      exact g_weak (show gm_Lle [some _, some _, none, some _, some _, some _] _ from ⟨rfl, ⟨rfl, ⟨rfl, ⟨rfl, ⟨rfl, trivial⟩⟩⟩⟩⟩) H
    · replace H := H.2 hc
      refine g_iconst rfl rfl rfl (pc' := 293) ?_
      refine g_goto rfl (pc' := 297) rfl ?_
      exact g_weak (show gm_Lle [some _, some _, none, some _, some _, some _] _ from ⟨rfl, ⟨rfl, ⟨rfl, ⟨rfl, ⟨rfl, trivial⟩⟩⟩⟩⟩) H
  · exact H
set_option maxRecDepth 20000 in
theorem w_622_297 {a0 : Nat} {x1 : Int32} {x3 : Int32} {x4 : Int32} {r_5 : Option Nat} {y0 : Int32} {y1 : Int32} {y2 : Int32} {q3 : Option Nat} {h : hh_T} {Q : Option Value ⊕ Nat → hh_T → Prop} (H : gm_sub (hh_tg h a0) 0 = true ∧ (∃ a2, q3 = some a2 ∧ (hh_tg h a2 = 15 ∧ (gm_G 78 0 [some (.ref a2), some (.int y2), some (.int y1), some (.int y0), some (.int (hh_i h a0 42))] [] h (pI (fun v5 h4 => (¬ v5 = Int32.ofNat 0 → (gm_G 622 312 [some (.ref a0), some (.int x1), none, some (.int x3), some (.int x4), some (va_rf r_5)] [.int (Int32.ofNat 0)] h4 Q)) ∧ (v5 = Int32.ofNat 0 → (gm_G 622 312 [some (.ref a0), some (.int x1), none, some (.int x3), some (.int x4), some (va_rf r_5)] [.int (Int32.ofNat 1)] h4 Q))) (fun e6 h7 => hh_tg h7 e6 = 21 ∧ Q (.inr e6) h7)))))) : gm_G 622 297 [some (.ref a0), some (.int x1), none, some (.int x3), some (.int x4), some (va_rf r_5)] [.int y0, .int y1, .int y2, va_rf q3] h Q := by
  refine g_aload (r := some _) rfl rfl rfl (pc' := 298) ?_
  obtain ⟨ht1, H⟩ := H
  refine g_getI rfl rfl rfl rfl ht1 (pc' := 301) rfl ?_
  obtain ⟨a2, rfl, H⟩ := H
  obtain ⟨ht3, H⟩ := H
  refine g_call rfl (y := 78) (n := 5) (pc' := 304) (g_vt ht3 rfl rfl) rfl rfl ⟨(Nat.le_of_ble_eq_true rfl), (Nat.le_of_ble_eq_true rfl), (Nat.le_of_ble_eq_true rfl)⟩ rfl (gm_G.mono H (pI_elim (fun v5 h4 H' => ?_) (fun e6 h7 H => ?_)))
  · show gm_G _ 304 _ _ _ _
    replace H := H'
    clear H'
    refine g_if_ne rfl (pc' := 307) (pt := 311) rfl rfl ⟨fun hc => ?_, fun hc => ?_⟩
    · replace H := H.1 hc
      refine g_iconst rfl rfl rfl (pc' := 312) ?_
      exact g_weak (show gm_Lle [some _, some _, none, some _, some _, some _] _ from ⟨rfl, ⟨rfl, ⟨rfl, ⟨rfl, ⟨rfl, trivial⟩⟩⟩⟩⟩) H
    · replace H := H.2 hc
      refine g_iconst rfl rfl rfl (pc' := 308) ?_
      refine g_goto rfl (pc' := 312) rfl ?_
      exact g_weak (show gm_Lle [some _, some _, none, some _, some _, some _] _ from ⟨rfl, ⟨rfl, ⟨rfl, ⟨rfl, ⟨rfl, trivial⟩⟩⟩⟩⟩) H
  · exact H
set_option maxRecDepth 20000 in
theorem w_622_312 {a0 : Nat} {x1 : Int32} {x3 : Int32} {x4 : Int32} {r_5 : Option Nat} {y0 : Int32} {h : hh_T} {Q : Option Value ⊕ Nat → hh_T → Prop} (H : gm_G 431 0 [some (.int y0), some (.int (Int32.ofInt (-5)))] [] h (pV (fun h1 => ((x3 &&& (Int32.ofNat 16)) = Int32.ofNat 0 → (gm_G 622 373 [none, none, none, none, some (.int x4)] [] h1 Q)) ∧ (¬ (x3 &&& (Int32.ofNat 16)) = Int32.ofNat 0 → (∃ a2, r_5 = some a2 ∧ (gm_sub (hh_tg h1 a2) 25 = true ∧ ((¬ Int32.ofNat 0 < (hh_i h1 a2 6) → (gm_G 622 373 [none, none, none, none, some (.int x4)] [] h1 Q)) ∧ (Int32.ofNat 0 < (hh_i h1 a2 6) → (gm_sub (hh_tg h1 a0) 0 = true ∧ (∀ r5, r5 = hh_r h1 a0 33 → (∃ a6, r5 = some a6 ∧ (hh_tg h1 a6 = 23 ∧ (gm_G 178 0 [some (.ref a6), some (.int (x1 / (Int32.ofNat 2)))] [] h1 (pR (fun r9 h8 => ∀ a10 h11, a10 = hh_sz h8 → h11 = hh_al h8 42 0 7 → (gm_G 387 0 [some (.ref a10), some (.ref a0), some (.int x4), some (.int (Int32.ofNat 0))] [] h11 (pV (fun h12 => hh_tg h12 a0 = 1 ∧ (gm_G 605 0 [some (.ref a0), some (va_rf r9), some (.ref a10)] [] h12 (pV (fun h14 => gm_G 622 361 [some (.ref a0), none, none, none, some (.int x4), none, some (va_rf r9)] [] h14 Q) (fun e15 h16 => hh_tg h16 e15 = 21 ∧ Q (.inr e15) h16)))) (fun e17 h18 => hh_tg h18 e17 = 21 ∧ Q (.inr e17) h18)))) (fun e19 h20 => hh_tg h20 e19 = 21 ∧ Q (.inr e19) h20))))))))))))) (fun e21 h22 => hh_tg h22 e21 = 21 ∧ Q (.inr e21) h22))) : gm_G 622 312 [some (.ref a0), some (.int x1), none, some (.int x3), some (.int x4), some (va_rf r_5)] [.int y0] h Q := by
  refine g_iconst rfl rfl rfl (pc' := 314) ?_
  refine g_call rfl (y := 431) (n := 2) (pc' := 317) (fun _ => rfl) rfl rfl ⟨(Nat.le_of_ble_eq_true rfl), (Nat.le_of_ble_eq_true rfl), (Nat.le_of_ble_eq_true rfl)⟩ rfl (gm_G.mono H (pV_elim (fun h1 H' => ?_) (fun e21 h22 H => ?_)))
  · show gm_G _ 317 _ _ _ _
    replace H := H'
    clear H'
    refine g_iload rfl rfl rfl (pc' := 318) ?_
    refine g_iconst rfl rfl rfl (pc' := 320) ?_
    refine g_iand rfl rfl (pc' := 321) ?_
    refine g_if_eq rfl (pc' := 324) (pt := 373) rfl rfl ⟨fun hc => ?_, fun hc => ?_⟩
    · replace H := H.1 hc
      exact g_weak (show gm_Lle [none, none, none, none, some _] _ from ⟨rfl, trivial⟩) H
    · replace H := H.2 hc
      refine g_aload (r := _) rfl rfl rfl (pc' := 326) ?_
      obtain ⟨a2, rfl, H⟩ := H
      obtain ⟨ht3, H⟩ := H
      refine g_getI rfl rfl rfl rfl ht3 (pc' := 329) rfl ?_
      refine g_if_le rfl (pc' := 332) (pt := 373) rfl rfl ⟨fun hc => ?_, fun hc => ?_⟩
      · replace H := H.1 hc
        exact g_weak (show gm_Lle [none, none, none, none, some _] _ from ⟨rfl, trivial⟩) H
      · replace H := H.2 hc
        refine g_aload (r := some _) rfl rfl rfl (pc' := 333) ?_
        obtain ⟨ht4, H⟩ := H
        refine g_getRv rfl rfl rfl rfl ht4 (pc' := 336) rfl (fun r5 hr5 => ?_)
        replace H := H r5 hr5
        refine g_iload rfl rfl rfl (pc' := 337) ?_
        refine g_iconst rfl rfl rfl (pc' := 338) ?_
        refine g_idiv rfl (by decide) (pc' := 339) rfl ?_
        obtain ⟨a6, rfl, H⟩ := H
        obtain ⟨ht7, H⟩ := H
        refine g_call rfl (y := 178) (n := 2) (pc' := 342) (g_vt ht7 rfl rfl) rfl rfl ⟨(Nat.le_of_ble_eq_true rfl), (Nat.le_of_ble_eq_true rfl), (Nat.le_of_ble_eq_true rfl)⟩ rfl (gm_G.mono H (pR_elim (fun r9 h8 H' => ?_) (fun e19 h20 H => ?_)))
        · show gm_G _ 342 _ _ _ _
          replace H := H'
          clear H'
          refine g_astore (r := _) rfl rfl rfl (pc' := 344) ?_
          refine g_aload (r := some _) rfl rfl rfl (pc' := 345) ?_
          refine g_aload (r := _) rfl rfl rfl (pc' := 347) ?_
          refine g_new rfl (t := 42) (s := 7) rfl rfl (pc' := 350) rfl ?_
          replace H := H _ _ rfl rfl
          refine g_dup_a (r := some _) rfl rfl (pc' := 351) ?_
          refine g_aload (r := some _) rfl rfl rfl (pc' := 352) ?_
          refine g_iload rfl rfl rfl (pc' := 354) ?_
          refine g_iconst rfl rfl rfl (pc' := 355) ?_
          refine g_call rfl (y := 387) (n := 4) (pc' := 358) (fun _ => rfl) rfl rfl ⟨(Nat.le_of_ble_eq_true rfl), (Nat.le_of_ble_eq_true rfl), (Nat.le_of_ble_eq_true rfl)⟩ rfl (gm_G.mono H (pV_elim (fun h12 H' => ?_) (fun e17 h18 H => ?_)))
          · show gm_G _ 358 _ _ _ _
            replace H := H'
            clear H'
            obtain ⟨ht13, H⟩ := H
            refine g_call rfl (y := 605) (n := 3) (pc' := 361) (g_vt ht13 rfl rfl) (by cases r9 <;> rfl) rfl ⟨(Nat.le_of_ble_eq_true rfl), (Nat.le_of_ble_eq_true rfl), (Nat.le_of_ble_eq_true rfl)⟩ rfl (gm_G.mono H (pV_elim (fun h14 H' => ?_) (fun e15 h16 H => ?_)))
            · show gm_G _ 361 _ _ _ _
              replace H := H'
              clear H'
              exact g_weak (show gm_Lle [some _, none, none, none, some _, none, some _] _ from ⟨rfl, ⟨rfl, ⟨rfl, trivial⟩⟩⟩) H
            · exact H
          · exact H
        · exact H
  · exact H
set_option maxRecDepth 20000 in
theorem w_622_361 {a0 : Nat} {x4 : Int32} {r_6 : Option Nat} {h : hh_T} {Q : Option Value ⊕ Nat → hh_T → Prop} (H : gm_sub (hh_tg h a0) 0 = true ∧ (∀ r2, r2 = hh_r h a0 52 → (∃ a3, r2 = some a3 ∧ (hh_tg h a3 = 16 ∧ (gm_G 262 0 [some (.ref a3), some (va_rf r_6), some (.int (Int32.ofNat 5)), some (.int x4)] [] h (pV (fun h5 => gm_G 622 373 [none, none, none, none, some (.int x4)] [] h5 Q) (fun e6 h7 => hh_tg h7 e6 = 21 ∧ Q (.inr e6) h7))))))) : gm_G 622 361 [some (.ref a0), none, none, none, some (.int x4), none, some (va_rf r_6)] [] h Q := by
  refine g_aload (r := some _) rfl rfl rfl (pc' := 362) ?_
  obtain ⟨ht1, H⟩ := H
  refine g_getRv rfl rfl rfl rfl ht1 (pc' := 365) rfl (fun r2 hr2 => ?_)
  replace H := H r2 hr2
  refine g_aload (r := _) rfl rfl rfl (pc' := 367) ?_
  refine g_iconst rfl rfl rfl (pc' := 368) ?_
  refine g_iload rfl rfl rfl (pc' := 370) ?_
  obtain ⟨a3, rfl, H⟩ := H
  obtain ⟨ht4, H⟩ := H
  refine g_call rfl (y := 262) (n := 4) (pc' := 373) (g_vt ht4 rfl rfl) (by cases r_6 <;> rfl) rfl ⟨(Nat.le_of_ble_eq_true rfl), (Nat.le_of_ble_eq_true rfl), (Nat.le_of_ble_eq_true rfl)⟩ rfl (gm_G.mono H (pV_elim (fun h5 H' => ?_) (fun e6 h7 H => ?_)))
  · show gm_G _ 373 _ _ _ _
    replace H := H'
    clear H'
    exact g_weak (show gm_Lle [none, none, none, none, some _] _ from ⟨rfl, trivial⟩) H
  · exact H
set_option maxRecDepth 20000 in
theorem w_622_373 {a0 : Nat} {x4 : Int32} {h : hh_T} {Q : Option Value ⊕ Nat → hh_T → Prop} (H : Q (.inl (some (.int x4))) h) : gm_G 622 373 [none, none, none, none, some (.int x4)] [] h Q := by
  refine g_iload rfl rfl rfl (pc' := 375) ?_
  exact g_ireturn rfl (Or.inl rfl) H
set_option maxRecDepth 20000 in
theorem w_623_0 {a0 : Nat} {x1 : Int32} {h : hh_T} {Q : Option Value ⊕ Nat → hh_T → Prop} (H : hh_tg h a0 = 1 ∧ (gm_G 243 0 [some (.ref a0)] [] h (pV (fun h2 => hh_tg h2 a0 = 1 ∧ (gm_G 456 0 [some (.ref a0)] [] h2 (pV (fun h4 => gm_sub (hh_tg h4 a0) 0 = true ∧ (∀ r6, r6 = hh_r h4 a0 58 → (∀ r7, r7 = hh_r h4 a0 58 → (∃ a8, r7 = some a8 ∧ (gm_sub (hh_tg h4 a8) 12 = true ∧ (gm_G 339 0 [some (va_rf r6), some (.int (Int32.ofNat 0)), some (.int (hh_i h4 a8 1))] [] h4 (pI (fun v11 h10 => (v11 = Int32.ofNat 0 → (gm_G 623 48 [some (.ref a0), some (.int x1)] [] h10 Q)) ∧ (¬ v11 = Int32.ofNat 0 → (gm_sub (hh_tg h10 a0) 0 = true ∧ (∀ r13, r13 = hh_r h10 a0 58 → (∀ r14, r14 = hh_r h10 a0 58 → (∃ a15, r14 = some a15 ∧ (gm_sub (hh_tg h10 a15) 12 = true ∧ (gm_G 344 0 [some (va_rf r13), some (.int (Int32.ofNat 0)), some (.int (hh_i h10 a15 1))] [] h10 (pI (fun v18 h17 => (v18 = Int32.ofNat 0 → (gm_G 623 48 [some (.ref a0), some (.int x1)] [] h17 Q)) ∧ (¬ v18 = Int32.ofNat 0 → (gm_G 623 49 [some (.ref a0), some (.int x1)] [.int (Int32.ofNat 1)] h17 Q))) (fun e19 h20 => hh_tg h20 e19 = 21 ∧ gm_G 623 195 [some (.ref a0)] [.ref e19] h20 Q)))))))))) (fun e21 h22 => hh_tg h22 e21 = 21 ∧ gm_G 623 195 [some (.ref a0)] [.ref e21] h22 Q)))))))) (fun e23 h24 => hh_tg h24 e23 = 21 ∧ gm_G 623 195 [some (.ref a0)] [.ref e23] h24 Q)))) (fun e25 h26 => hh_tg h26 e25 = 21 ∧ Q (.inr e25) h26)))) : gm_G 623 0 [some (.ref a0), some (.int x1)] [] h Q := by
  refine g_aload (r := some _) rfl rfl rfl (pc' := 1) ?_
  obtain ⟨ht1, H⟩ := H
  refine g_call rfl (y := 243) (n := 1) (pc' := 4) (g_vt ht1 rfl rfl) rfl rfl ⟨(Nat.le_of_ble_eq_true rfl), (Nat.le_of_ble_eq_true rfl), (Nat.le_of_ble_eq_true rfl)⟩ rfl (gm_G.mono H (pV_elim (fun h2 H' => ?_) (fun e25 h26 H => ?_)))
  · show gm_G _ 4 _ _ _ _
    replace H := H'
    clear H'
    refine g_aload (r := some _) rfl rfl rfl (pc' := 5) ?_
    obtain ⟨ht3, H⟩ := H
    refine g_call rfl (y := 456) (n := 1) (pc' := 8) (g_vt ht3 rfl rfl) rfl rfl ⟨(Nat.le_of_ble_eq_true rfl), (Nat.le_of_ble_eq_true rfl), (Nat.le_of_ble_eq_true rfl)⟩ rfl (gm_G.mono H (pV_elim (fun h4 H' => ?_) (fun e23 h24 H => ?_)))
    · show gm_G _ 8 _ _ _ _
      replace H := H'
      clear H'
      refine g_aload (r := some _) rfl rfl rfl (pc' := 9) ?_
      obtain ⟨ht5, H⟩ := H
      refine g_getRv rfl rfl rfl rfl ht5 (pc' := 12) rfl (fun r6 hr6 => ?_)
      replace H := H r6 hr6
      refine g_iconst rfl rfl rfl (pc' := 13) ?_
      refine g_aload (r := some _) rfl rfl rfl (pc' := 14) ?_
      refine g_getRv rfl rfl rfl rfl ht5 (pc' := 17) rfl (fun r7 hr7 => ?_)
      replace H := H r7 hr7
      obtain ⟨a8, rfl, H⟩ := H
      obtain ⟨ht9, H⟩ := H
      refine g_getI rfl rfl rfl rfl ht9 (pc' := 20) rfl ?_
      refine g_call rfl (y := 339) (n := 3) (pc' := 23) (fun _ => rfl) (by cases r6 <;> rfl) rfl ⟨(Nat.le_of_ble_eq_true rfl), (Nat.le_of_ble_eq_true rfl), (Nat.le_of_ble_eq_true rfl)⟩ rfl (gm_G.mono H (pI_elim (fun v11 h10 H' => ?_) (fun e21 h22 H => ?_)))
      · show gm_G _ 23 _ _ _ _
        replace H := H'
        clear H'
        refine g_if_eq rfl (pc' := 26) (pt := 48) rfl rfl ⟨fun hc => ?_, fun hc => ?_⟩
        · replace H := H.1 hc
          exact g_weak (show gm_Lle [some _, some _] _ from ⟨rfl, ⟨rfl, trivial⟩⟩) H
        · replace H := H.2 hc
          refine g_aload (r := some _) rfl rfl rfl (pc' := 27) ?_
          obtain ⟨ht12, H⟩ := H
          refine g_getRv rfl rfl rfl rfl ht12 (pc' := 30) rfl (fun r13 hr13 => ?_)
          replace H := H r13 hr13
          refine g_iconst rfl rfl rfl (pc' := 31) ?_
          refine g_aload (r := some _) rfl rfl rfl (pc' := 32) ?_
          refine g_getRv rfl rfl rfl rfl ht12 (pc' := 35) rfl (fun r14 hr14 => ?_)
          replace H := H r14 hr14
          obtain ⟨a15, rfl, H⟩ := H
          obtain ⟨ht16, H⟩ := H
          refine g_getI rfl rfl rfl rfl ht16 (pc' := 38) rfl ?_
          refine g_call rfl (y := 344) (n := 3) (pc' := 41) (fun _ => rfl) (by cases r13 <;> rfl) rfl ⟨(Nat.le_of_ble_eq_true rfl), (Nat.le_of_ble_eq_true rfl), (Nat.le_of_ble_eq_true rfl)⟩ rfl (gm_G.mono H (pI_elim (fun v18 h17 H' => ?_) (fun e19 h20 H => ?_)))
          · show gm_G _ 41 _ _ _ _
            replace H := H'
            clear H'
            refine g_if_eq rfl (pc' := 44) (pt := 48) rfl rfl ⟨fun hc => ?_, fun hc => ?_⟩
            · replace H := H.1 hc
              exact g_weak (show gm_Lle [some _, some _] _ from ⟨rfl, ⟨rfl, trivial⟩⟩) H
            · replace H := H.2 hc
              refine g_iconst rfl rfl rfl (pc' := 45) ?_
              refine g_goto rfl (pc' := 49) rfl ?_
              exact g_weak (show gm_Lle [some _, some _] _ from ⟨rfl, ⟨rfl, trivial⟩⟩) H
          · exact ⟨H.1, g_weak (show gm_Lle [some _] _ from ⟨rfl, trivial⟩) H.2⟩
      · exact ⟨H.1, g_weak (show gm_Lle [some _] _ from ⟨rfl, trivial⟩) H.2⟩
    · exact ⟨H.1, g_weak (show gm_Lle [some _] _ from ⟨rfl, trivial⟩) H.2⟩
  · exact H
set_option maxRecDepth 20000 in
theorem w_623_48 {a0 : Nat} {x1 : Int32} {h : hh_T} {Q : Option Value ⊕ Nat → hh_T → Prop} (H : gm_G 623 49 [some (.ref a0), some (.int x1)] [.int (Int32.ofNat 0)] h Q) : gm_G 623 48 [some (.ref a0), some (.int x1)] [] h Q := by
  refine g_iconst rfl rfl rfl (pc' := 49) ?_
  exact g_weak (show gm_Lle [some _, some _] _ from ⟨rfl, ⟨rfl, trivial⟩⟩) H
set_option maxRecDepth 20000 in
theorem w_623_49 {a0 : Nat} {x1 : Int32} {y0 : Int32} {h : hh_T} {Q : Option Value ⊕ Nat → hh_T → Prop} (H : gm_G 457 0 [some (.int y0)] [] h (pV (fun h1 => hh_tg h1 a0 = 1 ∧ (gm_G 488 0 [some (.ref a0), some (.int x1)] [] h1 (pR (fun r4 h3 => ∃ a5, r4 = some a5 ∧ (gm_sub (hh_tg h3 a5) 23 = true ∧ (∀ r7, r7 = hh_r h3 a5 9 → (gm_sub (hh_tg h3 a0) 0 = true ∧ (∀ r9, r9 = hh_r h3 a0 58 → (∀ r10, r10 = hh_r h3 a0 58 → (∃ a11, r10 = some a11 ∧ (gm_sub (hh_tg h3 a11) 12 = true ∧ (hh_tg h3 a0 = 1 ∧ (gm_G 551 0 [some (.ref a0), some (va_rf r7), some (.int (hh_i h3 a0 41)), some (va_rf r9), some (.int (Int32.ofNat 0)), some (.int (hh_i h3 a11 1))] [] h3 (pI (fun v15 h14 => gm_sub (hh_tg h14 a5) 23 = true ∧ (∀ r17, r17 = hh_r h14 a5 9 → (∃ a18, r17 = some a18 ∧ (gm_sub (hh_tg h14 a18) 24 = true ∧ (∀ r20, r20 = hh_r h14 a18 2 → (∃ a21, r20 = some a21 ∧ ((hh_tg h14 a21 = 104 ∨ 200 ≤ hh_tg h14 a21) ∧ (∃ n22, gm_ix v15 n22 (hh_ln h14 a21) ∧ (∀ r24, r24 = hh_r h14 a21 n22 → ((∀ b, r24 = some b → gm_sub (hh_tg h14 b) 27 = true) ∧ (gm_sub (hh_tg h14 a0) 0 = true ∧ (∀ r26, r26 = hh_r h14 a0 58 → (∀ r27, r27 = hh_r h14 a0 58 → (∀ r28, r28 = hh_r h14 a0 58 → (∃ a29, r28 = some a29 ∧ (gm_sub (hh_tg h14 a29) 12 = true ∧ (gm_G 13 0 [some (va_rf r27), some (.int (Int32.ofNat 0)), some (.int (hh_i h14 a29 1))] [] h14 (pI (fun v32 h31 => gm_sub (hh_tg h31 a0) 0 = true ∧ (∀ r34, r34 = hh_r h31 a0 58 → (∃ a35, r34 = some a35 ∧ (gm_sub (hh_tg h31 a35) 12 = true ∧ (gm_G 233 0 [some (va_rf r26), some (.int v32), some (.int (hh_i h31 a35 1))] [] h31 (pL (fun v38 h37 => gm_G 623 128 [some (.ref a0), none, some (.ref a5), some (.int v15), some (va_rf r24), some (.long v38)] [] h37 Q) (fun e39 h40 => hh_tg h40 e39 = 21 ∧ gm_G 623 195 [some (.ref a0)] [.ref e39] h40 Q))))))) (fun e41 h42 => hh_tg h42 e41 = 21 ∧ gm_G 623 195 [some (.ref a0)] [.ref e41] h42 Q))))))))))))))))))) (fun e43 h44 => hh_tg h44 e43 = 21 ∧ gm_G 623 195 [some (.ref a0)] [.ref e43] h44 Q)))))))))))) (fun e45 h46 => hh_tg h46 e45 = 21 ∧ gm_G 623 195 [some (.ref a0)] [.ref e45] h46 Q)))) (fun e47 h48 => hh_tg h48 e47 = 21 ∧ gm_G 623 195 [some (.ref a0)] [.ref e47] h48 Q))) : gm_G 623 49 [some (.ref a0), some (.int x1)] [.int y0] h Q := by
  refine g_call rfl (y := 457) (n := 1) (pc' := 52) (fun _ => rfl) rfl rfl ⟨(Nat.le_of_ble_eq_true rfl), (Nat.le_of_ble_eq_true rfl), (Nat.le_of_ble_eq_true rfl)⟩ rfl (gm_G.mono H (pV_elim (fun h1 H' => ?_) (fun e47 h48 H => ?_)))
  · show gm_G _ 52 _ _ _ _
    replace H := H'
    clear H'
    refine g_aload (r := some _) rfl rfl rfl (pc' := 53) ?_
    refine g_iload rfl rfl rfl (pc' := 54) ?_
    obtain ⟨ht2, H⟩ := H
    refine g_call rfl (y := 488) (n := 2) (pc' := 57) (g_vt ht2 rfl rfl) rfl rfl ⟨(Nat.le_of_ble_eq_true rfl), (Nat.le_of_ble_eq_true rfl), (Nat.le_of_ble_eq_true rfl)⟩ rfl (gm_G.mono H (pR_elim (fun r4 h3 H' => ?_) (fun e45 h46 H => ?_)))
    · show gm_G _ 57 _ _ _ _
      replace H := H'
      clear H'
      refine g_astore (r := _) rfl rfl rfl (pc' := 58) ?_
      refine g_aload (r := some _) rfl rfl rfl (pc' := 59) ?_
      refine g_aload (r := _) rfl rfl rfl (pc' := 60) ?_
      obtain ⟨a5, rfl, H⟩ := H
      obtain ⟨ht6, H⟩ := H
      refine g_getRv rfl rfl rfl rfl ht6 (pc' := 63) rfl (fun r7 hr7 => ?_)
      replace H := H r7 hr7
      refine g_aload (r := some _) rfl rfl rfl (pc' := 64) ?_
      obtain ⟨ht8, H⟩ := H
      refine g_getI rfl rfl rfl rfl ht8 (pc' := 67) rfl ?_
      refine g_aload (r := some _) rfl rfl rfl (pc' := 68) ?_
      refine g_getRv rfl rfl rfl rfl ht8 (pc' := 71) rfl (fun r9 hr9 => ?_)
      replace H := H r9 hr9
      refine g_iconst rfl rfl rfl (pc' := 72) ?_
      refine g_aload (r := some _) rfl rfl rfl (pc' := 73) ?_
      refine g_getRv rfl rfl rfl rfl ht8 (pc' := 76) rfl (fun r10 hr10 => ?_)
      replace H := H r10 hr10
      obtain ⟨a11, rfl, H⟩ := H
      obtain ⟨ht12, H⟩ := H
      refine g_getI rfl rfl rfl rfl ht12 (pc' := 79) rfl ?_
      obtain ⟨ht13, H⟩ := H
      refine g_call rfl (y := 551) (n := 6) (pc' := 82) (g_vt ht13 rfl rfl) (by cases r7 <;> cases r9 <;> rfl) rfl ⟨(Nat.le_of_ble_eq_true rfl), (Nat.le_of_ble_eq_true rfl), (Nat.le_of_ble_eq_true rfl)⟩ rfl (gm_G.mono H (pI_elim (fun v15 h14 H' => ?_) (fun e43 h44 H => ?_)))
      · show gm_G _ 82 _ _ _ _
        replace H := H'
        clear H'
        refine g_istore rfl rfl rfl (pc' := 83) ?_
        refine g_aload (r := some _) rfl rfl rfl (pc' := 84) ?_
        obtain ⟨ht16, H⟩ := H
        refine g_getRv rfl rfl rfl rfl ht16 (pc' := 87) rfl (fun r17 hr17 => ?_)
        replace H := H r17 hr17
        obtain ⟨a18, rfl, H⟩ := H
        obtain ⟨ht19, H⟩ := H
        refine g_getRv rfl rfl rfl rfl ht19 (pc' := 90) rfl (fun r20 hr20 => ?_)
        replace H := H r20 hr20
        refine g_iload rfl rfl rfl (pc' := 91) ?_
        obtain ⟨a21, rfl, H⟩ := H
        obtain ⟨ht23, H⟩ := H
        obtain ⟨n22, hn22, H⟩ := H
        refine g_aaloadv rfl ht23 hn22 (pc' := 92) rfl (fun r24 hr24 => ?_)
        replace H := H r24 hr24
        obtain ⟨Hc, H⟩ := H
        refine g_cast rfl Hc (pc' := 95) rfl ?_
        refine g_astore (r := _) rfl rfl rfl (pc' := 97) ?_
        refine g_aload (r := some _) rfl rfl rfl (pc' := 98) ?_
        obtain ⟨ht25, H⟩ := H
        refine g_getRv rfl rfl rfl rfl ht25 (pc' := 101) rfl (fun r26 hr26 => ?_)
        replace H := H r26 hr26
        refine g_aload (r := some _) rfl rfl rfl (pc' := 102) ?_
        refine g_getRv rfl rfl rfl rfl ht25 (pc' := 105) rfl (fun r27 hr27 => ?_)
        replace H := H r27 hr27
        refine g_iconst rfl rfl rfl (pc' := 106) ?_
        refine g_aload (r := some _) rfl rfl rfl (pc' := 107) ?_
        refine g_getRv rfl rfl rfl rfl ht25 (pc' := 110) rfl (fun r28 hr28 => ?_)
        replace H := H r28 hr28
        obtain ⟨a29, rfl, H⟩ := H
        obtain ⟨ht30, H⟩ := H
        refine g_getI rfl rfl rfl rfl ht30 (pc' := 113) rfl ?_
        refine g_call rfl (y := 13) (n := 3) (pc' := 116) (fun _ => rfl) (by cases r27 <;> rfl) rfl ⟨(Nat.le_of_ble_eq_true rfl), (Nat.le_of_ble_eq_true rfl), (Nat.le_of_ble_eq_true rfl)⟩ rfl (gm_G.mono H (pI_elim (fun v32 h31 H' => ?_) (fun e41 h42 H => ?_)))
        · show gm_G _ 116 _ _ _ _
          replace H := H'
          clear H'
          refine g_aload (r := some _) rfl rfl rfl (pc' := 117) ?_
          obtain ⟨ht33, H⟩ := H
          refine g_getRv rfl rfl rfl rfl ht33 (pc' := 120) rfl (fun r34 hr34 => ?_)
          replace H := H r34 hr34
          obtain ⟨a35, rfl, H⟩ := H
          obtain ⟨ht36, H⟩ := H
          refine g_getI rfl rfl rfl rfl ht36 (pc' := 123) rfl ?_
          refine g_call rfl (y := 233) (n := 3) (pc' := 126) (fun _ => rfl) (by cases r26 <;> rfl) rfl ⟨(Nat.le_of_ble_eq_true rfl), (Nat.le_of_ble_eq_true rfl), (Nat.le_of_ble_eq_true rfl)⟩ rfl (gm_G.mono H (pL_elim (fun v38 h37 H' => ?_) (fun e39 h40 H => ?_)))
          · show gm_G _ 126 _ _ _ _
            replace H := H'
            clear H'
            refine g_lstore rfl gm_sto2_rf4 rfl (pc' := 128) ?_
            exact g_weak (show gm_Lle [some _, none, some _, some _, some _, some _] _ from ⟨rfl, ⟨rfl, ⟨rfl, ⟨rfl, ⟨rfl, trivial⟩⟩⟩⟩⟩) H
          · exact ⟨H.1, g_weak (show gm_Lle [some _] _ from ⟨rfl, trivial⟩) H.2⟩
        · exact ⟨H.1, g_weak (show gm_Lle [some _] _ from ⟨rfl, trivial⟩) H.2⟩
      · exact ⟨H.1, g_weak (show gm_Lle [some _] _ from ⟨rfl, trivial⟩) H.2⟩
    · exact ⟨H.1, g_weak (show gm_Lle [some _] _ from ⟨rfl, trivial⟩) H.2⟩
  · exact ⟨H.1, g_weak (show gm_Lle [some _] _ from ⟨rfl, trivial⟩) H.2⟩
set_option maxRecDepth 20000 in
theorem w_623_128 {a0 : Nat} {r_2 : Option Nat} {x3 : Int32} {r_4 : Option Nat} {j5 : Int64} {h : hh_T} {Q : Option Value ⊕ Nat → hh_T → Prop} (H : ∃ a1, r_4 = some a1 ∧ (hh_tg h a1 = 28 ∧ (gm_G 196 0 [some (.ref a1), some (.long j5), none] [] h (pI (fun v4 h3 => (v4 < Int32.ofNat 0 → (gm_G 623 147 [some (.ref a0), none, some (va_rf r_2), some (.int x3), some (.ref a1), some (.long j5), none, some (.int v4)] [.int (Int32.ofNat 0)] h3 Q)) ∧ (¬ v4 < Int32.ofNat 0 → (gm_G 623 147 [some (.ref a0), none, some (va_rf r_2), some (.int x3), some (.ref a1), some (.long j5), none, some (.int v4)] [.int (Int32.ofNat 1)] h3 Q))) (fun e5 h6 => hh_tg h6 e5 = 21 ∧ gm_G 623 195 [some (.ref a0)] [.ref e5] h6 Q))))) : gm_G 623 128 [some (.ref a0), none, some (va_rf r_2), some (.int x3), some (va_rf r_4), some (.long j5)] [] h Q := by
  refine g_aload (r := _) rfl rfl rfl (pc' := 130) ?_
  refine g_lload rfl rfl rfl (pc' := 132) ?_
  obtain ⟨a1, rfl, H⟩ := H
  obtain ⟨ht2, H⟩ := H
  refine g_call rfl (y := 196) (n := 2) (pc' := 135) (g_vt ht2 rfl rfl) rfl rfl ⟨(Nat.le_of_ble_eq_true rfl), (Nat.le_of_ble_eq_true rfl), (Nat.le_of_ble_eq_true rfl)⟩ rfl (gm_G.mono H (pI_elim (fun v4 h3 H' => ?_) (fun e5 h6 H => ?_)))
  · show gm_G _ 135 _ _ _ _
    replace H := H'
    clear H'
    refine g_istore rfl rfl rfl (pc' := 137) ?_
    refine g_iload rfl rfl rfl (pc' := 139) ?_
    refine g_if_lt rfl (pc' := 142) (pt := 146) rfl rfl ⟨fun hc => ?_, fun hc => ?_⟩
    · replace H := H.1 hc
      refine g_iconst rfl rfl rfl (pc' := 147) ?_
      exact g_weak (show gm_Lle [some _, none, some _, some _, some _, some _, none, some _] _ from ⟨rfl, ⟨rfl, ⟨rfl, ⟨rfl, ⟨rfl, ⟨rfl, trivial⟩⟩⟩⟩⟩⟩) H
    · replace H := H.2 hc
      refine g_iconst rfl rfl rfl (pc' := 143) ?_
      refine g_goto rfl (pc' := 147) rfl ?_
      exact g_weak (show gm_Lle [some _, none, some _, some _, some _, some _, none, some _] _ from ⟨rfl, ⟨rfl, ⟨rfl, ⟨rfl, ⟨rfl, ⟨rfl, trivial⟩⟩⟩⟩⟩⟩) H
  · exact ⟨H.1, g_weak (show gm_Lle [some _] _ from ⟨rfl, trivial⟩) H.2⟩
set_option maxRecDepth 20000 in
theorem w_623_147 {a0 : Nat} {r_2 : Option Nat} {x3 : Int32} {r_4 : Option Nat} {j5 : Int64} {x7 : Int32} {y0 : Int32} {h : hh_T} {Q : Option Value ⊕ Nat → hh_T → Prop} (H : gm_G 431 0 [some (.int y0), some (.int (Int32.ofInt (-2)))] [] h (pV (fun h1 => gm_sub (hh_tg h1 a0) 0 = true ∧ (hh_tg h1 a0 = 1 ∧ (gm_G 393 0 [some (.ref a0), some (va_rf r_4), some (.int (hh_i h1 a0 41)), some (.int (Int32.ofNat 3))] [] h1 (pI (fun v5 h4 => gm_G 431 0 [some (.int v5), some (.int (Int32.ofInt (-6)))] [] h4 (pV (fun h6 => ∃ a7, r_4 = some a7 ∧ (gm_sub (hh_tg h6 a7) 27 = true ∧ (∀ r9, r9 = hh_r h6 a7 13 → (∃ a10, r9 = some a10 ∧ ((hh_tg h6 a10 = 100 ∨ hh_tg h6 a10 = 105) ∧ (∃ n11, gm_ix x7 n11 (hh_ln h6 a10) ∧ (hh_tg h6 a0 = 1 ∧ (gm_G 616 0 [some (.ref a0), some (va_rf r_2), some (.int x3), some (.long j5), none, some (.int (hh_i h6 a10 n11))] [] h6 (pV (fun h14 => hh_tg h14 a0 = 1 ∧ (gm_G 4 0 [some (.ref a0), some (.int (hh_i h6 a10 n11))] [] h14 (pI (fun v17 h16 => Q (.inl (some (.int v17))) h16) (fun e18 h19 => hh_tg h19 e18 = 21 ∧ gm_G 623 195 [some (.ref a0)] [.ref e18] h19 Q)))) (fun e20 h21 => hh_tg h21 e20 = 21 ∧ gm_G 623 195 [some (.ref a0)] [.ref e20] h21 Q)))))))))) (fun e22 h23 => hh_tg h23 e22 = 21 ∧ gm_G 623 195 [some (.ref a0)] [.ref e22] h23 Q))) (fun e24 h25 => hh_tg h25 e24 = 21 ∧ gm_G 623 195 [some (.ref a0)] [.ref e24] h25 Q))))) (fun e26 h27 => hh_tg h27 e26 = 21 ∧ gm_G 623 195 [some (.ref a0)] [.ref e26] h27 Q))) : gm_G 623 147 [some (.ref a0), none, some (va_rf r_2), some (.int x3), some (va_rf r_4), some (.long j5), none, some (.int x7)] [.int y0] h Q := by
  refine g_iconst rfl rfl rfl (pc' := 149) ?_
  refine g_call rfl (y := 431) (n := 2) (pc' := 152) (fun _ => rfl) rfl rfl ⟨(Nat.le_of_ble_eq_true rfl), (Nat.le_of_ble_eq_true rfl), (Nat.le_of_ble_eq_true rfl)⟩ rfl (gm_G.mono H (pV_elim (fun h1 H' => ?_) (fun e26 h27 H => ?_)))
  · show gm_G _ 152 _ _ _ _
    replace H := H'
    clear H'
    refine g_aload (r := some _) rfl rfl rfl (pc' := 153) ?_
    refine g_aload (r := _) rfl rfl rfl (pc' := 155) ?_
    refine g_aload (r := some _) rfl rfl rfl (pc' := 156) ?_
    obtain ⟨ht2, H⟩ := H
    refine g_getI rfl rfl rfl rfl ht2 (pc' := 159) rfl ?_
    refine g_iconst rfl rfl rfl (pc' := 160) ?_
    obtain ⟨ht3, H⟩ := H
    refine g_call rfl (y := 393) (n := 4) (pc' := 163) (g_vt ht3 rfl rfl) (by cases r_4 <;> rfl) rfl ⟨(Nat.le_of_ble_eq_true rfl), (Nat.le_of_ble_eq_true rfl), (Nat.le_of_ble_eq_true rfl)⟩ rfl (gm_G.mono H (pI_elim (fun v5 h4 H' => ?_) (fun e24 h25 H => ?_)))
    · show gm_G _ 163 _ _ _ _
      replace H := H'
      clear H'
      refine g_iconst rfl rfl rfl (pc' := 165) ?_
      refine g_call rfl (y := 431) (n := 2) (pc' := 168) (fun _ => rfl) rfl rfl ⟨(Nat.le_of_ble_eq_true rfl), (Nat.le_of_ble_eq_true rfl), (Nat.le_of_ble_eq_true rfl)⟩ rfl (gm_G.mono H (pV_elim (fun h6 H' => ?_) (fun e22 h23 H => ?_)))
      · show gm_G _ 168 _ _ _ _
        replace H := H'
        clear H'
        refine g_aload (r := _) rfl rfl rfl (pc' := 170) ?_
        obtain ⟨a7, rfl, H⟩ := H
        obtain ⟨ht8, H⟩ := H
        refine g_getRv rfl rfl rfl rfl ht8 (pc' := 173) rfl (fun r9 hr9 => ?_)
        replace H := H r9 hr9
        refine g_iload rfl rfl rfl (pc' := 175) ?_
        obtain ⟨a10, rfl, H⟩ := H
        obtain ⟨ht12, H⟩ := H
        obtain ⟨n11, hn11, H⟩ := H
        refine g_iaload rfl ht12 hn11 (pc' := 176) rfl ?_
        refine g_istore rfl rfl rfl (pc' := 178) ?_
        refine g_aload (r := some _) rfl rfl rfl (pc' := 179) ?_
        refine g_aload (r := _) rfl rfl rfl (pc' := 180) ?_
        refine g_iload rfl rfl rfl (pc' := 181) ?_
        refine g_lload rfl rfl rfl (pc' := 183) ?_
        refine g_iload rfl rfl rfl (pc' := 185) ?_
        obtain ⟨ht13, H⟩ := H
        refine g_call rfl (y := 616) (n := 5) (pc' := 188) (g_vt ht13 rfl rfl) (by cases r_2 <;> rfl) rfl ⟨(Nat.le_of_ble_eq_true rfl), (Nat.le_of_ble_eq_true rfl), (Nat.le_of_ble_eq_true rfl)⟩ rfl (gm_G.mono H (pV_elim (fun h14 H' => ?_) (fun e20 h21 H => ?_)))
        · show gm_G _ 188 _ _ _ _
          replace H := H'
          clear H'
          refine g_aload (r := some _) rfl rfl rfl (pc' := 189) ?_
          refine g_iload rfl rfl rfl (pc' := 191) ?_
          obtain ⟨ht15, H⟩ := H
          refine g_call rfl (y := 4) (n := 2) (pc' := 194) (g_vt ht15 rfl rfl) rfl rfl ⟨(Nat.le_of_ble_eq_true rfl), (Nat.le_of_ble_eq_true rfl), (Nat.le_of_ble_eq_true rfl)⟩ rfl (gm_G.mono H (pI_elim (fun v17 h16 H' => ?_) (fun e18 h19 H => ?_)))
          · show gm_G _ 194 _ _ _ _
            replace H := H'
            clear H'
            exact g_ireturn rfl (Or.inl rfl) H
          · exact ⟨H.1, g_weak (show gm_Lle [some _] _ from ⟨rfl, trivial⟩) H.2⟩
        · exact ⟨H.1, g_weak (show gm_Lle [some _] _ from ⟨rfl, trivial⟩) H.2⟩
      · exact ⟨H.1, g_weak (show gm_Lle [some _] _ from ⟨rfl, trivial⟩) H.2⟩
    · exact ⟨H.1, g_weak (show gm_Lle [some _] _ from ⟨rfl, trivial⟩) H.2⟩
  · exact ⟨H.1, g_weak (show gm_Lle [some _] _ from ⟨rfl, trivial⟩) H.2⟩
set_option maxRecDepth 20000 in
theorem w_623_195 {a0 : Nat} {ex : Nat} {h : hh_T} {Q : Option Value ⊕ Nat → hh_T → Prop} (H : hh_tg h a0 = 1 ∧ (gm_G 1 0 [some (.ref a0), some (.ref ex)] [] h (pI (fun v3 h2 => Q (.inl (some (.int v3))) h2) (fun e4 h5 => hh_tg h5 e4 = 21 ∧ Q (.inr e4) h5)))) : gm_G 623 195 [some (.ref a0)] [.ref ex] h Q := by
  refine g_astore (r := some _) rfl rfl rfl (pc' := 196) ?_
  refine g_aload (r := some _) rfl rfl rfl (pc' := 197) ?_
  refine g_aload (r := some _) rfl rfl rfl (pc' := 198) ?_
  obtain ⟨ht1, H⟩ := H
  refine g_call rfl (y := 1) (n := 2) (pc' := 201) (g_vt ht1 rfl rfl) rfl rfl ⟨(Nat.le_of_ble_eq_true rfl), (Nat.le_of_ble_eq_true rfl), (Nat.le_of_ble_eq_true rfl)⟩ rfl (gm_G.mono H (pI_elim (fun v3 h2 H' => ?_) (fun e4 h5 H => ?_)))
  · show gm_G _ 201 _ _ _ _
    replace H := H'
    clear H'
    exact g_ireturn rfl (Or.inl rfl) H
  · exact H
set_option maxRecDepth 20000 in
theorem w_624_0 {a0 : Nat} {x1 : Int32} {h : hh_T} {Q : Option Value ⊕ Nat → hh_T → Prop} (H : gm_sub (hh_tg h a0) 0 = true ∧ (∀ h2, h2 = hh_wi h a0 17 (Int32.ofNat 0) → (∀ h3, h3 = hh_wi h2 a0 29 (Int32.ofNat 0) → (gm_G 5 0 [some (.int x1), some (.int (Int32.ofNat 0)), some (.int (Int32.ofNat 2))] [] h3 (pI (fun v5 h4 => gm_G 452 0 [some (.int v5)] [] h4 (pV (fun h6 => gm_sub (hh_tg h6 a0) 0 = true ∧ (gm_G 431 0 [some (.int (hh_i h6 a0 9)), some (.int (Int32.ofInt (-2)))] [] h6 (pV (fun h8 => gm_G 624 28 [some (.ref a0), some (.int x1)] [] h8 Q) (fun e9 h10 => hh_tg h10 e9 = 21 ∧ gm_G 624 207 [some (.ref a0)] [.ref e9] h10 Q)))) (fun e11 h12 => hh_tg h12 e11 = 21 ∧ gm_G 624 207 [some (.ref a0)] [.ref e11] h12 Q))) (fun e13 h14 => hh_tg h14 e13 = 21 ∧ gm_G 624 207 [some (.ref a0)] [.ref e13] h14 Q)))))) : gm_G 624 0 [some (.ref a0), some (.int x1)] [] h Q := by
  refine g_aload (r := some _) rfl rfl rfl (pc' := 1) ?_
  refine g_iconst rfl rfl rfl (pc' := 2) ?_
  obtain ⟨ht1, H⟩ := H
  refine g_putI rfl rfl rfl rfl ht1  (pc' := 5) rfl ?_
  replace H := H _ rfl
  refine g_aload (r := some _) rfl rfl rfl (pc' := 6) ?_
  refine g_iconst rfl rfl rfl (pc' := 7) ?_
  refine g_putI rfl rfl rfl rfl ht1  (pc' := 10) rfl ?_
  replace H := H _ rfl
  refine g_iload rfl rfl rfl (pc' := 11) ?_
  refine g_iconst rfl rfl rfl (pc' := 12) ?_
  refine g_iconst rfl rfl rfl (pc' := 13) ?_
  refine g_call rfl (y := 5) (n := 3) (pc' := 16) (fun _ => rfl) rfl rfl ⟨(Nat.le_of_ble_eq_true rfl), (Nat.le_of_ble_eq_true rfl), (Nat.le_of_ble_eq_true rfl)⟩ rfl (gm_G.mono H (pI_elim (fun v5 h4 H' => ?_) (fun e13 h14 H => ?_)))
  · show gm_G _ 16 _ _ _ _
    replace H := H'
    clear H'
    refine g_call rfl (y := 452) (n := 1) (pc' := 19) (fun _ => rfl) rfl rfl ⟨(Nat.le_of_ble_eq_true rfl), (Nat.le_of_ble_eq_true rfl), (Nat.le_of_ble_eq_true rfl)⟩ rfl (gm_G.mono H (pV_elim (fun h6 H' => ?_) (fun e11 h12 H => ?_)))
    · show gm_G _ 19 _ _ _ _
      replace H := H'
      clear H'
      refine g_aload (r := some _) rfl rfl rfl (pc' := 20) ?_
      obtain ⟨ht7, H⟩ := H
      refine g_getZ rfl rfl rfl rfl ht7 (pc' := 23) rfl ?_
      refine g_iconst rfl rfl rfl (pc' := 25) ?_
      refine g_call rfl (y := 431) (n := 2) (pc' := 28) (fun _ => rfl) rfl rfl ⟨(Nat.le_of_ble_eq_true rfl), (Nat.le_of_ble_eq_true rfl), (Nat.le_of_ble_eq_true rfl)⟩ rfl (gm_G.mono H (pV_elim (fun h8 H' => ?_) (fun e9 h10 H => ?_)))
      · show gm_G _ 28 _ _ _ _
        replace H := H'
        clear H'
        exact g_weak (show gm_Lle [some _, some _] _ from ⟨rfl, ⟨rfl, trivial⟩⟩) H
      · exact ⟨H.1, g_weak (show gm_Lle [some _] _ from ⟨rfl, trivial⟩) H.2⟩
    · exact ⟨H.1, g_weak (show gm_Lle [some _] _ from ⟨rfl, trivial⟩) H.2⟩
  · exact ⟨H.1, g_weak (show gm_Lle [some _] _ from ⟨rfl, trivial⟩) H.2⟩
set_option maxRecDepth 20000 in
theorem w_624_28 {a0 : Nat} {x1 : Int32} {h : hh_T} {Q : Option Value ⊕ Nat → hh_T → Prop} (H : gm_sub (hh_tg h a0) 0 = true ∧ ((¬ (hh_i h a0 10) = Int32.ofNat 0 → (gm_G 624 40 [some (.ref a0), some (.int x1)] [.int (Int32.ofNat 0)] h Q)) ∧ ((hh_i h a0 10) = Int32.ofNat 0 → (gm_G 624 40 [some (.ref a0), some (.int x1)] [.int (Int32.ofNat 1)] h Q)))) : gm_G 624 28 [some (.ref a0), some (.int x1)] [] h Q := by
  refine g_aload (r := some _) rfl rfl rfl (pc' := 29) ?_
  obtain ⟨ht1, H⟩ := H
  refine g_getZ rfl rfl rfl rfl ht1 (pc' := 32) rfl ?_
  refine g_if_ne rfl (pc' := 35) (pt := 39) rfl rfl ⟨fun hc => ?_, fun hc => ?_⟩
  · replace H := H.1 hc
    refine g_iconst rfl rfl rfl (pc' := 40) ?_
    exact g_weak (show gm_Lle [some _, some _] _ from ⟨rfl, ⟨rfl, trivial⟩⟩) H
  · replace H := H.2 hc
    refine g_iconst rfl rfl rfl (pc' := 36) ?_
    refine g_goto rfl (pc' := 40) rfl ?_
    exact g_weak (show gm_Lle [some _, some _] _ from ⟨rfl, ⟨rfl, trivial⟩⟩) H
set_option maxRecDepth 20000 in
theorem w_624_40 {a0 : Nat} {x1 : Int32} {y0 : Int32} {h : hh_T} {Q : Option Value ⊕ Nat → hh_T → Prop} (H : gm_G 431 0 [some (.int y0), some (.int (Int32.ofInt (-5)))] [] h (pV (fun h1 => gm_sub (hh_tg h1 a0) 0 = true ∧ ((¬ x1 < (hh_i h1 a0 35) → (gm_G 624 58 [some (.ref a0), some (.int x1)] [.int (Int32.ofNat 0)] h1 Q)) ∧ (x1 < (hh_i h1 a0 35) → (gm_G 624 58 [some (.ref a0), some (.int x1)] [.int (Int32.ofNat 1)] h1 Q)))) (fun e3 h4 => hh_tg h4 e3 = 21 ∧ gm_G 624 207 [some (.ref a0)] [.ref e3] h4 Q))) : gm_G 624 40 [some (.ref a0), some (.int x1)] [.int y0] h Q := by
  refine g_iconst rfl rfl rfl (pc' := 42) ?_
  refine g_call rfl (y := 431) (n := 2) (pc' := 45) (fun _ => rfl) rfl rfl ⟨(Nat.le_of_ble_eq_true rfl), (Nat.le_of_ble_eq_true rfl), (Nat.le_of_ble_eq_true rfl)⟩ rfl (gm_G.mono H (pV_elim (fun h1 H' => ?_) (fun e3 h4 H => ?_)))
  · show gm_G _ 45 _ _ _ _
    replace H := H'
    clear H'
    refine g_iload rfl rfl rfl (pc' := 46) ?_
    refine g_aload (r := some _) rfl rfl rfl (pc' := 47) ?_
    obtain ⟨ht2, H⟩ := H
    refine g_getI rfl rfl rfl rfl ht2 (pc' := 50) rfl ?_
    refine g_ic_ge rfl (pc' := 53) (pt := 57) rfl rfl ⟨fun hc => ?_, fun hc => ?_⟩
    · replace H := H.1 hc
      refine g_iconst rfl rfl rfl (pc' := 58) ?_
      exact g_weak (show gm_Lle [some _, some _] _ from ⟨rfl, ⟨rfl, trivial⟩⟩) H
    · replace H := H.2 hc
      refine g_iconst rfl rfl rfl (pc' := 54) ?_
      refine g_goto rfl (pc' := 58) rfl ?_
      exact g_weak (show gm_Lle [some _, some _] _ from ⟨rfl, ⟨rfl, trivial⟩⟩) H
  · exact ⟨H.1, g_weak (show gm_Lle [some _] _ from ⟨rfl, trivial⟩) H.2⟩
set_option maxRecDepth 20000 in
theorem w_624_58 {a0 : Nat} {x1 : Int32} {y0 : Int32} {h : hh_T} {Q : Option Value ⊕ Nat → hh_T → Prop} (H : gm_G 431 0 [some (.int y0), some (.int (Int32.ofInt (-2)))] [] h (pV (fun h1 => gm_G 624 65 [some (.ref a0), some (.int x1), some (.int (Int32.ofNat 0))] [] h1 Q) (fun e2 h3 => hh_tg h3 e2 = 21 ∧ gm_G 624 207 [some (.ref a0)] [.ref e2] h3 Q))) : gm_G 624 58 [some (.ref a0), some (.int x1)] [.int y0] h Q := by
  refine g_iconst rfl rfl rfl (pc' := 60) ?_
  refine g_call rfl (y := 431) (n := 2) (pc' := 63) (fun _ => rfl) rfl rfl ⟨(Nat.le_of_ble_eq_true rfl), (Nat.le_of_ble_eq_true rfl), (Nat.le_of_ble_eq_true rfl)⟩ rfl (gm_G.mono H (pV_elim (fun h1 H' => ?_) (fun e2 h3 H => ?_)))
  · show gm_G _ 63 _ _ _ _
    replace H := H'
    clear H'
    refine g_iconst rfl rfl rfl (pc' := 64) ?_
    refine g_istore rfl rfl rfl (pc' := 65) ?_
    exact g_weak (show gm_Lle [some _, some _, some _] _ from ⟨rfl, ⟨rfl, ⟨rfl, trivial⟩⟩⟩) H
  · exact ⟨H.1, g_weak (show gm_Lle [some _] _ from ⟨rfl, trivial⟩) H.2⟩
set_option maxRecDepth 20000 in
theorem w_624_65 {a0 : Nat} {x1 : Int32} {x2 : Int32} {h : hh_T} {Q : Option Value ⊕ Nat → hh_T → Prop} (H : gm_sub (hh_tg h a0) 0 = true ∧ ((¬ x2 < (hh_i h a0 8) → (∀ h2, h2 = hh_wi h a0 10 (Int32.ofNat 1) → ((¬ Int32.ofNat 0 < x1 → (gm_G 624 109 [some (.ref a0), some (.int x1)] [] h2 Q)) ∧ (Int32.ofNat 0 < x1 → (∀ r3, r3 = hh_r h2 a0 49 → (∃ a4, r3 = some a4 ∧ (hh_tg h2 a4 = 14 ∧ (gm_G 68 0 [some (.ref a4)] [] h2 (pV (fun h6 => gm_G 624 109 [some (.ref a0), some (.int x1)] [] h6 Q) (fun e7 h8 => hh_tg h8 e7 = 21 ∧ gm_G 624 207 [some (.ref a0)] [.ref e7] h8 Q)))))))))) ∧ (x2 < (hh_i h a0 8) → (∀ r9, r9 = hh_r h a0 7 → (∃ a10, r9 = some a10 ∧ ((hh_tg h a10 = 104 ∨ 200 ≤ hh_tg h a10) ∧ (∃ n11, gm_ix x2 n11 (hh_ln h a10) ∧ (∀ r13, r13 = hh_r h a10 n11 → (∃ a14, r13 = some a14 ∧ ((hh_tg h a14 = 5 ∧ (gm_G 247 0 [some (.ref a14)] [] h (pI (fun v16 h15 => gm_G 431 0 [some (.int v16), some (.int (Int32.ofInt (-13)))] [] h15 (pV (fun h17 => gm_G 624 65 [some (.ref a0), some (.int x1), some (.int (x2 + (Int32.ofNat 1)))] [] h17 Q) (fun e18 h19 => hh_tg h19 e18 = 21 ∧ gm_G 624 207 [some (.ref a0)] [.ref e18] h19 Q))) (fun e20 h21 => hh_tg h21 e20 = 21 ∧ gm_G 624 207 [some (.ref a0)] [.ref e20] h21 Q)))) ∨ (hh_tg h a14 = 7 ∧ (gm_G 252 0 [some (.ref a14)] [] h (pI (fun v23 h22 => gm_G 431 0 [some (.int v23), some (.int (Int32.ofInt (-13)))] [] h22 (pV (fun h24 => gm_G 624 65 [some (.ref a0), some (.int x1), some (.int (x2 + (Int32.ofNat 1)))] [] h24 Q) (fun e25 h26 => hh_tg h26 e25 = 21 ∧ gm_G 624 207 [some (.ref a0)] [.ref e25] h26 Q))) (fun e27 h28 => hh_tg h28 e27 = 21 ∧ gm_G 624 207 [some (.ref a0)] [.ref e27] h28 Q)))))))))))))) : gm_G 624 65 [some (.ref a0), some (.int x1), some (.int x2)] [] h Q := by
  refine g_iload rfl rfl rfl (pc' := 66) ?_
  refine g_aload (r := some _) rfl rfl rfl (pc' := 67) ?_
  obtain ⟨ht1, H⟩ := H
  refine g_getI rfl rfl rfl rfl ht1 (pc' := 70) rfl ?_
  refine g_ic_ge rfl (pc' := 73) (pt := 93) rfl rfl ⟨fun hc => ?_, fun hc => ?_⟩
  · replace H := H.1 hc
    refine g_aload (r := some _) rfl rfl rfl (pc' := 94) ?_
    refine g_iconst rfl rfl rfl (pc' := 95) ?_
    refine g_putZ rfl rfl rfl rfl ht1 (by decide) (pc' := 98) rfl ?_
    replace H := H _ rfl
    refine g_iload rfl rfl rfl (pc' := 99) ?_
    refine g_if_le rfl (pc' := 102) (pt := 109) rfl rfl ⟨fun hc => ?_, fun hc => ?_⟩
    · replace H := H.1 hc
      exact g_weak (show gm_Lle [some _, some _] _ from ⟨rfl, ⟨rfl, trivial⟩⟩) H
    · replace H := H.2 hc
      refine g_aload (r := some _) rfl rfl rfl (pc' := 103) ?_
      refine g_getRv rfl rfl rfl rfl ht1 (pc' := 106) rfl (fun r3 hr3 => ?_)
      replace H := H r3 hr3
      obtain ⟨a4, rfl, H⟩ := H
      obtain ⟨ht5, H⟩ := H
      refine g_call rfl (y := 68) (n := 1) (pc' := 109) (g_vt ht5 rfl rfl) rfl rfl ⟨(Nat.le_of_ble_eq_true rfl), (Nat.le_of_ble_eq_true rfl), (Nat.le_of_ble_eq_true rfl)⟩ rfl (gm_G.mono H (pV_elim (fun h6 H' => ?_) (fun e7 h8 H => ?_)))
      · show gm_G _ 109 _ _ _ _
        replace H := H'
        clear H'
        exact g_weak (show gm_Lle [some _, some _] _ from ⟨rfl, ⟨rfl, trivial⟩⟩) H
      · exact ⟨H.1, g_weak (show gm_Lle [some _] _ from ⟨rfl, trivial⟩) H.2⟩
  · replace H := H.2 hc
    refine g_aload (r := some _) rfl rfl rfl (pc' := 74) ?_
    refine g_getRv rfl rfl rfl rfl ht1 (pc' := 77) rfl (fun r9 hr9 => ?_)
    replace H := H r9 hr9
    refine g_iload rfl rfl rfl (pc' := 78) ?_
    obtain ⟨a10, rfl, H⟩ := H
    obtain ⟨ht12, H⟩ := H
    obtain ⟨n11, hn11, H⟩ := H
    refine g_aaloadv rfl ht12 hn11 (pc' := 79) rfl (fun r13 hr13 => ?_)
    replace H := H r13 hr13
    obtain ⟨a14, rfl, H⟩ := H
    rcases H with ⟨ht, H⟩ | ⟨ht, H⟩
    · refine g_call rfl (y := 247) (n := 1) (pc' := 82) (g_vt ht rfl rfl) rfl rfl ⟨(Nat.le_of_ble_eq_true rfl), (Nat.le_of_ble_eq_true rfl), (Nat.le_of_ble_eq_true rfl)⟩ rfl (gm_G.mono H (pI_elim (fun v16 h15 H' => ?_) (fun e20 h21 H => ?_)))
      · show gm_G _ 82 _ _ _ _
        replace H := H'
        clear H'
        refine g_iconst rfl rfl rfl (pc' := 84) ?_
        refine g_call rfl (y := 431) (n := 2) (pc' := 87) (fun _ => rfl) rfl rfl ⟨(Nat.le_of_ble_eq_true rfl), (Nat.le_of_ble_eq_true rfl), (Nat.le_of_ble_eq_true rfl)⟩ rfl (gm_G.mono H (pV_elim (fun h17 H' => ?_) (fun e18 h19 H => ?_)))
        · show gm_G _ 87 _ _ _ _
          replace H := H'
          clear H'
          refine g_iinc (c := (Int32.ofNat 1)) rfl rfl rfl rfl rfl (pc' := 90) ?_
          refine g_goto rfl (pc' := 65) rfl ?_
          exact g_weak (show gm_Lle [some _, some _, some _] _ from ⟨rfl, ⟨rfl, ⟨rfl, trivial⟩⟩⟩) H
        · exact ⟨H.1, g_weak (show gm_Lle [some _] _ from ⟨rfl, trivial⟩) H.2⟩
      · exact ⟨H.1, g_weak (show gm_Lle [some _] _ from ⟨rfl, trivial⟩) H.2⟩
    · refine g_call rfl (y := 252) (n := 1) (pc' := 82) (g_vt ht rfl rfl) rfl rfl ⟨(Nat.le_of_ble_eq_true rfl), (Nat.le_of_ble_eq_true rfl), (Nat.le_of_ble_eq_true rfl)⟩ rfl (gm_G.mono H (pI_elim (fun v23 h22 H' => ?_) (fun e27 h28 H => ?_)))
      · show gm_G _ 82 _ _ _ _
        replace H := H'
        clear H'
        refine g_iconst rfl rfl rfl (pc' := 84) ?_
        refine g_call rfl (y := 431) (n := 2) (pc' := 87) (fun _ => rfl) rfl rfl ⟨(Nat.le_of_ble_eq_true rfl), (Nat.le_of_ble_eq_true rfl), (Nat.le_of_ble_eq_true rfl)⟩ rfl (gm_G.mono H (pV_elim (fun h24 H' => ?_) (fun e25 h26 H => ?_)))
        · show gm_G _ 87 _ _ _ _
          replace H := H'
          clear H'
          refine g_iinc (c := (Int32.ofNat 1)) rfl rfl rfl rfl rfl (pc' := 90) ?_
          refine g_goto rfl (pc' := 65) rfl ?_
          exact g_weak (show gm_Lle [some _, some _, some _] _ from ⟨rfl, ⟨rfl, ⟨rfl, trivial⟩⟩⟩) H
        · exact ⟨H.1, g_weak (show gm_Lle [some _] _ from ⟨rfl, trivial⟩) H.2⟩
      · exact ⟨H.1, g_weak (show gm_Lle [some _] _ from ⟨rfl, trivial⟩) H.2⟩
set_option maxRecDepth 20000 in
theorem w_624_109 {a0 : Nat} {x1 : Int32} {h : hh_T} {Q : Option Value ⊕ Nat → hh_T → Prop} (H : gm_G 624 111 [some (.ref a0), some (.int x1), some (.int (Int32.ofNat 0))] [] h Q) : gm_G 624 109 [some (.ref a0), some (.int x1)] [] h Q := by
  refine g_iconst rfl rfl rfl (pc' := 110) ?_
  refine g_istore rfl rfl rfl (pc' := 111) ?_
  exact g_weak (show gm_Lle [some _, some _, some _] _ from ⟨rfl, ⟨rfl, ⟨rfl, trivial⟩⟩⟩) H
set_option maxRecDepth 20000 in
theorem w_624_111 {a0 : Nat} {x1 : Int32} {x2 : Int32} {h : hh_T} {Q : Option Value ⊕ Nat → hh_T → Prop} (H : (¬ x2 < x1 → (gm_sub (hh_tg h a0) 0 = true ∧ (∀ r2, r2 = hh_r h a0 34 → (∃ a3, r2 = some a3 ∧ ((hh_tg h a3 = 104 ∨ 200 ≤ hh_tg h a3) ∧ (∃ n4, gm_ix ((hh_i h a0 35) - (Int32.ofNat 1)) n4 (hh_ln h a3) ∧ (∀ r6, r6 = hh_r h a3 n4 → (hh_tg h a0 = 1 ∧ (gm_G 351 0 [some (.ref a0), some (va_rf r6)] [] h (pR (fun r9 h8 => gm_sub (hh_tg h8 a0) 0 = true ∧ (∀ h11, h11 = hh_wr h8 a0 33 r9 → (gm_G 624 174 [some (.ref a0)] [] h11 Q))) (fun e12 h13 => hh_tg h13 e12 = 21 ∧ gm_G 624 207 [some (.ref a0)] [.ref e12] h13 Q))))))))))) ∧ (x2 < x1 → (gm_sub (hh_tg h a0) 0 = true ∧ (∀ h15, h15 = hh_wi h a0 35 ((hh_i h a0 35) - (Int32.ofNat 1)) → (∀ r16, r16 = hh_r h15 a0 34 → (∃ a17, r16 = some a17 ∧ ((hh_tg h15 a17 = 104 ∨ 200 ≤ hh_tg h15 a17) ∧ (∃ n18, gm_ix (hh_i h15 a0 35) n18 (hh_ln h15 a17) ∧ (∀ r20, r20 = hh_r h15 a17 n18 → (hh_tg h15 a0 = 1 ∧ (gm_G 496 0 [some (.ref a0), some (va_rf r20)] [] h15 (pV (fun h22 => gm_sub (hh_tg h22 a0) 0 = true ∧ (∀ r24, r24 = hh_r h22 a0 34 → (∃ a25, r24 = some a25 ∧ (200 ≤ hh_tg h22 a25 ∧ (True) ∧ (∃ n26, gm_ix (hh_i h22 a0 35) n26 (hh_ln h22 a25) ∧ (∀ h27, h27 = hh_wr h22 a25 n26 none → (gm_G 624 111 [some (.ref a0), some (.int x1), some (.int (x2 + (Int32.ofNat 1)))] [] h27 Q))))))) (fun e28 h29 => hh_tg h29 e28 = 21 ∧ gm_G 624 207 [some (.ref a0)] [.ref e28] h29 Q))))))))))))) : gm_G 624 111 [some (.ref a0), some (.int x1), some (.int x2)] [] h Q := by
  refine g_iload rfl rfl rfl (pc' := 112) ?_
  refine g_iload rfl rfl rfl (pc' := 113) ?_
  refine g_ic_ge rfl (pc' := 116) (pt := 155) rfl rfl ⟨fun hc => ?_, fun hc => ?_⟩
  · replace H := H.1 hc
    refine g_aload (r := some _) rfl rfl rfl (pc' := 156) ?_
    refine g_aload (r := some _) rfl rfl rfl (pc' := 157) ?_
    refine g_aload (r := some _) rfl rfl rfl (pc' := 158) ?_
    obtain ⟨ht1, H⟩ := H
    refine g_getRv rfl rfl rfl rfl ht1 (pc' := 161) rfl (fun r2 hr2 => ?_)
    replace H := H r2 hr2
    refine g_aload (r := some _) rfl rfl rfl (pc' := 162) ?_
    refine g_getI rfl rfl rfl rfl ht1 (pc' := 165) rfl ?_
    refine g_iconst rfl rfl rfl (pc' := 166) ?_
    refine g_isub rfl rfl (pc' := 167) ?_
    obtain ⟨a3, rfl, H⟩ := H
    obtain ⟨ht5, H⟩ := H
    obtain ⟨n4, hn4, H⟩ := H
    refine g_aaloadv rfl ht5 hn4 (pc' := 168) rfl (fun r6 hr6 => ?_)
    replace H := H r6 hr6
    obtain ⟨ht7, H⟩ := H
    refine g_call rfl (y := 351) (n := 2) (pc' := 171) (g_vt ht7 rfl rfl) (by cases r6 <;> rfl) rfl ⟨(Nat.le_of_ble_eq_true rfl), (Nat.le_of_ble_eq_true rfl), (Nat.le_of_ble_eq_true rfl)⟩ rfl (gm_G.mono H (pR_elim (fun r9 h8 H' => ?_) (fun e12 h13 H => ?_)))
    · show gm_G _ 171 _ _ _ _
      replace H := H'
      clear H'
      obtain ⟨ht10, H⟩ := H
      refine g_putR rfl rfl rfl rfl ht10  (pc' := 174) rfl ?_
      replace H := H _ rfl
      exact g_weak (show gm_Lle [some _] _ from ⟨rfl, trivial⟩) H
    · exact ⟨H.1, g_weak (show gm_Lle [some _] _ from ⟨rfl, trivial⟩) H.2⟩
  · replace H := H.2 hc
    refine g_aload (r := some _) rfl rfl rfl (pc' := 117) ?_
    refine g_dup_a (r := some _) rfl rfl (pc' := 118) ?_
    obtain ⟨ht14, H⟩ := H
    refine g_getI rfl rfl rfl rfl ht14 (pc' := 121) rfl ?_
    refine g_iconst rfl rfl rfl (pc' := 122) ?_
    refine g_isub rfl rfl (pc' := 123) ?_
    refine g_putI rfl rfl rfl rfl ht14  (pc' := 126) rfl ?_
    replace H := H _ rfl
    refine g_aload (r := some _) rfl rfl rfl (pc' := 127) ?_
    refine g_aload (r := some _) rfl rfl rfl (pc' := 128) ?_
    refine g_getRv rfl rfl rfl rfl ht14 (pc' := 131) rfl (fun r16 hr16 => ?_)
    replace H := H r16 hr16
    refine g_aload (r := some _) rfl rfl rfl (pc' := 132) ?_
    refine g_getI rfl rfl rfl rfl ht14 (pc' := 135) rfl ?_
    obtain ⟨a17, rfl, H⟩ := H
    obtain ⟨ht19, H⟩ := H
    obtain ⟨n18, hn18, H⟩ := H
    refine g_aaloadv rfl ht19 hn18 (pc' := 136) rfl (fun r20 hr20 => ?_)
    replace H := H r20 hr20
    obtain ⟨ht21, H⟩ := H
    refine g_call rfl (y := 496) (n := 2) (pc' := 139) (g_vt ht21 rfl rfl) (by cases r20 <;> rfl) rfl ⟨(Nat.le_of_ble_eq_true rfl), (Nat.le_of_ble_eq_true rfl), (Nat.le_of_ble_eq_true rfl)⟩ rfl (gm_G.mono H (pV_elim (fun h22 H' => ?_) (fun e28 h29 H => ?_)))
    · show gm_G _ 139 _ _ _ _
      replace H := H'
      clear H'
      refine g_aload (r := some _) rfl rfl rfl (pc' := 140) ?_
      obtain ⟨ht23, H⟩ := H
      refine g_getRv rfl rfl rfl rfl ht23 (pc' := 143) rfl (fun r24 hr24 => ?_)
      replace H := H r24 hr24
      refine g_aload (r := some _) rfl rfl rfl (pc' := 144) ?_
      refine g_getI rfl rfl rfl rfl ht23 (pc' := 147) rfl ?_
      refine g_null rfl rfl (pc' := 148) ?_
      obtain ⟨a25, rfl, H⟩ := H
      obtain ⟨Ha, Hb, H⟩ := H
      obtain ⟨n26, hn26, H⟩ := H
      refine g_aastore (r := _) rfl Ha (fun b hb => by cases hb) hn26 (pc' := 149) rfl ?_
      replace H := H _ rfl
      refine g_iinc (c := (Int32.ofNat 1)) rfl rfl rfl rfl rfl (pc' := 152) ?_
      refine g_goto rfl (pc' := 111) rfl ?_
      exact g_weak (show gm_Lle [some _, some _, some _] _ from ⟨rfl, ⟨rfl, ⟨rfl, trivial⟩⟩⟩) H
    · exact ⟨H.1, g_weak (show gm_Lle [some _] _ from ⟨rfl, trivial⟩) H.2⟩
set_option maxRecDepth 20000 in
theorem w_624_174 {a0 : Nat}  {h : hh_T} {Q : Option Value ⊕ Nat → hh_T → Prop} (H : hh_tg h a0 = 1 ∧ (gm_G 615 0 [some (.ref a0)] [] h (pV (fun h2 => gm_sub (hh_tg h2 a0) 0 = true ∧ (∀ r4, r4 = hh_r h2 a0 18 → (∃ a5, r4 = some a5 ∧ (hh_tg h2 a5 = 12 ∧ (gm_G 358 0 [some (.ref a5)] [] h2 (pV (fun h7 => gm_sub (hh_tg h7 a0) 0 = true ∧ (∀ h9, h9 = hh_wi h7 a0 36 ((hh_i h7 a0 36) + (Int32.ofNat 1)) → (∀ r10, r10 = hh_r h9 a0 33 → (∃ a11, r10 = some a11 ∧ (gm_sub (hh_tg h9 a11) 22 = true ∧ (hh_tg h9 a0 = 1 ∧ (gm_G 4 0 [some (.ref a0), some (.int (hh_i h9 a11 6))] [] h9 (pI (fun v15 h14 => Q (.inl (some (.int v15))) h14) (fun e16 h17 => hh_tg h17 e16 = 21 ∧ gm_G 624 207 [some (.ref a0)] [.ref e16] h17 Q))))))))) (fun e18 h19 => hh_tg h19 e18 = 21 ∧ gm_G 624 207 [some (.ref a0)] [.ref e18] h19 Q))))))) (fun e20 h21 => hh_tg h21 e20 = 21 ∧ gm_G 624 207 [some (.ref a0)] [.ref e20] h21 Q)))) : gm_G 624 174 [some (.ref a0)] [] h Q := by
  refine g_aload (r := some _) rfl rfl rfl (pc' := 175) ?_
  obtain ⟨ht1, H⟩ := H
  refine g_call rfl (y := 615) (n := 1) (pc' := 178) (g_vt ht1 rfl rfl) rfl rfl ⟨(Nat.le_of_ble_eq_true rfl), (Nat.le_of_ble_eq_true rfl), (Nat.le_of_ble_eq_true rfl)⟩ rfl (gm_G.mono H (pV_elim (fun h2 H' => ?_) (fun e20 h21 H => ?_)))
  · show gm_G _ 178 _ _ _ _
    replace H := H'
    clear H'
    refine g_aload (r := some _) rfl rfl rfl (pc' := 179) ?_
    obtain ⟨ht3, H⟩ := H
    refine g_getRv rfl rfl rfl rfl ht3 (pc' := 182) rfl (fun r4 hr4 => ?_)
    replace H := H r4 hr4
    obtain ⟨a5, rfl, H⟩ := H
    obtain ⟨ht6, H⟩ := H
    refine g_call rfl (y := 358) (n := 1) (pc' := 185) (g_vt ht6 rfl rfl) rfl rfl ⟨(Nat.le_of_ble_eq_true rfl), (Nat.le_of_ble_eq_true rfl), (Nat.le_of_ble_eq_true rfl)⟩ rfl (gm_G.mono H (pV_elim (fun h7 H' => ?_) (fun e18 h19 H => ?_)))
    · show gm_G _ 185 _ _ _ _
      replace H := H'
      clear H'
      refine g_aload (r := some _) rfl rfl rfl (pc' := 186) ?_
      refine g_dup_a (r := some _) rfl rfl (pc' := 187) ?_
      obtain ⟨ht8, H⟩ := H
      refine g_getI rfl rfl rfl rfl ht8 (pc' := 190) rfl ?_
      refine g_iconst rfl rfl rfl (pc' := 191) ?_
      refine g_iadd rfl rfl (pc' := 192) ?_
      refine g_putI rfl rfl rfl rfl ht8  (pc' := 195) rfl ?_
      replace H := H _ rfl
      refine g_aload (r := some _) rfl rfl rfl (pc' := 196) ?_
      refine g_aload (r := some _) rfl rfl rfl (pc' := 197) ?_
      refine g_getRv rfl rfl rfl rfl ht8 (pc' := 200) rfl (fun r10 hr10 => ?_)
      replace H := H r10 hr10
      obtain ⟨a11, rfl, H⟩ := H
      obtain ⟨ht12, H⟩ := H
      refine g_getI rfl rfl rfl rfl ht12 (pc' := 203) rfl ?_
      obtain ⟨ht13, H⟩ := H
      refine g_call rfl (y := 4) (n := 2) (pc' := 206) (g_vt ht13 rfl rfl) rfl rfl ⟨(Nat.le_of_ble_eq_true rfl), (Nat.le_of_ble_eq_true rfl), (Nat.le_of_ble_eq_true rfl)⟩ rfl (gm_G.mono H (pI_elim (fun v15 h14 H' => ?_) (fun e16 h17 H => ?_)))
      · show gm_G _ 206 _ _ _ _
        replace H := H'
        clear H'
        exact g_ireturn rfl (Or.inl rfl) H
      · exact ⟨H.1, g_weak (show gm_Lle [some _] _ from ⟨rfl, trivial⟩) H.2⟩
    · exact ⟨H.1, g_weak (show gm_Lle [some _] _ from ⟨rfl, trivial⟩) H.2⟩
  · exact ⟨H.1, g_weak (show gm_Lle [some _] _ from ⟨rfl, trivial⟩) H.2⟩
set_option maxRecDepth 20000 in
theorem w_624_207 {a0 : Nat} {ex : Nat} {h : hh_T} {Q : Option Value ⊕ Nat → hh_T → Prop} (H : hh_tg h a0 = 1 ∧ (gm_G 1 0 [some (.ref a0), some (.ref ex)] [] h (pI (fun v3 h2 => Q (.inl (some (.int v3))) h2) (fun e4 h5 => hh_tg h5 e4 = 21 ∧ Q (.inr e4) h5)))) : gm_G 624 207 [some (.ref a0)] [.ref ex] h Q := by
  refine g_astore (r := some _) rfl rfl rfl (pc' := 208) ?_
  refine g_aload (r := some _) rfl rfl rfl (pc' := 209) ?_
  refine g_aload (r := some _) rfl rfl rfl (pc' := 210) ?_
  obtain ⟨ht1, H⟩ := H
  refine g_call rfl (y := 1) (n := 2) (pc' := 213) (g_vt ht1 rfl rfl) rfl rfl ⟨(Nat.le_of_ble_eq_true rfl), (Nat.le_of_ble_eq_true rfl), (Nat.le_of_ble_eq_true rfl)⟩ rfl (gm_G.mono H (pI_elim (fun v3 h2 H' => ?_) (fun e4 h5 H => ?_)))
  · show gm_G _ 213 _ _ _ _
    replace H := H'
    clear H'
    exact g_ireturn rfl (Or.inl rfl) H
  · exact H
set_option maxRecDepth 20000 in
theorem w_625_0 {a0 : Nat}  {h : hh_T} {Q : Option Value ⊕ Nat → hh_T → Prop} (H : gm_sub (hh_tg h a0) 17 = true ∧ (∀ r2, r2 = hh_r h a0 6 → (∃ a3, r2 = some a3 ∧ (gm_sub (hh_tg h a3) 12 = true ∧ ((¬ (Int32.ofNat 6) < (hh_i h a3 1) → (gm_G 625 26 [some (.ref a0)] [.ref a0] h Q)) ∧ ((Int32.ofNat 6) < (hh_i h a3 1) → (hh_tg h a0 = 18 ∧ (gm_G 361 0 [some (.ref a0), some (.int (Int32.ofNat 6))] [] h (pI (fun v7 h6 => (v7 = Int32.ofNat 0 → (gm_G 625 26 [some (.ref a0)] [.ref a0] h6 Q)) ∧ (¬ v7 = Int32.ofNat 0 → (gm_G 625 27 [some (.ref a0)] [.int (Int32.ofNat 1), .ref a0] h6 Q))) (fun e8 h9 => hh_tg h9 e8 = 21 ∧ Q (.inr e8) h9)))))))))) : gm_G 625 0 [some (.ref a0)] [] h Q := by
  refine g_aload (r := some _) rfl rfl rfl (pc' := 1) ?_
  refine g_aload (r := some _) rfl rfl rfl (pc' := 2) ?_
  obtain ⟨ht1, H⟩ := H
  refine g_getRv rfl rfl rfl rfl ht1 (pc' := 5) rfl (fun r2 hr2 => ?_)
  replace H := H r2 hr2
  obtain ⟨a3, rfl, H⟩ := H
  obtain ⟨ht4, H⟩ := H
  refine g_getI rfl rfl rfl rfl ht4 (pc' := 8) rfl ?_
  refine g_iconst rfl rfl rfl (pc' := 10) ?_
  refine g_ic_le rfl (pc' := 13) (pt := 26) rfl rfl ⟨fun hc => ?_, fun hc => ?_⟩
  · replace H := H.1 hc
    exact g_weak (show gm_Lle [some _] _ from ⟨rfl, trivial⟩) H
  · replace H := H.2 hc
    refine g_aload (r := some _) rfl rfl rfl (pc' := 14) ?_
    refine g_iconst rfl rfl rfl (pc' := 16) ?_
    obtain ⟨ht5, H⟩ := H
    refine g_call rfl (y := 361) (n := 2) (pc' := 19) (g_vt ht5 rfl rfl) rfl rfl ⟨(Nat.le_of_ble_eq_true rfl), (Nat.le_of_ble_eq_true rfl), (Nat.le_of_ble_eq_true rfl)⟩ rfl (gm_G.mono H (pI_elim (fun v7 h6 H' => ?_) (fun e8 h9 H => ?_)))
    · show gm_G _ 19 _ _ _ _
      replace H := H'
      clear H'
      refine g_if_eq rfl (pc' := 22) (pt := 26) rfl rfl ⟨fun hc => ?_, fun hc => ?_⟩
      · replace H := H.1 hc
        exact g_weak (show gm_Lle [some _] _ from ⟨rfl, trivial⟩) H
      · replace H := H.2 hc
        refine g_iconst rfl rfl rfl (pc' := 23) ?_
        refine g_goto rfl (pc' := 27) rfl ?_
        exact g_weak (show gm_Lle [some _] _ from ⟨rfl, trivial⟩) H
    · exact H
set_option maxRecDepth 20000 in
theorem w_625_26 {a0 : Nat} {q0 : Option Nat} {h : hh_T} {Q : Option Value ⊕ Nat → hh_T → Prop} (H : gm_G 625 27 [some (.ref a0)] [.int (Int32.ofNat 0), va_rf q0] h Q) : gm_G 625 26 [some (.ref a0)] [va_rf q0] h Q := by
  refine g_iconst rfl rfl rfl (pc' := 27) ?_
  exact g_weak (show gm_Lle [some _] _ from ⟨rfl, trivial⟩) H
set_option maxRecDepth 20000 in
theorem w_625_27 {a0 : Nat} {y0 : Int32} {q1 : Option Nat} {h : hh_T} {Q : Option Value ⊕ Nat → hh_T → Prop} (H : ∃ a1, q1 = some a1 ∧ (hh_tg h a1 = 18 ∧ (gm_G 461 0 [some (.ref a1), some (.int y0)] [] h (pR (fun r4 h3 => hh_tg h3 a0 = 18 ∧ (gm_G 462 0 [some (.ref a0)] [] h3 (pR (fun r7 h6 => hh_tg h6 a0 = 18 ∧ (gm_G 460 0 [some (.ref a0), some (va_rf r4)] [] h6 (pR (fun r10 h9 => gm_sub (hh_tg h9 a0) 17 = true ∧ (∀ r12, r12 = hh_r h9 a0 6 → (∀ r13, r13 = hh_r h9 a0 6 → (∃ a14, r13 = some a14 ∧ (gm_sub (hh_tg h9 a14) 12 = true ∧ (gm_G 233 0 [some (va_rf r12), some (.int (Int32.ofNat 6)), some (.int (hh_i h9 a14 1))] [] h9 (pL (fun v17 h16 => ∃ a18, r10 = some a18 ∧ (hh_tg h16 a18 = 28 ∧ (gm_G 196 0 [some (.ref a18), some (.long v17), none] [] h16 (pI (fun v21 h20 => gm_G 625 68 [some (.ref a0), none, some (va_rf r7), some (.ref a18), some (.long v17), none, some (.int v21)] [] h20 Q) (fun e22 h23 => hh_tg h23 e22 = 21 ∧ Q (.inr e22) h23))))) (fun e24 h25 => hh_tg h25 e24 = 21 ∧ Q (.inr e24) h25)))))))) (fun e26 h27 => hh_tg h27 e26 = 21 ∧ Q (.inr e26) h27)))) (fun e28 h29 => hh_tg h29 e28 = 21 ∧ Q (.inr e28) h29)))) (fun e30 h31 => hh_tg h31 e30 = 21 ∧ Q (.inr e30) h31))))) : gm_G 625 27 [some (.ref a0)] [.int y0, va_rf q1] h Q := by
  obtain ⟨a1, rfl, H⟩ := H
  obtain ⟨ht2, H⟩ := H
  refine g_call rfl (y := 461) (n := 2) (pc' := 30) (g_vt ht2 rfl rfl) rfl rfl ⟨(Nat.le_of_ble_eq_true rfl), (Nat.le_of_ble_eq_true rfl), (Nat.le_of_ble_eq_true rfl)⟩ rfl (gm_G.mono H (pR_elim (fun r4 h3 H' => ?_) (fun e30 h31 H => ?_)))
  · show gm_G _ 30 _ _ _ _
    replace H := H'
    clear H'
    refine g_astore (r := _) rfl rfl rfl (pc' := 31) ?_
    refine g_aload (r := some _) rfl rfl rfl (pc' := 32) ?_
    obtain ⟨ht5, H⟩ := H
    refine g_call rfl (y := 462) (n := 1) (pc' := 35) (g_vt ht5 rfl rfl) rfl rfl ⟨(Nat.le_of_ble_eq_true rfl), (Nat.le_of_ble_eq_true rfl), (Nat.le_of_ble_eq_true rfl)⟩ rfl (gm_G.mono H (pR_elim (fun r7 h6 H' => ?_) (fun e28 h29 H => ?_)))
    · show gm_G _ 35 _ _ _ _
      replace H := H'
      clear H'
      refine g_astore (r := _) rfl gm_sto_rf1 rfl (pc' := 36) ?_
      refine g_aload (r := some _) rfl rfl rfl (pc' := 37) ?_
      refine g_aload (r := _) rfl rfl rfl (pc' := 38) ?_
      obtain ⟨ht8, H⟩ := H
      refine g_call rfl (y := 460) (n := 2) (pc' := 41) (g_vt ht8 rfl rfl) (by cases r4 <;> rfl) rfl ⟨(Nat.le_of_ble_eq_true rfl), (Nat.le_of_ble_eq_true rfl), (Nat.le_of_ble_eq_true rfl)⟩ rfl (gm_G.mono H (pR_elim (fun r10 h9 H' => ?_) (fun e26 h27 H => ?_)))
      · show gm_G _ 41 _ _ _ _
        replace H := H'
        clear H'
        refine g_astore (r := _) rfl gm_sto_rf2 rfl (pc' := 42) ?_
        refine g_aload (r := some _) rfl rfl rfl (pc' := 43) ?_
        obtain ⟨ht11, H⟩ := H
        refine g_getRv rfl rfl rfl rfl ht11 (pc' := 46) rfl (fun r12 hr12 => ?_)
        replace H := H r12 hr12
        refine g_iconst rfl rfl rfl (pc' := 48) ?_
        refine g_aload (r := some _) rfl rfl rfl (pc' := 49) ?_
        refine g_getRv rfl rfl rfl rfl ht11 (pc' := 52) rfl (fun r13 hr13 => ?_)
        replace H := H r13 hr13
        obtain ⟨a14, rfl, H⟩ := H
        obtain ⟨ht15, H⟩ := H
        refine g_getI rfl rfl rfl rfl ht15 (pc' := 55) rfl ?_
        refine g_call rfl (y := 233) (n := 3) (pc' := 58) (fun _ => rfl) (by cases r12 <;> rfl) rfl ⟨(Nat.le_of_ble_eq_true rfl), (Nat.le_of_ble_eq_true rfl), (Nat.le_of_ble_eq_true rfl)⟩ rfl (gm_G.mono H (pL_elim (fun v17 h16 H' => ?_) (fun e24 h25 H => ?_)))
        · show gm_G _ 58 _ _ _ _
          replace H := H'
          clear H'
          refine g_lstore rfl gm_sto2_rf3 rfl (pc' := 60) ?_
          refine g_aload (r := _) rfl rfl rfl (pc' := 61) ?_
          refine g_lload rfl rfl rfl (pc' := 63) ?_
          obtain ⟨a18, rfl, H⟩ := H
          obtain ⟨ht19, H⟩ := H
          refine g_call rfl (y := 196) (n := 2) (pc' := 66) (g_vt ht19 rfl rfl) rfl rfl ⟨(Nat.le_of_ble_eq_true rfl), (Nat.le_of_ble_eq_true rfl), (Nat.le_of_ble_eq_true rfl)⟩ rfl (gm_G.mono H (pI_elim (fun v21 h20 H' => ?_) (fun e22 h23 H => ?_)))
          · show gm_G _ 66 _ _ _ _
            replace H := H'
            clear H'
            refine g_istore rfl rfl rfl (pc' := 68) ?_
            exact g_weak (show gm_Lle [some _, none, some _, some _, some _, none, some _] _ from ⟨rfl, ⟨rfl, ⟨rfl, ⟨rfl, ⟨rfl, trivial⟩⟩⟩⟩⟩) H
          · exact H
        · exact H
      · exact H
    · exact H
  · exact H
set_option maxRecDepth 20000 in
theorem w_625_68 {a0 : Nat} {r_2 : Option Nat} {r_3 : Option Nat} {j4 : Int64} {x6 : Int32} {h : hh_T} {Q : Option Value ⊕ Nat → hh_T → Prop} (H : (x6 < Int32.ofNat 0 → (gm_G 625 78 [some (.ref a0), none, some (va_rf r_2), some (va_rf r_3), some (.long j4), none, some (.int x6)] [.int (Int32.ofNat 0)] h Q)) ∧ (¬ x6 < Int32.ofNat 0 → (gm_G 625 78 [some (.ref a0), none, some (va_rf r_2), some (va_rf r_3), some (.long j4), none, some (.int x6)] [.int (Int32.ofNat 1)] h Q))) : gm_G 625 68 [some (.ref a0), none, some (va_rf r_2), some (va_rf r_3), some (.long j4), none, some (.int x6)] [] h Q := by
  refine g_iload rfl rfl rfl (pc' := 70) ?_
  refine g_if_lt rfl (pc' := 73) (pt := 77) rfl rfl ⟨fun hc => ?_, fun hc => ?_⟩
  · replace H := H.1 hc
    refine g_iconst rfl rfl rfl (pc' := 78) ?_
    exact g_weak (show gm_Lle [some _, none, some _, some _, some _, none, some _] _ from ⟨rfl, ⟨rfl, ⟨rfl, ⟨rfl, ⟨rfl, trivial⟩⟩⟩⟩⟩) H
  · replace H := H.2 hc
    refine g_iconst rfl rfl rfl (pc' := 74) ?_
    refine g_goto rfl (pc' := 78) rfl ?_
    exact g_weak (show gm_Lle [some _, none, some _, some _, some _, none, some _] _ from ⟨rfl, ⟨rfl, ⟨rfl, ⟨rfl, ⟨rfl, trivial⟩⟩⟩⟩⟩) H
set_option maxRecDepth 20000 in
theorem w_625_78 {a0 : Nat} {r_2 : Option Nat} {r_3 : Option Nat} {j4 : Int64} {x6 : Int32} {y0 : Int32} {h : hh_T} {Q : Option Value ⊕ Nat → hh_T → Prop} (H : gm_G 431 0 [some (.int y0), some (.int (Int32.ofInt (-2)))] [] h (pV (fun h1 => gm_sub (hh_tg h1 a0) 17 = true ∧ (∀ r3, r3 = hh_r h1 a0 11 → (∃ a4, r3 = some a4 ∧ (hh_tg h1 a4 = 1 ∧ (gm_G 393 0 [some (.ref a4), some (va_rf r_3), some (.int (hh_i h1 a0 7)), some (.int (Int32.ofNat 3))] [] h1 (pI (fun v7 h6 => gm_G 431 0 [some (.int v7), some (.int (Int32.ofInt (-6)))] [] h6 (pV (fun h8 => gm_sub (hh_tg h8 a0) 17 = true ∧ (∀ r10, r10 = hh_r h8 a0 11 → (∃ a11, r_3 = some a11 ∧ (gm_sub (hh_tg h8 a11) 27 = true ∧ (∀ r13, r13 = hh_r h8 a11 13 → (∃ a14, r13 = some a14 ∧ ((hh_tg h8 a14 = 100 ∨ hh_tg h8 a14 = 105) ∧ (∃ n15, gm_ix x6 n15 (hh_ln h8 a14) ∧ (∃ a17, r10 = some a17 ∧ (hh_tg h8 a17 = 1 ∧ (gm_G 616 0 [some (.ref a17), some (va_rf r_2), some (.int (hh_i h8 a0 10)), some (.long j4), none, some (.int (hh_i h8 a14 n15))] [] h8 (pV (fun h19 => Q (.inl none) h19) (fun e20 h21 => hh_tg h21 e20 = 21 ∧ Q (.inr e20) h21))))))))))))) (fun e22 h23 => hh_tg h23 e22 = 21 ∧ Q (.inr e22) h23))) (fun e24 h25 => hh_tg h25 e24 = 21 ∧ Q (.inr e24) h25))))))) (fun e26 h27 => hh_tg h27 e26 = 21 ∧ Q (.inr e26) h27))) : gm_G 625 78 [some (.ref a0), none, some (va_rf r_2), some (va_rf r_3), some (.long j4), none, some (.int x6)] [.int y0] h Q := by
  refine g_iconst rfl rfl rfl (pc' := 80) ?_
  refine g_call rfl (y := 431) (n := 2) (pc' := 83) (fun _ => rfl) rfl rfl ⟨(Nat.le_of_ble_eq_true rfl), (Nat.le_of_ble_eq_true rfl), (Nat.le_of_ble_eq_true rfl)⟩ rfl (gm_G.mono H (pV_elim (fun h1 H' => ?_) (fun e26 h27 H => ?_)))
  · show gm_G _ 83 _ _ _ _
    replace H := H'
    clear H'
    refine g_aload (r := some _) rfl rfl rfl (pc' := 84) ?_
    obtain ⟨ht2, H⟩ := H
    refine g_getRv rfl rfl rfl rfl ht2 (pc' := 87) rfl (fun r3 hr3 => ?_)
    replace H := H r3 hr3
    refine g_aload (r := _) rfl rfl rfl (pc' := 88) ?_
    refine g_aload (r := some _) rfl rfl rfl (pc' := 89) ?_
    refine g_getI rfl rfl rfl rfl ht2 (pc' := 92) rfl ?_
    refine g_iconst rfl rfl rfl (pc' := 93) ?_
    obtain ⟨a4, rfl, H⟩ := H
    obtain ⟨ht5, H⟩ := H
    refine g_call rfl (y := 393) (n := 4) (pc' := 96) (g_vt ht5 rfl rfl) (by cases r_3 <;> rfl) rfl ⟨(Nat.le_of_ble_eq_true rfl), (Nat.le_of_ble_eq_true rfl), (Nat.le_of_ble_eq_true rfl)⟩ rfl (gm_G.mono H (pI_elim (fun v7 h6 H' => ?_) (fun e24 h25 H => ?_)))
    · show gm_G _ 96 _ _ _ _
      replace H := H'
      clear H'
      refine g_iconst rfl rfl rfl (pc' := 98) ?_
      refine g_call rfl (y := 431) (n := 2) (pc' := 101) (fun _ => rfl) rfl rfl ⟨(Nat.le_of_ble_eq_true rfl), (Nat.le_of_ble_eq_true rfl), (Nat.le_of_ble_eq_true rfl)⟩ rfl (gm_G.mono H (pV_elim (fun h8 H' => ?_) (fun e22 h23 H => ?_)))
      · show gm_G _ 101 _ _ _ _
        replace H := H'
        clear H'
        refine g_aload (r := some _) rfl rfl rfl (pc' := 102) ?_
        obtain ⟨ht9, H⟩ := H
        refine g_getRv rfl rfl rfl rfl ht9 (pc' := 105) rfl (fun r10 hr10 => ?_)
        replace H := H r10 hr10
        refine g_aload (r := _) rfl rfl rfl (pc' := 106) ?_
        refine g_aload (r := some _) rfl rfl rfl (pc' := 107) ?_
        refine g_getI rfl rfl rfl rfl ht9 (pc' := 110) rfl ?_
        refine g_lload rfl rfl rfl (pc' := 112) ?_
        refine g_aload (r := _) rfl rfl rfl (pc' := 113) ?_
        obtain ⟨a11, rfl, H⟩ := H
        obtain ⟨ht12, H⟩ := H
        refine g_getRv rfl rfl rfl rfl ht12 (pc' := 116) rfl (fun r13 hr13 => ?_)
        replace H := H r13 hr13
        refine g_iload rfl rfl rfl (pc' := 118) ?_
        obtain ⟨a14, rfl, H⟩ := H
        obtain ⟨ht16, H⟩ := H
        obtain ⟨n15, hn15, H⟩ := H
        refine g_iaload rfl ht16 hn15 (pc' := 119) rfl ?_
        obtain ⟨a17, rfl, H⟩ := H
        obtain ⟨ht18, H⟩ := H
        refine g_call rfl (y := 616) (n := 5) (pc' := 122) (g_vt ht18 rfl rfl) (by cases r_2 <;> rfl) rfl ⟨(Nat.le_of_ble_eq_true rfl), (Nat.le_of_ble_eq_true rfl), (Nat.le_of_ble_eq_true rfl)⟩ rfl (gm_G.mono H (pV_elim (fun h19 H' => ?_) (fun e20 h21 H => ?_)))
        · show gm_G _ 122 _ _ _ _
          replace H := H'
          clear H'
          exact g_return rfl H
        · exact H
      · exact H
    · exact H
  · exact H
set_option maxRecDepth 20000 in
theorem w_626_0 {a0 : Nat} {x1 : Int32} {x2 : Int32} {x3 : Int32} {x4 : Int32} {h : hh_T} {Q : Option Value ⊕ Nat → hh_T → Prop} (H : hh_tg h a0 = 1 ∧ (gm_G 243 0 [some (.ref a0)] [] h (pV (fun h2 => hh_tg h2 a0 = 1 ∧ (gm_G 456 0 [some (.ref a0)] [] h2 (pV (fun h4 => gm_G 5 0 [some (.int x2), some (.int (Int32.ofNat 0)), some (.int (Int32.ofNat 3))] [] h4 (pI (fun v6 h5 => (v6 = Int32.ofNat 0 → (gm_G 626 30 [some (.ref a0), some (.int x1), some (.int x2), some (.int x3), some (.int x4)] [] h5 Q)) ∧ (¬ v6 = Int32.ofNat 0 → (gm_G 5 0 [some (.int x3), some (.int (Int32.ofNat 0)), some (.int (Int32.ofNat 5))] [] h5 (pI (fun v8 h7 => (v8 = Int32.ofNat 0 → (gm_G 626 30 [some (.ref a0), some (.int x1), some (.int x2), some (.int x3), some (.int x4)] [] h7 Q)) ∧ (¬ v8 = Int32.ofNat 0 → (gm_G 626 31 [some (.ref a0), some (.int x1), some (.int x2), some (.int x3), some (.int x4)] [.int (Int32.ofNat 1)] h7 Q))) (fun e9 h10 => hh_tg h10 e9 = 21 ∧ gm_G 626 219 [some (.ref a0)] [.ref e9] h10 Q))))) (fun e11 h12 => hh_tg h12 e11 = 21 ∧ gm_G 626 219 [some (.ref a0)] [.ref e11] h12 Q))) (fun e13 h14 => hh_tg h14 e13 = 21 ∧ gm_G 626 219 [some (.ref a0)] [.ref e13] h14 Q)))) (fun e15 h16 => hh_tg h16 e15 = 21 ∧ Q (.inr e15) h16)))) : gm_G 626 0 [some (.ref a0), some (.int x1), some (.int x2), some (.int x3), some (.int x4)] [] h Q := by
  refine g_aload (r := some _) rfl rfl rfl (pc' := 1) ?_
  obtain ⟨ht1, H⟩ := H
  refine g_call rfl (y := 243) (n := 1) (pc' := 4) (g_vt ht1 rfl rfl) rfl rfl ⟨(Nat.le_of_ble_eq_true rfl), (Nat.le_of_ble_eq_true rfl), (Nat.le_of_ble_eq_true rfl)⟩ rfl (gm_G.mono H (pV_elim (fun h2 H' => ?_) (fun e15 h16 H => ?_)))
  · show gm_G _ 4 _ _ _ _
    replace H := H'
    clear H'
    refine g_aload (r := some _) rfl rfl rfl (pc' := 5) ?_
    obtain ⟨ht3, H⟩ := H
    refine g_call rfl (y := 456) (n := 1) (pc' := 8) (g_vt ht3 rfl rfl) rfl rfl ⟨(Nat.le_of_ble_eq_true rfl), (Nat.le_of_ble_eq_true rfl), (Nat.le_of_ble_eq_true rfl)⟩ rfl (gm_G.mono H (pV_elim (fun h4 H' => ?_) (fun e13 h14 H => ?_)))
    · show gm_G _ 8 _ _ _ _
      replace H := H'
      clear H'
      refine g_iload rfl rfl rfl (pc' := 9) ?_
      refine g_iconst rfl rfl rfl (pc' := 10) ?_
      refine g_iconst rfl rfl rfl (pc' := 11) ?_
      refine g_call rfl (y := 5) (n := 3) (pc' := 14) (fun _ => rfl) rfl rfl ⟨(Nat.le_of_ble_eq_true rfl), (Nat.le_of_ble_eq_true rfl), (Nat.le_of_ble_eq_true rfl)⟩ rfl (gm_G.mono H (pI_elim (fun v6 h5 H' => ?_) (fun e11 h12 H => ?_)))
      · show gm_G _ 14 _ _ _ _
        replace H := H'
        clear H'
        refine g_if_eq rfl (pc' := 17) (pt := 30) rfl rfl ⟨fun hc => ?_, fun hc => ?_⟩
        · replace H := H.1 hc
          exact g_weak (show gm_Lle [some _, some _, some _, some _, some _] _ from ⟨rfl, ⟨rfl, ⟨rfl, ⟨rfl, ⟨rfl, trivial⟩⟩⟩⟩⟩) H
        · replace H := H.2 hc
          refine g_iload rfl rfl rfl (pc' := 18) ?_
          refine g_iconst rfl rfl rfl (pc' := 19) ?_
          refine g_iconst rfl rfl rfl (pc' := 20) ?_
          refine g_call rfl (y := 5) (n := 3) (pc' := 23) (fun _ => rfl) rfl rfl ⟨(Nat.le_of_ble_eq_true rfl), (Nat.le_of_ble_eq_true rfl), (Nat.le_of_ble_eq_true rfl)⟩ rfl (gm_G.mono H (pI_elim (fun v8 h7 H' => ?_) (fun e9 h10 H => ?_)))
          · show gm_G _ 23 _ _ _ _
            replace H := H'
            clear H'
            refine g_if_eq rfl (pc' := 26) (pt := 30) rfl rfl ⟨fun hc => ?_, fun hc => ?_⟩
            · replace H := H.1 hc
              exact g_weak (show gm_Lle [some _, some _, some _, some _, some _] _ from ⟨rfl, ⟨rfl, ⟨rfl, ⟨rfl, ⟨rfl, trivial⟩⟩⟩⟩⟩) H
            · replace H := H.2 hc
              refine g_iconst rfl rfl rfl (pc' := 27) ?_
              refine g_goto rfl (pc' := 31) rfl ?_
              exact g_weak (show gm_Lle [some _, some _, some _, some _, some _] _ from ⟨rfl, ⟨rfl, ⟨rfl, ⟨rfl, ⟨rfl, trivial⟩⟩⟩⟩⟩) H
          · exact ⟨H.1, g_weak (show gm_Lle [some _] _ from ⟨rfl, trivial⟩) H.2⟩
      · exact ⟨H.1, g_weak (show gm_Lle [some _] _ from ⟨rfl, trivial⟩) H.2⟩
    · exact ⟨H.1, g_weak (show gm_Lle [some _] _ from ⟨rfl, trivial⟩) H.2⟩
  · exact H
set_option maxRecDepth 20000 in
theorem w_626_30 {a0 : Nat} {x1 : Int32} {x2 : Int32} {x3 : Int32} {x4 : Int32} {h : hh_T} {Q : Option Value ⊕ Nat → hh_T → Prop} (H : gm_G 626 31 [some (.ref a0), some (.int x1), some (.int x2), some (.int x3), some (.int x4)] [.int (Int32.ofNat 0)] h Q) : gm_G 626 30 [some (.ref a0), some (.int x1), some (.int x2), some (.int x3), some (.int x4)] [] h Q := by
  refine g_iconst rfl rfl rfl (pc' := 31) ?_
  exact g_weak (show gm_Lle [some _, some _, some _, some _, some _] _ from ⟨rfl, ⟨rfl, ⟨rfl, ⟨rfl, ⟨rfl, trivial⟩⟩⟩⟩⟩) H
set_option maxRecDepth 20000 in
theorem w_626_31 {a0 : Nat} {x1 : Int32} {x2 : Int32} {x3 : Int32} {x4 : Int32} {y0 : Int32} {h : hh_T} {Q : Option Value ⊕ Nat → hh_T → Prop} (H : gm_G 452 0 [some (.int y0)] [] h (pV (fun h1 => (¬ x3 = (Int32.ofNat 1) → (gm_G 626 51 [some (.ref a0), some (.int x1), some (.int x2), some (.int x3), some (.int x4)] [] h1 Q)) ∧ (x3 = (Int32.ofNat 1) → (gm_sub (hh_tg h1 a0) 0 = true ∧ (∀ r3, r3 = hh_r h1 a0 58 → (∃ a4, r3 = some a4 ∧ (gm_sub (hh_tg h1 a4) 12 = true ∧ ((¬ (hh_i h1 a4 1) = (Int32.ofNat 32) → (gm_G 626 72 [some (.ref a0), some (.int x1), some (.int x2), some (.int x3), some (.int x4)] [] h1 Q)) ∧ ((hh_i h1 a4 1) = (Int32.ofNat 32) → (gm_G 626 51 [some (.ref a0), some (.int x1), some (.int x2), some (.int x3), some (.int x4)] [] h1 Q))))))))) (fun e6 h7 => hh_tg h7 e6 = 21 ∧ gm_G 626 219 [some (.ref a0)] [.ref e6] h7 Q))) : gm_G 626 31 [some (.ref a0), some (.int x1), some (.int x2), some (.int x3), some (.int x4)] [.int y0] h Q := by
  refine g_call rfl (y := 452) (n := 1) (pc' := 34) (fun _ => rfl) rfl rfl ⟨(Nat.le_of_ble_eq_true rfl), (Nat.le_of_ble_eq_true rfl), (Nat.le_of_ble_eq_true rfl)⟩ rfl (gm_G.mono H (pV_elim (fun h1 H' => ?_) (fun e6 h7 H => ?_)))
  · show gm_G _ 34 _ _ _ _
    replace H := H'
    clear H'
    refine g_iload rfl rfl rfl (pc' := 35) ?_
    refine g_iconst rfl rfl rfl (pc' := 36) ?_
    refine g_ic_ne rfl (pc' := 39) (pt := 51) rfl rfl ⟨fun hc => ?_, fun hc => ?_⟩
    · replace H := H.1 hc
      exact g_weak (show gm_Lle [some _, some _, some _, some _, some _] _ from ⟨rfl, ⟨rfl, ⟨rfl, ⟨rfl, ⟨rfl, trivial⟩⟩⟩⟩⟩) H
    · replace H := H.2 hc
      refine g_aload (r := some _) rfl rfl rfl (pc' := 40) ?_
      obtain ⟨ht2, H⟩ := H
      refine g_getRv rfl rfl rfl rfl ht2 (pc' := 43) rfl (fun r3 hr3 => ?_)
      replace H := H r3 hr3
      obtain ⟨a4, rfl, H⟩ := H
      obtain ⟨ht5, H⟩ := H
      refine g_getI rfl rfl rfl rfl ht5 (pc' := 46) rfl ?_
      refine g_iconst rfl rfl rfl (pc' := 48) ?_
      refine g_ic_ne rfl (pc' := 51) (pt := 72) rfl rfl ⟨fun hc => ?_, fun hc => ?_⟩
      · replace H := H.1 hc
        exact g_weak (show gm_Lle [some _, some _, some _, some _, some _] _ from ⟨rfl, ⟨rfl, ⟨rfl, ⟨rfl, ⟨rfl, trivial⟩⟩⟩⟩⟩) H
      · replace H := H.2 hc
        exact g_weak (show gm_Lle [some _, some _, some _, some _, some _] _ from ⟨rfl, ⟨rfl, ⟨rfl, ⟨rfl, ⟨rfl, trivial⟩⟩⟩⟩⟩) H
  · exact ⟨H.1, g_weak (show gm_Lle [some _] _ from ⟨rfl, trivial⟩) H.2⟩
set_option maxRecDepth 20000 in
theorem w_626_51 {a0 : Nat} {x1 : Int32} {x2 : Int32} {x3 : Int32} {x4 : Int32} {h : hh_T} {Q : Option Value ⊕ Nat → hh_T → Prop} (H : (¬ x3 = (Int32.ofNat 2) → (gm_G 626 68 [some (.ref a0), some (.int x1), some (.int x2), some (.int x3), some (.int x4)] [] h Q)) ∧ (x3 = (Int32.ofNat 2) → (gm_sub (hh_tg h a0) 0 = true ∧ (∀ r2, r2 = hh_r h a0 58 → (∃ a3, r2 = some a3 ∧ (gm_sub (hh_tg h a3) 12 = true ∧ ((¬ (hh_i h a3 1) = (Int32.ofNat 64) → (gm_G 626 72 [some (.ref a0), some (.int x1), some (.int x2), some (.int x3), some (.int x4)] [] h Q)) ∧ ((hh_i h a3 1) = (Int32.ofNat 64) → (gm_G 626 68 [some (.ref a0), some (.int x1), some (.int x2), some (.int x3), some (.int x4)] [] h Q))))))))) : gm_G 626 51 [some (.ref a0), some (.int x1), some (.int x2), some (.int x3), some (.int x4)] [] h Q := by
  refine g_iload rfl rfl rfl (pc' := 52) ?_
  refine g_iconst rfl rfl rfl (pc' := 53) ?_
  refine g_ic_ne rfl (pc' := 56) (pt := 68) rfl rfl ⟨fun hc => ?_, fun hc => ?_⟩
  · replace H := H.1 hc
    exact g_weak (show gm_Lle [some _, some _, some _, some _, some _] _ from ⟨rfl, ⟨rfl, ⟨rfl, ⟨rfl, ⟨rfl, trivial⟩⟩⟩⟩⟩) H
  · replace H := H.2 hc
    refine g_aload (r := some _) rfl rfl rfl (pc' := 57) ?_
    obtain ⟨ht1, H⟩ := H
    refine g_getRv rfl rfl rfl rfl ht1 (pc' := 60) rfl (fun r2 hr2 => ?_)
    replace H := H r2 hr2
    obtain ⟨a3, rfl, H⟩ := H
    obtain ⟨ht4, H⟩ := H
    refine g_getI rfl rfl rfl rfl ht4 (pc' := 63) rfl ?_
    refine g_iconst rfl rfl rfl (pc' := 65) ?_
    refine g_ic_ne rfl (pc' := 68) (pt := 72) rfl rfl ⟨fun hc => ?_, fun hc => ?_⟩
    · replace H := H.1 hc
      exact g_weak (show gm_Lle [some _, some _, some _, some _, some _] _ from ⟨rfl, ⟨rfl, ⟨rfl, ⟨rfl, ⟨rfl, trivial⟩⟩⟩⟩⟩) H
    · replace H := H.2 hc
      exact g_weak (show gm_Lle [some _, some _, some _, some _, some _] _ from ⟨rfl, ⟨rfl, ⟨rfl, ⟨rfl, ⟨rfl, trivial⟩⟩⟩⟩⟩) H
set_option maxRecDepth 20000 in
theorem w_626_68 {a0 : Nat} {x1 : Int32} {x2 : Int32} {x3 : Int32} {x4 : Int32} {h : hh_T} {Q : Option Value ⊕ Nat → hh_T → Prop} (H : gm_G 626 73 [some (.ref a0), some (.int x1), some (.int x2), some (.int x3), some (.int x4)] [.int (Int32.ofNat 1)] h Q) : gm_G 626 68 [some (.ref a0), some (.int x1), some (.int x2), some (.int x3), some (.int x4)] [] h Q := by
  refine g_iconst rfl rfl rfl (pc' := 69) ?_
  refine g_goto rfl (pc' := 73) rfl ?_
  exact g_weak (show gm_Lle [some _, some _, some _, some _, some _] _ from ⟨rfl, ⟨rfl, ⟨rfl, ⟨rfl, ⟨rfl, trivial⟩⟩⟩⟩⟩) H
set_option maxRecDepth 20000 in
theorem w_626_72 {a0 : Nat} {x1 : Int32} {x2 : Int32} {x3 : Int32} {x4 : Int32} {h : hh_T} {Q : Option Value ⊕ Nat → hh_T → Prop} (H : gm_G 626 73 [some (.ref a0), some (.int x1), some (.int x2), some (.int x3), some (.int x4)] [.int (Int32.ofNat 0)] h Q) : gm_G 626 72 [some (.ref a0), some (.int x1), some (.int x2), some (.int x3), some (.int x4)] [] h Q := by
  refine g_iconst rfl rfl rfl (pc' := 73) ?_
  exact g_weak (show gm_Lle [some _, some _, some _, some _, some _] _ from ⟨rfl, ⟨rfl, ⟨rfl, ⟨rfl, ⟨rfl, trivial⟩⟩⟩⟩⟩) H
set_option maxRecDepth 20000 in
theorem w_626_73 {a0 : Nat} {x1 : Int32} {x2 : Int32} {x3 : Int32} {x4 : Int32} {y0 : Int32} {h : hh_T} {Q : Option Value ⊕ Nat → hh_T → Prop} (H : gm_G 457 0 [some (.int y0)] [] h (pV (fun h1 => hh_tg h1 a0 = 1 ∧ (gm_G 453 0 [some (.ref a0), some (.int x1)] [] h1 (pR (fun r4 h3 => ∃ a5, r4 = some a5 ∧ (gm_sub (hh_tg h3 a5) 23 = true ∧ ((¬ Int32.ofNat 0 < (hh_i h3 a5 2) → (gm_G 626 96 [some (.ref a0), some (.int x1), some (.int x2), some (.int x3), some (.int x4), some (.ref a5)] [.int (Int32.ofNat 0)] h3 Q)) ∧ (Int32.ofNat 0 < (hh_i h3 a5 2) → (gm_G 626 96 [some (.ref a0), some (.int x1), some (.int x2), some (.int x3), some (.int x4), some (.ref a5)] [.int (Int32.ofNat 1)] h3 Q))))) (fun e7 h8 => hh_tg h8 e7 = 21 ∧ gm_G 626 219 [some (.ref a0)] [.ref e7] h8 Q)))) (fun e9 h10 => hh_tg h10 e9 = 21 ∧ gm_G 626 219 [some (.ref a0)] [.ref e9] h10 Q))) : gm_G 626 73 [some (.ref a0), some (.int x1), some (.int x2), some (.int x3), some (.int x4)] [.int y0] h Q := by
  refine g_call rfl (y := 457) (n := 1) (pc' := 76) (fun _ => rfl) rfl rfl ⟨(Nat.le_of_ble_eq_true rfl), (Nat.le_of_ble_eq_true rfl), (Nat.le_of_ble_eq_true rfl)⟩ rfl (gm_G.mono H (pV_elim (fun h1 H' => ?_) (fun e9 h10 H => ?_)))
  · show gm_G _ 76 _ _ _ _
    replace H := H'
    clear H'
    refine g_aload (r := some _) rfl rfl rfl (pc' := 77) ?_
    refine g_iload rfl rfl rfl (pc' := 78) ?_
    obtain ⟨ht2, H⟩ := H
    refine g_call rfl (y := 453) (n := 2) (pc' := 81) (g_vt ht2 rfl rfl) rfl rfl ⟨(Nat.le_of_ble_eq_true rfl), (Nat.le_of_ble_eq_true rfl), (Nat.le_of_ble_eq_true rfl)⟩ rfl (gm_G.mono H (pR_elim (fun r4 h3 H' => ?_) (fun e7 h8 H => ?_)))
    · show gm_G _ 81 _ _ _ _
      replace H := H'
      clear H'
      refine g_astore (r := _) rfl rfl rfl (pc' := 83) ?_
      refine g_aload (r := _) rfl rfl rfl (pc' := 85) ?_
      obtain ⟨a5, rfl, H⟩ := H
      obtain ⟨ht6, H⟩ := H
      refine g_getI rfl rfl rfl rfl ht6 (pc' := 88) rfl ?_
      refine g_if_le rfl (pc' := 91) (pt := 95) rfl rfl ⟨fun hc => ?_, fun hc => ?_⟩
      · replace H := H.1 hc
        refine g_iconst rfl rfl rfl (pc' := 96) ?_
        exact g_weak (show gm_Lle [some _, some _, some _, some _, some _, some _] _ from ⟨rfl, ⟨rfl, ⟨rfl, ⟨rfl, ⟨rfl, ⟨rfl, trivial⟩⟩⟩⟩⟩⟩) H
      · replace H := H.2 hc
        refine g_iconst rfl rfl rfl (pc' := 92) ?_
        refine g_goto rfl (pc' := 96) rfl ?_
        exact g_weak (show gm_Lle [some _, some _, some _, some _, some _, some _] _ from ⟨rfl, ⟨rfl, ⟨rfl, ⟨rfl, ⟨rfl, ⟨rfl, trivial⟩⟩⟩⟩⟩⟩) H
    · exact ⟨H.1, g_weak (show gm_Lle [some _] _ from ⟨rfl, trivial⟩) H.2⟩
  · exact ⟨H.1, g_weak (show gm_Lle [some _] _ from ⟨rfl, trivial⟩) H.2⟩
set_option maxRecDepth 20000 in
theorem w_626_96 {a0 : Nat} {x1 : Int32} {x2 : Int32} {x3 : Int32} {x4 : Int32} {r_5 : Option Nat} {y0 : Int32} {h : hh_T} {Q : Option Value ⊕ Nat → hh_T → Prop} (H : gm_G 431 0 [some (.int y0), some (.int (Int32.ofInt (-10)))] [] h (pV (fun h1 => ((Int32.ofNat 3) < x3 → (gm_G 626 122 [some (.ref a0), some (.int x1), some (.int x2), some (.int x3), some (.int x4), some (va_rf r_5)] [] h1 Q)) ∧ (¬ (Int32.ofNat 3) < x3 → (∃ a2, r_5 = some a2 ∧ (gm_sub (hh_tg h1 a2) 23 = true ∧ (gm_G 5 0 [some (.int x4), some (.int (Int32.ofNat 0)), some (.int ((hh_i h1 a2 2) - (Int32.ofNat 1)))] [] h1 (pI (fun v5 h4 => (v5 = Int32.ofNat 0 → (gm_G 626 127 [some (.ref a0), some (.int x1), some (.int x2), some (.int x3), some (.int x4), some (.ref a2)] [.int (Int32.ofNat 0)] h4 Q)) ∧ (¬ v5 = Int32.ofNat 0 → (gm_G 626 122 [some (.ref a0), some (.int x1), some (.int x2), some (.int x3), some (.int x4), some (.ref a2)] [] h4 Q))) (fun e6 h7 => hh_tg h7 e6 = 21 ∧ gm_G 626 219 [some (.ref a0)] [.ref e6] h7 Q))))))) (fun e8 h9 => hh_tg h9 e8 = 21 ∧ gm_G 626 219 [some (.ref a0)] [.ref e8] h9 Q))) : gm_G 626 96 [some (.ref a0), some (.int x1), some (.int x2), some (.int x3), some (.int x4), some (va_rf r_5)] [.int y0] h Q := by
  refine g_iconst rfl rfl rfl (pc' := 98) ?_
  refine g_call rfl (y := 431) (n := 2) (pc' := 101) (fun _ => rfl) rfl rfl ⟨(Nat.le_of_ble_eq_true rfl), (Nat.le_of_ble_eq_true rfl), (Nat.le_of_ble_eq_true rfl)⟩ rfl (gm_G.mono H (pV_elim (fun h1 H' => ?_) (fun e8 h9 H => ?_)))
  · show gm_G _ 101 _ _ _ _
    replace H := H'
    clear H'
    refine g_iload rfl rfl rfl (pc' := 102) ?_
    refine g_iconst rfl rfl rfl (pc' := 103) ?_
    refine g_ic_gt rfl (pc' := 106) (pt := 122) rfl rfl ⟨fun hc => ?_, fun hc => ?_⟩
    · replace H := H.1 hc
      exact g_weak (show gm_Lle [some _, some _, some _, some _, some _, some _] _ from ⟨rfl, ⟨rfl, ⟨rfl, ⟨rfl, ⟨rfl, ⟨rfl, trivial⟩⟩⟩⟩⟩⟩) H
    · replace H := H.2 hc
      refine g_iload rfl rfl rfl (pc' := 108) ?_
      refine g_iconst rfl rfl rfl (pc' := 109) ?_
      refine g_aload (r := _) rfl rfl rfl (pc' := 111) ?_
      obtain ⟨a2, rfl, H⟩ := H
      obtain ⟨ht3, H⟩ := H
      refine g_getI rfl rfl rfl rfl ht3 (pc' := 114) rfl ?_
      refine g_iconst rfl rfl rfl (pc' := 115) ?_
      refine g_isub rfl rfl (pc' := 116) ?_
      refine g_call rfl (y := 5) (n := 3) (pc' := 119) (fun _ => rfl) rfl rfl ⟨(Nat.le_of_ble_eq_true rfl), (Nat.le_of_ble_eq_true rfl), (Nat.le_of_ble_eq_true rfl)⟩ rfl (gm_G.mono H (pI_elim (fun v5 h4 H' => ?_) (fun e6 h7 H => ?_)))
      · show gm_G _ 119 _ _ _ _
        replace H := H'
        clear H'
        refine g_if_eq rfl (pc' := 122) (pt := 126) rfl rfl ⟨fun hc => ?_, fun hc => ?_⟩
        · replace H := H.1 hc
          refine g_iconst rfl rfl rfl (pc' := 127) ?_
          exact g_weak (show gm_Lle [some _, some _, some _, some _, some _, some _] _ from ⟨rfl, ⟨rfl, ⟨rfl, ⟨rfl, ⟨rfl, ⟨rfl, trivial⟩⟩⟩⟩⟩⟩) H
        · replace H := H.2 hc
          exact g_weak (show gm_Lle [some _, some _, some _, some _, some _, some _] _ from ⟨rfl, ⟨rfl, ⟨rfl, ⟨rfl, ⟨rfl, ⟨rfl, trivial⟩⟩⟩⟩⟩⟩) H
      · exact ⟨H.1, g_weak (show gm_Lle [some _] _ from ⟨rfl, trivial⟩) H.2⟩
  · exact ⟨H.1, g_weak (show gm_Lle [some _] _ from ⟨rfl, trivial⟩) H.2⟩
set_option maxRecDepth 20000 in
theorem w_626_122 {a0 : Nat} {x1 : Int32} {x2 : Int32} {x3 : Int32} {x4 : Int32} {r_5 : Option Nat} {h : hh_T} {Q : Option Value ⊕ Nat → hh_T → Prop} (H : gm_G 626 127 [some (.ref a0), some (.int x1), some (.int x2), some (.int x3), some (.int x4), some (va_rf r_5)] [.int (Int32.ofNat 1)] h Q) : gm_G 626 122 [some (.ref a0), some (.int x1), some (.int x2), some (.int x3), some (.int x4), some (va_rf r_5)] [] h Q := by
  refine g_iconst rfl rfl rfl (pc' := 123) ?_
  refine g_goto rfl (pc' := 127) rfl ?_
  exact g_weak (show gm_Lle [some _, some _, some _, some _, some _, some _] _ from ⟨rfl, ⟨rfl, ⟨rfl, ⟨rfl, ⟨rfl, ⟨rfl, trivial⟩⟩⟩⟩⟩⟩) H
set_option maxRecDepth 20000 in
theorem w_626_127 {a0 : Nat} {x1 : Int32} {x2 : Int32} {x3 : Int32} {x4 : Int32} {r_5 : Option Nat} {y0 : Int32} {h : hh_T} {Q : Option Value ⊕ Nat → hh_T → Prop} (H : gm_G 452 0 [some (.int y0)] [] h (pV (fun h1 => gm_G 5 0 [some (.int x3), some (.int (Int32.ofNat 1)), some (.int (Int32.ofNat 3))] [] h1 (pI (fun v3 h2 => (v3 = Int32.ofNat 0 → (gm_G 626 152 [some (.ref a0), some (.int x1), some (.int x2), some (.int x3), some (.int x4), some (va_rf r_5)] [] h2 Q)) ∧ (¬ v3 = Int32.ofNat 0 → (gm_sub (hh_tg h2 a0) 0 = true ∧ (∀ r5, r5 = hh_r h2 a0 33 → (∃ a6, r5 = some a6 ∧ (hh_tg h2 a6 = 23 ∧ (gm_G 311 0 [some (.ref a6), some (va_rf r_5), some (.int (Int32.ofNat 3))] [] h2 (pI (fun v9 h8 => (¬ v9 = Int32.ofNat 0 → (gm_G 626 157 [some (.ref a0), some (.int x1), some (.int x2), some (.int x3), some (.int x4), some (va_rf r_5)] [.int (Int32.ofNat 0)] h8 Q)) ∧ (v9 = Int32.ofNat 0 → (gm_G 626 152 [some (.ref a0), some (.int x1), some (.int x2), some (.int x3), some (.int x4), some (va_rf r_5)] [] h8 Q))) (fun e10 h11 => hh_tg h11 e10 = 21 ∧ gm_G 626 219 [some (.ref a0)] [.ref e10] h11 Q))))))))) (fun e12 h13 => hh_tg h13 e12 = 21 ∧ gm_G 626 219 [some (.ref a0)] [.ref e12] h13 Q))) (fun e14 h15 => hh_tg h15 e14 = 21 ∧ gm_G 626 219 [some (.ref a0)] [.ref e14] h15 Q))) : gm_G 626 127 [some (.ref a0), some (.int x1), some (.int x2), some (.int x3), some (.int x4), some (va_rf r_5)] [.int y0] h Q := by
  refine g_call rfl (y := 452) (n := 1) (pc' := 130) (fun _ => rfl) rfl rfl ⟨(Nat.le_of_ble_eq_true rfl), (Nat.le_of_ble_eq_true rfl), (Nat.le_of_ble_eq_true rfl)⟩ rfl (gm_G.mono H (pV_elim (fun h1 H' => ?_) (fun e14 h15 H => ?_)))
  · show gm_G _ 130 _ _ _ _
    replace H := H'
    clear H'
    refine g_iload rfl rfl rfl (pc' := 131) ?_
    refine g_iconst rfl rfl rfl (pc' := 132) ?_
    refine g_iconst rfl rfl rfl (pc' := 133) ?_
    refine g_call rfl (y := 5) (n := 3) (pc' := 136) (fun _ => rfl) rfl rfl ⟨(Nat.le_of_ble_eq_true rfl), (Nat.le_of_ble_eq_true rfl), (Nat.le_of_ble_eq_true rfl)⟩ rfl (gm_G.mono H (pI_elim (fun v3 h2 H' => ?_) (fun e12 h13 H => ?_)))
    · show gm_G _ 136 _ _ _ _
      replace H := H'
      clear H'
      refine g_if_eq rfl (pc' := 139) (pt := 152) rfl rfl ⟨fun hc => ?_, fun hc => ?_⟩
      · replace H := H.1 hc
        exact g_weak (show gm_Lle [some _, some _, some _, some _, some _, some _] _ from ⟨rfl, ⟨rfl, ⟨rfl, ⟨rfl, ⟨rfl, ⟨rfl, trivial⟩⟩⟩⟩⟩⟩) H
      · replace H := H.2 hc
        refine g_aload (r := some _) rfl rfl rfl (pc' := 140) ?_
        obtain ⟨ht4, H⟩ := H
        refine g_getRv rfl rfl rfl rfl ht4 (pc' := 143) rfl (fun r5 hr5 => ?_)
        replace H := H r5 hr5
        refine g_aload (r := _) rfl rfl rfl (pc' := 145) ?_
        refine g_iconst rfl rfl rfl (pc' := 146) ?_
        obtain ⟨a6, rfl, H⟩ := H
        obtain ⟨ht7, H⟩ := H
        refine g_call rfl (y := 311) (n := 3) (pc' := 149) (g_vt ht7 rfl rfl) (by cases r_5 <;> rfl) rfl ⟨(Nat.le_of_ble_eq_true rfl), (Nat.le_of_ble_eq_true rfl), (Nat.le_of_ble_eq_true rfl)⟩ rfl (gm_G.mono H (pI_elim (fun v9 h8 H' => ?_) (fun e10 h11 H => ?_)))
        · show gm_G _ 149 _ _ _ _
          replace H := H'
          clear H'
          refine g_if_ne rfl (pc' := 152) (pt := 156) rfl rfl ⟨fun hc => ?_, fun hc => ?_⟩
          · replace H := H.1 hc
            refine g_iconst rfl rfl rfl (pc' := 157) ?_
            exact g_weak (show gm_Lle [some _, some _, some _, some _, some _, some _] _ from ⟨rfl, ⟨rfl, ⟨rfl, ⟨rfl, ⟨rfl, ⟨rfl, trivial⟩⟩⟩⟩⟩⟩) H
          · replace H := H.2 hc
            exact g_weak (show gm_Lle [some _, some _, some _, some _, some _, some _] _ from ⟨rfl, ⟨rfl, ⟨rfl, ⟨rfl, ⟨rfl, ⟨rfl, trivial⟩⟩⟩⟩⟩⟩) H
        · exact ⟨H.1, g_weak (show gm_Lle [some _] _ from ⟨rfl, trivial⟩) H.2⟩
    · exact ⟨H.1, g_weak (show gm_Lle [some _] _ from ⟨rfl, trivial⟩) H.2⟩
  · exact ⟨H.1, g_weak (show gm_Lle [some _] _ from ⟨rfl, trivial⟩) H.2⟩
set_option maxRecDepth 20000 in
theorem w_626_152 {a0 : Nat} {x1 : Int32} {x2 : Int32} {x3 : Int32} {x4 : Int32} {r_5 : Option Nat} {h : hh_T} {Q : Option Value ⊕ Nat → hh_T → Prop} (H : gm_G 626 157 [some (.ref a0), some (.int x1), some (.int x2), some (.int x3), some (.int x4), some (va_rf r_5)] [.int (Int32.ofNat 1)] h Q) : gm_G 626 152 [some (.ref a0), some (.int x1), some (.int x2), some (.int x3), some (.int x4), some (va_rf r_5)] [] h Q := by
  refine g_iconst rfl rfl rfl (pc' := 153) ?_
  refine g_goto rfl (pc' := 157) rfl ?_
  exact g_weak (show gm_Lle [some _, some _, some _, some _, some _, some _] _ from ⟨rfl, ⟨rfl, ⟨rfl, ⟨rfl, ⟨rfl, ⟨rfl, trivial⟩⟩⟩⟩⟩⟩) H
set_option maxRecDepth 20000 in
theorem w_626_157 {a0 : Nat} {x1 : Int32} {x2 : Int32} {x3 : Int32} {x4 : Int32} {r_5 : Option Nat} {y0 : Int32} {h : hh_T} {Q : Option Value ⊕ Nat → hh_T → Prop} (H : gm_G 431 0 [some (.int y0), some (.int (Int32.ofInt (-6)))] [] h (pV (fun h1 => gm_sub (hh_tg h1 a0) 0 = true ∧ (∀ r3, r3 = hh_r h1 a0 56 → (∃ a4, r3 = some a4 ∧ (hh_tg h1 a4 = 18 ∧ (gm_G 267 0 [some (.ref a4), some (.int x1)] [] h1 (pI (fun v7 h6 => gm_G 5 0 [some (.int x3), some (.int (Int32.ofNat 1)), some (.int (Int32.ofNat 4))] [] h6 (pI (fun v9 h8 => (v9 = Int32.ofNat 0 → (gm_G 626 194 [some (.ref a0), none, some (.int x2), some (.int x3), some (.int x4), some (va_rf r_5)] [] h8 Q)) ∧ (¬ v9 = Int32.ofNat 0 → ((v7 = (Int32.ofInt (-2)) → (gm_G 626 194 [some (.ref a0), none, some (.int x2), some (.int x3), some (.int x4), some (va_rf r_5)] [] h8 Q)) ∧ (¬ v7 = (Int32.ofInt (-2)) → ((¬ v7 = x2 → (gm_G 626 199 [some (.ref a0), none, some (.int x2), some (.int x3), some (.int x4), some (va_rf r_5)] [.int (Int32.ofNat 0)] h8 Q)) ∧ (v7 = x2 → (gm_G 626 194 [some (.ref a0), none, some (.int x2), some (.int x3), some (.int x4), some (va_rf r_5)] [] h8 Q))))))) (fun e10 h11 => hh_tg h11 e10 = 21 ∧ gm_G 626 219 [some (.ref a0)] [.ref e10] h11 Q))) (fun e12 h13 => hh_tg h13 e12 = 21 ∧ gm_G 626 219 [some (.ref a0)] [.ref e12] h13 Q))))))) (fun e14 h15 => hh_tg h15 e14 = 21 ∧ gm_G 626 219 [some (.ref a0)] [.ref e14] h15 Q))) : gm_G 626 157 [some (.ref a0), some (.int x1), some (.int x2), some (.int x3), some (.int x4), some (va_rf r_5)] [.int y0] h Q := by
  refine g_iconst rfl rfl rfl (pc' := 159) ?_
  refine g_call rfl (y := 431) (n := 2) (pc' := 162) (fun _ => rfl) rfl rfl ⟨(Nat.le_of_ble_eq_true rfl), (Nat.le_of_ble_eq_true rfl), (Nat.le_of_ble_eq_true rfl)⟩ rfl (gm_G.mono H (pV_elim (fun h1 H' => ?_) (fun e14 h15 H => ?_)))
  · show gm_G _ 162 _ _ _ _
    replace H := H'
    clear H'
    refine g_aload (r := some _) rfl rfl rfl (pc' := 163) ?_
    obtain ⟨ht2, H⟩ := H
    refine g_getRv rfl rfl rfl rfl ht2 (pc' := 166) rfl (fun r3 hr3 => ?_)
    replace H := H r3 hr3
    refine g_iload rfl rfl rfl (pc' := 167) ?_
    obtain ⟨a4, rfl, H⟩ := H
    obtain ⟨ht5, H⟩ := H
    refine g_call rfl (y := 267) (n := 2) (pc' := 170) (g_vt ht5 rfl rfl) rfl rfl ⟨(Nat.le_of_ble_eq_true rfl), (Nat.le_of_ble_eq_true rfl), (Nat.le_of_ble_eq_true rfl)⟩ rfl (gm_G.mono H (pI_elim (fun v7 h6 H' => ?_) (fun e12 h13 H => ?_)))
    · show gm_G _ 170 _ _ _ _
      replace H := H'
      clear H'
      refine g_istore rfl gm_sto_rf5 rfl (pc' := 172) ?_
      refine g_iload rfl rfl rfl (pc' := 173) ?_
      refine g_iconst rfl rfl rfl (pc' := 174) ?_
      refine g_iconst rfl rfl rfl (pc' := 175) ?_
      refine g_call rfl (y := 5) (n := 3) (pc' := 178) (fun _ => rfl) rfl rfl ⟨(Nat.le_of_ble_eq_true rfl), (Nat.le_of_ble_eq_true rfl), (Nat.le_of_ble_eq_true rfl)⟩ rfl (gm_G.mono H (pI_elim (fun v9 h8 H' => ?_) (fun e10 h11 H => ?_)))
      · show gm_G _ 178 _ _ _ _
        replace H := H'
        clear H'
        refine g_if_eq rfl (pc' := 181) (pt := 194) rfl rfl ⟨fun hc => ?_, fun hc => ?_⟩
        · replace H := H.1 hc
          exact g_weak (show gm_Lle [some _, none, some _, some _, some _, some _] _ from ⟨rfl, ⟨rfl, ⟨rfl, ⟨rfl, ⟨rfl, trivial⟩⟩⟩⟩⟩) H
        · replace H := H.2 hc
          refine g_iload rfl rfl rfl (pc' := 183) ?_
          refine g_iconst rfl rfl rfl (pc' := 185) ?_
          refine g_ic_eq rfl (pc' := 188) (pt := 194) rfl rfl ⟨fun hc => ?_, fun hc => ?_⟩
          · replace H := H.1 hc
            exact g_weak (show gm_Lle [some _, none, some _, some _, some _, some _] _ from ⟨rfl, ⟨rfl, ⟨rfl, ⟨rfl, ⟨rfl, trivial⟩⟩⟩⟩⟩) H
          · replace H := H.2 hc
            refine g_iload rfl rfl rfl (pc' := 190) ?_
            refine g_iload rfl rfl rfl (pc' := 191) ?_
            refine g_ic_ne rfl (pc' := 194) (pt := 198) rfl rfl ⟨fun hc => ?_, fun hc => ?_⟩
            · replace H := H.1 hc
              refine g_iconst rfl rfl rfl (pc' := 199) ?_
              exact g_weak (show gm_Lle [some _, none, some _, some _, some _, some _] _ from ⟨rfl, ⟨rfl, ⟨rfl, ⟨rfl, ⟨rfl, trivial⟩⟩⟩⟩⟩) H
            · replace H := H.2 hc
              exact g_weak (show gm_Lle [some _, none, some _, some _, some _, some _] _ from ⟨rfl, ⟨rfl, ⟨rfl, ⟨rfl, ⟨rfl, trivial⟩⟩⟩⟩⟩) H
      · exact ⟨H.1, g_weak (show gm_Lle [some _] _ from ⟨rfl, trivial⟩) H.2⟩
    · exact ⟨H.1, g_weak (show gm_Lle [some _] _ from ⟨rfl, trivial⟩) H.2⟩
  · exact ⟨H.1, g_weak (show gm_Lle [some _] _ from ⟨rfl, trivial⟩) H.2⟩
set_option maxRecDepth 20000 in
theorem w_626_194 {a0 : Nat} {x2 : Int32} {x3 : Int32} {x4 : Int32} {r_5 : Option Nat} {h : hh_T} {Q : Option Value ⊕ Nat → hh_T → Prop} (H : gm_G 626 199 [some (.ref a0), none, some (.int x2), some (.int x3), some (.int x4), some (va_rf r_5)] [.int (Int32.ofNat 1)] h Q) : gm_G 626 194 [some (.ref a0), none, some (.int x2), some (.int x3), some (.int x4), some (va_rf r_5)] [] h Q := by
  refine g_iconst rfl rfl rfl (pc' := 195) ?_
  refine g_goto rfl (pc' := 199) rfl ?_
  exact g_weak (show gm_Lle [some _, none, some _, some _, some _, some _] _ from ⟨rfl, ⟨rfl, ⟨rfl, ⟨rfl, ⟨rfl, trivial⟩⟩⟩⟩⟩) H
set_option maxRecDepth 20000 in
theorem w_626_199 {a0 : Nat} {x2 : Int32} {x3 : Int32} {x4 : Int32} {r_5 : Option Nat} {y0 : Int32} {h : hh_T} {Q : Option Value ⊕ Nat → hh_T → Prop} (H : gm_G 431 0 [some (.int y0), some (.int (Int32.ofInt (-5)))] [] h (pV (fun h1 => hh_tg h1 a0 = 1 ∧ (gm_G 620 0 [some (.ref a0), some (va_rf r_5), some (.int x2), some (.int x3), some (.int x4)] [] h1 (pI (fun v4 h3 => hh_tg h3 a0 = 1 ∧ (gm_G 4 0 [some (.ref a0), some (.int v4)] [] h3 (pI (fun v7 h6 => Q (.inl (some (.int v7))) h6) (fun e8 h9 => hh_tg h9 e8 = 21 ∧ gm_G 626 219 [some (.ref a0)] [.ref e8] h9 Q)))) (fun e10 h11 => hh_tg h11 e10 = 21 ∧ gm_G 626 219 [some (.ref a0)] [.ref e10] h11 Q)))) (fun e12 h13 => hh_tg h13 e12 = 21 ∧ gm_G 626 219 [some (.ref a0)] [.ref e12] h13 Q))) : gm_G 626 199 [some (.ref a0), none, some (.int x2), some (.int x3), some (.int x4), some (va_rf r_5)] [.int y0] h Q := by
  refine g_iconst rfl rfl rfl (pc' := 201) ?_
  refine g_call rfl (y := 431) (n := 2) (pc' := 204) (fun _ => rfl) rfl rfl ⟨(Nat.le_of_ble_eq_true rfl), (Nat.le_of_ble_eq_true rfl), (Nat.le_of_ble_eq_true rfl)⟩ rfl (gm_G.mono H (pV_elim (fun h1 H' => ?_) (fun e12 h13 H => ?_)))
  · show gm_G _ 204 _ _ _ _
    replace H := H'
    clear H'
    refine g_aload (r := some _) rfl rfl rfl (pc' := 205) ?_
    refine g_aload (r := some _) rfl rfl rfl (pc' := 206) ?_
    refine g_aload (r := _) rfl rfl rfl (pc' := 208) ?_
    refine g_iload rfl rfl rfl (pc' := 209) ?_
    refine g_iload rfl rfl rfl (pc' := 210) ?_
    refine g_iload rfl rfl rfl (pc' := 212) ?_
    obtain ⟨ht2, H⟩ := H
    refine g_call rfl (y := 620) (n := 5) (pc' := 215) (g_vt ht2 rfl rfl) (by cases r_5 <;> rfl) rfl ⟨(Nat.le_of_ble_eq_true rfl), (Nat.le_of_ble_eq_true rfl), (Nat.le_of_ble_eq_true rfl)⟩ rfl (gm_G.mono H (pI_elim (fun v4 h3 H' => ?_) (fun e10 h11 H => ?_)))
    · show gm_G _ 215 _ _ _ _
      replace H := H'
      clear H'
      obtain ⟨ht5, H⟩ := H
      refine g_call rfl (y := 4) (n := 2) (pc' := 218) (g_vt ht5 rfl rfl) rfl rfl ⟨(Nat.le_of_ble_eq_true rfl), (Nat.le_of_ble_eq_true rfl), (Nat.le_of_ble_eq_true rfl)⟩ rfl (gm_G.mono H (pI_elim (fun v7 h6 H' => ?_) (fun e8 h9 H => ?_)))
      · show gm_G _ 218 _ _ _ _
        replace H := H'
        clear H'
        exact g_ireturn rfl (Or.inl rfl) H
      · exact ⟨H.1, g_weak (show gm_Lle [some _] _ from ⟨rfl, trivial⟩) H.2⟩
    · exact ⟨H.1, g_weak (show gm_Lle [some _] _ from ⟨rfl, trivial⟩) H.2⟩
  · exact ⟨H.1, g_weak (show gm_Lle [some _] _ from ⟨rfl, trivial⟩) H.2⟩
set_option maxRecDepth 20000 in
theorem w_626_219 {a0 : Nat} {ex : Nat} {h : hh_T} {Q : Option Value ⊕ Nat → hh_T → Prop} (H : hh_tg h a0 = 1 ∧ (gm_G 1 0 [some (.ref a0), some (.ref ex)] [] h (pI (fun v3 h2 => Q (.inl (some (.int v3))) h2) (fun e4 h5 => hh_tg h5 e4 = 21 ∧ Q (.inr e4) h5)))) : gm_G 626 219 [some (.ref a0)] [.ref ex] h Q := by
  refine g_astore (r := some _) rfl rfl rfl (pc' := 221) ?_
  refine g_aload (r := some _) rfl rfl rfl (pc' := 222) ?_
  refine g_aload (r := some _) rfl rfl rfl (pc' := 224) ?_
  obtain ⟨ht1, H⟩ := H
  refine g_call rfl (y := 1) (n := 2) (pc' := 227) (g_vt ht1 rfl rfl) rfl rfl ⟨(Nat.le_of_ble_eq_true rfl), (Nat.le_of_ble_eq_true rfl), (Nat.le_of_ble_eq_true rfl)⟩ rfl (gm_G.mono H (pI_elim (fun v3 h2 H' => ?_) (fun e4 h5 H => ?_)))
  · show gm_G _ 227 _ _ _ _
    replace H := H'
    clear H'
    exact g_ireturn rfl (Or.inl rfl) H
  · exact H
set_option maxRecDepth 20000 in
theorem w_627_0 {a0 : Nat} {x1 : Int32} {x2 : Int32} {h : hh_T} {Q : Option Value ⊕ Nat → hh_T → Prop} (H : hh_tg h a0 = 1 ∧ (gm_G 243 0 [some (.ref a0)] [] h (pV (fun h2 => hh_tg h2 a0 = 1 ∧ (gm_G 456 0 [some (.ref a0)] [] h2 (pV (fun h4 => gm_G 5 0 [some (.int x2), some (.int (Int32.ofNat 1)), some (.int (Int32.ofNat 3))] [] h4 (pI (fun v6 h5 => gm_G 452 0 [some (.int v6)] [] h5 (pV (fun h7 => (¬ x2 = (Int32.ofNat 3) → (gm_G 627 29 [some (.ref a0), some (.int x1), some (.int x2)] [] h7 Q)) ∧ (x2 = (Int32.ofNat 3) → (hh_tg h7 a0 = 1 ∧ (gm_G 17 0 [some (.ref a0)] [] h7 (pI (fun v10 h9 => gm_G 627 36 [some (.ref a0), some (.int x1), some (.int x2)] [.int v10] h9 Q) (fun e11 h12 => hh_tg h12 e11 = 21 ∧ gm_G 627 189 [some (.ref a0)] [.ref e11] h12 Q)))))) (fun e13 h14 => hh_tg h14 e13 = 21 ∧ gm_G 627 189 [some (.ref a0)] [.ref e13] h14 Q))) (fun e15 h16 => hh_tg h16 e15 = 21 ∧ gm_G 627 189 [some (.ref a0)] [.ref e15] h16 Q))) (fun e17 h18 => hh_tg h18 e17 = 21 ∧ gm_G 627 189 [some (.ref a0)] [.ref e17] h18 Q)))) (fun e19 h20 => hh_tg h20 e19 = 21 ∧ Q (.inr e19) h20)))) : gm_G 627 0 [some (.ref a0), some (.int x1), some (.int x2)] [] h Q := by
  refine g_aload (r := some _) rfl rfl rfl (pc' := 1) ?_
  obtain ⟨ht1, H⟩ := H
  refine g_call rfl (y := 243) (n := 1) (pc' := 4) (g_vt ht1 rfl rfl) rfl rfl ⟨(Nat.le_of_ble_eq_true rfl), (Nat.le_of_ble_eq_true rfl), (Nat.le_of_ble_eq_true rfl)⟩ rfl (gm_G.mono H (pV_elim (fun h2 H' => ?_) (fun e19 h20 H => ?_)))
  · show gm_G _ 4 _ _ _ _
    replace H := H'
    clear H'
    refine g_aload (r := some _) rfl rfl rfl (pc' := 5) ?_
    obtain ⟨ht3, H⟩ := H
    refine g_call rfl (y := 456) (n := 1) (pc' := 8) (g_vt ht3 rfl rfl) rfl rfl ⟨(Nat.le_of_ble_eq_true rfl), (Nat.le_of_ble_eq_true rfl), (Nat.le_of_ble_eq_true rfl)⟩ rfl (gm_G.mono H (pV_elim (fun h4 H' => ?_) (fun e17 h18 H => ?_)))
    · show gm_G _ 8 _ _ _ _
      replace H := H'
      clear H'
      refine g_iload rfl rfl rfl (pc' := 9) ?_
      refine g_iconst rfl rfl rfl (pc' := 10) ?_
      refine g_iconst rfl rfl rfl (pc' := 11) ?_
      refine g_call rfl (y := 5) (n := 3) (pc' := 14) (fun _ => rfl) rfl rfl ⟨(Nat.le_of_ble_eq_true rfl), (Nat.le_of_ble_eq_true rfl), (Nat.le_of_ble_eq_true rfl)⟩ rfl (gm_G.mono H (pI_elim (fun v6 h5 H' => ?_) (fun e15 h16 H => ?_)))
      · show gm_G _ 14 _ _ _ _
        replace H := H'
        clear H'
        refine g_call rfl (y := 452) (n := 1) (pc' := 17) (fun _ => rfl) rfl rfl ⟨(Nat.le_of_ble_eq_true rfl), (Nat.le_of_ble_eq_true rfl), (Nat.le_of_ble_eq_true rfl)⟩ rfl (gm_G.mono H (pV_elim (fun h7 H' => ?_) (fun e13 h14 H => ?_)))
        · show gm_G _ 17 _ _ _ _
          replace H := H'
          clear H'
          refine g_iload rfl rfl rfl (pc' := 18) ?_
          refine g_iconst rfl rfl rfl (pc' := 19) ?_
          refine g_ic_ne rfl (pc' := 22) (pt := 29) rfl rfl ⟨fun hc => ?_, fun hc => ?_⟩
          · replace H := H.1 hc
            exact g_weak (show gm_Lle [some _, some _, some _] _ from ⟨rfl, ⟨rfl, ⟨rfl, trivial⟩⟩⟩) H
          · replace H := H.2 hc
            refine g_aload (r := some _) rfl rfl rfl (pc' := 23) ?_
            obtain ⟨ht8, H⟩ := H
            refine g_call rfl (y := 17) (n := 1) (pc' := 26) (g_vt ht8 rfl rfl) rfl rfl ⟨(Nat.le_of_ble_eq_true rfl), (Nat.le_of_ble_eq_true rfl), (Nat.le_of_ble_eq_true rfl)⟩ rfl (gm_G.mono H (pI_elim (fun v10 h9 H' => ?_) (fun e11 h12 H => ?_)))
            · show gm_G _ 26 _ _ _ _
              replace H := H'
              clear H'
              refine g_goto rfl (pc' := 36) rfl ?_
              exact g_weak (show gm_Lle [some _, some _, some _] _ from ⟨rfl, ⟨rfl, ⟨rfl, trivial⟩⟩⟩) H
            · exact ⟨H.1, g_weak (show gm_Lle [some _] _ from ⟨rfl, trivial⟩) H.2⟩
        · exact ⟨H.1, g_weak (show gm_Lle [some _] _ from ⟨rfl, trivial⟩) H.2⟩
      · exact ⟨H.1, g_weak (show gm_Lle [some _] _ from ⟨rfl, trivial⟩) H.2⟩
    · exact ⟨H.1, g_weak (show gm_Lle [some _] _ from ⟨rfl, trivial⟩) H.2⟩
  · exact H
set_option maxRecDepth 20000 in
theorem w_627_29 {a0 : Nat} {x1 : Int32} {x2 : Int32} {h : hh_T} {Q : Option Value ⊕ Nat → hh_T → Prop} (H : gm_sub (hh_tg h a0) 0 = true ∧ (∀ r2, r2 = hh_r h a0 58 → (∃ a3, r2 = some a3 ∧ (gm_sub (hh_tg h a3) 12 = true ∧ (gm_G 627 36 [some (.ref a0), some (.int x1), some (.int x2)] [.int (hh_i h a3 1)] h Q))))) : gm_G 627 29 [some (.ref a0), some (.int x1), some (.int x2)] [] h Q := by
  refine g_aload (r := some _) rfl rfl rfl (pc' := 30) ?_
  obtain ⟨ht1, H⟩ := H
  refine g_getRv rfl rfl rfl rfl ht1 (pc' := 33) rfl (fun r2 hr2 => ?_)
  replace H := H r2 hr2
  obtain ⟨a3, rfl, H⟩ := H
  obtain ⟨ht4, H⟩ := H
  refine g_getI rfl rfl rfl rfl ht4 (pc' := 36) rfl ?_
  exact g_weak (show gm_Lle [some _, some _, some _] _ from ⟨rfl, ⟨rfl, ⟨rfl, trivial⟩⟩⟩) H
set_option maxRecDepth 20000 in
theorem w_627_36 {a0 : Nat} {x1 : Int32} {x2 : Int32} {y0 : Int32} {h : hh_T} {Q : Option Value ⊕ Nat → hh_T → Prop} (H : (y0 < Int32.ofNat 0 → (gm_G 627 69 [some (.ref a0), some (.int x1), some (.int x2), some (.int y0)] [] h Q)) ∧ (¬ y0 < Int32.ofNat 0 → (gm_sub (hh_tg h a0) 0 = true ∧ (∀ r2, r2 = hh_r h a0 58 → (gm_G 339 0 [some (va_rf r2), some (.int (Int32.ofNat 0)), some (.int y0)] [] h (pI (fun v4 h3 => (v4 = Int32.ofNat 0 → (gm_G 627 69 [some (.ref a0), some (.int x1), some (.int x2), some (.int y0)] [] h3 Q)) ∧ (¬ v4 = Int32.ofNat 0 → (gm_sub (hh_tg h3 a0) 0 = true ∧ (∀ r6, r6 = hh_r h3 a0 58 → (gm_G 344 0 [some (va_rf r6), some (.int (Int32.ofNat 0)), some (.int y0)] [] h3 (pI (fun v8 h7 => (v8 = Int32.ofNat 0 → (gm_G 627 69 [some (.ref a0), some (.int x1), some (.int x2), some (.int y0)] [] h7 Q)) ∧ (¬ v8 = Int32.ofNat 0 → (gm_G 627 70 [some (.ref a0), some (.int x1), some (.int x2), some (.int y0)] [.int (Int32.ofNat 1)] h7 Q))) (fun e9 h10 => hh_tg h10 e9 = 21 ∧ gm_G 627 189 [some (.ref a0)] [.ref e9] h10 Q))))))) (fun e11 h12 => hh_tg h12 e11 = 21 ∧ gm_G 627 189 [some (.ref a0)] [.ref e11] h12 Q))))))) : gm_G 627 36 [some (.ref a0), some (.int x1), some (.int x2)] [.int y0] h Q := by
  refine g_istore rfl rfl rfl (pc' := 37) ?_
  refine g_iload rfl rfl rfl (pc' := 38) ?_
  refine g_if_lt rfl (pc' := 41) (pt := 69) rfl rfl ⟨fun hc => ?_, fun hc => ?_⟩
  · replace H := H.1 hc
    exact g_weak (show gm_Lle [some _, some _, some _, some _] _ from ⟨rfl, ⟨rfl, ⟨rfl, ⟨rfl, trivial⟩⟩⟩⟩) H
  · replace H := H.2 hc
    refine g_aload (r := some _) rfl rfl rfl (pc' := 42) ?_
    obtain ⟨ht1, H⟩ := H
    refine g_getRv rfl rfl rfl rfl ht1 (pc' := 45) rfl (fun r2 hr2 => ?_)
    replace H := H r2 hr2
    refine g_iconst rfl rfl rfl (pc' := 46) ?_
    refine g_iload rfl rfl rfl (pc' := 47) ?_
    refine g_call rfl (y := 339) (n := 3) (pc' := 50) (fun _ => rfl) (by cases r2 <;> rfl) rfl ⟨(Nat.le_of_ble_eq_true rfl), (Nat.le_of_ble_eq_true rfl), (Nat.le_of_ble_eq_true rfl)⟩ rfl (gm_G.mono H (pI_elim (fun v4 h3 H' => ?_) (fun e11 h12 H => ?_)))
    · show gm_G _ 50 _ _ _ _
      replace H := H'
      clear H'
      refine g_if_eq rfl (pc' := 53) (pt := 69) rfl rfl ⟨fun hc => ?_, fun hc => ?_⟩
      · replace H := H.1 hc
        exact g_weak (show gm_Lle [some _, some _, some _, some _] _ from ⟨rfl, ⟨rfl, ⟨rfl, ⟨rfl, trivial⟩⟩⟩⟩) H
      · replace H := H.2 hc
        refine g_aload (r := some _) rfl rfl rfl (pc' := 54) ?_
        obtain ⟨ht5, H⟩ := H
        refine g_getRv rfl rfl rfl rfl ht5 (pc' := 57) rfl (fun r6 hr6 => ?_)
        replace H := H r6 hr6
        refine g_iconst rfl rfl rfl (pc' := 58) ?_
        refine g_iload rfl rfl rfl (pc' := 59) ?_
        refine g_call rfl (y := 344) (n := 3) (pc' := 62) (fun _ => rfl) (by cases r6 <;> rfl) rfl ⟨(Nat.le_of_ble_eq_true rfl), (Nat.le_of_ble_eq_true rfl), (Nat.le_of_ble_eq_true rfl)⟩ rfl (gm_G.mono H (pI_elim (fun v8 h7 H' => ?_) (fun e9 h10 H => ?_)))
        · show gm_G _ 62 _ _ _ _
          replace H := H'
          clear H'
          refine g_if_eq rfl (pc' := 65) (pt := 69) rfl rfl ⟨fun hc => ?_, fun hc => ?_⟩
          · replace H := H.1 hc
            exact g_weak (show gm_Lle [some _, some _, some _, some _] _ from ⟨rfl, ⟨rfl, ⟨rfl, ⟨rfl, trivial⟩⟩⟩⟩) H
          · replace H := H.2 hc
            refine g_iconst rfl rfl rfl (pc' := 66) ?_
            refine g_goto rfl (pc' := 70) rfl ?_
            exact g_weak (show gm_Lle [some _, some _, some _, some _] _ from ⟨rfl, ⟨rfl, ⟨rfl, ⟨rfl, trivial⟩⟩⟩⟩) H
        · exact ⟨H.1, g_weak (show gm_Lle [some _] _ from ⟨rfl, trivial⟩) H.2⟩
    · exact ⟨H.1, g_weak (show gm_Lle [some _] _ from ⟨rfl, trivial⟩) H.2⟩
set_option maxRecDepth 20000 in
theorem w_627_69 {a0 : Nat} {x1 : Int32} {x2 : Int32} {x3 : Int32} {h : hh_T} {Q : Option Value ⊕ Nat → hh_T → Prop} (H : gm_G 627 70 [some (.ref a0), some (.int x1), some (.int x2), some (.int x3)] [.int (Int32.ofNat 0)] h Q) : gm_G 627 69 [some (.ref a0), some (.int x1), some (.int x2), some (.int x3)] [] h Q := by
  refine g_iconst rfl rfl rfl (pc' := 70) ?_
  exact g_weak (show gm_Lle [some _, some _, some _, some _] _ from ⟨rfl, ⟨rfl, ⟨rfl, ⟨rfl, trivial⟩⟩⟩⟩) H
set_option maxRecDepth 20000 in
theorem w_627_70 {a0 : Nat} {x1 : Int32} {x2 : Int32} {x3 : Int32} {y0 : Int32} {h : hh_T} {Q : Option Value ⊕ Nat → hh_T → Prop} (H : gm_G 457 0 [some (.int y0)] [] h (pV (fun h1 => (¬ x2 = (Int32.ofNat 3) → (gm_G 627 170 [some (.ref a0), some (.int x1), some (.int x2), some (.int x3), some (va_rf none)] [] h1 Q)) ∧ (x2 = (Int32.ofNat 3) → (gm_sub (hh_tg h1 a0) 0 = true ∧ (∀ r3, r3 = hh_r h1 a0 58 → (∃ a4, r3 = some a4 ∧ (gm_sub (hh_tg h1 a4) 12 = true ∧ (((Int32.ofNat 24) < (((hh_i h1 a4 1) - x3) - (Int32.ofNat 1)) → (gm_G 627 125 [some (.ref a0), some (.int x1), some (.int x2), some (.int x3), none, some (.int (((hh_i h1 a4 1) - x3) - (Int32.ofNat 1)))] [] h1 Q)) ∧ (¬ (Int32.ofNat 24) < (((hh_i h1 a4 1) - x3) - (Int32.ofNat 1)) → (∀ r6, r6 = hh_r h1 a0 58 → (∀ r7, r7 = hh_r h1 a0 58 → (∃ a8, r7 = some a8 ∧ (gm_sub (hh_tg h1 a8) 12 = true ∧ (gm_G 344 0 [some (va_rf r6), some (.int (x3 + (Int32.ofNat 1))), some (.int (hh_i h1 a8 1))] [] h1 (pI (fun v11 h10 => (v11 = Int32.ofNat 0 → (gm_G 627 125 [some (.ref a0), some (.int x1), some (.int x2), some (.int x3), none, some (.int (((hh_i h1 a4 1) - x3) - (Int32.ofNat 1)))] [] h10 Q)) ∧ (¬ v11 = Int32.ofNat 0 → (gm_G 627 126 [some (.ref a0), some (.int x1), some (.int x2), some (.int x3), none, some (.int (((hh_i h1 a4 1) - x3) - (Int32.ofNat 1)))] [.int (Int32.ofNat 1)] h10 Q))) (fun e12 h13 => hh_tg h13 e12 = 21 ∧ gm_G 627 189 [some (.ref a0)] [.ref e12] h13 Q))))))))))))))) (fun e14 h15 => hh_tg h15 e14 = 21 ∧ gm_G 627 189 [some (.ref a0)] [.ref e14] h15 Q))) : gm_G 627 70 [some (.ref a0), some (.int x1), some (.int x2), some (.int x3)] [.int y0] h Q := by
  refine g_call rfl (y := 457) (n := 1) (pc' := 73) (fun _ => rfl) rfl rfl ⟨(Nat.le_of_ble_eq_true rfl), (Nat.le_of_ble_eq_true rfl), (Nat.le_of_ble_eq_true rfl)⟩ rfl (gm_G.mono H (pV_elim (fun h1 H' => ?_) (fun e14 h15 H => ?_)))
  · show gm_G _ 73 _ _ _ _
    replace H := H'
    clear H'
    refine g_null rfl rfl (pc' := 74) ?_
    refine g_astore (r := _) rfl rfl rfl (pc' := 76) ?_
    refine g_iload rfl rfl rfl (pc' := 77) ?_
    refine g_iconst rfl rfl rfl (pc' := 78) ?_
    refine g_ic_ne rfl (pc' := 81) (pt := 170) rfl rfl ⟨fun hc => ?_, fun hc => ?_⟩
    · replace H := H.1 hc
      exact g_weak (show gm_Lle [some _, some _, some _, some _, some _] _ from ⟨rfl, ⟨rfl, ⟨rfl, ⟨rfl, ⟨rfl, trivial⟩⟩⟩⟩⟩) H
    · replace H := H.2 hc
      refine g_aload (r := some _) rfl rfl rfl (pc' := 82) ?_
      obtain ⟨ht2, H⟩ := H
      refine g_getRv rfl rfl rfl rfl ht2 (pc' := 85) rfl (fun r3 hr3 => ?_)
      replace H := H r3 hr3
      obtain ⟨a4, rfl, H⟩ := H
      obtain ⟨ht5, H⟩ := H
      refine g_getI rfl rfl rfl rfl ht5 (pc' := 88) rfl ?_
      refine g_iload rfl rfl rfl (pc' := 89) ?_
      refine g_isub rfl rfl (pc' := 90) ?_
      refine g_iconst rfl rfl rfl (pc' := 91) ?_
      refine g_isub rfl rfl (pc' := 92) ?_
      refine g_istore rfl rfl rfl (pc' := 94) ?_
      refine g_iload rfl rfl rfl (pc' := 96) ?_
      refine g_iconst rfl rfl rfl (pc' := 98) ?_
      refine g_ic_gt rfl (pc' := 101) (pt := 125) rfl rfl ⟨fun hc => ?_, fun hc => ?_⟩
      · replace H := H.1 hc
        exact g_weak (show gm_Lle [some _, some _, some _, some _, none, some _] _ from ⟨rfl, ⟨rfl, ⟨rfl, ⟨rfl, ⟨rfl, trivial⟩⟩⟩⟩⟩) H
      · replace H := H.2 hc
        refine g_aload (r := some _) rfl rfl rfl (pc' := 102) ?_
        refine g_getRv rfl rfl rfl rfl ht2 (pc' := 105) rfl (fun r6 hr6 => ?_)
        replace H := H r6 hr6
        refine g_iload rfl rfl rfl (pc' := 106) ?_
        refine g_iconst rfl rfl rfl (pc' := 107) ?_
        refine g_iadd rfl rfl (pc' := 108) ?_
        refine g_aload (r := some _) rfl rfl rfl (pc' := 109) ?_
        refine g_getRv rfl rfl rfl rfl ht2 (pc' := 112) rfl (fun r7 hr7 => ?_)
        replace H := H r7 hr7
        obtain ⟨a8, rfl, H⟩ := H
        obtain ⟨ht9, H⟩ := H
        refine g_getI rfl rfl rfl rfl ht9 (pc' := 115) rfl ?_
        refine g_call rfl (y := 344) (n := 3) (pc' := 118) (fun _ => rfl) (by cases r6 <;> rfl) rfl ⟨(Nat.le_of_ble_eq_true rfl), (Nat.le_of_ble_eq_true rfl), (Nat.le_of_ble_eq_true rfl)⟩ rfl (gm_G.mono H (pI_elim (fun v11 h10 H' => ?_) (fun e12 h13 H => ?_)))
        · show gm_G _ 118 _ _ _ _
          replace H := H'
          clear H'
          refine g_if_eq rfl (pc' := 121) (pt := 125) rfl rfl ⟨fun hc => ?_, fun hc => ?_⟩
          · replace H := H.1 hc
            exact g_weak (show gm_Lle [some _, some _, some _, some _, none, some _] _ from ⟨rfl, ⟨rfl, ⟨rfl, ⟨rfl, ⟨rfl, trivial⟩⟩⟩⟩⟩) H
          · replace H := H.2 hc
            refine g_iconst rfl rfl rfl (pc' := 122) ?_
            refine g_goto rfl (pc' := 126) rfl ?_
            exact g_weak (show gm_Lle [some _, some _, some _, some _, none, some _] _ from ⟨rfl, ⟨rfl, ⟨rfl, ⟨rfl, ⟨rfl, trivial⟩⟩⟩⟩⟩) H
        · exact ⟨H.1, g_weak (show gm_Lle [some _] _ from ⟨rfl, trivial⟩) H.2⟩
  · exact ⟨H.1, g_weak (show gm_Lle [some _] _ from ⟨rfl, trivial⟩) H.2⟩
set_option maxRecDepth 20000 in
theorem w_627_125 {a0 : Nat} {x1 : Int32} {x2 : Int32} {x3 : Int32} {x5 : Int32} {h : hh_T} {Q : Option Value ⊕ Nat → hh_T → Prop} (H : gm_G 627 126 [some (.ref a0), some (.int x1), some (.int x2), some (.int x3), none, some (.int x5)] [.int (Int32.ofNat 0)] h Q) : gm_G 627 125 [some (.ref a0), some (.int x1), some (.int x2), some (.int x3), none, some (.int x5)] [] h Q := by
  refine g_iconst rfl rfl rfl (pc' := 126) ?_
  exact g_weak (show gm_Lle [some _, some _, some _, some _, none, some _] _ from ⟨rfl, ⟨rfl, ⟨rfl, ⟨rfl, ⟨rfl, trivial⟩⟩⟩⟩⟩) H
set_option maxRecDepth 20000 in
theorem w_627_126 {a0 : Nat} {x1 : Int32} {x2 : Int32} {x3 : Int32} {x5 : Int32} {y0 : Int32} {h : hh_T} {Q : Option Value ⊕ Nat → hh_T → Prop} (H : gm_G 457 0 [some (.int y0)] [] h (pV (fun h1 => ∃ n4, x5.toNatClampNeg = n4 ∧ (0 ≤ x5 ∧ x5 ≤ 100000) ∧ (∀ a2 h3, a2 = hh_sz h1 → h3 = hh_al h1 101 n4 n4 → (gm_G 627 138 [some (.ref a0), some (.int x1), some (.int x2), some (.int x3), some (.ref a2), some (.int x5), some (.int (Int32.ofNat 0))] [] h3 Q))) (fun e5 h6 => hh_tg h6 e5 = 21 ∧ gm_G 627 189 [some (.ref a0)] [.ref e5] h6 Q))) : gm_G 627 126 [some (.ref a0), some (.int x1), some (.int x2), some (.int x3), none, some (.int x5)] [.int y0] h Q := by
  refine g_call rfl (y := 457) (n := 1) (pc' := 129) (fun _ => rfl) rfl rfl ⟨(Nat.le_of_ble_eq_true rfl), (Nat.le_of_ble_eq_true rfl), (Nat.le_of_ble_eq_true rfl)⟩ rfl (gm_G.mono H (pV_elim (fun h1 H' => ?_) (fun e5 h6 H => ?_)))
  · show gm_G _ 129 _ _ _ _
    replace H := H'
    clear H'
    refine g_iload rfl rfl rfl (pc' := 131) ?_
    obtain ⟨n4, Hn, Hr, H⟩ := H
    refine g_newarray rfl (u := 101) (n := n4) rfl (by decide) Hn Hr (pc' := 133) rfl ?_
    replace H := H _ _ rfl rfl
    refine g_astore (r := some _) rfl rfl rfl (pc' := 135) ?_
    refine g_iconst rfl rfl rfl (pc' := 136) ?_
    refine g_istore rfl rfl rfl (pc' := 138) ?_
    exact g_weak (show gm_Lle [some _, some _, some _, some _, some _, some _, some _] _ from ⟨rfl, ⟨rfl, ⟨rfl, ⟨rfl, ⟨rfl, ⟨rfl, ⟨rfl, trivial⟩⟩⟩⟩⟩⟩⟩) H
  · exact ⟨H.1, g_weak (show gm_Lle [some _] _ from ⟨rfl, trivial⟩) H.2⟩
set_option maxRecDepth 20000 in
theorem w_627_138 {a0 : Nat} {x1 : Int32} {x2 : Int32} {x3 : Int32} {r_4 : Option Nat} {x5 : Int32} {x6 : Int32} {h : hh_T} {Q : Option Value ⊕ Nat → hh_T → Prop} (H : (¬ x6 < x5 → (gm_G 627 170 [some (.ref a0), some (.int x1), some (.int x2), some (.int x3), some (va_rf r_4)] [] h Q)) ∧ (x6 < x5 → (gm_sub (hh_tg h a0) 0 = true ∧ (∀ r2, r2 = hh_r h a0 58 → (∃ a3, r2 = some a3 ∧ (gm_sub (hh_tg h a3) 12 = true ∧ (∀ r5, r5 = hh_r h a3 0 → (∃ a6, r5 = some a6 ∧ ((hh_tg h a6 = 101 ∨ hh_tg h a6 = 102) ∧ (∃ n7, gm_ix ((x3 + (Int32.ofNat 1)) + x6) n7 (hh_ln h a6) ∧ (∃ a9, r_4 = some a9 ∧ (hh_tg h a9 = 101 ∧ (∃ n10, gm_ix x6 n10 (hh_ln h a9) ∧ (∀ h11, h11 = hh_wi h a9 n10 ((hh_i h a6 n7).toInt8.toInt32) → (gm_G 627 138 [some (.ref a0), some (.int x1), some (.int x2), some (.int x3), some (.ref a9), some (.int x5), some (.int (x6 + (Int32.ofNat 1)))] [] h11 Q))))))))))))))) : gm_G 627 138 [some (.ref a0), some (.int x1), some (.int x2), some (.int x3), some (va_rf r_4), some (.int x5), some (.int x6)] [] h Q := by
  refine g_iload rfl rfl rfl (pc' := 140) ?_
  refine g_iload rfl rfl rfl (pc' := 142) ?_
  refine g_ic_ge rfl (pc' := 145) (pt := 170) rfl rfl ⟨fun hc => ?_, fun hc => ?_⟩
  · replace H := H.1 hc
    exact g_weak (show gm_Lle [some _, some _, some _, some _, some _] _ from ⟨rfl, ⟨rfl, ⟨rfl, ⟨rfl, ⟨rfl, trivial⟩⟩⟩⟩⟩) H
  · replace H := H.2 hc
    refine g_aload (r := _) rfl rfl rfl (pc' := 147) ?_
    refine g_iload rfl rfl rfl (pc' := 149) ?_
    refine g_aload (r := some _) rfl rfl rfl (pc' := 150) ?_
    obtain ⟨ht1, H⟩ := H
    refine g_getRv rfl rfl rfl rfl ht1 (pc' := 153) rfl (fun r2 hr2 => ?_)
    replace H := H r2 hr2
    obtain ⟨a3, rfl, H⟩ := H
    obtain ⟨ht4, H⟩ := H
    refine g_getRv rfl rfl rfl rfl ht4 (pc' := 156) rfl (fun r5 hr5 => ?_)
    replace H := H r5 hr5
    refine g_iload rfl rfl rfl (pc' := 157) ?_
    refine g_iconst rfl rfl rfl (pc' := 158) ?_
    refine g_iadd rfl rfl (pc' := 159) ?_
    refine g_iload rfl rfl rfl (pc' := 161) ?_
    refine g_iadd rfl rfl (pc' := 162) ?_
    obtain ⟨a6, rfl, H⟩ := H
    obtain ⟨ht8, H⟩ := H
    obtain ⟨n7, hn7, H⟩ := H
    refine g_baload rfl ht8 hn7 (pc' := 163) rfl ?_
    obtain ⟨a9, rfl, H⟩ := H
    obtain ⟨ht12, H⟩ := H
    obtain ⟨n10, hn10, H⟩ := H
    refine g_bastore rfl ht12 hn10  (pc' := 164) rfl ?_
    replace H := H _ rfl
    refine g_iinc (c := (Int32.ofNat 1)) rfl rfl rfl rfl rfl (pc' := 167) ?_
    refine g_goto rfl (pc' := 138) rfl ?_
    exact g_weak (show gm_Lle [some _, some _, some _, some _, some _, some _, some _] _ from ⟨rfl, ⟨rfl, ⟨rfl, ⟨rfl, ⟨rfl, ⟨rfl, ⟨rfl, trivial⟩⟩⟩⟩⟩⟩⟩) H
set_option maxRecDepth 20000 in
theorem w_627_170 {a0 : Nat} {x1 : Int32} {x2 : Int32} {x3 : Int32} {r_4 : Option Nat} {h : hh_T} {Q : Option Value ⊕ Nat → hh_T → Prop} (H : hh_tg h a0 = 1 ∧ (gm_G 488 0 [some (.ref a0), some (.int x1)] [] h (pR (fun r3 h2 => hh_tg h2 a0 = 1 ∧ (gm_G 621 0 [some (.ref a0), some (va_rf r3), some (.int (Int32.ofNat 0)), some (.int x3), some (.int x2), some (va_rf r_4)] [] h2 (pI (fun v6 h5 => hh_tg h5 a0 = 1 ∧ (gm_G 4 0 [some (.ref a0), some (.int v6)] [] h5 (pI (fun v9 h8 => Q (.inl (some (.int v9))) h8) (fun e10 h11 => hh_tg h11 e10 = 21 ∧ gm_G 627 189 [some (.ref a0)] [.ref e10] h11 Q)))) (fun e12 h13 => hh_tg h13 e12 = 21 ∧ gm_G 627 189 [some (.ref a0)] [.ref e12] h13 Q)))) (fun e14 h15 => hh_tg h15 e14 = 21 ∧ gm_G 627 189 [some (.ref a0)] [.ref e14] h15 Q)))) : gm_G 627 170 [some (.ref a0), some (.int x1), some (.int x2), some (.int x3), some (va_rf r_4)] [] h Q := by
  refine g_aload (r := some _) rfl rfl rfl (pc' := 171) ?_
  refine g_aload (r := some _) rfl rfl rfl (pc' := 172) ?_
  refine g_aload (r := some _) rfl rfl rfl (pc' := 173) ?_
  refine g_iload rfl rfl rfl (pc' := 174) ?_
  obtain ⟨ht1, H⟩ := H
  refine g_call rfl (y := 488) (n := 2) (pc' := 177) (g_vt ht1 rfl rfl) rfl rfl ⟨(Nat.le_of_ble_eq_true rfl), (Nat.le_of_ble_eq_true rfl), (Nat.le_of_ble_eq_true rfl)⟩ rfl (gm_G.mono H (pR_elim (fun r3 h2 H' => ?_) (fun e14 h15 H => ?_)))
  · show gm_G _ 177 _ _ _ _
    replace H := H'
    clear H'
    refine g_iconst rfl rfl rfl (pc' := 178) ?_
    refine g_iload rfl rfl rfl (pc' := 179) ?_
    refine g_iload rfl rfl rfl (pc' := 180) ?_
    refine g_aload (r := _) rfl rfl rfl (pc' := 182) ?_
    obtain ⟨ht4, H⟩ := H
    refine g_call rfl (y := 621) (n := 6) (pc' := 185) (g_vt ht4 rfl rfl) (by cases r3 <;> cases r_4 <;> rfl) rfl ⟨(Nat.le_of_ble_eq_true rfl), (Nat.le_of_ble_eq_true rfl), (Nat.le_of_ble_eq_true rfl)⟩ rfl (gm_G.mono H (pI_elim (fun v6 h5 H' => ?_) (fun e12 h13 H => ?_)))
    · show gm_G _ 185 _ _ _ _
      replace H := H'
      clear H'
      obtain ⟨ht7, H⟩ := H
      refine g_call rfl (y := 4) (n := 2) (pc' := 188) (g_vt ht7 rfl rfl) rfl rfl ⟨(Nat.le_of_ble_eq_true rfl), (Nat.le_of_ble_eq_true rfl), (Nat.le_of_ble_eq_true rfl)⟩ rfl (gm_G.mono H (pI_elim (fun v9 h8 H' => ?_) (fun e10 h11 H => ?_)))
      · show gm_G _ 188 _ _ _ _
        replace H := H'
        clear H'
        exact g_ireturn rfl (Or.inl rfl) H
      · exact ⟨H.1, g_weak (show gm_Lle [some _] _ from ⟨rfl, trivial⟩) H.2⟩
    · exact ⟨H.1, g_weak (show gm_Lle [some _] _ from ⟨rfl, trivial⟩) H.2⟩
  · exact ⟨H.1, g_weak (show gm_Lle [some _] _ from ⟨rfl, trivial⟩) H.2⟩
set_option maxRecDepth 20000 in
theorem w_627_189 {a0 : Nat} {ex : Nat} {h : hh_T} {Q : Option Value ⊕ Nat → hh_T → Prop} (H : hh_tg h a0 = 1 ∧ (gm_G 1 0 [some (.ref a0), some (.ref ex)] [] h (pI (fun v3 h2 => Q (.inl (some (.int v3))) h2) (fun e4 h5 => hh_tg h5 e4 = 21 ∧ Q (.inr e4) h5)))) : gm_G 627 189 [some (.ref a0)] [.ref ex] h Q := by
  refine g_astore (r := some _) rfl rfl rfl (pc' := 190) ?_
  refine g_aload (r := some _) rfl rfl rfl (pc' := 191) ?_
  refine g_aload (r := some _) rfl rfl rfl (pc' := 192) ?_
  obtain ⟨ht1, H⟩ := H
  refine g_call rfl (y := 1) (n := 2) (pc' := 195) (g_vt ht1 rfl rfl) rfl rfl ⟨(Nat.le_of_ble_eq_true rfl), (Nat.le_of_ble_eq_true rfl), (Nat.le_of_ble_eq_true rfl)⟩ rfl (gm_G.mono H (pI_elim (fun v3 h2 H' => ?_) (fun e4 h5 H => ?_)))
  · show gm_G _ 195 _ _ _ _
    replace H := H'
    clear H'
    exact g_ireturn rfl (Or.inl rfl) H
  · exact H
set_option maxRecDepth 20000 in
theorem w_628_0 {a0 : Nat} {x1 : Int32} {x2 : Int32} {h : hh_T} {Q : Option Value ⊕ Nat → hh_T → Prop} (H : hh_tg h a0 = 1 ∧ (gm_G 243 0 [some (.ref a0)] [] h (pV (fun h2 => hh_tg h2 a0 = 1 ∧ (gm_G 456 0 [some (.ref a0)] [] h2 (pV (fun h4 => gm_G 219 0 [some (.int x2)] [] h4 (pI (fun v6 h5 => gm_G 452 0 [some (.int v6)] [] h5 (pV (fun h7 => gm_sub (hh_tg h7 a0) 0 = true ∧ (∀ r9, r9 = hh_r h7 a0 58 → (∀ r10, r10 = hh_r h7 a0 58 → (∃ a11, r10 = some a11 ∧ (gm_sub (hh_tg h7 a11) 12 = true ∧ (gm_G 344 0 [some (va_rf r9), some (.int (Int32.ofNat 0)), some (.int (hh_i h7 a11 1))] [] h7 (pI (fun v14 h13 => gm_G 457 0 [some (.int v14)] [] h13 (pV (fun h15 => gm_G 628 33 [some (.ref a0), some (.int x1), some (.int x2)] [] h15 Q) (fun e16 h17 => hh_tg h17 e16 = 21 ∧ gm_G 628 154 [some (.ref a0)] [.ref e16] h17 Q))) (fun e18 h19 => hh_tg h19 e18 = 21 ∧ gm_G 628 154 [some (.ref a0)] [.ref e18] h19 Q)))))))) (fun e20 h21 => hh_tg h21 e20 = 21 ∧ gm_G 628 154 [some (.ref a0)] [.ref e20] h21 Q))) (fun e22 h23 => hh_tg h23 e22 = 21 ∧ gm_G 628 154 [some (.ref a0)] [.ref e22] h23 Q))) (fun e24 h25 => hh_tg h25 e24 = 21 ∧ gm_G 628 154 [some (.ref a0)] [.ref e24] h25 Q)))) (fun e26 h27 => hh_tg h27 e26 = 21 ∧ Q (.inr e26) h27)))) : gm_G 628 0 [some (.ref a0), some (.int x1), some (.int x2)] [] h Q := by
  refine g_aload (r := some _) rfl rfl rfl (pc' := 1) ?_
  obtain ⟨ht1, H⟩ := H
  refine g_call rfl (y := 243) (n := 1) (pc' := 4) (g_vt ht1 rfl rfl) rfl rfl ⟨(Nat.le_of_ble_eq_true rfl), (Nat.le_of_ble_eq_true rfl), (Nat.le_of_ble_eq_true rfl)⟩ rfl (gm_G.mono H (pV_elim (fun h2 H' => ?_) (fun e26 h27 H => ?_)))
  · show gm_G _ 4 _ _ _ _
    replace H := H'
    clear H'
    refine g_aload (r := some _) rfl rfl rfl (pc' := 5) ?_
    obtain ⟨ht3, H⟩ := H
    refine g_call rfl (y := 456) (n := 1) (pc' := 8) (g_vt ht3 rfl rfl) rfl rfl ⟨(Nat.le_of_ble_eq_true rfl), (Nat.le_of_ble_eq_true rfl), (Nat.le_of_ble_eq_true rfl)⟩ rfl (gm_G.mono H (pV_elim (fun h4 H' => ?_) (fun e24 h25 H => ?_)))
    · show gm_G _ 8 _ _ _ _
      replace H := H'
      clear H'
      refine g_iload rfl rfl rfl (pc' := 9) ?_
      refine g_call rfl (y := 219) (n := 1) (pc' := 12) (fun _ => rfl) rfl rfl ⟨(Nat.le_of_ble_eq_true rfl), (Nat.le_of_ble_eq_true rfl), (Nat.le_of_ble_eq_true rfl)⟩ rfl (gm_G.mono H (pI_elim (fun v6 h5 H' => ?_) (fun e22 h23 H => ?_)))
      · show gm_G _ 12 _ _ _ _
        replace H := H'
        clear H'
        refine g_call rfl (y := 452) (n := 1) (pc' := 15) (fun _ => rfl) rfl rfl ⟨(Nat.le_of_ble_eq_true rfl), (Nat.le_of_ble_eq_true rfl), (Nat.le_of_ble_eq_true rfl)⟩ rfl (gm_G.mono H (pV_elim (fun h7 H' => ?_) (fun e20 h21 H => ?_)))
        · show gm_G _ 15 _ _ _ _
          replace H := H'
          clear H'
          refine g_aload (r := some _) rfl rfl rfl (pc' := 16) ?_
          obtain ⟨ht8, H⟩ := H
          refine g_getRv rfl rfl rfl rfl ht8 (pc' := 19) rfl (fun r9 hr9 => ?_)
          replace H := H r9 hr9
          refine g_iconst rfl rfl rfl (pc' := 20) ?_
          refine g_aload (r := some _) rfl rfl rfl (pc' := 21) ?_
          refine g_getRv rfl rfl rfl rfl ht8 (pc' := 24) rfl (fun r10 hr10 => ?_)
          replace H := H r10 hr10
          obtain ⟨a11, rfl, H⟩ := H
          obtain ⟨ht12, H⟩ := H
          refine g_getI rfl rfl rfl rfl ht12 (pc' := 27) rfl ?_
          refine g_call rfl (y := 344) (n := 3) (pc' := 30) (fun _ => rfl) (by cases r9 <;> rfl) rfl ⟨(Nat.le_of_ble_eq_true rfl), (Nat.le_of_ble_eq_true rfl), (Nat.le_of_ble_eq_true rfl)⟩ rfl (gm_G.mono H (pI_elim (fun v14 h13 H' => ?_) (fun e18 h19 H => ?_)))
          · show gm_G _ 30 _ _ _ _
            replace H := H'
            clear H'
            refine g_call rfl (y := 457) (n := 1) (pc' := 33) (fun _ => rfl) rfl rfl ⟨(Nat.le_of_ble_eq_true rfl), (Nat.le_of_ble_eq_true rfl), (Nat.le_of_ble_eq_true rfl)⟩ rfl (gm_G.mono H (pV_elim (fun h15 H' => ?_) (fun e16 h17 H => ?_)))
            · show gm_G _ 33 _ _ _ _
              replace H := H'
              clear H'
              exact g_weak (show gm_Lle [some _, some _, some _] _ from ⟨rfl, ⟨rfl, ⟨rfl, trivial⟩⟩⟩) H
            · exact ⟨H.1, g_weak (show gm_Lle [some _] _ from ⟨rfl, trivial⟩) H.2⟩
          · exact ⟨H.1, g_weak (show gm_Lle [some _] _ from ⟨rfl, trivial⟩) H.2⟩
        · exact ⟨H.1, g_weak (show gm_Lle [some _] _ from ⟨rfl, trivial⟩) H.2⟩
      · exact ⟨H.1, g_weak (show gm_Lle [some _] _ from ⟨rfl, trivial⟩) H.2⟩
    · exact ⟨H.1, g_weak (show gm_Lle [some _] _ from ⟨rfl, trivial⟩) H.2⟩
  · exact H
set_option maxRecDepth 20000 in
theorem w_628_33 {a0 : Nat} {x1 : Int32} {x2 : Int32} {h : hh_T} {Q : Option Value ⊕ Nat → hh_T → Prop} (H : gm_sub (hh_tg h a0) 0 = true ∧ (∀ r2, r2 = hh_r h a0 51 → (∃ a3, r2 = some a3 ∧ (hh_tg h a3 = 15 ∧ (gm_G 72 0 [some (.ref a3)] [] h (pI (fun v6 h5 => (v6 < Int32.ofNat 0 → (gm_G 628 50 [some (.ref a0), some (.int x1), some (.int x2), some (.int v6)] [.int (Int32.ofNat 0)] h5 Q)) ∧ (¬ v6 < Int32.ofNat 0 → (gm_G 628 50 [some (.ref a0), some (.int x1), some (.int x2), some (.int v6)] [.int (Int32.ofNat 1)] h5 Q))) (fun e7 h8 => hh_tg h8 e7 = 21 ∧ gm_G 628 154 [some (.ref a0)] [.ref e7] h8 Q))))))) : gm_G 628 33 [some (.ref a0), some (.int x1), some (.int x2)] [] h Q := by
  refine g_aload (r := some _) rfl rfl rfl (pc' := 34) ?_
  obtain ⟨ht1, H⟩ := H
  refine g_getRv rfl rfl rfl rfl ht1 (pc' := 37) rfl (fun r2 hr2 => ?_)
  replace H := H r2 hr2
  obtain ⟨a3, rfl, H⟩ := H
  obtain ⟨ht4, H⟩ := H
  refine g_call rfl (y := 72) (n := 1) (pc' := 40) (g_vt ht4 rfl rfl) rfl rfl ⟨(Nat.le_of_ble_eq_true rfl), (Nat.le_of_ble_eq_true rfl), (Nat.le_of_ble_eq_true rfl)⟩ rfl (gm_G.mono H (pI_elim (fun v6 h5 H' => ?_) (fun e7 h8 H => ?_)))
  · show gm_G _ 40 _ _ _ _
    replace H := H'
    clear H'
    refine g_istore rfl rfl rfl (pc' := 41) ?_
    refine g_iload rfl rfl rfl (pc' := 42) ?_
    refine g_if_lt rfl (pc' := 45) (pt := 49) rfl rfl ⟨fun hc => ?_, fun hc => ?_⟩
    · replace H := H.1 hc
      refine g_iconst rfl rfl rfl (pc' := 50) ?_
      exact g_weak (show gm_Lle [some _, some _, some _, some _] _ from ⟨rfl, ⟨rfl, ⟨rfl, ⟨rfl, trivial⟩⟩⟩⟩) H
    · replace H := H.2 hc
      refine g_iconst rfl rfl rfl (pc' := 46) ?_
      refine g_goto rfl (pc' := 50) rfl ?_
      exact g_weak (show gm_Lle [some _, some _, some _, some _] _ from ⟨rfl, ⟨rfl, ⟨rfl, ⟨rfl, trivial⟩⟩⟩⟩) H
  · exact ⟨H.1, g_weak (show gm_Lle [some _] _ from ⟨rfl, trivial⟩) H.2⟩
set_option maxRecDepth 20000 in
theorem w_628_50 {a0 : Nat} {x1 : Int32} {x2 : Int32} {x3 : Int32} {y0 : Int32} {h : hh_T} {Q : Option Value ⊕ Nat → hh_T → Prop} (H : gm_G 431 0 [some (.int y0), some (.int (Int32.ofInt (-3)))] [] h (pV (fun h1 => hh_tg h1 a0 = 1 ∧ (gm_G 492 0 [some (.ref a0), some (.int x1)] [] h1 (pR (fun r4 h3 => ((x2 &&& (Int32.ofNat 6)) = Int32.ofNat 0 → (gm_G 628 74 [some (.ref a0), some (.int x1), some (.int x2), some (.int x3), some (va_rf r4)] [.int (Int32.ofNat 0)] h3 Q)) ∧ (¬ (x2 &&& (Int32.ofNat 6)) = Int32.ofNat 0 → (gm_G 628 74 [some (.ref a0), some (.int x1), some (.int x2), some (.int x3), some (va_rf r4)] [.int (Int32.ofNat 1)] h3 Q))) (fun e5 h6 => hh_tg h6 e5 = 21 ∧ gm_G 628 154 [some (.ref a0)] [.ref e5] h6 Q)))) (fun e7 h8 => hh_tg h8 e7 = 21 ∧ gm_G 628 154 [some (.ref a0)] [.ref e7] h8 Q))) : gm_G 628 50 [some (.ref a0), some (.int x1), some (.int x2), some (.int x3)] [.int y0] h Q := by
  refine g_iconst rfl rfl rfl (pc' := 52) ?_
  refine g_call rfl (y := 431) (n := 2) (pc' := 55) (fun _ => rfl) rfl rfl ⟨(Nat.le_of_ble_eq_true rfl), (Nat.le_of_ble_eq_true rfl), (Nat.le_of_ble_eq_true rfl)⟩ rfl (gm_G.mono H (pV_elim (fun h1 H' => ?_) (fun e7 h8 H => ?_)))
  · show gm_G _ 55 _ _ _ _
    replace H := H'
    clear H'
    refine g_aload (r := some _) rfl rfl rfl (pc' := 56) ?_
    refine g_iload rfl rfl rfl (pc' := 57) ?_
    obtain ⟨ht2, H⟩ := H
    refine g_call rfl (y := 492) (n := 2) (pc' := 60) (g_vt ht2 rfl rfl) rfl rfl ⟨(Nat.le_of_ble_eq_true rfl), (Nat.le_of_ble_eq_true rfl), (Nat.le_of_ble_eq_true rfl)⟩ rfl (gm_G.mono H (pR_elim (fun r4 h3 H' => ?_) (fun e5 h6 H => ?_)))
    · show gm_G _ 60 _ _ _ _
      replace H := H'
      clear H'
      refine g_astore (r := _) rfl rfl rfl (pc' := 62) ?_
      refine g_iload rfl rfl rfl (pc' := 63) ?_
      refine g_iconst rfl rfl rfl (pc' := 65) ?_
      refine g_iand rfl rfl (pc' := 66) ?_
      refine g_if_eq rfl (pc' := 69) (pt := 73) rfl rfl ⟨fun hc => ?_, fun hc => ?_⟩
      · replace H := H.1 hc
        refine g_iconst rfl rfl rfl (pc' := 74) ?_
        exact g_weak (show gm_Lle [some _, some _, some _, some _, some _] _ from ⟨rfl, ⟨rfl, ⟨rfl, ⟨rfl, ⟨rfl, trivial⟩⟩⟩⟩⟩) H
      · replace H := H.2 hc
        refine g_iconst rfl rfl rfl (pc' := 70) ?_
        refine g_goto rfl (pc' := 74) rfl ?_
        exact g_weak (show gm_Lle [some _, some _, some _, some _, some _] _ from ⟨rfl, ⟨rfl, ⟨rfl, ⟨rfl, ⟨rfl, trivial⟩⟩⟩⟩⟩) H
    · exact ⟨H.1, g_weak (show gm_Lle [some _] _ from ⟨rfl, trivial⟩) H.2⟩
  · exact ⟨H.1, g_weak (show gm_Lle [some _] _ from ⟨rfl, trivial⟩) H.2⟩
set_option maxRecDepth 20000 in
theorem w_628_74 {a0 : Nat} {x1 : Int32} {x2 : Int32} {x3 : Int32} {r_4 : Option Nat} {y0 : Int32} {h : hh_T} {Q : Option Value ⊕ Nat → hh_T → Prop} (H : (y0 = Int32.ofNat 0 → (gm_G 628 108 [some (.ref a0), some (.int x1), some (.int x2), some (.int x3), some (va_rf r_4)] [] h Q)) ∧ (¬ y0 = Int32.ofNat 0 → ((¬ (x1 - x1 / (Int32.ofNat 2) * (Int32.ofNat 2)) = Int32.ofNat 0 → (gm_G 628 112 [some (.ref a0), some (.int x1), some (.int x2), some (.int x3), some (va_rf r_4)] [] h Q)) ∧ ((x1 - x1 / (Int32.ofNat 2) * (Int32.ofNat 2)) = Int32.ofNat 0 → (gm_sub (hh_tg h a0) 0 = true ∧ (∀ r2, r2 = hh_r h a0 33 → (∀ r3, r3 = hh_r h a0 33 → (∃ a4, r3 = some a4 ∧ (hh_tg h a4 = 23 ∧ (gm_G 178 0 [some (.ref a4), some (.int (x1 / (Int32.ofNat 2)))] [] h (pR (fun r7 h6 => ∃ a8, r2 = some a8 ∧ (hh_tg h6 a8 = 23 ∧ (gm_G 311 0 [some (.ref a8), some (va_rf r7), some (.int (Int32.ofNat 3))] [] h6 (pI (fun v11 h10 => (¬ v11 = Int32.ofNat 0 → (gm_G 628 112 [some (.ref a0), some (.int x1), some (.int x2), some (.int x3), some (va_rf r_4)] [] h10 Q)) ∧ (v11 = Int32.ofNat 0 → (gm_G 628 108 [some (.ref a0), some (.int x1), some (.int x2), some (.int x3), some (va_rf r_4)] [] h10 Q))) (fun e12 h13 => hh_tg h13 e12 = 21 ∧ gm_G 628 154 [some (.ref a0)] [.ref e12] h13 Q))))) (fun e14 h15 => hh_tg h15 e14 = 21 ∧ gm_G 628 154 [some (.ref a0)] [.ref e14] h15 Q)))))))))))) : gm_G 628 74 [some (.ref a0), some (.int x1), some (.int x2), some (.int x3), some (va_rf r_4)] [.int y0] h Q := by
  refine g_istore rfl gm_sto_rf4 rfl (pc' := 76) ?_
  refine g_iload rfl rfl rfl (pc' := 78) ?_
  refine g_if_eq rfl (pc' := 81) (pt := 108) rfl rfl ⟨fun hc => ?_, fun hc => ?_⟩
  · replace H := H.1 hc
    exact g_weak (show gm_Lle [some _, some _, some _, some _, some _] _ from ⟨rfl, ⟨rfl, ⟨rfl, ⟨rfl, ⟨rfl, trivial⟩⟩⟩⟩⟩) H
  · replace H := H.2 hc
    refine g_iload rfl rfl rfl (pc' := 82) ?_
    refine g_iconst rfl rfl rfl (pc' := 83) ?_
    refine g_irem rfl (by decide) (pc' := 84) rfl ?_
    refine g_if_ne rfl (pc' := 87) (pt := 112) rfl rfl ⟨fun hc => ?_, fun hc => ?_⟩
    · replace H := H.1 hc
      exact g_weak (show gm_Lle [some _, some _, some _, some _, some _] _ from ⟨rfl, ⟨rfl, ⟨rfl, ⟨rfl, ⟨rfl, trivial⟩⟩⟩⟩⟩) H
    · replace H := H.2 hc
      refine g_aload (r := some _) rfl rfl rfl (pc' := 88) ?_
      obtain ⟨ht1, H⟩ := H
      refine g_getRv rfl rfl rfl rfl ht1 (pc' := 91) rfl (fun r2 hr2 => ?_)
      replace H := H r2 hr2
      refine g_aload (r := some _) rfl rfl rfl (pc' := 92) ?_
      refine g_getRv rfl rfl rfl rfl ht1 (pc' := 95) rfl (fun r3 hr3 => ?_)
      replace H := H r3 hr3
      refine g_iload rfl rfl rfl (pc' := 96) ?_
      refine g_iconst rfl rfl rfl (pc' := 97) ?_
      refine g_idiv rfl (by decide) (pc' := 98) rfl ?_
      obtain ⟨a4, rfl, H⟩ := H
      obtain ⟨ht5, H⟩ := H
      refine g_call rfl (y := 178) (n := 2) (pc' := 101) (g_vt ht5 rfl rfl) rfl rfl ⟨(Nat.le_of_ble_eq_true rfl), (Nat.le_of_ble_eq_true rfl), (Nat.le_of_ble_eq_true rfl)⟩ rfl (gm_G.mono H (pR_elim (fun r7 h6 H' => ?_) (fun e14 h15 H => ?_)))
      · show gm_G _ 101 _ _ _ _
        replace H := H'
        clear H'
        refine g_iconst rfl rfl rfl (pc' := 102) ?_
        obtain ⟨a8, rfl, H⟩ := H
        obtain ⟨ht9, H⟩ := H
        refine g_call rfl (y := 311) (n := 3) (pc' := 105) (g_vt ht9 rfl rfl) (by cases r7 <;> rfl) rfl ⟨(Nat.le_of_ble_eq_true rfl), (Nat.le_of_ble_eq_true rfl), (Nat.le_of_ble_eq_true rfl)⟩ rfl (gm_G.mono H (pI_elim (fun v11 h10 H' => ?_) (fun e12 h13 H => ?_)))
        · show gm_G _ 105 _ _ _ _
          replace H := H'
          clear H'
          refine g_if_ne rfl (pc' := 108) (pt := 112) rfl rfl ⟨fun hc => ?_, fun hc => ?_⟩
          · replace H := H.1 hc
            exact g_weak (show gm_Lle [some _, some _, some _, some _, some _] _ from ⟨rfl, ⟨rfl, ⟨rfl, ⟨rfl, ⟨rfl, trivial⟩⟩⟩⟩⟩) H
          · replace H := H.2 hc
            exact g_weak (show gm_Lle [some _, some _, some _, some _, some _] _ from ⟨rfl, ⟨rfl, ⟨rfl, ⟨rfl, ⟨rfl, trivial⟩⟩⟩⟩⟩) H
        · exact ⟨H.1, g_weak (show gm_Lle [some _] _ from ⟨rfl, trivial⟩) H.2⟩
      · exact ⟨H.1, g_weak (show gm_Lle [some _] _ from ⟨rfl, trivial⟩) H.2⟩
set_option maxRecDepth 20000 in
theorem w_628_108 {a0 : Nat} {x1 : Int32} {x2 : Int32} {x3 : Int32} {r_4 : Option Nat} {h : hh_T} {Q : Option Value ⊕ Nat → hh_T → Prop} (H : gm_G 628 113 [some (.ref a0), some (.int x1), some (.int x2), some (.int x3), some (va_rf r_4)] [.int (Int32.ofNat 1)] h Q) : gm_G 628 108 [some (.ref a0), some (.int x1), some (.int x2), some (.int x3), some (va_rf r_4)] [] h Q := by
  refine g_iconst rfl rfl rfl (pc' := 109) ?_
  refine g_goto rfl (pc' := 113) rfl ?_
  exact g_weak (show gm_Lle [some _, some _, some _, some _, some _] _ from ⟨rfl, ⟨rfl, ⟨rfl, ⟨rfl, ⟨rfl, trivial⟩⟩⟩⟩⟩) H
set_option maxRecDepth 20000 in
theorem w_628_112 {a0 : Nat} {x1 : Int32} {x2 : Int32} {x3 : Int32} {r_4 : Option Nat} {h : hh_T} {Q : Option Value ⊕ Nat → hh_T → Prop} (H : gm_G 628 113 [some (.ref a0), some (.int x1), some (.int x2), some (.int x3), some (va_rf r_4)] [.int (Int32.ofNat 0)] h Q) : gm_G 628 112 [some (.ref a0), some (.int x1), some (.int x2), some (.int x3), some (va_rf r_4)] [] h Q := by
  refine g_iconst rfl rfl rfl (pc' := 113) ?_
  exact g_weak (show gm_Lle [some _, some _, some _, some _, some _] _ from ⟨rfl, ⟨rfl, ⟨rfl, ⟨rfl, ⟨rfl, trivial⟩⟩⟩⟩⟩) H
set_option maxRecDepth 20000 in
theorem w_628_113 {a0 : Nat} {x1 : Int32} {x2 : Int32} {x3 : Int32} {r_4 : Option Nat} {y0 : Int32} {h : hh_T} {Q : Option Value ⊕ Nat → hh_T → Prop} (H : gm_G 431 0 [some (.int y0), some (.int (Int32.ofInt (-6)))] [] h (pV (fun h1 => hh_tg h1 a0 = 1 ∧ (gm_G 622 0 [some (.ref a0), some (.int x1), some (va_rf r_4), some (.int x2)] [] h1 (pI (fun v4 h3 => gm_sub (hh_tg h3 a0) 0 = true ∧ (∀ r6, r6 = hh_r h3 a0 51 → (∃ a7, r6 = some a7 ∧ (gm_sub (hh_tg h3 a7) 14 = true ∧ (∀ r9, r9 = hh_r h3 a7 0 → (∀ a10 h11, a10 = hh_sz h3 → h11 = hh_al h3 43 0 8 → (gm_G 331 0 [some (.ref a10), some (.int x1), some (.int v4), some (.int x2)] [] h11 (pV (fun h12 => ∃ a13, r9 = some a13 ∧ (200 ≤ hh_tg h12 a13 ∧ (gm_as (hh_tg h12 a13) (hh_tg h12 a10) = true) ∧ (∃ n14, gm_ix x3 n14 (hh_ln h12 a13) ∧ (∀ h15, h15 = hh_wr h12 a13 n14 (some a10) → (gm_G 628 148 [some (.ref a0), none, none, some (.int x3)] [] h15 Q))))) (fun e16 h17 => hh_tg h17 e16 = 21 ∧ gm_G 628 154 [some (.ref a0)] [.ref e16] h17 Q))))))))) (fun e18 h19 => hh_tg h19 e18 = 21 ∧ gm_G 628 154 [some (.ref a0)] [.ref e18] h19 Q)))) (fun e20 h21 => hh_tg h21 e20 = 21 ∧ gm_G 628 154 [some (.ref a0)] [.ref e20] h21 Q))) : gm_G 628 113 [some (.ref a0), some (.int x1), some (.int x2), some (.int x3), some (va_rf r_4)] [.int y0] h Q := by
  refine g_iconst rfl rfl rfl (pc' := 115) ?_
  refine g_call rfl (y := 431) (n := 2) (pc' := 118) (fun _ => rfl) rfl rfl ⟨(Nat.le_of_ble_eq_true rfl), (Nat.le_of_ble_eq_true rfl), (Nat.le_of_ble_eq_true rfl)⟩ rfl (gm_G.mono H (pV_elim (fun h1 H' => ?_) (fun e20 h21 H => ?_)))
  · show gm_G _ 118 _ _ _ _
    replace H := H'
    clear H'
    refine g_aload (r := some _) rfl rfl rfl (pc' := 119) ?_
    refine g_iload rfl rfl rfl (pc' := 120) ?_
    refine g_aload (r := _) rfl rfl rfl (pc' := 122) ?_
    refine g_iload rfl rfl rfl (pc' := 123) ?_
    obtain ⟨ht2, H⟩ := H
    refine g_call rfl (y := 622) (n := 4) (pc' := 126) (g_vt ht2 rfl rfl) (by cases r_4 <;> rfl) rfl ⟨(Nat.le_of_ble_eq_true rfl), (Nat.le_of_ble_eq_true rfl), (Nat.le_of_ble_eq_true rfl)⟩ rfl (gm_G.mono H (pI_elim (fun v4 h3 H' => ?_) (fun e18 h19 H => ?_)))
    · show gm_G _ 126 _ _ _ _
      replace H := H'
      clear H'
      refine g_istore rfl rfl rfl (pc' := 128) ?_
      refine g_aload (r := some _) rfl rfl rfl (pc' := 129) ?_
      obtain ⟨ht5, H⟩ := H
      refine g_getRv rfl rfl rfl rfl ht5 (pc' := 132) rfl (fun r6 hr6 => ?_)
      replace H := H r6 hr6
      obtain ⟨a7, rfl, H⟩ := H
      obtain ⟨ht8, H⟩ := H
      refine g_getRv rfl rfl rfl rfl ht8 (pc' := 135) rfl (fun r9 hr9 => ?_)
      replace H := H r9 hr9
      refine g_iload rfl rfl rfl (pc' := 136) ?_
      refine g_new rfl (t := 43) (s := 8) rfl rfl (pc' := 139) rfl ?_
      replace H := H _ _ rfl rfl
      refine g_dup_a (r := some _) rfl rfl (pc' := 140) ?_
      refine g_iload rfl rfl rfl (pc' := 141) ?_
      refine g_iload rfl rfl rfl (pc' := 143) ?_
      refine g_iload rfl rfl rfl (pc' := 144) ?_
      refine g_call rfl (y := 331) (n := 4) (pc' := 147) (fun _ => rfl) rfl rfl ⟨(Nat.le_of_ble_eq_true rfl), (Nat.le_of_ble_eq_true rfl), (Nat.le_of_ble_eq_true rfl)⟩ rfl (gm_G.mono H (pV_elim (fun h12 H' => ?_) (fun e16 h17 H => ?_)))
      · show gm_G _ 147 _ _ _ _
        replace H := H'
        clear H'
        obtain ⟨a13, rfl, H⟩ := H
        obtain ⟨Ha, Hb, H⟩ := H
        obtain ⟨n14, hn14, H⟩ := H
        refine g_aastore (r := some _) rfl Ha (fun b hb => by cases hb; exact Hb) hn14 (pc' := 148) rfl ?_
        replace H := H _ rfl
        exact g_weak (show gm_Lle [some _, none, none, some _] _ from ⟨rfl, ⟨rfl, trivial⟩⟩) H
      · exact ⟨H.1, g_weak (show gm_Lle [some _] _ from ⟨rfl, trivial⟩) H.2⟩
    · exact ⟨H.1, g_weak (show gm_Lle [some _] _ from ⟨rfl, trivial⟩) H.2⟩
  · exact ⟨H.1, g_weak (show gm_Lle [some _] _ from ⟨rfl, trivial⟩) H.2⟩
set_option maxRecDepth 20000 in
theorem w_628_148 {a0 : Nat} {x3 : Int32} {h : hh_T} {Q : Option Value ⊕ Nat → hh_T → Prop} (H : hh_tg h a0 = 1 ∧ (gm_G 4 0 [some (.ref a0), some (.int x3)] [] h (pI (fun v3 h2 => Q (.inl (some (.int v3))) h2) (fun e4 h5 => hh_tg h5 e4 = 21 ∧ gm_G 628 154 [some (.ref a0)] [.ref e4] h5 Q)))) : gm_G 628 148 [some (.ref a0), none, none, some (.int x3)] [] h Q := by
  refine g_aload (r := some _) rfl rfl rfl (pc' := 149) ?_
  refine g_iload rfl rfl rfl (pc' := 150) ?_
  obtain ⟨ht1, H⟩ := H
  refine g_call rfl (y := 4) (n := 2) (pc' := 153) (g_vt ht1 rfl rfl) rfl rfl ⟨(Nat.le_of_ble_eq_true rfl), (Nat.le_of_ble_eq_true rfl), (Nat.le_of_ble_eq_true rfl)⟩ rfl (gm_G.mono H (pI_elim (fun v3 h2 H' => ?_) (fun e4 h5 H => ?_)))
  · show gm_G _ 153 _ _ _ _
    replace H := H'
    clear H'
    exact g_ireturn rfl (Or.inl rfl) H
  · exact ⟨H.1, g_weak (show gm_Lle [some _] _ from ⟨rfl, trivial⟩) H.2⟩
set_option maxRecDepth 20000 in
theorem w_628_154 {a0 : Nat} {ex : Nat} {h : hh_T} {Q : Option Value ⊕ Nat → hh_T → Prop} (H : hh_tg h a0 = 1 ∧ (gm_G 1 0 [some (.ref a0), some (.ref ex)] [] h (pI (fun v3 h2 => Q (.inl (some (.int v3))) h2) (fun e4 h5 => hh_tg h5 e4 = 21 ∧ Q (.inr e4) h5)))) : gm_G 628 154 [some (.ref a0)] [.ref ex] h Q := by
  refine g_astore (r := some _) rfl rfl rfl (pc' := 155) ?_
  refine g_aload (r := some _) rfl rfl rfl (pc' := 156) ?_
  refine g_aload (r := some _) rfl rfl rfl (pc' := 157) ?_
  obtain ⟨ht1, H⟩ := H
  refine g_call rfl (y := 1) (n := 2) (pc' := 160) (g_vt ht1 rfl rfl) rfl rfl ⟨(Nat.le_of_ble_eq_true rfl), (Nat.le_of_ble_eq_true rfl), (Nat.le_of_ble_eq_true rfl)⟩ rfl (gm_G.mono H (pI_elim (fun v3 h2 H' => ?_) (fun e4 h5 H => ?_)))
  · show gm_G _ 160 _ _ _ _
    replace H := H'
    clear H'
    exact g_ireturn rfl (Or.inl rfl) H
  · exact H
set_option maxRecDepth 20000 in
theorem w_629_0 {a0 : Nat} {x1 : Int32} {r_2 : Option Nat} {h : hh_T} {Q : Option Value ⊕ Nat → hh_T → Prop} (H : (¬ (1 ≤ x1.toInt ∧ x1.toInt ≤ 8) → (∀ a1 h2, a1 = hh_sz h → h2 = hh_al h 21 0 7 → (gm_G 425 0 [some (.ref a1), some (.int (Int32.ofInt (-11)))] [] h2 (pV (fun h3 => hh_tg h3 a1 = 21 ∧ Q (.inr a1) h3) (fun e4 h5 => hh_tg h5 e4 = 21 ∧ Q (.inr e4) h5))))) ∧ (x1.toInt = 1 → (hh_tg h a0 = 18 ∧ (gm_G 537 0 [some (.ref a0), some (va_rf r_2)] [] h (pV (fun h7 => gm_G 629 121 [] [] h7 Q) (fun e8 h9 => hh_tg h9 e8 = 21 ∧ Q (.inr e8) h9))))) ∧ (x1.toInt = 2 → (hh_tg h a0 = 18 ∧ (gm_G 536 0 [some (.ref a0), some (va_rf r_2)] [] h (pV (fun h11 => gm_G 629 121 [] [] h11 Q) (fun e12 h13 => hh_tg h13 e12 = 21 ∧ Q (.inr e12) h13))))) ∧ (x1.toInt = 3 → (hh_tg h a0 = 18 ∧ (gm_G 602 0 [some (.ref a0), some (va_rf r_2)] [] h (pV (fun h15 => gm_G 629 121 [] [] h15 Q) (fun e16 h17 => hh_tg h17 e16 = 21 ∧ Q (.inr e16) h17))))) ∧ (x1.toInt = 4 → (hh_tg h a0 = 18 ∧ (gm_G 619 0 [some (.ref a0), some (va_rf r_2)] [] h (pV (fun h19 => gm_G 629 121 [] [] h19 Q) (fun e20 h21 => hh_tg h21 e20 = 21 ∧ Q (.inr e20) h21))))) ∧ (x1.toInt = 5 → (hh_tg h a0 = 18 ∧ (gm_G 618 0 [some (.ref a0), some (va_rf r_2)] [] h (pV (fun h23 => gm_G 629 85 [] [] h23 Q) (fun e24 h25 => hh_tg h25 e24 = 21 ∧ Q (.inr e24) h25))))) ∧ (x1.toInt = 6 → (hh_tg h a0 = 18 ∧ (gm_G 625 0 [some (.ref a0)] [] h (pV (fun h27 => gm_G 629 121 [] [] h27 Q) (fun e28 h29 => hh_tg h29 e28 = 21 ∧ Q (.inr e28) h29))))) ∧ (x1.toInt = 7 → (hh_tg h a0 = 18 ∧ (gm_G 554 0 [some (.ref a0), some (va_rf r_2)] [] h (pV (fun h31 => gm_G 629 121 [] [] h31 Q) (fun e32 h33 => hh_tg h33 e32 = 21 ∧ Q (.inr e32) h33))))) ∧ (x1.toInt = 8 → (hh_tg h a0 = 18 ∧ (gm_G 590 0 [some (.ref a0), some (va_rf r_2)] [] h (pV (fun h35 => gm_G 629 121 [] [] h35 Q) (fun e36 h37 => hh_tg h37 e36 = 21 ∧ Q (.inr e36) h37)))))) : gm_G 629 0 [some (.ref a0), some (.int x1), some (va_rf r_2)] [] h Q := by
  refine g_iload rfl rfl rfl (pc' := 1) ?_
  refine g_switch rfl ⟨fun hc => ?_, fun hc => ?_⟩
  · replace H := H.1 (fun hq => by omega)
    refine g_new rfl (t := 21) (s := 7) rfl rfl (pc' := 114) rfl ?_
    replace H := H _ _ rfl rfl
    refine g_dup_a (r := some _) rfl rfl (pc' := 115) ?_
    refine g_iconst rfl rfl rfl (pc' := 117) ?_
    refine g_call rfl (y := 425) (n := 2) (pc' := 120) (fun _ => rfl) rfl rfl ⟨(Nat.le_of_ble_eq_true rfl), (Nat.le_of_ble_eq_true rfl), (Nat.le_of_ble_eq_true rfl)⟩ rfl (gm_G.mono H (pV_elim (fun h3 H' => ?_) (fun e4 h5 H => ?_)))
    · show gm_G _ 120 _ _ _ _
      replace H := H'
      clear H'
      exact g_throw rfl H.1 rfl H.2
    · exact H
  · replace H := H.2
    have hq : x1.toInt = 1 ∨ x1.toInt = 2 ∨ x1.toInt = 3 ∨ x1.toInt = 4 ∨ x1.toInt = 5 ∨ x1.toInt = 6 ∨ x1.toInt = 7 ∨ x1.toInt = 8 := by omega
    rcases hq with hq | hq | hq | hq | hq | hq | hq | hq
    · replace H := (H.1) hq
      refine ⟨48, by rw [hq]; rfl, ?_⟩
      show gm_G _ 48 _ _ _ _
      refine g_aload (r := some _) rfl rfl rfl (pc' := 49) ?_
      refine g_aload (r := _) rfl rfl rfl (pc' := 50) ?_
      obtain ⟨ht6, H⟩ := H
      refine g_call rfl (y := 537) (n := 2) (pc' := 53) (g_vt ht6 rfl rfl) (by cases r_2 <;> rfl) rfl ⟨(Nat.le_of_ble_eq_true rfl), (Nat.le_of_ble_eq_true rfl), (Nat.le_of_ble_eq_true rfl)⟩ rfl (gm_G.mono H (pV_elim (fun h7 H' => ?_) (fun e8 h9 H => ?_)))
      · show gm_G _ 53 _ _ _ _
        replace H := H'
        clear H'
        refine g_goto rfl (pc' := 121) rfl ?_
        exact g_weak (show gm_Lle [] _ from trivial) H
      · exact H
    · replace H := (H.2.1) hq
      refine ⟨56, by rw [hq]; rfl, ?_⟩
      show gm_G _ 56 _ _ _ _
      refine g_aload (r := some _) rfl rfl rfl (pc' := 57) ?_
      refine g_aload (r := _) rfl rfl rfl (pc' := 58) ?_
      obtain ⟨ht10, H⟩ := H
      refine g_call rfl (y := 536) (n := 2) (pc' := 61) (g_vt ht10 rfl rfl) (by cases r_2 <;> rfl) rfl ⟨(Nat.le_of_ble_eq_true rfl), (Nat.le_of_ble_eq_true rfl), (Nat.le_of_ble_eq_true rfl)⟩ rfl (gm_G.mono H (pV_elim (fun h11 H' => ?_) (fun e12 h13 H => ?_)))
      · show gm_G _ 61 _ _ _ _
        replace H := H'
        clear H'
        refine g_goto rfl (pc' := 121) rfl ?_
        exact g_weak (show gm_Lle [] _ from trivial) H
      · exact H
    · replace H := (H.2.2.1) hq
      refine ⟨64, by rw [hq]; rfl, ?_⟩
      show gm_G _ 64 _ _ _ _
      refine g_aload (r := some _) rfl rfl rfl (pc' := 65) ?_
      refine g_aload (r := _) rfl rfl rfl (pc' := 66) ?_
      obtain ⟨ht14, H⟩ := H
      refine g_call rfl (y := 602) (n := 2) (pc' := 69) (g_vt ht14 rfl rfl) (by cases r_2 <;> rfl) rfl ⟨(Nat.le_of_ble_eq_true rfl), (Nat.le_of_ble_eq_true rfl), (Nat.le_of_ble_eq_true rfl)⟩ rfl (gm_G.mono H (pV_elim (fun h15 H' => ?_) (fun e16 h17 H => ?_)))
      · show gm_G _ 69 _ _ _ _
        replace H := H'
        clear H'
        refine g_goto rfl (pc' := 121) rfl ?_
        exact g_weak (show gm_Lle [] _ from trivial) H
      · exact H
    · replace H := (H.2.2.2.1) hq
      refine ⟨72, by rw [hq]; rfl, ?_⟩
      show gm_G _ 72 _ _ _ _
      refine g_aload (r := some _) rfl rfl rfl (pc' := 73) ?_
      refine g_aload (r := _) rfl rfl rfl (pc' := 74) ?_
      obtain ⟨ht18, H⟩ := H
      refine g_call rfl (y := 619) (n := 2) (pc' := 77) (g_vt ht18 rfl rfl) (by cases r_2 <;> rfl) rfl ⟨(Nat.le_of_ble_eq_true rfl), (Nat.le_of_ble_eq_true rfl), (Nat.le_of_ble_eq_true rfl)⟩ rfl (gm_G.mono H (pV_elim (fun h19 H' => ?_) (fun e20 h21 H => ?_)))
      · show gm_G _ 77 _ _ _ _
        replace H := H'
        clear H'
        refine g_goto rfl (pc' := 121) rfl ?_
        exact g_weak (show gm_Lle [] _ from trivial) H
      · exact H
    · replace H := (H.2.2.2.2.1) hq
      refine ⟨80, by rw [hq]; rfl, ?_⟩
      show gm_G _ 80 _ _ _ _
      refine g_aload (r := some _) rfl rfl rfl (pc' := 81) ?_
      refine g_aload (r := _) rfl rfl rfl (pc' := 82) ?_
      obtain ⟨ht22, H⟩ := H
      refine g_call rfl (y := 618) (n := 2) (pc' := 85) (g_vt ht22 rfl rfl) (by cases r_2 <;> rfl) rfl ⟨(Nat.le_of_ble_eq_true rfl), (Nat.le_of_ble_eq_true rfl), (Nat.le_of_ble_eq_true rfl)⟩ rfl (gm_G.mono H (pV_elim (fun h23 H' => ?_) (fun e24 h25 H => ?_)))
      · show gm_G _ 85 _ _ _ _
        replace H := H'
        clear H'
        exact g_weak (show gm_Lle [] _ from trivial) H
      · exact H
    · replace H := (H.2.2.2.2.2.1) hq
      refine ⟨88, by rw [hq]; rfl, ?_⟩
      show gm_G _ 88 _ _ _ _
      refine g_aload (r := some _) rfl rfl rfl (pc' := 89) ?_
      obtain ⟨ht26, H⟩ := H
      refine g_call rfl (y := 625) (n := 1) (pc' := 92) (g_vt ht26 rfl rfl) rfl rfl ⟨(Nat.le_of_ble_eq_true rfl), (Nat.le_of_ble_eq_true rfl), (Nat.le_of_ble_eq_true rfl)⟩ rfl (gm_G.mono H (pV_elim (fun h27 H' => ?_) (fun e28 h29 H => ?_)))
      · show gm_G _ 92 _ _ _ _
        replace H := H'
        clear H'
        refine g_goto rfl (pc' := 121) rfl ?_
        exact g_weak (show gm_Lle [] _ from trivial) H
      · exact H
    · replace H := (H.2.2.2.2.2.2.1) hq
      refine ⟨95, by rw [hq]; rfl, ?_⟩
      show gm_G _ 95 _ _ _ _
      refine g_aload (r := some _) rfl rfl rfl (pc' := 96) ?_
      refine g_aload (r := _) rfl rfl rfl (pc' := 97) ?_
      obtain ⟨ht30, H⟩ := H
      refine g_call rfl (y := 554) (n := 2) (pc' := 100) (g_vt ht30 rfl rfl) (by cases r_2 <;> rfl) rfl ⟨(Nat.le_of_ble_eq_true rfl), (Nat.le_of_ble_eq_true rfl), (Nat.le_of_ble_eq_true rfl)⟩ rfl (gm_G.mono H (pV_elim (fun h31 H' => ?_) (fun e32 h33 H => ?_)))
      · show gm_G _ 100 _ _ _ _
        replace H := H'
        clear H'
        refine g_goto rfl (pc' := 121) rfl ?_
        exact g_weak (show gm_Lle [] _ from trivial) H
      · exact H
    · replace H := (H.2.2.2.2.2.2.2) hq
      refine ⟨103, by rw [hq]; rfl, ?_⟩
      show gm_G _ 103 _ _ _ _
      refine g_aload (r := some _) rfl rfl rfl (pc' := 104) ?_
      refine g_aload (r := _) rfl rfl rfl (pc' := 105) ?_
      obtain ⟨ht34, H⟩ := H
      refine g_call rfl (y := 590) (n := 2) (pc' := 108) (g_vt ht34 rfl rfl) (by cases r_2 <;> rfl) rfl ⟨(Nat.le_of_ble_eq_true rfl), (Nat.le_of_ble_eq_true rfl), (Nat.le_of_ble_eq_true rfl)⟩ rfl (gm_G.mono H (pV_elim (fun h35 H' => ?_) (fun e36 h37 H => ?_)))
      · show gm_G _ 108 _ _ _ _
        replace H := H'
        clear H'
        refine g_goto rfl (pc' := 121) rfl ?_
        exact g_weak (show gm_Lle [] _ from trivial) H
      · exact H
set_option maxRecDepth 20000 in
theorem w_629_85 {a0 : Nat}  {h : hh_T} {Q : Option Value ⊕ Nat → hh_T → Prop} (H : gm_G 629 121 [] [] h Q) : gm_G 629 85 [] [] h Q := by
  refine g_goto rfl (pc' := 121) rfl ?_
  exact g_weak (show gm_Lle [] _ from trivial) H
set_option maxRecDepth 20000 in
theorem w_629_121 {a0 : Nat}  {h : hh_T} {Q : Option Value ⊕ Nat → hh_T → Prop} (H : Q (.inl none) h) : gm_G 629 121 [] [] h Q := by
  exact g_return rfl H
set_option maxRecDepth 20000 in
theorem w_630_0 {a0 : Nat} {x1 : Int32} {r_2 : Option Nat} {r_3 : Option Nat} {h : hh_T} {Q : Option Value ⊕ Nat → hh_T → Prop} (H : gm_sub (hh_tg h a0) 17 = true ∧ (∀ r2, r2 = hh_r h a0 2 → (∃ a3, r2 = some a3 ∧ ((hh_tg h a3 = 101 ∨ hh_tg h a3 = 102) ∧ (∃ n4, gm_ix x1 n4 (hh_ln h a3) ∧ (((hh_i h a3 n4) = Int32.ofNat 0 → (gm_G 630 33 [some (.ref a0), some (.int x1), some (va_rf r_2), some (va_rf r_3)] [] h Q)) ∧ (¬ (hh_i h a3 n4) = Int32.ofNat 0 → (∀ r6, r6 = hh_r h a0 0 → (∃ a7, r6 = some a7 ∧ ((hh_tg h a7 = 104 ∨ 200 ≤ hh_tg h a7) ∧ (∃ n8, gm_ix x1 n8 (hh_ln h a7) ∧ (∀ r10, r10 = hh_r h a7 n8 → (∃ a11, r10 = some a11 ∧ (hh_tg h a11 = 13 ∧ (gm_G 64 0 [some (.ref a11), some (va_rf r_2)] [] h (pI (fun v14 h13 => (v14 = Int32.ofNat 0 → (gm_G 630 33 [some (.ref a0), some (.int x1), some (va_rf r_2), some (va_rf r_3)] [] h13 Q)) ∧ (¬ v14 = Int32.ofNat 0 → (gm_sub (hh_tg h13 a0) 17 = true ∧ (∀ r16, r16 = hh_r h13 a0 1 → (∃ a17, r16 = some a17 ∧ ((hh_tg h13 a17 = 104 ∨ 200 ≤ hh_tg h13 a17) ∧ (∃ n18, gm_ix x1 n18 (hh_ln h13 a17) ∧ (∀ r20, r20 = hh_r h13 a17 n18 → (∃ a21, r_3 = some a21 ∧ (hh_tg h13 a21 = 13 ∧ (gm_G 65 0 [some (.ref a21), some (va_rf r20)] [] h13 (pV (fun h23 => Q (.inl none) h23) (fun e24 h25 => hh_tg h25 e24 = 21 ∧ Q (.inr e24) h25))))))))))))) (fun e26 h27 => hh_tg h27 e26 = 21 ∧ Q (.inr e26) h27))))))))))))))))) : gm_G 630 0 [some (.ref a0), some (.int x1), some (va_rf r_2), some (va_rf r_3)] [] h Q := by
  refine g_aload (r := some _) rfl rfl rfl (pc' := 1) ?_
  obtain ⟨ht1, H⟩ := H
  refine g_getRv rfl rfl rfl rfl ht1 (pc' := 4) rfl (fun r2 hr2 => ?_)
  replace H := H r2 hr2
  refine g_iload rfl rfl rfl (pc' := 5) ?_
  obtain ⟨a3, rfl, H⟩ := H
  obtain ⟨ht5, H⟩ := H
  obtain ⟨n4, hn4, H⟩ := H
  refine g_baload rfl ht5 hn4 (pc' := 6) rfl ?_
  refine g_if_eq rfl (pc' := 9) (pt := 33) rfl rfl ⟨fun hc => ?_, fun hc => ?_⟩
  · replace H := H.1 hc
    exact g_weak (show gm_Lle [some _, some _, some _, some _] _ from ⟨rfl, ⟨rfl, ⟨rfl, ⟨rfl, trivial⟩⟩⟩⟩) H
  · replace H := H.2 hc
    refine g_aload (r := some _) rfl rfl rfl (pc' := 10) ?_
    refine g_getRv rfl rfl rfl rfl ht1 (pc' := 13) rfl (fun r6 hr6 => ?_)
    replace H := H r6 hr6
    refine g_iload rfl rfl rfl (pc' := 14) ?_
    obtain ⟨a7, rfl, H⟩ := H
    obtain ⟨ht9, H⟩ := H
    obtain ⟨n8, hn8, H⟩ := H
    refine g_aaloadv rfl ht9 hn8 (pc' := 15) rfl (fun r10 hr10 => ?_)
    replace H := H r10 hr10
    refine g_aload (r := _) rfl rfl rfl (pc' := 16) ?_
    obtain ⟨a11, rfl, H⟩ := H
    obtain ⟨ht12, H⟩ := H
    refine g_call rfl (y := 64) (n := 2) (pc' := 19) (g_vt ht12 rfl rfl) (by cases r_2 <;> rfl) rfl ⟨(Nat.le_of_ble_eq_true rfl), (Nat.le_of_ble_eq_true rfl), (Nat.le_of_ble_eq_true rfl)⟩ rfl (gm_G.mono H (pI_elim (fun v14 h13 H' => ?_) (fun e26 h27 H => ?_)))
    · show gm_G _ 19 _ _ _ _
      replace H := H'
      clear H'
      refine g_if_eq rfl (pc' := 22) (pt := 33) rfl rfl ⟨fun hc => ?_, fun hc => ?_⟩
      · replace H := H.1 hc
        exact g_weak (show gm_Lle [some _, some _, some _, some _] _ from ⟨rfl, ⟨rfl, ⟨rfl, ⟨rfl, trivial⟩⟩⟩⟩) H
      · replace H := H.2 hc
        refine g_aload (r := _) rfl rfl rfl (pc' := 23) ?_
        refine g_aload (r := some _) rfl rfl rfl (pc' := 24) ?_
        obtain ⟨ht15, H⟩ := H
        refine g_getRv rfl rfl rfl rfl ht15 (pc' := 27) rfl (fun r16 hr16 => ?_)
        replace H := H r16 hr16
        refine g_iload rfl rfl rfl (pc' := 28) ?_
        obtain ⟨a17, rfl, H⟩ := H
        obtain ⟨ht19, H⟩ := H
        obtain ⟨n18, hn18, H⟩ := H
        refine g_aaloadv rfl ht19 hn18 (pc' := 29) rfl (fun r20 hr20 => ?_)
        replace H := H r20 hr20
        obtain ⟨a21, rfl, H⟩ := H
        obtain ⟨ht22, H⟩ := H
        refine g_call rfl (y := 65) (n := 2) (pc' := 32) (g_vt ht22 rfl rfl) (by cases r20 <;> rfl) rfl ⟨(Nat.le_of_ble_eq_true rfl), (Nat.le_of_ble_eq_true rfl), (Nat.le_of_ble_eq_true rfl)⟩ rfl (gm_G.mono H (pV_elim (fun h23 H' => ?_) (fun e24 h25 H => ?_)))
        · show gm_G _ 32 _ _ _ _
          replace H := H'
          clear H'
          exact g_return rfl H
        · exact H
    · exact H
set_option maxRecDepth 20000 in
theorem w_630_33 {a0 : Nat} {x1 : Int32} {r_2 : Option Nat} {r_3 : Option Nat} {h : hh_T} {Q : Option Value ⊕ Nat → hh_T → Prop} (H : gm_sub (hh_tg h a0) 17 = true ∧ (∀ r2, r2 = hh_r h a0 2 → (∃ a3, r2 = some a3 ∧ ((hh_tg h a3 = 101 ∨ hh_tg h a3 = 102) ∧ (∃ n4, gm_ix x1 n4 (hh_ln h a3) ∧ (((hh_i h a3 n4) = Int32.ofNat 0 → (gm_G 630 66 [some (.ref a0), some (.int x1), some (va_rf r_2), some (va_rf r_3)] [] h Q)) ∧ (¬ (hh_i h a3 n4) = Int32.ofNat 0 → (∀ r6, r6 = hh_r h a0 0 → (∃ a7, r6 = some a7 ∧ ((hh_tg h a7 = 104 ∨ 200 ≤ hh_tg h a7) ∧ (∃ n8, gm_ix x1 n8 (hh_ln h a7) ∧ (∀ r10, r10 = hh_r h a7 n8 → (∃ a11, r10 = some a11 ∧ (gm_sub (hh_tg h a11) 12 = true ∧ (∀ r13, r13 = hh_r h a11 0 → (∃ a14, r13 = some a14 ∧ ((hh_tg h a14 = 101 ∨ hh_tg h a14 = 102) ∧ (0 < hh_ln h a14 ∧ (∃ a17, r_2 = some a17 ∧ (gm_sub (hh_tg h a17) 12 = true ∧ (∀ r19, r19 = hh_r h a17 0 → (∃ a20, r19 = some a20 ∧ ((hh_tg h a20 = 101 ∨ hh_tg h a20 = 102) ∧ (0 < hh_ln h a20 ∧ ((¬ (hh_i h a14 0) = (hh_i h a20 0) → (gm_G 630 66 [some (.ref a0), some (.int x1), some (.ref a17), some (va_rf r_3)] [] h Q)) ∧ ((hh_i h a14 0) = (hh_i h a20 0) → (gm_G 630 67 [some (.ref a0), some (.int x1), some (.ref a17), some (va_rf r_3)] [.int (Int32.ofNat 1)] h Q))))))))))))))))))))))))))) : gm_G 630 33 [some (.ref a0), some (.int x1), some (va_rf r_2), some (va_rf r_3)] [] h Q := by
  refine g_aload (r := some _) rfl rfl rfl (pc' := 34) ?_
  obtain ⟨ht1, H⟩ := H
  refine g_getRv rfl rfl rfl rfl ht1 (pc' := 37) rfl (fun r2 hr2 => ?_)
  replace H := H r2 hr2
  refine g_iload rfl rfl rfl (pc' := 38) ?_
  obtain ⟨a3, rfl, H⟩ := H
  obtain ⟨ht5, H⟩ := H
  obtain ⟨n4, hn4, H⟩ := H
  refine g_baload rfl ht5 hn4 (pc' := 39) rfl ?_
  refine g_if_eq rfl (pc' := 42) (pt := 66) rfl rfl ⟨fun hc => ?_, fun hc => ?_⟩
  · replace H := H.1 hc
    exact g_weak (show gm_Lle [some _, some _, some _, some _] _ from ⟨rfl, ⟨rfl, ⟨rfl, ⟨rfl, trivial⟩⟩⟩⟩) H
  · replace H := H.2 hc
    refine g_aload (r := some _) rfl rfl rfl (pc' := 43) ?_
    refine g_getRv rfl rfl rfl rfl ht1 (pc' := 46) rfl (fun r6 hr6 => ?_)
    replace H := H r6 hr6
    refine g_iload rfl rfl rfl (pc' := 47) ?_
    obtain ⟨a7, rfl, H⟩ := H
    obtain ⟨ht9, H⟩ := H
    obtain ⟨n8, hn8, H⟩ := H
    refine g_aaloadv rfl ht9 hn8 (pc' := 48) rfl (fun r10 hr10 => ?_)
    replace H := H r10 hr10
    obtain ⟨a11, rfl, H⟩ := H
    obtain ⟨ht12, H⟩ := H
    refine g_getRv rfl rfl rfl rfl ht12 (pc' := 51) rfl (fun r13 hr13 => ?_)
    replace H := H r13 hr13
    refine g_iconst rfl rfl rfl (pc' := 52) ?_
    obtain ⟨a14, rfl, H⟩ := H
    obtain ⟨ht16, H⟩ := H
    obtain ⟨hn15, H⟩ := H
    refine g_baload rfl ht16 ⟨rfl, by decide, hn15⟩ (pc' := 53) rfl ?_
    refine g_aload (r := _) rfl rfl rfl (pc' := 54) ?_
    obtain ⟨a17, rfl, H⟩ := H
    obtain ⟨ht18, H⟩ := H
    refine g_getRv rfl rfl rfl rfl ht18 (pc' := 57) rfl (fun r19 hr19 => ?_)
    replace H := H r19 hr19
    refine g_iconst rfl rfl rfl (pc' := 58) ?_
    obtain ⟨a20, rfl, H⟩ := H
    obtain ⟨ht22, H⟩ := H
    obtain ⟨hn21, H⟩ := H
    refine g_baload rfl ht22 ⟨rfl, by decide, hn21⟩ (pc' := 59) rfl ?_
    refine g_ic_ne rfl (pc' := 62) (pt := 66) rfl rfl ⟨fun hc => ?_, fun hc => ?_⟩
    · replace H := H.1 hc
      exact g_weak (show gm_Lle [some _, some _, some _, some _] _ from ⟨rfl, ⟨rfl, ⟨rfl, ⟨rfl, trivial⟩⟩⟩⟩) H
    · replace H := H.2 hc
      refine g_iconst rfl rfl rfl (pc' := 63) ?_
      refine g_goto rfl (pc' := 67) rfl ?_
      exact g_weak (show gm_Lle [some _, some _, some _, some _] _ from ⟨rfl, ⟨rfl, ⟨rfl, ⟨rfl, trivial⟩⟩⟩⟩) H
set_option maxRecDepth 20000 in
theorem w_630_66 {a0 : Nat} {x1 : Int32} {r_2 : Option Nat} {r_3 : Option Nat} {h : hh_T} {Q : Option Value ⊕ Nat → hh_T → Prop} (H : gm_G 630 67 [some (.ref a0), some (.int x1), some (va_rf r_2), some (va_rf r_3)] [.int (Int32.ofNat 0)] h Q) : gm_G 630 66 [some (.ref a0), some (.int x1), some (va_rf r_2), some (va_rf r_3)] [] h Q := by
  refine g_iconst rfl rfl rfl (pc' := 67) ?_
  exact g_weak (show gm_Lle [some _, some _, some _, some _] _ from ⟨rfl, ⟨rfl, ⟨rfl, ⟨rfl, trivial⟩⟩⟩⟩) H
set_option maxRecDepth 20000 in
theorem w_630_67 {a0 : Nat} {x1 : Int32} {r_2 : Option Nat} {r_3 : Option Nat} {y0 : Int32} {h : hh_T} {Q : Option Value ⊕ Nat → hh_T → Prop} (H : gm_sub (hh_tg h a0) 17 = true ∧ (∀ h2, h2 = hh_wr h a0 6 r_2 → (∀ h3, h3 = hh_wi h2 a0 7 (x1 + (Int32.ofNat 1)) → (∃ a4, r_3 = some a4 ∧ (gm_sub (hh_tg h3 a4) 12 = true ∧ (∀ h6, h6 = hh_wi h3 a4 1 (Int32.ofNat 0) → (∀ r7, r7 = hh_r h6 a0 6 → (∃ a8, r7 = some a8 ∧ (gm_sub (hh_tg h6 a8) 12 = true ∧ (∀ r10, r10 = hh_r h6 a8 0 → (∃ a11, r10 = some a11 ∧ ((hh_tg h6 a11 = 101 ∨ hh_tg h6 a11 = 102) ∧ (0 < hh_ln h6 a11 ∧ (hh_tg h6 a4 = 13 ∧ (gm_G 459 0 [some (.ref a4), some (.int (hh_i h6 a11 0))] [] h6 (pV (fun h15 => hh_tg h15 a4 = 13 ∧ (gm_G 459 0 [some (.ref a4), some (.int (Int32.ofNat 0))] [] h15 (pV (fun h17 => gm_G 630 104 [some (.ref a0), some (.int x1), some (va_rf r_2), some (.ref a4), some (.int y0)] [] h17 Q) (fun e18 h19 => hh_tg h19 e18 = 21 ∧ Q (.inr e18) h19)))) (fun e20 h21 => hh_tg h21 e20 = 21 ∧ Q (.inr e20) h21))))))))))))))))) : gm_G 630 67 [some (.ref a0), some (.int x1), some (va_rf r_2), some (va_rf r_3)] [.int y0] h Q := by
  refine g_istore rfl gm_sto_rf3 rfl (pc' := 69) ?_
  refine g_aload (r := some _) rfl rfl rfl (pc' := 70) ?_
  refine g_aload (r := _) rfl rfl rfl (pc' := 71) ?_
  obtain ⟨ht1, H⟩ := H
  refine g_putR rfl rfl rfl rfl ht1  (pc' := 74) rfl ?_
  replace H := H _ rfl
  refine g_aload (r := some _) rfl rfl rfl (pc' := 75) ?_
  refine g_iload rfl rfl rfl (pc' := 76) ?_
  refine g_iconst rfl rfl rfl (pc' := 77) ?_
  refine g_iadd rfl rfl (pc' := 78) ?_
  refine g_putI rfl rfl rfl rfl ht1  (pc' := 81) rfl ?_
  replace H := H _ rfl
  refine g_aload (r := _) rfl rfl rfl (pc' := 82) ?_
  refine g_iconst rfl rfl rfl (pc' := 83) ?_
  obtain ⟨a4, rfl, H⟩ := H
  obtain ⟨ht5, H⟩ := H
  refine g_putI rfl rfl rfl rfl ht5  (pc' := 86) rfl ?_
  replace H := H _ rfl
  refine g_aload (r := some _) rfl rfl rfl (pc' := 87) ?_
  refine g_aload (r := some _) rfl rfl rfl (pc' := 88) ?_
  refine g_getRv rfl rfl rfl rfl ht1 (pc' := 91) rfl (fun r7 hr7 => ?_)
  replace H := H r7 hr7
  obtain ⟨a8, rfl, H⟩ := H
  obtain ⟨ht9, H⟩ := H
  refine g_getRv rfl rfl rfl rfl ht9 (pc' := 94) rfl (fun r10 hr10 => ?_)
  replace H := H r10 hr10
  refine g_iconst rfl rfl rfl (pc' := 95) ?_
  obtain ⟨a11, rfl, H⟩ := H
  obtain ⟨ht13, H⟩ := H
  obtain ⟨hn12, H⟩ := H
  refine g_baload rfl ht13 ⟨rfl, by decide, hn12⟩ (pc' := 96) rfl ?_
  obtain ⟨ht14, H⟩ := H
  refine g_call rfl (y := 459) (n := 2) (pc' := 99) (g_vt ht14 rfl rfl) rfl rfl ⟨(Nat.le_of_ble_eq_true rfl), (Nat.le_of_ble_eq_true rfl), (Nat.le_of_ble_eq_true rfl)⟩ rfl (gm_G.mono H (pV_elim (fun h15 H' => ?_) (fun e20 h21 H => ?_)))
  · show gm_G _ 99 _ _ _ _
    replace H := H'
    clear H'
    refine g_aload (r := some _) rfl rfl rfl (pc' := 100) ?_
    refine g_iconst rfl rfl rfl (pc' := 101) ?_
    obtain ⟨ht16, H⟩ := H
    refine g_call rfl (y := 459) (n := 2) (pc' := 104) (g_vt ht16 rfl rfl) rfl rfl ⟨(Nat.le_of_ble_eq_true rfl), (Nat.le_of_ble_eq_true rfl), (Nat.le_of_ble_eq_true rfl)⟩ rfl (gm_G.mono H (pV_elim (fun h17 H' => ?_) (fun e18 h19 H => ?_)))
    · show gm_G _ 104 _ _ _ _
      replace H := H'
      clear H'
      exact g_weak (show gm_Lle [some _, some _, some _, some _, some _] _ from ⟨rfl, ⟨rfl, ⟨rfl, ⟨rfl, ⟨rfl, trivial⟩⟩⟩⟩⟩) H
    · exact H
  · exact H
set_option maxRecDepth 20000 in
theorem w_630_104 {a0 : Nat} {x1 : Int32} {r_2 : Option Nat} {r_3 : Option Nat} {x4 : Int32} {h : hh_T} {Q : Option Value ⊕ Nat → hh_T → Prop} (H : (¬ x4 = Int32.ofNat 0 → (gm_G 630 117 [some (.ref a0), some (.int x1), some (va_rf r_2), some (va_rf r_3), some (.int x4), some (.int (Int32.ofNat 0))] [.int (Int32.ofNat 0)] h Q)) ∧ (x4 = Int32.ofNat 0 → (gm_G 630 117 [some (.ref a0), some (.int x1), some (va_rf r_2), some (va_rf r_3), some (.int x4), some (.int (Int32.ofNat 0))] [.int (Int32.ofNat 1)] h Q))) : gm_G 630 104 [some (.ref a0), some (.int x1), some (va_rf r_2), some (va_rf r_3), some (.int x4)] [] h Q := by
  refine g_iconst rfl rfl rfl (pc' := 105) ?_
  refine g_istore rfl rfl rfl (pc' := 107) ?_
  refine g_iload rfl rfl rfl (pc' := 109) ?_
  refine g_if_ne rfl (pc' := 112) (pt := 116) rfl rfl ⟨fun hc => ?_, fun hc => ?_⟩
  · replace H := H.1 hc
    refine g_iconst rfl rfl rfl (pc' := 117) ?_
    exact g_weak (show gm_Lle [some _, some _, some _, some _, some _, some _] _ from ⟨rfl, ⟨rfl, ⟨rfl, ⟨rfl, ⟨rfl, ⟨rfl, trivial⟩⟩⟩⟩⟩⟩) H
  · replace H := H.2 hc
    refine g_iconst rfl rfl rfl (pc' := 113) ?_
    refine g_goto rfl (pc' := 117) rfl ?_
    exact g_weak (show gm_Lle [some _, some _, some _, some _, some _, some _] _ from ⟨rfl, ⟨rfl, ⟨rfl, ⟨rfl, ⟨rfl, ⟨rfl, trivial⟩⟩⟩⟩⟩⟩) H
set_option maxRecDepth 20000 in
theorem w_630_117 {a0 : Nat} {x1 : Int32} {r_2 : Option Nat} {r_3 : Option Nat} {x4 : Int32} {x5 : Int32} {y0 : Int32} {h : hh_T} {Q : Option Value ⊕ Nat → hh_T → Prop} (H : gm_G 431 0 [some (.int y0), some (.int (Int32.ofInt (-11)))] [] h (pV (fun h1 => gm_sub (hh_tg h1 a0) 17 = true ∧ (∀ r3, r3 = hh_r h1 a0 6 → (∃ a4, r3 = some a4 ∧ (hh_tg h1 a4 = 13 ∧ (gm_G 63 0 [some (.ref a4), some (.int (Int32.ofNat 1))] [] h1 (pI (fun v7 h6 => hh_tg h6 a0 = 18 ∧ (gm_G 629 0 [some (.ref a0), some (.int v7), some (va_rf r_3)] [] h6 (pV (fun h9 => gm_G 630 161 [some (.ref a0), some (.int x1), some (va_rf r_2), some (va_rf r_3), some (.int x4), some (.int x5)] [] h9 Q) (fun e10 h11 => hh_tg h11 e10 = 21 ∧ gm_G 630 138 [some (.ref a0), some (.int x1), some (va_rf r_2), some (va_rf r_3), some (.int x4)] [.ref e10] h11 Q)))) (fun e12 h13 => hh_tg h13 e12 = 21 ∧ gm_G 630 138 [some (.ref a0), some (.int x1), some (va_rf r_2), some (va_rf r_3), some (.int x4)] [.ref e12] h13 Q))))))) (fun e14 h15 => hh_tg h15 e14 = 21 ∧ gm_G 630 138 [some (.ref a0), some (.int x1), some (va_rf r_2), some (va_rf r_3), some (.int x4)] [.ref e14] h15 Q))) : gm_G 630 117 [some (.ref a0), some (.int x1), some (va_rf r_2), some (va_rf r_3), some (.int x4), some (.int x5)] [.int y0] h Q := by
  refine g_iconst rfl rfl rfl (pc' := 119) ?_
  refine g_call rfl (y := 431) (n := 2) (pc' := 122) (fun _ => rfl) rfl rfl ⟨(Nat.le_of_ble_eq_true rfl), (Nat.le_of_ble_eq_true rfl), (Nat.le_of_ble_eq_true rfl)⟩ rfl (gm_G.mono H (pV_elim (fun h1 H' => ?_) (fun e14 h15 H => ?_)))
  · show gm_G _ 122 _ _ _ _
    replace H := H'
    clear H'
    refine g_aload (r := some _) rfl rfl rfl (pc' := 123) ?_
    refine g_aload (r := some _) rfl rfl rfl (pc' := 124) ?_
    obtain ⟨ht2, H⟩ := H
    refine g_getRv rfl rfl rfl rfl ht2 (pc' := 127) rfl (fun r3 hr3 => ?_)
    replace H := H r3 hr3
    refine g_iconst rfl rfl rfl (pc' := 128) ?_
    obtain ⟨a4, rfl, H⟩ := H
    obtain ⟨ht5, H⟩ := H
    refine g_call rfl (y := 63) (n := 2) (pc' := 131) (g_vt ht5 rfl rfl) rfl rfl ⟨(Nat.le_of_ble_eq_true rfl), (Nat.le_of_ble_eq_true rfl), (Nat.le_of_ble_eq_true rfl)⟩ rfl (gm_G.mono H (pI_elim (fun v7 h6 H' => ?_) (fun e12 h13 H => ?_)))
    · show gm_G _ 131 _ _ _ _
      replace H := H'
      clear H'
      refine g_aload (r := _) rfl rfl rfl (pc' := 132) ?_
      obtain ⟨ht8, H⟩ := H
      refine g_call rfl (y := 629) (n := 3) (pc' := 135) (g_vt ht8 rfl rfl) (by cases r_3 <;> rfl) rfl ⟨(Nat.le_of_ble_eq_true rfl), (Nat.le_of_ble_eq_true rfl), (Nat.le_of_ble_eq_true rfl)⟩ rfl (gm_G.mono H (pV_elim (fun h9 H' => ?_) (fun e10 h11 H => ?_)))
      · show gm_G _ 135 _ _ _ _
        replace H := H'
        clear H'
        refine g_goto rfl (pc' := 161) rfl ?_
        exact g_weak (show gm_Lle [some _, some _, some _, some _, some _, some _] _ from ⟨rfl, ⟨rfl, ⟨rfl, ⟨rfl, ⟨rfl, ⟨rfl, trivial⟩⟩⟩⟩⟩⟩) H
      · exact ⟨H.1, g_weak (show gm_Lle [some _, some _, some _, some _, some _] _ from ⟨rfl, ⟨rfl, ⟨rfl, ⟨rfl, ⟨rfl, trivial⟩⟩⟩⟩⟩) H.2⟩
    · exact ⟨H.1, g_weak (show gm_Lle [some _, some _, some _, some _, some _] _ from ⟨rfl, ⟨rfl, ⟨rfl, ⟨rfl, ⟨rfl, trivial⟩⟩⟩⟩⟩) H.2⟩
  · exact ⟨H.1, g_weak (show gm_Lle [some _, some _, some _, some _, some _] _ from ⟨rfl, ⟨rfl, ⟨rfl, ⟨rfl, ⟨rfl, trivial⟩⟩⟩⟩⟩) H.2⟩
set_option maxRecDepth 20000 in
theorem w_630_138 {a0 : Nat} {x1 : Int32} {r_2 : Option Nat} {r_3 : Option Nat} {x4 : Int32} {ex : Nat} {h : hh_T} {Q : Option Value ⊕ Nat → hh_T → Prop} (H : gm_sub (hh_tg h ex) 20 = true ∧ ((¬ (hh_i h ex 0) = (Int32.ofInt (-12)) → (gm_G 630 161 [some (.ref a0), some (.int x1), some (va_rf r_2), some (va_rf r_3), some (.int x4), some (.int (-(hh_i h ex 0)))] [] h Q)) ∧ ((hh_i h ex 0) = (Int32.ofInt (-12)) → (hh_tg h ex = 21 ∧ Q (.inr ex) h)))) : gm_G 630 138 [some (.ref a0), some (.int x1), some (va_rf r_2), some (va_rf r_3), some (.int x4)] [.ref ex] h Q := by
  refine g_astore (r := some _) rfl rfl rfl (pc' := 140) ?_
  refine g_aload (r := some _) rfl rfl rfl (pc' := 142) ?_
  obtain ⟨ht1, H⟩ := H
  refine g_getI rfl rfl rfl rfl ht1 (pc' := 145) rfl ?_
  refine g_iconst rfl rfl rfl (pc' := 147) ?_
  refine g_ic_ne rfl (pc' := 150) (pt := 153) rfl rfl ⟨fun hc => ?_, fun hc => ?_⟩
  · replace H := H.1 hc
    refine g_aload (r := some _) rfl rfl rfl (pc' := 155) ?_
    refine g_getI rfl rfl rfl rfl ht1 (pc' := 158) rfl ?_
    refine g_ineg rfl rfl (pc' := 159) ?_
    refine g_istore rfl rfl rfl (pc' := 161) ?_
    exact g_weak (show gm_Lle [some _, some _, some _, some _, some _, some _] _ from ⟨rfl, ⟨rfl, ⟨rfl, ⟨rfl, ⟨rfl, ⟨rfl, trivial⟩⟩⟩⟩⟩⟩) H
  · replace H := H.2 hc
    refine g_aload (r := some _) rfl rfl rfl (pc' := 152) ?_
    exact g_throw rfl H.1 rfl H.2
set_option maxRecDepth 20000 in
theorem w_630_161 {a0 : Nat} {x1 : Int32} {r_2 : Option Nat} {r_3 : Option Nat} {x4 : Int32} {x5 : Int32} {h : hh_T} {Q : Option Value ⊕ Nat → hh_T → Prop} (H : (x5 = Int32.ofNat 0 → (gm_G 630 180 [some (.ref a0), some (.int x1), some (va_rf r_2), some (va_rf r_3), some (.int x4)] [] h Q)) ∧ (¬ x5 = Int32.ofNat 0 → (∃ a1, r_3 = some a1 ∧ (gm_sub (hh_tg h a1) 12 = true ∧ (∀ h3, h3 = hh_wi h a1 1 (Int32.ofNat 2) → (∀ r4, r4 = hh_r h3 a1 0 → (∃ a5, r4 = some a5 ∧ (hh_tg h3 a5 = 101 ∧ (1 < hh_ln h3 a5 ∧ (∀ h7, h7 = hh_wi h3 a5 1 ((x5.toInt8.toInt32).toInt8.toInt32) → (gm_G 630 180 [some (.ref a0), some (.int x1), some (va_rf r_2), some (.ref a1), some (.int x4)] [] h7 Q))))))))))) : gm_G 630 161 [some (.ref a0), some (.int x1), some (va_rf r_2), some (va_rf r_3), some (.int x4), some (.int x5)] [] h Q := by
  refine g_iload rfl rfl rfl (pc' := 163) ?_
  refine g_if_eq rfl (pc' := 166) (pt := 180) rfl rfl ⟨fun hc => ?_, fun hc => ?_⟩
  · replace H := H.1 hc
    exact g_weak (show gm_Lle [some _, some _, some _, some _, some _] _ from ⟨rfl, ⟨rfl, ⟨rfl, ⟨rfl, ⟨rfl, trivial⟩⟩⟩⟩⟩) H
  · replace H := H.2 hc
    refine g_aload (r := _) rfl rfl rfl (pc' := 167) ?_
    refine g_iconst rfl rfl rfl (pc' := 168) ?_
    obtain ⟨a1, rfl, H⟩ := H
    obtain ⟨ht2, H⟩ := H
    refine g_putI rfl rfl rfl rfl ht2  (pc' := 171) rfl ?_
    replace H := H _ rfl
    refine g_aload (r := some _) rfl rfl rfl (pc' := 172) ?_
    refine g_getRv rfl rfl rfl rfl ht2 (pc' := 175) rfl (fun r4 hr4 => ?_)
    replace H := H r4 hr4
    refine g_iconst rfl rfl rfl (pc' := 176) ?_
    refine g_iload rfl rfl rfl (pc' := 178) ?_
    refine g_i2b rfl rfl (pc' := 179) ?_
    obtain ⟨a5, rfl, H⟩ := H
    obtain ⟨ht8, H⟩ := H
    obtain ⟨hn6, H⟩ := H
    refine g_bastore rfl ht8 ⟨rfl, by decide, hn6⟩  (pc' := 180) rfl ?_
    replace H := H _ rfl
    exact g_weak (show gm_Lle [some _, some _, some _, some _, some _] _ from ⟨rfl, ⟨rfl, ⟨rfl, ⟨rfl, ⟨rfl, trivial⟩⟩⟩⟩⟩) H
set_option maxRecDepth 20000 in
theorem w_630_180 {a0 : Nat} {x1 : Int32} {r_2 : Option Nat} {r_3 : Option Nat} {x4 : Int32} {h : hh_T} {Q : Option Value ⊕ Nat → hh_T → Prop} (H : (x4 = Int32.ofNat 0 → (gm_sub (hh_tg h a0) 17 = true ∧ (∀ r2, r2 = hh_r h a0 2 → (∃ a3, r2 = some a3 ∧ (hh_tg h a3 = 102 ∧ (∃ n4, gm_ix x1 n4 (hh_ln h a3) ∧ (∀ h5, h5 = hh_wi h a3 n4 (Int32.ofNat 1) → (∀ r6, r6 = hh_r h5 a0 0 → (∃ a7, r6 = some a7 ∧ ((hh_tg h5 a7 = 104 ∨ 200 ≤ hh_tg h5 a7) ∧ (∃ n8, gm_ix x1 n8 (hh_ln h5 a7) ∧ (∀ r10, r10 = hh_r h5 a7 n8 → (∃ a11, r10 = some a11 ∧ (hh_tg h5 a11 = 13 ∧ (gm_G 65 0 [some (.ref a11), some (va_rf r_2)] [] h5 (pV (fun h13 => gm_sub (hh_tg h13 a0) 17 = true ∧ (∀ r15, r15 = hh_r h13 a0 1 → (∃ a16, r15 = some a16 ∧ ((hh_tg h13 a16 = 104 ∨ 200 ≤ hh_tg h13 a16) ∧ (∃ n17, gm_ix x1 n17 (hh_ln h13 a16) ∧ (∀ r19, r19 = hh_r h13 a16 n17 → (∃ a20, r19 = some a20 ∧ (hh_tg h13 a20 = 13 ∧ (gm_G 65 0 [some (.ref a20), some (va_rf r_3)] [] h13 (pV (fun h22 => Q (.inl none) h22) (fun e23 h24 => hh_tg h24 e23 = 21 ∧ Q (.inr e23) h24))))))))))) (fun e25 h26 => hh_tg h26 e25 = 21 ∧ Q (.inr e25) h26))))))))))))))))) ∧ (¬ x4 = Int32.ofNat 0 → (Q (.inl none) h))) : gm_G 630 180 [some (.ref a0), some (.int x1), some (va_rf r_2), some (va_rf r_3), some (.int x4)] [] h Q := by
  refine g_iload rfl rfl rfl (pc' := 182) ?_
  refine g_if_eq rfl (pc' := 185) (pt := 186) rfl rfl ⟨fun hc => ?_, fun hc => ?_⟩
  · replace H := H.1 hc
    refine g_aload (r := some _) rfl rfl rfl (pc' := 187) ?_
    obtain ⟨ht1, H⟩ := H
    refine g_getRv rfl rfl rfl rfl ht1 (pc' := 190) rfl (fun r2 hr2 => ?_)
    replace H := H r2 hr2
    refine g_iload rfl rfl rfl (pc' := 191) ?_
    refine g_iconst rfl rfl rfl (pc' := 192) ?_
    obtain ⟨a3, rfl, H⟩ := H
    obtain ⟨ht27, H⟩ := H
    obtain ⟨n4, hn4, H⟩ := H
    refine g_zastore rfl ht27 hn4 (by decide) (pc' := 193) rfl ?_
    replace H := H _ rfl
    refine g_aload (r := some _) rfl rfl rfl (pc' := 194) ?_
    refine g_getRv rfl rfl rfl rfl ht1 (pc' := 197) rfl (fun r6 hr6 => ?_)
    replace H := H r6 hr6
    refine g_iload rfl rfl rfl (pc' := 198) ?_
    obtain ⟨a7, rfl, H⟩ := H
    obtain ⟨ht9, H⟩ := H
    obtain ⟨n8, hn8, H⟩ := H
    refine g_aaloadv rfl ht9 hn8 (pc' := 199) rfl (fun r10 hr10 => ?_)
    replace H := H r10 hr10
    refine g_aload (r := _) rfl rfl rfl (pc' := 200) ?_
    obtain ⟨a11, rfl, H⟩ := H
    obtain ⟨ht12, H⟩ := H
    refine g_call rfl (y := 65) (n := 2) (pc' := 203) (g_vt ht12 rfl rfl) (by cases r_2 <;> rfl) rfl ⟨(Nat.le_of_ble_eq_true rfl), (Nat.le_of_ble_eq_true rfl), (Nat.le_of_ble_eq_true rfl)⟩ rfl (gm_G.mono H (pV_elim (fun h13 H' => ?_) (fun e25 h26 H => ?_)))
    · show gm_G _ 203 _ _ _ _
      replace H := H'
      clear H'
      refine g_aload (r := some _) rfl rfl rfl (pc' := 204) ?_
      obtain ⟨ht14, H⟩ := H
      refine g_getRv rfl rfl rfl rfl ht14 (pc' := 207) rfl (fun r15 hr15 => ?_)
      replace H := H r15 hr15
      refine g_iload rfl rfl rfl (pc' := 208) ?_
      obtain ⟨a16, rfl, H⟩ := H
      obtain ⟨ht18, H⟩ := H
      obtain ⟨n17, hn17, H⟩ := H
      refine g_aaloadv rfl ht18 hn17 (pc' := 209) rfl (fun r19 hr19 => ?_)
      replace H := H r19 hr19
      refine g_aload (r := _) rfl rfl rfl (pc' := 210) ?_
      obtain ⟨a20, rfl, H⟩ := H
      obtain ⟨ht21, H⟩ := H
      refine g_call rfl (y := 65) (n := 2) (pc' := 213) (g_vt ht21 rfl rfl) (by cases r_3 <;> rfl) rfl ⟨(Nat.le_of_ble_eq_true rfl), (Nat.le_of_ble_eq_true rfl), (Nat.le_of_ble_eq_true rfl)⟩ rfl (gm_G.mono H (pV_elim (fun h22 H' => ?_) (fun e23 h24 H => ?_)))
      · show gm_G _ 213 _ _ _ _
        replace H := H'
        clear H'
        exact g_return rfl H
      · exact H
    · exact H
  · replace H := H.2 hc
    exact g_return rfl H
set_option maxRecDepth 20000 in
theorem w_631_0 {a0 : Nat} {x1 : Int32} {h : hh_T} {Q : Option Value ⊕ Nat → hh_T → Prop} (H : hh_tg h a0 = 1 ∧ (gm_G 243 0 [some (.ref a0)] [] h (pV (fun h2 => hh_tg h2 a0 = 1 ∧ (gm_G 456 0 [some (.ref a0)] [] h2 (pV (fun h4 => gm_G 5 0 [some (.int x1), some (.int (Int32.ofNat 0)), some (.int (Int32.ofNat 3))] [] h4 (pI (fun v6 h5 => gm_G 452 0 [some (.int v6)] [] h5 (pV (fun h7 => gm_sub (hh_tg h7 a0) 0 = true ∧ (∀ r9, r9 = hh_r h7 a0 58 → (∃ a10, r9 = some a10 ∧ (gm_sub (hh_tg h7 a10) 12 = true ∧ (((hh_i h7 a10 1) < (Int32.ofNat 2) → (gm_G 631 33 [some (.ref a0), some (.int x1)] [.int (Int32.ofNat 0)] h7 Q)) ∧ (¬ (hh_i h7 a10 1) < (Int32.ofNat 2) → (gm_G 631 33 [some (.ref a0), some (.int x1)] [.int (Int32.ofNat 1)] h7 Q))))))) (fun e12 h13 => hh_tg h13 e12 = 21 ∧ gm_G 631 75 [some (.ref a0)] [.ref e12] h13 Q))) (fun e14 h15 => hh_tg h15 e14 = 21 ∧ gm_G 631 75 [some (.ref a0)] [.ref e14] h15 Q))) (fun e16 h17 => hh_tg h17 e16 = 21 ∧ gm_G 631 75 [some (.ref a0)] [.ref e16] h17 Q)))) (fun e18 h19 => hh_tg h19 e18 = 21 ∧ Q (.inr e18) h19)))) : gm_G 631 0 [some (.ref a0), some (.int x1)] [] h Q := by
  refine g_aload (r := some _) rfl rfl rfl (pc' := 1) ?_
  obtain ⟨ht1, H⟩ := H
  refine g_call rfl (y := 243) (n := 1) (pc' := 4) (g_vt ht1 rfl rfl) rfl rfl ⟨(Nat.le_of_ble_eq_true rfl), (Nat.le_of_ble_eq_true rfl), (Nat.le_of_ble_eq_true rfl)⟩ rfl (gm_G.mono H (pV_elim (fun h2 H' => ?_) (fun e18 h19 H => ?_)))
  · show gm_G _ 4 _ _ _ _
    replace H := H'
    clear H'
    refine g_aload (r := some _) rfl rfl rfl (pc' := 5) ?_
    obtain ⟨ht3, H⟩ := H
    refine g_call rfl (y := 456) (n := 1) (pc' := 8) (g_vt ht3 rfl rfl) rfl rfl ⟨(Nat.le_of_ble_eq_true rfl), (Nat.le_of_ble_eq_true rfl), (Nat.le_of_ble_eq_true rfl)⟩ rfl (gm_G.mono H (pV_elim (fun h4 H' => ?_) (fun e16 h17 H => ?_)))
    · show gm_G _ 8 _ _ _ _
      replace H := H'
      clear H'
      refine g_iload rfl rfl rfl (pc' := 9) ?_
      refine g_iconst rfl rfl rfl (pc' := 10) ?_
      refine g_iconst rfl rfl rfl (pc' := 11) ?_
      refine g_call rfl (y := 5) (n := 3) (pc' := 14) (fun _ => rfl) rfl rfl ⟨(Nat.le_of_ble_eq_true rfl), (Nat.le_of_ble_eq_true rfl), (Nat.le_of_ble_eq_true rfl)⟩ rfl (gm_G.mono H (pI_elim (fun v6 h5 H' => ?_) (fun e14 h15 H => ?_)))
      · show gm_G _ 14 _ _ _ _
        replace H := H'
        clear H'
        refine g_call rfl (y := 452) (n := 1) (pc' := 17) (fun _ => rfl) rfl rfl ⟨(Nat.le_of_ble_eq_true rfl), (Nat.le_of_ble_eq_true rfl), (Nat.le_of_ble_eq_true rfl)⟩ rfl (gm_G.mono H (pV_elim (fun h7 H' => ?_) (fun e12 h13 H => ?_)))
        · show gm_G _ 17 _ _ _ _
          replace H := H'
          clear H'
          refine g_aload (r := some _) rfl rfl rfl (pc' := 18) ?_
          obtain ⟨ht8, H⟩ := H
          refine g_getRv rfl rfl rfl rfl ht8 (pc' := 21) rfl (fun r9 hr9 => ?_)
          replace H := H r9 hr9
          obtain ⟨a10, rfl, H⟩ := H
          obtain ⟨ht11, H⟩ := H
          refine g_getI rfl rfl rfl rfl ht11 (pc' := 24) rfl ?_
          refine g_iconst rfl rfl rfl (pc' := 25) ?_
          refine g_ic_lt rfl (pc' := 28) (pt := 32) rfl rfl ⟨fun hc => ?_, fun hc => ?_⟩
          · replace H := H.1 hc
            refine g_iconst rfl rfl rfl (pc' := 33) ?_
            exact g_weak (show gm_Lle [some _, some _] _ from ⟨rfl, ⟨rfl, trivial⟩⟩) H
          · replace H := H.2 hc
            refine g_iconst rfl rfl rfl (pc' := 29) ?_
            refine g_goto rfl (pc' := 33) rfl ?_
            exact g_weak (show gm_Lle [some _, some _] _ from ⟨rfl, ⟨rfl, trivial⟩⟩) H
        · exact ⟨H.1, g_weak (show gm_Lle [some _] _ from ⟨rfl, trivial⟩) H.2⟩
      · exact ⟨H.1, g_weak (show gm_Lle [some _] _ from ⟨rfl, trivial⟩) H.2⟩
    · exact ⟨H.1, g_weak (show gm_Lle [some _] _ from ⟨rfl, trivial⟩) H.2⟩
  · exact H
set_option maxRecDepth 20000 in
theorem w_631_33 {a0 : Nat} {x1 : Int32} {y0 : Int32} {h : hh_T} {Q : Option Value ⊕ Nat → hh_T → Prop} (H : gm_G 457 0 [some (.int y0)] [] h (pV (fun h1 => gm_sub (hh_tg h1 a0) 0 = true ∧ (∀ r3, r3 = hh_r h1 a0 56 → (∀ r4, r4 = hh_r h1 a0 58 → (∀ r5, r5 = hh_r h1 a0 60 → (∃ a6, r3 = some a6 ∧ (hh_tg h1 a6 = 18 ∧ (gm_G 630 0 [some (.ref a6), some (.int x1), some (va_rf r4), some (va_rf r5)] [] h1 (pV (fun h8 => gm_sub (hh_tg h8 a0) 0 = true ∧ (∀ r10, r10 = hh_r h8 a0 59 → (∀ r11, r11 = hh_r h8 a0 60 → (∃ a12, r10 = some a12 ∧ (hh_tg h8 a12 = 13 ∧ (gm_G 65 0 [some (.ref a12), some (va_rf r11)] [] h8 (pV (fun h14 => gm_sub (hh_tg h14 a0) 0 = true ∧ (∀ r16, r16 = hh_r h14 a0 59 → (∃ a17, r16 = some a17 ∧ (gm_sub (hh_tg h14 a17) 12 = true ∧ (hh_tg h14 a0 = 1 ∧ (gm_G 4 0 [some (.ref a0), some (.int (hh_i h14 a17 1))] [] h14 (pI (fun v21 h20 => Q (.inl (some (.int v21))) h20) (fun e22 h23 => hh_tg h23 e22 = 21 ∧ gm_G 631 75 [some (.ref a0)] [.ref e22] h23 Q)))))))) (fun e24 h25 => hh_tg h25 e24 = 21 ∧ gm_G 631 75 [some (.ref a0)] [.ref e24] h25 Q)))))))) (fun e26 h27 => hh_tg h27 e26 = 21 ∧ gm_G 631 75 [some (.ref a0)] [.ref e26] h27 Q))))))))) (fun e28 h29 => hh_tg h29 e28 = 21 ∧ gm_G 631 75 [some (.ref a0)] [.ref e28] h29 Q))) : gm_G 631 33 [some (.ref a0), some (.int x1)] [.int y0] h Q := by
  refine g_call rfl (y := 457) (n := 1) (pc' := 36) (fun _ => rfl) rfl rfl ⟨(Nat.le_of_ble_eq_true rfl), (Nat.le_of_ble_eq_true rfl), (Nat.le_of_ble_eq_true rfl)⟩ rfl (gm_G.mono H (pV_elim (fun h1 H' => ?_) (fun e28 h29 H => ?_)))
  · show gm_G _ 36 _ _ _ _
    replace H := H'
    clear H'
    refine g_aload (r := some _) rfl rfl rfl (pc' := 37) ?_
    obtain ⟨ht2, H⟩ := H
    refine g_getRv rfl rfl rfl rfl ht2 (pc' := 40) rfl (fun r3 hr3 => ?_)
    replace H := H r3 hr3
    refine g_iload rfl rfl rfl (pc' := 41) ?_
    refine g_aload (r := some _) rfl rfl rfl (pc' := 42) ?_
    refine g_getRv rfl rfl rfl rfl ht2 (pc' := 45) rfl (fun r4 hr4 => ?_)
    replace H := H r4 hr4
    refine g_aload (r := some _) rfl rfl rfl (pc' := 46) ?_
    refine g_getRv rfl rfl rfl rfl ht2 (pc' := 49) rfl (fun r5 hr5 => ?_)
    replace H := H r5 hr5
    obtain ⟨a6, rfl, H⟩ := H
    obtain ⟨ht7, H⟩ := H
    refine g_call rfl (y := 630) (n := 4) (pc' := 52) (g_vt ht7 rfl rfl) (by cases r4 <;> cases r5 <;> rfl) rfl ⟨(Nat.le_of_ble_eq_true rfl), (Nat.le_of_ble_eq_true rfl), (Nat.le_of_ble_eq_true rfl)⟩ rfl (gm_G.mono H (pV_elim (fun h8 H' => ?_) (fun e26 h27 H => ?_)))
    · show gm_G _ 52 _ _ _ _
      replace H := H'
      clear H'
      refine g_aload (r := some _) rfl rfl rfl (pc' := 53) ?_
      obtain ⟨ht9, H⟩ := H
      refine g_getRv rfl rfl rfl rfl ht9 (pc' := 56) rfl (fun r10 hr10 => ?_)
      replace H := H r10 hr10
      refine g_aload (r := some _) rfl rfl rfl (pc' := 57) ?_
      refine g_getRv rfl rfl rfl rfl ht9 (pc' := 60) rfl (fun r11 hr11 => ?_)
      replace H := H r11 hr11
      obtain ⟨a12, rfl, H⟩ := H
      obtain ⟨ht13, H⟩ := H
      refine g_call rfl (y := 65) (n := 2) (pc' := 63) (g_vt ht13 rfl rfl) (by cases r11 <;> rfl) rfl ⟨(Nat.le_of_ble_eq_true rfl), (Nat.le_of_ble_eq_true rfl), (Nat.le_of_ble_eq_true rfl)⟩ rfl (gm_G.mono H (pV_elim (fun h14 H' => ?_) (fun e24 h25 H => ?_)))
      · show gm_G _ 63 _ _ _ _
        replace H := H'
        clear H'
        refine g_aload (r := some _) rfl rfl rfl (pc' := 64) ?_
        refine g_aload (r := some _) rfl rfl rfl (pc' := 65) ?_
        obtain ⟨ht15, H⟩ := H
        refine g_getRv rfl rfl rfl rfl ht15 (pc' := 68) rfl (fun r16 hr16 => ?_)
        replace H := H r16 hr16
        obtain ⟨a17, rfl, H⟩ := H
        obtain ⟨ht18, H⟩ := H
        refine g_getI rfl rfl rfl rfl ht18 (pc' := 71) rfl ?_
        obtain ⟨ht19, H⟩ := H
        refine g_call rfl (y := 4) (n := 2) (pc' := 74) (g_vt ht19 rfl rfl) rfl rfl ⟨(Nat.le_of_ble_eq_true rfl), (Nat.le_of_ble_eq_true rfl), (Nat.le_of_ble_eq_true rfl)⟩ rfl (gm_G.mono H (pI_elim (fun v21 h20 H' => ?_) (fun e22 h23 H => ?_)))
        · show gm_G _ 74 _ _ _ _
          replace H := H'
          clear H'
          exact g_ireturn rfl (Or.inl rfl) H
        · exact ⟨H.1, g_weak (show gm_Lle [some _] _ from ⟨rfl, trivial⟩) H.2⟩
      · exact ⟨H.1, g_weak (show gm_Lle [some _] _ from ⟨rfl, trivial⟩) H.2⟩
    · exact ⟨H.1, g_weak (show gm_Lle [some _] _ from ⟨rfl, trivial⟩) H.2⟩
  · exact ⟨H.1, g_weak (show gm_Lle [some _] _ from ⟨rfl, trivial⟩) H.2⟩
set_option maxRecDepth 20000 in
theorem w_631_75 {a0 : Nat} {ex : Nat} {h : hh_T} {Q : Option Value ⊕ Nat → hh_T → Prop} (H : hh_tg h a0 = 1 ∧ (gm_G 1 0 [some (.ref a0), some (.ref ex)] [] h (pI (fun v3 h2 => Q (.inl (some (.int v3))) h2) (fun e4 h5 => hh_tg h5 e4 = 21 ∧ Q (.inr e4) h5)))) : gm_G 631 75 [some (.ref a0)] [.ref ex] h Q := by
  refine g_astore (r := some _) rfl rfl rfl (pc' := 76) ?_
  refine g_aload (r := some _) rfl rfl rfl (pc' := 77) ?_
  refine g_aload (r := some _) rfl rfl rfl (pc' := 78) ?_
  obtain ⟨ht1, H⟩ := H
  refine g_call rfl (y := 1) (n := 2) (pc' := 81) (g_vt ht1 rfl rfl) rfl rfl ⟨(Nat.le_of_ble_eq_true rfl), (Nat.le_of_ble_eq_true rfl), (Nat.le_of_ble_eq_true rfl)⟩ rfl (gm_G.mono H (pI_elim (fun v3 h2 H' => ?_) (fun e4 h5 H => ?_)))
  · show gm_G _ 81 _ _ _ _
    replace H := H'
    clear H'
    exact g_ireturn rfl (Or.inl rfl) H
  · exact H
