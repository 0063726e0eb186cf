/-! STAGE 2, 5: the twin, label by label (printed) -/
theorem w_88_0 {m : Nat} {x1 : Int32} {x2 : Int32} {b3 : Nat} {x4 : Int32} {x5 : Int32} {h : hh_T} {Q : Option Value ⊕ Nat → hh_T → Prop} (hT : tw_ok h m) (H : ∃ n1, gm_ix x1 n1 1536 ∧ (∃ n2, gm_ix (((Int32.ofNat 8) * x1) + (hh_i h (m + 45) n1)) n2 12288 ∧ (∀ h3, h3 = hh_wi h (m + 53) n2 x2 → (∃ n4, gm_ix (((Int32.ofNat 8) * x1) + (hh_i h (m + 45) n1)) n4 12288 ∧ (∀ h5, h5 = hh_wi h3 (m + 54) n4 x5 → (gm_G 88 33 [some (.ref m), some (.int x1), none, some (.ref b3), some (.int x4), some (.int x5), some (.int (((Int32.ofNat 8) * x1) + (hh_i h (m + 45) n1))), some (.int (Int32.ofNat 0))] [] h5 Q)))))) : gm_G 88 0 [some (.ref m), some (.int x1), some (.int x2), some (.ref b3), some (.int x4), some (.int x5)] [] h Q := by
  refine g_iconst rfl rfl rfl (pc' := 2) ?_
  refine g_iload rfl rfl rfl (pc' := 3) ?_
  refine g_imul rfl rfl (pc' := 4) ?_
  refine g_aload (r := some _) rfl rfl rfl (pc' := 5) ?_
  refine t_get (o := 45) rfl hT rfl rfl rfl (pc' := 8) rfl ?_
  refine g_iload rfl rfl rfl (pc' := 9) ?_
  obtain ⟨n1, hn1, H⟩ := H
  refine t_iaload hT (o := 45) (l := 1536) rfl rfl rfl hn1 (pc' := 10) rfl ?_
  refine g_iadd rfl rfl (pc' := 11) ?_
  refine g_istore rfl rfl rfl (pc' := 13) ?_
  refine g_aload (r := some _) rfl rfl rfl (pc' := 14) ?_
  refine t_get (o := 53) rfl hT rfl rfl rfl (pc' := 17) rfl ?_
  refine g_iload rfl rfl rfl (pc' := 19) ?_
  refine g_iload rfl rfl rfl (pc' := 20) ?_
  obtain ⟨n2, hn2, H⟩ := H
  refine t_iastore hT (o := 53) (l := 12288) rfl rfl rfl hn2  (pc' := 21) rfl (fun hT => ?_)
  have H := H _ rfl
  refine g_aload (r := some _) rfl rfl rfl (pc' := 22) ?_
  refine t_get (o := 54) rfl hT rfl rfl rfl (pc' := 25) rfl ?_
  refine g_iload rfl rfl rfl (pc' := 27) ?_
  refine g_iload rfl rfl rfl (pc' := 29) ?_
  obtain ⟨n4, hn4, H⟩ := H
  refine t_iastore hT (o := 54) (l := 12288) rfl rfl rfl hn4  (pc' := 30) rfl (fun hT => ?_)
  have H := H _ rfl
  refine g_iconst rfl rfl rfl (pc' := 31) ?_
  refine g_istore rfl rfl rfl (pc' := 33) ?_
  exact g_weak (show gm_Lle [some _, some _, none, some _, some _, some _, some _, some _] _ from ⟨rfl, ⟨rfl, ⟨rfl, ⟨rfl, ⟨rfl, ⟨rfl, ⟨rfl, trivial⟩⟩⟩⟩⟩⟩⟩) H
theorem w_88_33 {m : Nat} {x1 : Int32} {b3 : Nat} {x4 : Int32} {x5 : Int32} {x6 : Int32} {x7 : Int32} {h : hh_T} {Q : Option Value ⊕ Nat → hh_T → Prop} (hT : tw_ok h m) (H : (¬ x7 < x5 → (∃ n1, gm_ix x1 n1 1536 ∧ (∃ n2, gm_ix x1 n2 1536 ∧ (∀ h3, h3 = hh_wi h (m + 45) n2 ((hh_i h (m + 45) n1) + (Int32.ofNat 1)) → (Q (.inl none) h3))))) ∧ (x7 < x5 → ((hh_tg h b3 = 101 ∨ hh_tg h b3 = 102) ∧ (∃ n4, gm_ix (x4 + x7) n4 (hh_ln h b3) ∧ (∃ n6, gm_ix (((Int32.ofNat 8) * x6) + x7) n6 98304 ∧ (∀ h7, h7 = hh_wi h (m + 56) n6 ((hh_i h b3 n4).toInt8.toInt32) → (gm_G 88 33 [some (.ref m), some (.int x1), none, some (.ref b3), some (.int x4), some (.int x5), some (.int x6), some (.int (x7 + (Int32.ofNat 1)))] [] h7 Q))))))) : gm_G 88 33 [some (.ref m), some (.int x1), none, some (.ref b3), some (.int x4), some (.int x5), some (.int x6), some (.int x7)] [] h Q := by
  refine g_iload rfl rfl rfl (pc' := 35) ?_
  refine g_iload rfl rfl rfl (pc' := 37) ?_
  refine g_ic_ge rfl (pc' := 40) (pt := 66) rfl rfl ⟨fun hc => ?_, fun hc => ?_⟩
  · have H := H.1 hc
    refine g_aload (r := some _) rfl rfl rfl (pc' := 67) ?_
    refine t_get (o := 45) rfl hT rfl rfl rfl (pc' := 70) rfl ?_
    refine g_iload rfl rfl rfl (pc' := 71) ?_
    refine g_dup2_a rfl (pc' := 72) rfl ?_
    obtain ⟨n1, hn1, H⟩ := H
    refine t_iaload hT (o := 45) (l := 1536) rfl rfl rfl hn1 (pc' := 73) rfl ?_
    refine g_iconst rfl rfl rfl (pc' := 74) ?_
    refine g_iadd rfl rfl (pc' := 75) ?_
    obtain ⟨n2, hn2, H⟩ := H
    refine t_iastore hT (o := 45) (l := 1536) rfl rfl rfl hn2  (pc' := 76) rfl (fun hT => ?_)
    have H := H _ rfl
    exact g_return rfl H
  · have H := H.2 hc
    refine g_aload (r := some _) rfl rfl rfl (pc' := 41) ?_
    refine t_get (o := 56) rfl hT rfl rfl rfl (pc' := 44) rfl ?_
    refine g_iconst rfl rfl rfl (pc' := 46) ?_
    refine g_iload rfl rfl rfl (pc' := 48) ?_
    refine g_imul rfl rfl (pc' := 49) ?_
    refine g_iload rfl rfl rfl (pc' := 51) ?_
    refine g_iadd rfl rfl (pc' := 52) ?_
    refine g_aload (r := some _) rfl rfl rfl (pc' := 53) ?_
    refine g_iload rfl rfl rfl (pc' := 55) ?_
    refine g_iload rfl rfl rfl (pc' := 57) ?_
    refine g_iadd rfl rfl (pc' := 58) ?_
    obtain ⟨ht5, H⟩ := H
    obtain ⟨n4, hn4, H⟩ := H
    refine g_baload rfl ht5 hn4 (pc' := 59) rfl ?_
    obtain ⟨n6, hn6, H⟩ := H
    refine t_bastore hT (o := 56) (l := 98304) rfl rfl rfl hn6  (pc' := 60) rfl (fun hT => ?_)
    have H := H _ rfl
    refine g_iinc (c := (Int32.ofNat 1)) rfl rfl rfl rfl rfl (pc' := 63) ?_
    refine g_goto rfl (pc' := 33) rfl ?_
    exact g_weak (show gm_Lle [some _, some _, none, some _, some _, some _, some _, some _] _ from ⟨rfl, ⟨rfl, ⟨rfl, ⟨rfl, ⟨rfl, ⟨rfl, ⟨rfl, trivial⟩⟩⟩⟩⟩⟩⟩) H
theorem w_89_0 {m : Nat} {x1 : Int32} {h : hh_T} {Q : Option Value ⊕ Nat → hh_T → Prop} (hT : tw_ok h m) (H : ∀ h1, h1 = hh_wi h m 154 ((hh_i h m 154) + (Int32.ofNat 1)) → (∃ n2, gm_ix (hh_i h m 154) n2 512 ∧ (∀ h3, h3 = hh_wi h1 (m + 121) n2 ((x1.toInt8.toInt32).toInt8.toInt32) → (Q (.inl none) h3)))) : gm_G 89 0 [some (.ref m), some (.int x1)] [] h Q := by
  refine g_aload (r := some _) rfl rfl rfl (pc' := 1) ?_
  refine t_get (o := 121) rfl hT rfl rfl rfl (pc' := 4) rfl ?_
  refine g_aload (r := some _) rfl rfl rfl (pc' := 5) ?_
  refine g_dup_a (r := some _) rfl rfl (pc' := 6) ?_
  refine t_getI rfl hT rfl rfl (pc' := 9) rfl ?_
  refine g_dup_x1_i rfl (pc' := 10) rfl ?_
  refine g_iconst rfl rfl rfl (pc' := 11) ?_
  refine g_iadd rfl rfl (pc' := 12) ?_
  refine t_putI rfl hT rfl rfl  (pc' := 15) rfl (fun hT => ?_)
  have H := H _ rfl
  refine g_iload rfl rfl rfl (pc' := 16) ?_
  refine g_i2b rfl rfl (pc' := 17) ?_
  obtain ⟨n2, hn2, H⟩ := H
  refine t_bastore hT (o := 121) (l := 512) rfl rfl rfl hn2  (pc' := 18) rfl (fun hT => ?_)
  have H := H _ rfl
  exact g_return rfl H
theorem w_90_0 {m : Nat} {x1 : Int32} {h : hh_T} {Q : Option Value ⊕ Nat → hh_T → Prop} (hT : tw_ok h m) (H : gm_G 90 4 [some (.ref m), some (.int x1), some (.int (Int32.ofInt (-1))), some (.int (Int32.ofNat 0))] [] h Q) : gm_G 90 0 [some (.ref m), some (.int x1)] [] h Q := by
  refine g_iconst rfl rfl rfl (pc' := 1) ?_
  refine g_istore rfl rfl rfl (pc' := 2) ?_
  refine g_iconst rfl rfl rfl (pc' := 3) ?_
  refine g_istore rfl rfl rfl (pc' := 4) ?_
  exact g_weak (show gm_Lle [some _, some _, some _, some _] _ from ⟨rfl, ⟨rfl, ⟨rfl, ⟨rfl, trivial⟩⟩⟩⟩) H
theorem w_90_4 {m : Nat} {x1 : Int32} {x2 : Int32} {x3 : Int32} {h : hh_T} {Q : Option Value ⊕ Nat → hh_T → Prop} (hT : tw_ok h m) (H : (¬ x3 < x1 → (Q (.inl (some (.int x2))) h)) ∧ (x3 < x1 → (∃ n1, gm_ix x3 n1 320 ∧ ((¬ (hh_i h (m + 1) n1) = (Int32.ofNat 32) → (gm_G 90 26 [some (.ref m), some (.int x1), some (.int x2), some (.int x3)] [] h Q)) ∧ ((hh_i h (m + 1) n1) = (Int32.ofNat 32) → ((x2 < Int32.ofNat 0 → (gm_G 90 26 [some (.ref m), some (.int x1), some (.int x2), some (.int x3)] [] h Q)) ∧ (¬ x2 < Int32.ofNat 0 → (Q (.inl (some (.int (Int32.ofInt (-1))))) h)))))))) : gm_G 90 4 [some (.ref m), some (.int x1), some (.int x2), some (.int x3)] [] h Q := by
  refine g_iload rfl rfl rfl (pc' := 5) ?_
  refine g_iload rfl rfl rfl (pc' := 6) ?_
  refine g_ic_ge rfl (pc' := 9) (pt := 45) rfl rfl ⟨fun hc => ?_, fun hc => ?_⟩
  · have H := H.1 hc
    refine g_iload rfl rfl rfl (pc' := 46) ?_
    exact g_ireturn rfl (Or.inl rfl) H
  · have H := H.2 hc
    refine g_aload (r := some _) rfl rfl rfl (pc' := 10) ?_
    refine t_get (o := 1) rfl hT rfl rfl rfl (pc' := 13) rfl ?_
    refine g_iload rfl rfl rfl (pc' := 14) ?_
    obtain ⟨n1, hn1, H⟩ := H
    refine t_baload hT (o := 1) (l := 320) rfl rfl rfl hn1 (pc' := 15) rfl ?_
    refine g_iconst rfl rfl rfl (pc' := 17) ?_
    refine g_ic_ne rfl (pc' := 20) (pt := 26) rfl rfl ⟨fun hc => ?_, fun hc => ?_⟩
    · have H := H.1 hc
      exact g_weak (show gm_Lle [some _, some _, some _, some _] _ from ⟨rfl, ⟨rfl, ⟨rfl, ⟨rfl, trivial⟩⟩⟩⟩) H
    · have H := H.2 hc
      refine g_iload rfl rfl rfl (pc' := 21) ?_
      refine g_if_lt rfl (pc' := 24) (pt := 26) rfl rfl ⟨fun hc => ?_, fun hc => ?_⟩
      · have H := H.1 hc
        exact g_weak (show gm_Lle [some _, some _, some _, some _] _ from ⟨rfl, ⟨rfl, ⟨rfl, ⟨rfl, trivial⟩⟩⟩⟩) H
      · have H := H.2 hc
        refine g_iconst rfl rfl rfl (pc' := 25) ?_
        exact g_ireturn rfl (Or.inl rfl) H
theorem w_90_26 {m : Nat} {x1 : Int32} {x2 : Int32} {x3 : Int32} {h : hh_T} {Q : Option Value ⊕ Nat → hh_T → Prop} (hT : tw_ok h m) (H : ∃ n1, gm_ix x3 n1 320 ∧ ((¬ (hh_i h (m + 1) n1) = (Int32.ofNat 32) → (gm_G 90 39 [some (.ref m), some (.int x1), some (.int x2), some (.int x3)] [] h Q)) ∧ ((hh_i h (m + 1) n1) = (Int32.ofNat 32) → (gm_G 90 39 [some (.ref m), some (.int x1), some (.int x3), some (.int x3)] [] h Q)))) : gm_G 90 26 [some (.ref m), some (.int x1), some (.int x2), some (.int x3)] [] h Q := by
  refine g_aload (r := some _) rfl rfl rfl (pc' := 27) ?_
  refine t_get (o := 1) rfl hT rfl rfl rfl (pc' := 30) rfl ?_
  refine g_iload rfl rfl rfl (pc' := 31) ?_
  obtain ⟨n1, hn1, H⟩ := H
  refine t_baload hT (o := 1) (l := 320) rfl rfl rfl hn1 (pc' := 32) rfl ?_
  refine g_iconst rfl rfl rfl (pc' := 34) ?_
  refine g_ic_ne rfl (pc' := 37) (pt := 39) rfl rfl ⟨fun hc => ?_, fun hc => ?_⟩
  · have H := H.1 hc
    exact g_weak (show gm_Lle [some _, some _, some _, some _] _ from ⟨rfl, ⟨rfl, ⟨rfl, ⟨rfl, trivial⟩⟩⟩⟩) H
  · have H := H.2 hc
    refine g_iload rfl rfl rfl (pc' := 38) ?_
    refine g_istore rfl rfl rfl (pc' := 39) ?_
    exact g_weak (show gm_Lle [some _, some _, some _, some _] _ from ⟨rfl, ⟨rfl, ⟨rfl, ⟨rfl, trivial⟩⟩⟩⟩) H
theorem w_90_39 {m : Nat} {x1 : Int32} {x2 : Int32} {x3 : Int32} {h : hh_T} {Q : Option Value ⊕ Nat → hh_T → Prop} (hT : tw_ok h m) (H : gm_G 90 4 [some (.ref m), some (.int x1), some (.int x2), some (.int (x3 + (Int32.ofNat 1)))] [] h Q) : gm_G 90 39 [some (.ref m), some (.int x1), some (.int x2), some (.int x3)] [] h Q := by
  refine g_iinc (c := (Int32.ofNat 1)) rfl rfl rfl rfl rfl (pc' := 42) ?_
  refine g_goto rfl (pc' := 4) rfl ?_
  exact g_weak (show gm_Lle [some _, some _, some _, some _] _ from ⟨rfl, ⟨rfl, ⟨rfl, ⟨rfl, trivial⟩⟩⟩⟩) H
theorem w_91_0 {m : Nat} {x1 : Int32} {x2 : Int32} {x3 : Int32} {h : hh_T} {Q : Option Value ⊕ Nat → hh_T → Prop} (hT : tw_ok h m) (H : ∃ n1, gm_ix x1 n1 3 ∧ ((hh_i h (m + 13) n1) ≠ 0 ∧ (∃ n2, gm_ix (((Int32.ofNat 6) * x1) + (x2 - x2 / (hh_i h (m + 13) n1) * (hh_i h (m + 13) n1))) n2 18 ∧ (∃ n3, gm_ix x1 n3 3 ∧ ((hh_i h (m + 13) n3) ≠ 0 ∧ (∃ n4, gm_ix ((((Int32.ofNat 512) * (hh_i h (m + 15) n2)) + ((Int32.ofNat 8) * (x2 / (hh_i h (m + 13) n3)))) + x3) n4 4096 ∧ (Q (.inl (some (.int ((hh_i h (m + 10) n4) &&& (Int32.ofNat 255))))) h))))))) : gm_G 91 0 [some (.ref m), some (.int x1), some (.int x2), some (.int x3)] [] h Q := by
  refine g_aload (r := some _) rfl rfl rfl (pc' := 1) ?_
  refine t_get (o := 10) rfl hT rfl rfl rfl (pc' := 4) rfl ?_
  refine g_iconst rfl rfl rfl (pc' := 7) ?_
  refine g_aload (r := some _) rfl rfl rfl (pc' := 8) ?_
  refine t_get (o := 15) rfl hT rfl rfl rfl (pc' := 11) rfl ?_
  refine g_iconst rfl rfl rfl (pc' := 13) ?_
  refine g_iload rfl rfl rfl (pc' := 14) ?_
  refine g_imul rfl rfl (pc' := 15) ?_
  refine g_iload rfl rfl rfl (pc' := 16) ?_
  refine g_aload (r := some _) rfl rfl rfl (pc' := 17) ?_
  refine t_get (o := 13) rfl hT rfl rfl rfl (pc' := 20) rfl ?_
  refine g_iload rfl rfl rfl (pc' := 21) ?_
  obtain ⟨n1, hn1, H⟩ := H
  refine t_iaload hT (o := 13) (l := 3) rfl rfl rfl hn1 (pc' := 22) rfl ?_
  obtain ⟨Hp, H⟩ := H
  refine g_irem rfl Hp (pc' := 23) rfl ?_
  refine g_iadd rfl rfl (pc' := 24) ?_
  obtain ⟨n2, hn2, H⟩ := H
  refine t_iaload hT (o := 15) (l := 18) rfl rfl rfl hn2 (pc' := 25) rfl ?_
  refine g_imul rfl rfl (pc' := 26) ?_
  refine g_iconst rfl rfl rfl (pc' := 28) ?_
  refine g_iload rfl rfl rfl (pc' := 29) ?_
  refine g_aload (r := some _) rfl rfl rfl (pc' := 30) ?_
  refine t_get (o := 13) rfl hT rfl rfl rfl (pc' := 33) rfl ?_
  refine g_iload rfl rfl rfl (pc' := 34) ?_
  obtain ⟨n3, hn3, H⟩ := H
  refine t_iaload hT (o := 13) (l := 3) rfl rfl rfl hn3 (pc' := 35) rfl ?_
  obtain ⟨Hp, H⟩ := H
  refine g_idiv rfl Hp (pc' := 36) rfl ?_
  refine g_imul rfl rfl (pc' := 37) ?_
  refine g_iadd rfl rfl (pc' := 38) ?_
  refine g_iload rfl rfl rfl (pc' := 39) ?_
  refine g_iadd rfl rfl (pc' := 40) ?_
  obtain ⟨n4, hn4, H⟩ := H
  refine t_baload hT (o := 10) (l := 4096) rfl rfl rfl hn4 (pc' := 41) rfl ?_
  refine g_iconst rfl rfl rfl (pc' := 44) ?_
  refine g_iand rfl rfl (pc' := 45) ?_
  exact g_ireturn rfl (Or.inl rfl) H
theorem w_92_0 {m : Nat} {x1 : Int32} {h : hh_T} {Q : Option Value ⊕ Nat → hh_T → Prop} (hT : tw_ok h m) (H : (x1 < Int32.ofNat 0 → (Q (.inl (some (.int (Int32.ofInt (-1))))) h)) ∧ (¬ x1 < Int32.ofNat 0 → ((¬ (Int32.ofNat 6) < x1 → ((¬ x1 < (Int32.ofNat 4) → ((¬ x1 = (Int32.ofNat 4) → ((¬ x1 = (Int32.ofNat 5) → (Q (.inl (some (.int (hh_i h m 48)))) h)) ∧ (x1 = (Int32.ofNat 5) → (Q (.inl (some (.int (hh_i h m 47)))) h)))) ∧ (x1 = (Int32.ofNat 4) → (Q (.inl (some (.int (hh_i h m 46)))) h)))) ∧ (x1 < (Int32.ofNat 4) → (∃ n1, gm_ix x1 n1 4 ∧ (Q (.inl (some (.int (hh_i h (m + 33) n1)))) h))))) ∧ ((Int32.ofNat 6) < x1 → (Q (.inl (some (.int (Int32.ofInt (-1))))) h))))) : gm_G 92 0 [some (.ref m), some (.int x1)] [] h Q := by
  refine g_iload rfl rfl rfl (pc' := 1) ?_
  refine g_if_lt rfl (pc' := 4) (pt := 10) rfl rfl ⟨fun hc => ?_, fun hc => ?_⟩
  · have H := H.1 hc
    refine g_iconst rfl rfl rfl (pc' := 11) ?_
    exact g_ireturn rfl (Or.inl rfl) H
  · have H := H.2 hc
    refine g_iload rfl rfl rfl (pc' := 5) ?_
    refine g_iconst rfl rfl rfl (pc' := 7) ?_
    refine g_ic_le rfl (pc' := 10) (pt := 12) rfl rfl ⟨fun hc => ?_, fun hc => ?_⟩
    · have H := H.1 hc
      refine g_iload rfl rfl rfl (pc' := 13) ?_
      refine g_iconst rfl rfl rfl (pc' := 14) ?_
      refine g_ic_ge rfl (pc' := 17) (pt := 26) rfl rfl ⟨fun hc => ?_, fun hc => ?_⟩
      · have H := H.1 hc
        refine g_iload rfl rfl rfl (pc' := 27) ?_
        refine g_iconst rfl rfl rfl (pc' := 28) ?_
        refine g_ic_ne rfl (pc' := 31) (pt := 38) rfl rfl ⟨fun hc => ?_, fun hc => ?_⟩
        · have H := H.1 hc
          refine g_iload rfl rfl rfl (pc' := 39) ?_
          refine g_iconst rfl rfl rfl (pc' := 40) ?_
          refine g_ic_ne rfl (pc' := 43) (pt := 50) rfl rfl ⟨fun hc => ?_, fun hc => ?_⟩
          · have H := H.1 hc
            refine g_aload (r := some _) rfl rfl rfl (pc' := 51) ?_
            refine t_getI rfl hT rfl rfl (pc' := 54) rfl ?_
            exact g_ireturn rfl (Or.inl rfl) H
          · have H := H.2 hc
            refine g_aload (r := some _) rfl rfl rfl (pc' := 44) ?_
            refine t_getI rfl hT rfl rfl (pc' := 47) rfl ?_
            refine g_goto rfl (pc' := 54) rfl ?_
            exact g_ireturn rfl (Or.inl rfl) H
        · have H := H.2 hc
          refine g_aload (r := some _) rfl rfl rfl (pc' := 32) ?_
          refine t_getI rfl hT rfl rfl (pc' := 35) rfl ?_
          refine g_goto rfl (pc' := 54) rfl ?_
          exact g_ireturn rfl (Or.inl rfl) H
      · have H := H.2 hc
        refine g_aload (r := some _) rfl rfl rfl (pc' := 18) ?_
        refine t_get (o := 33) rfl hT rfl rfl rfl (pc' := 21) rfl ?_
        refine g_iload rfl rfl rfl (pc' := 22) ?_
        obtain ⟨n1, hn1, H⟩ := H
        refine t_iaload hT (o := 33) (l := 4) rfl rfl rfl hn1 (pc' := 23) rfl ?_
        refine g_goto rfl (pc' := 54) rfl ?_
        exact g_ireturn rfl (Or.inl rfl) H
    · have H := H.2 hc
      refine g_iconst rfl rfl rfl (pc' := 11) ?_
      exact g_ireturn rfl (Or.inl rfl) H
theorem w_93_0 {m : Nat} {x1 : Int32} {h : hh_T} {Q : Option Value ⊕ Nat → hh_T → Prop} (hT : tw_ok h m) (H : ∃ n1, gm_ix x1 n1 1536 ∧ (∀ h2, h2 = hh_wi h (m + 46) n1 (hh_i h m 4) → (Q (.inl none) h2))) : gm_G 93 0 [some (.ref m), some (.int x1)] [] h Q := by
  refine g_aload (r := some _) rfl rfl rfl (pc' := 1) ?_
  refine t_get (o := 46) rfl hT rfl rfl rfl (pc' := 4) rfl ?_
  refine g_iload rfl rfl rfl (pc' := 5) ?_
  refine g_aload (r := some _) rfl rfl rfl (pc' := 6) ?_
  refine t_getI rfl hT rfl rfl (pc' := 9) rfl ?_
  obtain ⟨n1, hn1, H⟩ := H
  refine t_iastore hT (o := 46) (l := 1536) rfl rfl rfl hn1  (pc' := 10) rfl (fun hT => ?_)
  have H := H _ rfl
  exact g_return rfl H
theorem w_94_0 {m : Nat} {x1 : Int32} {b2 : Nat} {x3 : Int32} {x4 : Int32} {h : hh_T} {Q : Option Value ⊕ Nat → hh_T → Prop} (hT : tw_ok h m) (H : gm_G 94 3 [some (.ref m), some (.int x1), some (.ref b2), some (.int x3), some (.int x4), some (.int (Int32.ofNat 0))] [] h Q) : gm_G 94 0 [some (.ref m), some (.int x1), some (.ref b2), some (.int x3), some (.int x4)] [] h Q := by
  refine g_iconst rfl rfl rfl (pc' := 1) ?_
  refine g_istore rfl rfl rfl (pc' := 3) ?_
  exact g_weak (show gm_Lle [some _, some _, some _, some _, some _, some _] _ from ⟨rfl, ⟨rfl, ⟨rfl, ⟨rfl, ⟨rfl, ⟨rfl, trivial⟩⟩⟩⟩⟩⟩) H
theorem w_94_3 {m : Nat} {x1 : Int32} {b2 : Nat} {x3 : Int32} {x4 : Int32} {x5 : Int32} {h : hh_T} {Q : Option Value ⊕ Nat → hh_T → Prop} (hT : tw_ok h m) (H : (¬ x5 < (Int32.ofNat 8) → (Q (.inl (some (.int (Int32.ofInt (-1))))) h)) ∧ (x5 < (Int32.ofNat 8) → (∃ n1, gm_ix x5 n1 32 ∧ ((¬ Int32.ofNat 0 < (hh_i h (m + 59) n1) → (gm_G 94 47 [some (.ref m), some (.int x1), some (.ref b2), some (.int x3), some (.int x4), some (.int x5)] [] h Q)) ∧ (Int32.ofNat 0 < (hh_i h (m + 59) n1) → (∃ n2, gm_ix x5 n2 32 ∧ ((¬ (hh_i h (m + 60) n2) = x1 → (gm_G 94 47 [some (.ref m), some (.int x1), some (.ref b2), some (.int x3), some (.int x4), some (.int x5)] [] h Q)) ∧ ((hh_i h (m + 60) n2) = x1 → (∃ n3, gm_ix x5 n3 32 ∧ ((¬ (hh_i h (m + 64) n3) = x4 → (gm_G 94 47 [some (.ref m), some (.int x1), some (.ref b2), some (.int x3), some (.int x4), some (.int x5)] [] h Q)) ∧ ((hh_i h (m + 64) n3) = x4 → (gm_G 94 48 [some (.ref m), some (.int x1), some (.ref b2), some (.int x3), some (.int x4), some (.int x5)] [.int (Int32.ofNat 1)] h Q)))))))))))) : gm_G 94 3 [some (.ref m), some (.int x1), some (.ref b2), some (.int x3), some (.int x4), some (.int x5)] [] h Q := by
  refine g_iload rfl rfl rfl (pc' := 5) ?_
  refine g_iconst rfl rfl rfl (pc' := 7) ?_
  refine g_ic_ge rfl (pc' := 10) (pt := 114) rfl rfl ⟨fun hc => ?_, fun hc => ?_⟩
  · have H := H.1 hc
    refine g_iconst rfl rfl rfl (pc' := 115) ?_
    exact g_ireturn rfl (Or.inl rfl) H
  · have H := H.2 hc
    refine g_aload (r := some _) rfl rfl rfl (pc' := 11) ?_
    refine t_get (o := 59) rfl hT rfl rfl rfl (pc' := 14) rfl ?_
    refine g_iload rfl rfl rfl (pc' := 16) ?_
    obtain ⟨n1, hn1, H⟩ := H
    refine t_iaload hT (o := 59) (l := 32) rfl rfl rfl hn1 (pc' := 17) rfl ?_
    refine g_if_le rfl (pc' := 20) (pt := 47) rfl rfl ⟨fun hc => ?_, fun hc => ?_⟩
    · have H := H.1 hc
      exact g_weak (show gm_Lle [some _, some _, some _, some _, some _, some _] _ from ⟨rfl, ⟨rfl, ⟨rfl, ⟨rfl, ⟨rfl, ⟨rfl, trivial⟩⟩⟩⟩⟩⟩) H
    · have H := H.2 hc
      refine g_aload (r := some _) rfl rfl rfl (pc' := 21) ?_
      refine t_get (o := 60) rfl hT rfl rfl rfl (pc' := 24) rfl ?_
      refine g_iload rfl rfl rfl (pc' := 26) ?_
      obtain ⟨n2, hn2, H⟩ := H
      refine t_iaload hT (o := 60) (l := 32) rfl rfl rfl hn2 (pc' := 27) rfl ?_
      refine g_iload rfl rfl rfl (pc' := 28) ?_
      refine g_ic_ne rfl (pc' := 31) (pt := 47) rfl rfl ⟨fun hc => ?_, fun hc => ?_⟩
      · have H := H.1 hc
        exact g_weak (show gm_Lle [some _, some _, some _, some _, some _, some _] _ from ⟨rfl, ⟨rfl, ⟨rfl, ⟨rfl, ⟨rfl, ⟨rfl, trivial⟩⟩⟩⟩⟩⟩) H
      · have H := H.2 hc
        refine g_aload (r := some _) rfl rfl rfl (pc' := 32) ?_
        refine t_get (o := 64) rfl hT rfl rfl rfl (pc' := 35) rfl ?_
        refine g_iload rfl rfl rfl (pc' := 37) ?_
        obtain ⟨n3, hn3, H⟩ := H
        refine t_iaload hT (o := 64) (l := 32) rfl rfl rfl hn3 (pc' := 38) rfl ?_
        refine g_iload rfl rfl rfl (pc' := 40) ?_
        refine g_ic_ne rfl (pc' := 43) (pt := 47) rfl rfl ⟨fun hc => ?_, fun hc => ?_⟩
        · have H := H.1 hc
          exact g_weak (show gm_Lle [some _, some _, some _, some _, some _, some _] _ from ⟨rfl, ⟨rfl, ⟨rfl, ⟨rfl, ⟨rfl, ⟨rfl, trivial⟩⟩⟩⟩⟩⟩) H
        · have H := H.2 hc
          refine g_iconst rfl rfl rfl (pc' := 44) ?_
          refine g_goto rfl (pc' := 48) rfl ?_
          exact g_weak (show gm_Lle [some _, some _, some _, some _, some _, some _] _ from ⟨rfl, ⟨rfl, ⟨rfl, ⟨rfl, ⟨rfl, ⟨rfl, trivial⟩⟩⟩⟩⟩⟩) H
theorem w_94_47 {m : Nat} {x1 : Int32} {b2 : Nat} {x3 : Int32} {x4 : Int32} {x5 : Int32} {h : hh_T} {Q : Option Value ⊕ Nat → hh_T → Prop} (hT : tw_ok h m) (H : gm_G 94 48 [some (.ref m), some (.int x1), some (.ref b2), some (.int x3), some (.int x4), some (.int x5)] [.int (Int32.ofNat 0)] h Q) : gm_G 94 47 [some (.ref m), some (.int x1), some (.ref b2), some (.int x3), some (.int x4), some (.int x5)] [] h Q := by
  refine g_iconst rfl rfl rfl (pc' := 48) ?_
  exact g_weak (show gm_Lle [some _, some _, some _, some _, some _, some _] _ from ⟨rfl, ⟨rfl, ⟨rfl, ⟨rfl, ⟨rfl, ⟨rfl, trivial⟩⟩⟩⟩⟩⟩) H
theorem w_94_48 {m : Nat} {x1 : Int32} {b2 : Nat} {x3 : Int32} {x4 : Int32} {x5 : Int32} {y0 : Int32} {h : hh_T} {Q : Option Value ⊕ Nat → hh_T → Prop} (hT : tw_ok h m) (H : gm_G 94 53 [some (.ref m), some (.int x1), some (.ref b2), some (.int x3), some (.int x4), some (.int x5), some (.int y0), some (.int (Int32.ofNat 0))] [] h Q) : gm_G 94 48 [some (.ref m), some (.int x1), some (.ref b2), some (.int x3), some (.int x4), some (.int x5)] [.int y0] h Q := by
  refine g_istore rfl rfl rfl (pc' := 50) ?_
  refine g_iconst rfl rfl rfl (pc' := 51) ?_
  refine g_istore rfl rfl rfl (pc' := 53) ?_
  exact g_weak (show gm_Lle [some _, some _, some _, some _, some _, some _, some _, some _] _ from ⟨rfl, ⟨rfl, ⟨rfl, ⟨rfl, ⟨rfl, ⟨rfl, ⟨rfl, ⟨rfl, trivial⟩⟩⟩⟩⟩⟩⟩⟩) H
theorem w_94_53 {m : Nat} {x1 : Int32} {b2 : Nat} {x3 : Int32} {x4 : Int32} {x5 : Int32} {x6 : Int32} {x7 : Int32} {h : hh_T} {Q : Option Value ⊕ Nat → hh_T → Prop} (hT : tw_ok h m) (H : (x6 = Int32.ofNat 0 → (gm_G 94 100 [some (.ref m), some (.int x1), some (.ref b2), some (.int x3), some (.int x4), some (.int x5), some (.int x6)] [] h Q)) ∧ (¬ x6 = Int32.ofNat 0 → ((¬ x7 < x4 → (gm_G 94 100 [some (.ref m), some (.int x1), some (.ref b2), some (.int x3), some (.int x4), some (.int x5), some (.int x6)] [] h Q)) ∧ (x7 < x4 → (∃ n1, gm_ix (((Int32.ofNat 8) * x5) + x7) n1 256 ∧ ((hh_tg h b2 = 101 ∨ hh_tg h b2 = 102) ∧ (∃ n2, gm_ix (x3 + x7) n2 (hh_ln h b2) ∧ ((¬ (hh_i h (m + 67) n1) = (hh_i h b2 n2) → (gm_G 94 92 [some (.ref m), some (.int x1), some (.ref b2), some (.int x3), some (.int x4), some (.int x5), none, some (.int x7)] [.int (Int32.ofNat 0)] h Q)) ∧ ((hh_i h (m + 67) n1) = (hh_i h b2 n2) → (gm_G 94 92 [some (.ref m), some (.int x1), some (.ref b2), some (.int x3), some (.int x4), some (.int x5), none, some (.int x7)] [.int (Int32.ofNat 1)] h Q)))))))))) : gm_G 94 53 [some (.ref m), some (.int x1), some (.ref b2), some (.int x3), some (.int x4), some (.int x5), some (.int x6), some (.int x7)] [] h Q := by
  refine g_iload rfl rfl rfl (pc' := 55) ?_
  refine g_if_eq rfl (pc' := 58) (pt := 100) rfl rfl ⟨fun hc => ?_, fun hc => ?_⟩
  · have H := H.1 hc
    exact g_weak (show gm_Lle [some _, some _, some _, some _, some _, some _, some _] _ from ⟨rfl, ⟨rfl, ⟨rfl, ⟨rfl, ⟨rfl, ⟨rfl, ⟨rfl, trivial⟩⟩⟩⟩⟩⟩⟩) H
  · have H := H.2 hc
    refine g_iload rfl rfl rfl (pc' := 60) ?_
    refine g_iload rfl rfl rfl (pc' := 62) ?_
    refine g_ic_ge rfl (pc' := 65) (pt := 100) rfl rfl ⟨fun hc => ?_, fun hc => ?_⟩
    · have H := H.1 hc
      exact g_weak (show gm_Lle [some _, some _, some _, some _, some _, some _, some _] _ from ⟨rfl, ⟨rfl, ⟨rfl, ⟨rfl, ⟨rfl, ⟨rfl, ⟨rfl, trivial⟩⟩⟩⟩⟩⟩⟩) H
    · have H := H.2 hc
      refine g_aload (r := some _) rfl rfl rfl (pc' := 66) ?_
      refine t_get (o := 67) rfl hT rfl rfl rfl (pc' := 69) rfl ?_
      refine g_iconst rfl rfl rfl (pc' := 71) ?_
      refine g_iload rfl rfl rfl (pc' := 73) ?_
      refine g_imul rfl rfl (pc' := 74) ?_
      refine g_iload rfl rfl rfl (pc' := 76) ?_
      refine g_iadd rfl rfl (pc' := 77) ?_
      obtain ⟨n1, hn1, H⟩ := H
      refine t_baload hT (o := 67) (l := 256) rfl rfl rfl hn1 (pc' := 78) rfl ?_
      refine g_aload (r := some _) rfl rfl rfl (pc' := 79) ?_
      refine g_iload rfl rfl rfl (pc' := 80) ?_
      refine g_iload rfl rfl rfl (pc' := 82) ?_
      refine g_iadd rfl rfl (pc' := 83) ?_
      obtain ⟨ht3, H⟩ := H
      obtain ⟨n2, hn2, H⟩ := H
      refine g_baload rfl ht3 hn2 (pc' := 84) rfl ?_
      refine g_ic_ne rfl (pc' := 87) (pt := 91) rfl rfl ⟨fun hc => ?_, fun hc => ?_⟩
      · have H := H.1 hc
        refine g_iconst rfl rfl rfl (pc' := 92) ?_
        exact g_weak (show gm_Lle [some _, some _, some _, some _, some _, some _, none, some _] _ from ⟨rfl, ⟨rfl, ⟨rfl, ⟨rfl, ⟨rfl, ⟨rfl, ⟨rfl, trivial⟩⟩⟩⟩⟩⟩⟩) H
      · have H := H.2 hc
        refine g_iconst rfl rfl rfl (pc' := 88) ?_
        refine g_goto rfl (pc' := 92) rfl ?_
        exact g_weak (show gm_Lle [some _, some _, some _, some _, some _, some _, none, some _] _ from ⟨rfl, ⟨rfl, ⟨rfl, ⟨rfl, ⟨rfl, ⟨rfl, ⟨rfl, trivial⟩⟩⟩⟩⟩⟩⟩) H
theorem w_94_92 {m : Nat} {x1 : Int32} {b2 : Nat} {x3 : Int32} {x4 : Int32} {x5 : Int32} {x7 : Int32} {y0 : Int32} {h : hh_T} {Q : Option Value ⊕ Nat → hh_T → Prop} (hT : tw_ok h m) (H : gm_G 94 53 [some (.ref m), some (.int x1), some (.ref b2), some (.int x3), some (.int x4), some (.int x5), some (.int y0), some (.int (x7 + (Int32.ofNat 1)))] [] h Q) : gm_G 94 92 [some (.ref m), some (.int x1), some (.ref b2), some (.int x3), some (.int x4), some (.int x5), none, some (.int x7)] [.int y0] h Q := by
  refine g_istore rfl rfl rfl (pc' := 94) ?_
  refine g_iinc (c := (Int32.ofNat 1)) rfl rfl rfl rfl rfl (pc' := 97) ?_
  refine g_goto rfl (pc' := 53) rfl ?_
  exact g_weak (show gm_Lle [some _, some _, some _, some _, some _, some _, some _, some _] _ from ⟨rfl, ⟨rfl, ⟨rfl, ⟨rfl, ⟨rfl, ⟨rfl, ⟨rfl, ⟨rfl, trivial⟩⟩⟩⟩⟩⟩⟩⟩) H
theorem w_94_100 {m : Nat} {x1 : Int32} {b2 : Nat} {x3 : Int32} {x4 : Int32} {x5 : Int32} {x6 : Int32} {h : hh_T} {Q : Option Value ⊕ Nat → hh_T → Prop} (hT : tw_ok h m) (H : (x6 = Int32.ofNat 0 → (gm_G 94 3 [some (.ref m), some (.int x1), some (.ref b2), some (.int x3), some (.int x4), some (.int (x5 + (Int32.ofNat 1)))] [] h Q)) ∧ (¬ x6 = Int32.ofNat 0 → (Q (.inl (some (.int x5))) h))) : gm_G 94 100 [some (.ref m), some (.int x1), some (.ref b2), some (.int x3), some (.int x4), some (.int x5), some (.int x6)] [] h Q := by
  refine g_iload rfl rfl rfl (pc' := 102) ?_
  refine g_if_eq rfl (pc' := 105) (pt := 108) rfl rfl ⟨fun hc => ?_, fun hc => ?_⟩
  · have H := H.1 hc
    refine g_iinc (c := (Int32.ofNat 1)) rfl rfl rfl rfl rfl (pc' := 111) ?_
    refine g_goto rfl (pc' := 3) rfl ?_
    exact g_weak (show gm_Lle [some _, some _, some _, some _, some _, some _] _ from ⟨rfl, ⟨rfl, ⟨rfl, ⟨rfl, ⟨rfl, ⟨rfl, trivial⟩⟩⟩⟩⟩⟩) H
  · have H := H.2 hc
    refine g_iload rfl rfl rfl (pc' := 107) ?_
    exact g_ireturn rfl (Or.inl rfl) H
theorem w_95_0 {m : Nat} {x1 : Int32} {h : hh_T} {Q : Option Value ⊕ Nat → hh_T → Prop} (hT : tw_ok h m) (H : ∃ n1, gm_ix x1 n1 1536 ∧ (∀ h2, h2 = hh_wi h (m + 40) n1 (Int32.ofNat 0) → (∃ n3, gm_ix x1 n3 1536 ∧ (∀ h4, h4 = hh_wi h2 (m + 49) n3 (Int32.ofNat 0) → (∃ n5, gm_ix x1 n5 1536 ∧ (∀ h6, h6 = hh_wi h4 (m + 45) n5 (Int32.ofNat 0) → (∃ n7, gm_ix x1 n7 1536 ∧ (∀ h8, h8 = hh_wi h6 (m + 44) n7 (Int32.ofNat 0) → (∃ n9, gm_ix x1 n9 1536 ∧ (∀ h10, h10 = hh_wi h8 (m + 48) n9 (Int32.ofNat 0) → (gm_G 95 37 [some (.ref m), some (.int x1), some (.int (Int32.ofNat 0))] [] h10 Q))))))))))) : gm_G 95 0 [some (.ref m), some (.int x1)] [] h Q := by
  refine g_aload (r := some _) rfl rfl rfl (pc' := 1) ?_
  refine t_get (o := 40) rfl hT rfl rfl rfl (pc' := 4) rfl ?_
  refine g_iload rfl rfl rfl (pc' := 5) ?_
  refine g_iconst rfl rfl rfl (pc' := 6) ?_
  obtain ⟨n1, hn1, H⟩ := H
  refine t_iastore hT (o := 40) (l := 1536) rfl rfl rfl hn1  (pc' := 7) rfl (fun hT => ?_)
  have H := H _ rfl
  refine g_aload (r := some _) rfl rfl rfl (pc' := 8) ?_
  refine t_get (o := 49) rfl hT rfl rfl rfl (pc' := 11) rfl ?_
  refine g_iload rfl rfl rfl (pc' := 12) ?_
  refine g_iconst rfl rfl rfl (pc' := 13) ?_
  obtain ⟨n3, hn3, H⟩ := H
  refine t_iastore hT (o := 49) (l := 1536) rfl rfl rfl hn3  (pc' := 14) rfl (fun hT => ?_)
  have H := H _ rfl
  refine g_aload (r := some _) rfl rfl rfl (pc' := 15) ?_
  refine t_get (o := 45) rfl hT rfl rfl rfl (pc' := 18) rfl ?_
  refine g_iload rfl rfl rfl (pc' := 19) ?_
  refine g_iconst rfl rfl rfl (pc' := 20) ?_
  obtain ⟨n5, hn5, H⟩ := H
  refine t_iastore hT (o := 45) (l := 1536) rfl rfl rfl hn5  (pc' := 21) rfl (fun hT => ?_)
  have H := H _ rfl
  refine g_aload (r := some _) rfl rfl rfl (pc' := 22) ?_
  refine t_get (o := 44) rfl hT rfl rfl rfl (pc' := 25) rfl ?_
  refine g_iload rfl rfl rfl (pc' := 26) ?_
  refine g_iconst rfl rfl rfl (pc' := 27) ?_
  obtain ⟨n7, hn7, H⟩ := H
  refine t_iastore hT (o := 44) (l := 1536) rfl rfl rfl hn7  (pc' := 28) rfl (fun hT => ?_)
  have H := H _ rfl
  refine g_aload (r := some _) rfl rfl rfl (pc' := 29) ?_
  refine t_get (o := 48) rfl hT rfl rfl rfl (pc' := 32) rfl ?_
  refine g_iload rfl rfl rfl (pc' := 33) ?_
  refine g_iconst rfl rfl rfl (pc' := 34) ?_
  obtain ⟨n9, hn9, H⟩ := H
  refine t_iastore hT (o := 48) (l := 1536) rfl rfl rfl hn9  (pc' := 35) rfl (fun hT => ?_)
  have H := H _ rfl
  refine g_iconst rfl rfl rfl (pc' := 36) ?_
  refine g_istore rfl rfl rfl (pc' := 37) ?_
  exact g_weak (show gm_Lle [some _, some _, some _] _ from ⟨rfl, ⟨rfl, ⟨rfl, trivial⟩⟩⟩) H
theorem w_95_37 {m : Nat} {x1 : Int32} {x2 : Int32} {h : hh_T} {Q : Option Value ⊕ Nat → hh_T → Prop} (hT : tw_ok h m) (H : (¬ x2 < (Int32.ofNat 8) → (Q (.inl none) h)) ∧ (x2 < (Int32.ofNat 8) → (∃ n1, gm_ix (((Int32.ofNat 8) * x1) + x2) n1 12288 ∧ (∀ h2, h2 = hh_wi h (m + 55) n1 (Int32.ofInt (-1)) → (gm_G 95 37 [some (.ref m), some (.int x1), some (.int (x2 + (Int32.ofNat 1)))] [] h2 Q))))) : gm_G 95 37 [some (.ref m), some (.int x1), some (.int x2)] [] h Q := by
  refine g_iload rfl rfl rfl (pc' := 38) ?_
  refine g_iconst rfl rfl rfl (pc' := 40) ?_
  refine g_ic_ge rfl (pc' := 43) (pt := 61) rfl rfl ⟨fun hc => ?_, fun hc => ?_⟩
  · have H := H.1 hc
    exact g_return rfl H
  · have H := H.2 hc
    refine g_aload (r := some _) rfl rfl rfl (pc' := 44) ?_
    refine t_get (o := 55) rfl hT rfl rfl rfl (pc' := 47) rfl ?_
    refine g_iconst rfl rfl rfl (pc' := 49) ?_
    refine g_iload rfl rfl rfl (pc' := 50) ?_
    refine g_imul rfl rfl (pc' := 51) ?_
    refine g_iload rfl rfl rfl (pc' := 52) ?_
    refine g_iadd rfl rfl (pc' := 53) ?_
    refine g_iconst rfl rfl rfl (pc' := 54) ?_
    obtain ⟨n1, hn1, H⟩ := H
    refine t_iastore hT (o := 55) (l := 12288) rfl rfl rfl hn1  (pc' := 55) rfl (fun hT => ?_)
    have H := H _ rfl
    refine g_iinc (c := (Int32.ofNat 1)) rfl rfl rfl rfl rfl (pc' := 58) ?_
    refine g_goto rfl (pc' := 37) rfl ?_
    exact g_weak (show gm_Lle [some _, some _, some _] _ from ⟨rfl, ⟨rfl, ⟨rfl, trivial⟩⟩⟩) H
theorem w_96_0 {m : Nat} {x1 : Int32} {h : hh_T} {Q : Option Value ⊕ Nat → hh_T → Prop} (hT : tw_ok h m) (H : gm_G 96 4 [some (.ref m), some (.int x1), some (.int (Int32.ofNat 0)), some (.int (Int32.ofNat 0))] [] h Q) : gm_G 96 0 [some (.ref m), some (.int x1)] [] h Q := by
  refine g_iconst rfl rfl rfl (pc' := 1) ?_
  refine g_istore rfl rfl rfl (pc' := 2) ?_
  refine g_iconst rfl rfl rfl (pc' := 3) ?_
  refine g_istore rfl rfl rfl (pc' := 4) ?_
  exact g_weak (show gm_Lle [some _, some _, some _, some _] _ from ⟨rfl, ⟨rfl, ⟨rfl, ⟨rfl, trivial⟩⟩⟩⟩) H
theorem w_96_4 {m : Nat} {x1 : Int32} {x2 : Int32} {x3 : Int32} {h : hh_T} {Q : Option Value ⊕ Nat → hh_T → Prop} (hT : tw_ok h m) (H : (¬ x3 < (Int32.ofNat 8) → (Q (.inl (some (.int x2))) h)) ∧ (x3 < (Int32.ofNat 8) → (∃ n1, gm_ix x3 n1 32 ∧ (((hh_i h (m + 59) n1) < Int32.ofNat 0 → (gm_G 96 39 [some (.ref m), some (.int x1), none, some (.int x3)] [.int x2] h Q)) ∧ (¬ (hh_i h (m + 59) n1) < Int32.ofNat 0 → (∃ n2, gm_ix x3 n2 32 ∧ (∃ n3, gm_ix x1 n3 48 ∧ ((¬ (hh_i h (m + 62) n2) = (hh_i h (m + 69) n3) → (gm_G 96 39 [some (.ref m), some (.int x1), none, some (.int x3)] [.int x2] h Q)) ∧ ((hh_i h (m + 62) n2) = (hh_i h (m + 69) n3) → (gm_G 96 40 [some (.ref m), some (.int x1), none, some (.int x3)] [.int (Int32.ofNat 1), .int x2] h Q)))))))))) : gm_G 96 4 [some (.ref m), some (.int x1), some (.int x2), some (.int x3)] [] h Q := by
  refine g_iload rfl rfl rfl (pc' := 5) ?_
  refine g_iconst rfl rfl rfl (pc' := 7) ?_
  refine g_ic_ge rfl (pc' := 10) (pt := 48) rfl rfl ⟨fun hc => ?_, fun hc => ?_⟩
  · have H := H.1 hc
    refine g_iload rfl rfl rfl (pc' := 49) ?_
    exact g_ireturn rfl (Or.inl rfl) H
  · have H := H.2 hc
    refine g_iload rfl rfl rfl (pc' := 11) ?_
    refine g_aload (r := some _) rfl rfl rfl (pc' := 12) ?_
    refine t_get (o := 59) rfl hT rfl rfl rfl (pc' := 15) rfl ?_
    refine g_iload rfl rfl rfl (pc' := 16) ?_
    obtain ⟨n1, hn1, H⟩ := H
    refine t_iaload hT (o := 59) (l := 32) rfl rfl rfl hn1 (pc' := 17) rfl ?_
    refine g_if_lt rfl (pc' := 20) (pt := 39) rfl rfl ⟨fun hc => ?_, fun hc => ?_⟩
    · have H := H.1 hc
      exact g_weak (show gm_Lle [some _, some _, none, some _] _ from ⟨rfl, ⟨rfl, ⟨rfl, trivial⟩⟩⟩) H
    · have H := H.2 hc
      refine g_aload (r := some _) rfl rfl rfl (pc' := 21) ?_
      refine t_get (o := 62) rfl hT rfl rfl rfl (pc' := 24) rfl ?_
      refine g_iload rfl rfl rfl (pc' := 25) ?_
      obtain ⟨n2, hn2, H⟩ := H
      refine t_iaload hT (o := 62) (l := 32) rfl rfl rfl hn2 (pc' := 26) rfl ?_
      refine g_aload (r := some _) rfl rfl rfl (pc' := 27) ?_
      refine t_get (o := 69) rfl hT rfl rfl rfl (pc' := 30) rfl ?_
      refine g_iload rfl rfl rfl (pc' := 31) ?_
      obtain ⟨n3, hn3, H⟩ := H
      refine t_iaload hT (o := 69) (l := 48) rfl rfl rfl hn3 (pc' := 32) rfl ?_
      refine g_ic_ne rfl (pc' := 35) (pt := 39) rfl rfl ⟨fun hc => ?_, fun hc => ?_⟩
      · have H := H.1 hc
        exact g_weak (show gm_Lle [some _, some _, none, some _] _ from ⟨rfl, ⟨rfl, ⟨rfl, trivial⟩⟩⟩) H
      · have H := H.2 hc
        refine g_iconst rfl rfl rfl (pc' := 36) ?_
        refine g_goto rfl (pc' := 40) rfl ?_
        exact g_weak (show gm_Lle [some _, some _, none, some _] _ from ⟨rfl, ⟨rfl, ⟨rfl, trivial⟩⟩⟩) H
theorem w_96_39 {m : Nat} {x1 : Int32} {x3 : Int32} {y0 : Int32} {h : hh_T} {Q : Option Value ⊕ Nat → hh_T → Prop} (hT : tw_ok h m) (H : gm_G 96 40 [some (.ref m), some (.int x1), none, some (.int x3)] [.int (Int32.ofNat 0), .int y0] h Q) : gm_G 96 39 [some (.ref m), some (.int x1), none, some (.int x3)] [.int y0] h Q := by
  refine g_iconst rfl rfl rfl (pc' := 40) ?_
  exact g_weak (show gm_Lle [some _, some _, none, some _] _ from ⟨rfl, ⟨rfl, ⟨rfl, trivial⟩⟩⟩) H
theorem w_96_40 {m : Nat} {x1 : Int32} {x3 : Int32} {y0 : Int32} {y1 : Int32} {h : hh_T} {Q : Option Value ⊕ Nat → hh_T → Prop} (hT : tw_ok h m) (H : gm_G 96 4 [some (.ref m), some (.int x1), some (.int (y1 + y0)), some (.int (x3 + (Int32.ofNat 1)))] [] h Q) : gm_G 96 40 [some (.ref m), some (.int x1), none, some (.int x3)] [.int y0, .int y1] h Q := by
  refine g_iadd rfl rfl (pc' := 41) ?_
  refine g_istore rfl rfl rfl (pc' := 42) ?_
  refine g_iinc (c := (Int32.ofNat 1)) rfl rfl rfl rfl rfl (pc' := 45) ?_
  refine g_goto rfl (pc' := 4) rfl ?_
  exact g_weak (show gm_Lle [some _, some _, some _, some _] _ from ⟨rfl, ⟨rfl, ⟨rfl, ⟨rfl, trivial⟩⟩⟩⟩) H
theorem w_97_0 {m : Nat} {x1 : Int32} {x2 : Int32} {h : hh_T} {Q : Option Value ⊕ Nat → hh_T → Prop} (hT : tw_ok h m) (H : ∃ n1, gm_ix x1 n1 4 ∧ (∃ n2, gm_ix (((Int32.ofNat 16) * x1) + (hh_i h (m + 33) n1)) n2 64 ∧ (∀ h3, h3 = hh_wi h (m + 32) n2 x2 → (∃ n4, gm_ix x1 n4 4 ∧ (∃ n5, gm_ix x1 n5 4 ∧ (∀ h6, h6 = hh_wi h3 (m + 33) n5 ((hh_i h3 (m + 33) n4) + (Int32.ofNat 1)) → (Q (.inl none) h6))))))) : gm_G 97 0 [some (.ref m), some (.int x1), some (.int x2)] [] h Q := by
  refine g_aload (r := some _) rfl rfl rfl (pc' := 1) ?_
  refine t_get (o := 32) rfl hT rfl rfl rfl (pc' := 4) rfl ?_
  refine g_iconst rfl rfl rfl (pc' := 6) ?_
  refine g_iload rfl rfl rfl (pc' := 7) ?_
  refine g_imul rfl rfl (pc' := 8) ?_
  refine g_aload (r := some _) rfl rfl rfl (pc' := 9) ?_
  refine t_get (o := 33) rfl hT rfl rfl rfl (pc' := 12) rfl ?_
  refine g_iload rfl rfl rfl (pc' := 13) ?_
  obtain ⟨n1, hn1, H⟩ := H
  refine t_iaload hT (o := 33) (l := 4) rfl rfl rfl hn1 (pc' := 14) rfl ?_
  refine g_iadd rfl rfl (pc' := 15) ?_
  refine g_iload rfl rfl rfl (pc' := 16) ?_
  obtain ⟨n2, hn2, H⟩ := H
  refine t_iastore hT (o := 32) (l := 64) rfl rfl rfl hn2  (pc' := 17) rfl (fun hT => ?_)
  have H := H _ rfl
  refine g_aload (r := some _) rfl rfl rfl (pc' := 18) ?_
  refine t_get (o := 33) rfl hT rfl rfl rfl (pc' := 21) rfl ?_
  refine g_iload rfl rfl rfl (pc' := 22) ?_
  refine g_dup2_a rfl (pc' := 23) rfl ?_
  obtain ⟨n4, hn4, H⟩ := H
  refine t_iaload hT (o := 33) (l := 4) rfl rfl rfl hn4 (pc' := 24) rfl ?_
  refine g_iconst rfl rfl rfl (pc' := 25) ?_
  refine g_iadd rfl rfl (pc' := 26) ?_
  obtain ⟨n5, hn5, H⟩ := H
  refine t_iastore hT (o := 33) (l := 4) rfl rfl rfl hn5  (pc' := 27) rfl (fun hT => ?_)
  have H := H _ rfl
  exact g_return rfl H
theorem w_98_0 {m : Nat} {x1 : Int32} {x2 : Int32} {h : hh_T} {Q : Option Value ⊕ Nat → hh_T → Prop} (hT : tw_ok h m) (H : ∃ n1, gm_ix x1 n1 1536 ∧ (∃ n2, gm_ix x2 n2 1536 ∧ (∀ h3, h3 = hh_wi h (m + 40) n2 (hh_i h (m + 40) n1) → (∃ n4, gm_ix x1 n4 1536 ∧ (∃ n5, gm_ix x2 n5 1536 ∧ (∀ h6, h6 = hh_wi h3 (m + 41) n5 (hh_i h3 (m + 41) n4) → (∃ n7, gm_ix x1 n7 1536 ∧ (∃ n8, gm_ix x2 n8 1536 ∧ (∀ h9, h9 = hh_wi h6 (m + 42) n8 (hh_i h6 (m + 42) n7) → (∃ n10, gm_ix x1 n10 1536 ∧ (∃ n11, gm_ix x2 n11 1536 ∧ (∀ h12, h12 = hh_wi h9 (m + 43) n11 (hh_i h9 (m + 43) n10) → (∃ n13, gm_ix x1 n13 1536 ∧ (∃ n14, gm_ix x2 n14 1536 ∧ (∀ h15, h15 = hh_wi h12 (m + 44) n14 (hh_i h12 (m + 44) n13) → (∃ n16, gm_ix x1 n16 1536 ∧ (∃ n17, gm_ix x2 n17 1536 ∧ (∀ h18, h18 = hh_wi h15 (m + 45) n17 (hh_i h15 (m + 45) n16) → (∃ n19, gm_ix x1 n19 1536 ∧ (∃ n20, gm_ix x2 n20 1536 ∧ (∀ h21, h21 = hh_wi h18 (m + 46) n20 (hh_i h18 (m + 46) n19) → (∃ n22, gm_ix x1 n22 1536 ∧ (∃ n23, gm_ix x2 n23 1536 ∧ (∀ h24, h24 = hh_wi h21 (m + 47) n23 (hh_i h21 (m + 47) n22) → (∃ n25, gm_ix x1 n25 1536 ∧ (∃ n26, gm_ix x2 n26 1536 ∧ (∀ h27, h27 = hh_wi h24 (m + 48) n26 (hh_i h24 (m + 48) n25) → (∃ n28, gm_ix x1 n28 1536 ∧ (∃ n29, gm_ix x2 n29 1536 ∧ (∀ h30, h30 = hh_wi h27 (m + 49) n29 (hh_i h27 (m + 49) n28) → (gm_G 98 122 [some (.ref m), some (.int x1), some (.int x2), some (.int (Int32.ofNat 0))] [] h30 Q))))))))))))))))))))))))))))))) : gm_G 98 0 [some (.ref m), some (.int x1), some (.int x2)] [] h Q := by
  refine g_aload (r := some _) rfl rfl rfl (pc' := 1) ?_
  refine t_get (o := 40) rfl hT rfl rfl rfl (pc' := 4) rfl ?_
  refine g_iload rfl rfl rfl (pc' := 5) ?_
  refine g_aload (r := some _) rfl rfl rfl (pc' := 6) ?_
  refine t_get (o := 40) rfl hT rfl rfl rfl (pc' := 9) rfl ?_
  refine g_iload rfl rfl rfl (pc' := 10) ?_
  obtain ⟨n1, hn1, H⟩ := H
  refine t_iaload hT (o := 40) (l := 1536) rfl rfl rfl hn1 (pc' := 11) rfl ?_
  obtain ⟨n2, hn2, H⟩ := H
  refine t_iastore hT (o := 40) (l := 1536) rfl rfl rfl hn2  (pc' := 12) rfl (fun hT => ?_)
  have H := H _ rfl
  refine g_aload (r := some _) rfl rfl rfl (pc' := 13) ?_
  refine t_get (o := 41) rfl hT rfl rfl rfl (pc' := 16) rfl ?_
  refine g_iload rfl rfl rfl (pc' := 17) ?_
  refine g_aload (r := some _) rfl rfl rfl (pc' := 18) ?_
  refine t_get (o := 41) rfl hT rfl rfl rfl (pc' := 21) rfl ?_
  refine g_iload rfl rfl rfl (pc' := 22) ?_
  obtain ⟨n4, hn4, H⟩ := H
  refine t_iaload hT (o := 41) (l := 1536) rfl rfl rfl hn4 (pc' := 23) rfl ?_
  obtain ⟨n5, hn5, H⟩ := H
  refine t_iastore hT (o := 41) (l := 1536) rfl rfl rfl hn5  (pc' := 24) rfl (fun hT => ?_)
  have H := H _ rfl
  refine g_aload (r := some _) rfl rfl rfl (pc' := 25) ?_
  refine t_get (o := 42) rfl hT rfl rfl rfl (pc' := 28) rfl ?_
  refine g_iload rfl rfl rfl (pc' := 29) ?_
  refine g_aload (r := some _) rfl rfl rfl (pc' := 30) ?_
  refine t_get (o := 42) rfl hT rfl rfl rfl (pc' := 33) rfl ?_
  refine g_iload rfl rfl rfl (pc' := 34) ?_
  obtain ⟨n7, hn7, H⟩ := H
  refine t_iaload hT (o := 42) (l := 1536) rfl rfl rfl hn7 (pc' := 35) rfl ?_
  obtain ⟨n8, hn8, H⟩ := H
  refine t_iastore hT (o := 42) (l := 1536) rfl rfl rfl hn8  (pc' := 36) rfl (fun hT => ?_)
  have H := H _ rfl
  refine g_aload (r := some _) rfl rfl rfl (pc' := 37) ?_
  refine t_get (o := 43) rfl hT rfl rfl rfl (pc' := 40) rfl ?_
  refine g_iload rfl rfl rfl (pc' := 41) ?_
  refine g_aload (r := some _) rfl rfl rfl (pc' := 42) ?_
  refine t_get (o := 43) rfl hT rfl rfl rfl (pc' := 45) rfl ?_
  refine g_iload rfl rfl rfl (pc' := 46) ?_
  obtain ⟨n10, hn10, H⟩ := H
  refine t_iaload hT (o := 43) (l := 1536) rfl rfl rfl hn10 (pc' := 47) rfl ?_
  obtain ⟨n11, hn11, H⟩ := H
  refine t_iastore hT (o := 43) (l := 1536) rfl rfl rfl hn11  (pc' := 48) rfl (fun hT => ?_)
  have H := H _ rfl
  refine g_aload (r := some _) rfl rfl rfl (pc' := 49) ?_
  refine t_get (o := 44) rfl hT rfl rfl rfl (pc' := 52) rfl ?_
  refine g_iload rfl rfl rfl (pc' := 53) ?_
  refine g_aload (r := some _) rfl rfl rfl (pc' := 54) ?_
  refine t_get (o := 44) rfl hT rfl rfl rfl (pc' := 57) rfl ?_
  refine g_iload rfl rfl rfl (pc' := 58) ?_
  obtain ⟨n13, hn13, H⟩ := H
  refine t_iaload hT (o := 44) (l := 1536) rfl rfl rfl hn13 (pc' := 59) rfl ?_
  obtain ⟨n14, hn14, H⟩ := H
  refine t_iastore hT (o := 44) (l := 1536) rfl rfl rfl hn14  (pc' := 60) rfl (fun hT => ?_)
  have H := H _ rfl
  refine g_aload (r := some _) rfl rfl rfl (pc' := 61) ?_
  refine t_get (o := 45) rfl hT rfl rfl rfl (pc' := 64) rfl ?_
  refine g_iload rfl rfl rfl (pc' := 65) ?_
  refine g_aload (r := some _) rfl rfl rfl (pc' := 66) ?_
  refine t_get (o := 45) rfl hT rfl rfl rfl (pc' := 69) rfl ?_
  refine g_iload rfl rfl rfl (pc' := 70) ?_
  obtain ⟨n16, hn16, H⟩ := H
  refine t_iaload hT (o := 45) (l := 1536) rfl rfl rfl hn16 (pc' := 71) rfl ?_
  obtain ⟨n17, hn17, H⟩ := H
  refine t_iastore hT (o := 45) (l := 1536) rfl rfl rfl hn17  (pc' := 72) rfl (fun hT => ?_)
  have H := H _ rfl
  refine g_aload (r := some _) rfl rfl rfl (pc' := 73) ?_
  refine t_get (o := 46) rfl hT rfl rfl rfl (pc' := 76) rfl ?_
  refine g_iload rfl rfl rfl (pc' := 77) ?_
  refine g_aload (r := some _) rfl rfl rfl (pc' := 78) ?_
  refine t_get (o := 46) rfl hT rfl rfl rfl (pc' := 81) rfl ?_
  refine g_iload rfl rfl rfl (pc' := 82) ?_
  obtain ⟨n19, hn19, H⟩ := H
  refine t_iaload hT (o := 46) (l := 1536) rfl rfl rfl hn19 (pc' := 83) rfl ?_
  obtain ⟨n20, hn20, H⟩ := H
  refine t_iastore hT (o := 46) (l := 1536) rfl rfl rfl hn20  (pc' := 84) rfl (fun hT => ?_)
  have H := H _ rfl
  refine g_aload (r := some _) rfl rfl rfl (pc' := 85) ?_
  refine t_get (o := 47) rfl hT rfl rfl rfl (pc' := 88) rfl ?_
  refine g_iload rfl rfl rfl (pc' := 89) ?_
  refine g_aload (r := some _) rfl rfl rfl (pc' := 90) ?_
  refine t_get (o := 47) rfl hT rfl rfl rfl (pc' := 93) rfl ?_
  refine g_iload rfl rfl rfl (pc' := 94) ?_
  obtain ⟨n22, hn22, H⟩ := H
  refine t_iaload hT (o := 47) (l := 1536) rfl rfl rfl hn22 (pc' := 95) rfl ?_
  obtain ⟨n23, hn23, H⟩ := H
  refine t_iastore hT (o := 47) (l := 1536) rfl rfl rfl hn23  (pc' := 96) rfl (fun hT => ?_)
  have H := H _ rfl
  refine g_aload (r := some _) rfl rfl rfl (pc' := 97) ?_
  refine t_get (o := 48) rfl hT rfl rfl rfl (pc' := 100) rfl ?_
  refine g_iload rfl rfl rfl (pc' := 101) ?_
  refine g_aload (r := some _) rfl rfl rfl (pc' := 102) ?_
  refine t_get (o := 48) rfl hT rfl rfl rfl (pc' := 105) rfl ?_
  refine g_iload rfl rfl rfl (pc' := 106) ?_
  obtain ⟨n25, hn25, H⟩ := H
  refine t_iaload hT (o := 48) (l := 1536) rfl rfl rfl hn25 (pc' := 107) rfl ?_
  obtain ⟨n26, hn26, H⟩ := H
  refine t_iastore hT (o := 48) (l := 1536) rfl rfl rfl hn26  (pc' := 108) rfl (fun hT => ?_)
  have H := H _ rfl
  refine g_aload (r := some _) rfl rfl rfl (pc' := 109) ?_
  refine t_get (o := 49) rfl hT rfl rfl rfl (pc' := 112) rfl ?_
  refine g_iload rfl rfl rfl (pc' := 113) ?_
  refine g_aload (r := some _) rfl rfl rfl (pc' := 114) ?_
  refine t_get (o := 49) rfl hT rfl rfl rfl (pc' := 117) rfl ?_
  refine g_iload rfl rfl rfl (pc' := 118) ?_
  obtain ⟨n28, hn28, H⟩ := H
  refine t_iaload hT (o := 49) (l := 1536) rfl rfl rfl hn28 (pc' := 119) rfl ?_
  obtain ⟨n29, hn29, H⟩ := H
  refine t_iastore hT (o := 49) (l := 1536) rfl rfl rfl hn29  (pc' := 120) rfl (fun hT => ?_)
  have H := H _ rfl
  refine g_iconst rfl rfl rfl (pc' := 121) ?_
  refine g_istore rfl rfl rfl (pc' := 122) ?_
  exact g_weak (show gm_Lle [some _, some _, some _, some _] _ from ⟨rfl, ⟨rfl, ⟨rfl, ⟨rfl, trivial⟩⟩⟩⟩) H
theorem w_98_122 {m : Nat} {x1 : Int32} {x2 : Int32} {x3 : Int32} {h : hh_T} {Q : Option Value ⊕ Nat → hh_T → Prop} (hT : tw_ok h m) (H : (¬ x3 < (Int32.ofNat 4) → (gm_G 98 195 [some (.ref m), some (.int x1), some (.int x2), some (.int (Int32.ofNat 0))] [] h Q)) ∧ (x3 < (Int32.ofNat 4) → (∃ n1, gm_ix (((Int32.ofNat 4) * x1) + x3) n1 6144 ∧ (∃ n2, gm_ix (((Int32.ofNat 4) * x2) + x3) n2 6144 ∧ (∀ h3, h3 = hh_wi h (m + 50) n2 (hh_i h (m + 50) n1) → (∃ n4, gm_ix (((Int32.ofNat 4) * x1) + x3) n4 6144 ∧ (∃ n5, gm_ix (((Int32.ofNat 4) * x2) + x3) n5 6144 ∧ (∀ h6, h6 = hh_wi h3 (m + 51) n5 (hh_i h3 (m + 51) n4) → (∃ n7, gm_ix (((Int32.ofNat 4) * x1) + x3) n7 6144 ∧ (∃ n8, gm_ix (((Int32.ofNat 4) * x2) + x3) n8 6144 ∧ (∀ h9, h9 = hh_wi h6 (m + 52) n8 (hh_i h6 (m + 52) n7) → (gm_G 98 122 [some (.ref m), some (.int x1), some (.int x2), some (.int (x3 + (Int32.ofNat 1)))] [] h9 Q)))))))))))) : gm_G 98 122 [some (.ref m), some (.int x1), some (.int x2), some (.int x3)] [] h Q := by
  refine g_iload rfl rfl rfl (pc' := 123) ?_
  refine g_iconst rfl rfl rfl (pc' := 124) ?_
  refine g_ic_ge rfl (pc' := 127) (pt := 193) rfl rfl ⟨fun hc => ?_, fun hc => ?_⟩
  · have H := H.1 hc
    refine g_iconst rfl rfl rfl (pc' := 194) ?_
    refine g_istore rfl rfl rfl (pc' := 195) ?_
    exact g_weak (show gm_Lle [some _, some _, some _, some _] _ from ⟨rfl, ⟨rfl, ⟨rfl, ⟨rfl, trivial⟩⟩⟩⟩) H
  · have H := H.2 hc
    refine g_aload (r := some _) rfl rfl rfl (pc' := 128) ?_
    refine t_get (o := 50) rfl hT rfl rfl rfl (pc' := 131) rfl ?_
    refine g_iconst rfl rfl rfl (pc' := 132) ?_
    refine g_iload rfl rfl rfl (pc' := 133) ?_
    refine g_imul rfl rfl (pc' := 134) ?_
    refine g_iload rfl rfl rfl (pc' := 135) ?_
    refine g_iadd rfl rfl (pc' := 136) ?_
    refine g_aload (r := some _) rfl rfl rfl (pc' := 137) ?_
    refine t_get (o := 50) rfl hT rfl rfl rfl (pc' := 140) rfl ?_
    refine g_iconst rfl rfl rfl (pc' := 141) ?_
    refine g_iload rfl rfl rfl (pc' := 142) ?_
    refine g_imul rfl rfl (pc' := 143) ?_
    refine g_iload rfl rfl rfl (pc' := 144) ?_
    refine g_iadd rfl rfl (pc' := 145) ?_
    obtain ⟨n1, hn1, H⟩ := H
    refine t_iaload hT (o := 50) (l := 6144) rfl rfl rfl hn1 (pc' := 146) rfl ?_
    obtain ⟨n2, hn2, H⟩ := H
    refine t_iastore hT (o := 50) (l := 6144) rfl rfl rfl hn2  (pc' := 147) rfl (fun hT => ?_)
    have H := H _ rfl
    refine g_aload (r := some _) rfl rfl rfl (pc' := 148) ?_
    refine t_get (o := 51) rfl hT rfl rfl rfl (pc' := 151) rfl ?_
    refine g_iconst rfl rfl rfl (pc' := 152) ?_
    refine g_iload rfl rfl rfl (pc' := 153) ?_
    refine g_imul rfl rfl (pc' := 154) ?_
    refine g_iload rfl rfl rfl (pc' := 155) ?_
    refine g_iadd rfl rfl (pc' := 156) ?_
    refine g_aload (r := some _) rfl rfl rfl (pc' := 157) ?_
    refine t_get (o := 51) rfl hT rfl rfl rfl (pc' := 160) rfl ?_
    refine g_iconst rfl rfl rfl (pc' := 161) ?_
    refine g_iload rfl rfl rfl (pc' := 162) ?_
    refine g_imul rfl rfl (pc' := 163) ?_
    refine g_iload rfl rfl rfl (pc' := 164) ?_
    refine g_iadd rfl rfl (pc' := 165) ?_
    obtain ⟨n4, hn4, H⟩ := H
    refine t_iaload hT (o := 51) (l := 6144) rfl rfl rfl hn4 (pc' := 166) rfl ?_
    obtain ⟨n5, hn5, H⟩ := H
    refine t_iastore hT (o := 51) (l := 6144) rfl rfl rfl hn5  (pc' := 167) rfl (fun hT => ?_)
    have H := H _ rfl
    refine g_aload (r := some _) rfl rfl rfl (pc' := 168) ?_
    refine t_get (o := 52) rfl hT rfl rfl rfl (pc' := 171) rfl ?_
    refine g_iconst rfl rfl rfl (pc' := 172) ?_
    refine g_iload rfl rfl rfl (pc' := 173) ?_
    refine g_imul rfl rfl (pc' := 174) ?_
    refine g_iload rfl rfl rfl (pc' := 175) ?_
    refine g_iadd rfl rfl (pc' := 176) ?_
    refine g_aload (r := some _) rfl rfl rfl (pc' := 177) ?_
    refine t_get (o := 52) rfl hT rfl rfl rfl (pc' := 180) rfl ?_
    refine g_iconst rfl rfl rfl (pc' := 181) ?_
    refine g_iload rfl rfl rfl (pc' := 182) ?_
    refine g_imul rfl rfl (pc' := 183) ?_
    refine g_iload rfl rfl rfl (pc' := 184) ?_
    refine g_iadd rfl rfl (pc' := 185) ?_
    obtain ⟨n7, hn7, H⟩ := H
    refine t_iaload hT (o := 52) (l := 6144) rfl rfl rfl hn7 (pc' := 186) rfl ?_
    obtain ⟨n8, hn8, H⟩ := H
    refine t_iastore hT (o := 52) (l := 6144) rfl rfl rfl hn8  (pc' := 187) rfl (fun hT => ?_)
    have H := H _ rfl
    refine g_iinc (c := (Int32.ofNat 1)) rfl rfl rfl rfl rfl (pc' := 190) ?_
    refine g_goto rfl (pc' := 122) rfl ?_
    exact g_weak (show gm_Lle [some _, some _, some _, some _] _ from ⟨rfl, ⟨rfl, ⟨rfl, ⟨rfl, trivial⟩⟩⟩⟩) H
theorem w_98_195 {m : Nat} {x1 : Int32} {x2 : Int32} {x3 : Int32} {h : hh_T} {Q : Option Value ⊕ Nat → hh_T → Prop} (hT : tw_ok h m) (H : (¬ x3 < (Int32.ofNat 8) → (gm_G 98 275 [some (.ref m), some (.int x1), some (.int x2), some (.int (Int32.ofNat 0))] [] h Q)) ∧ (x3 < (Int32.ofNat 8) → (∃ n1, gm_ix (((Int32.ofNat 8) * x1) + x3) n1 12288 ∧ (∃ n2, gm_ix (((Int32.ofNat 8) * x2) + x3) n2 12288 ∧ (∀ h3, h3 = hh_wi h (m + 53) n2 (hh_i h (m + 53) n1) → (∃ n4, gm_ix (((Int32.ofNat 8) * x1) + x3) n4 12288 ∧ (∃ n5, gm_ix (((Int32.ofNat 8) * x2) + x3) n5 12288 ∧ (∀ h6, h6 = hh_wi h3 (m + 54) n5 (hh_i h3 (m + 54) n4) → (∃ n7, gm_ix (((Int32.ofNat 8) * x1) + x3) n7 12288 ∧ (∃ n8, gm_ix (((Int32.ofNat 8) * x2) + x3) n8 12288 ∧ (∀ h9, h9 = hh_wi h6 (m + 55) n8 (hh_i h6 (m + 55) n7) → (gm_G 98 195 [some (.ref m), some (.int x1), some (.int x2), some (.int (x3 + (Int32.ofNat 1)))] [] h9 Q)))))))))))) : gm_G 98 195 [some (.ref m), some (.int x1), some (.int x2), some (.int x3)] [] h Q := by
  refine g_iload rfl rfl rfl (pc' := 196) ?_
  refine g_iconst rfl rfl rfl (pc' := 198) ?_
  refine g_ic_ge rfl (pc' := 201) (pt := 273) rfl rfl ⟨fun hc => ?_, fun hc => ?_⟩
  · have H := H.1 hc
    refine g_iconst rfl rfl rfl (pc' := 274) ?_
    refine g_istore rfl rfl rfl (pc' := 275) ?_
    exact g_weak (show gm_Lle [some _, some _, some _, some _] _ from ⟨rfl, ⟨rfl, ⟨rfl, ⟨rfl, trivial⟩⟩⟩⟩) H
  · have H := H.2 hc
    refine g_aload (r := some _) rfl rfl rfl (pc' := 202) ?_
    refine t_get (o := 53) rfl hT rfl rfl rfl (pc' := 205) rfl ?_
    refine g_iconst rfl rfl rfl (pc' := 207) ?_
    refine g_iload rfl rfl rfl (pc' := 208) ?_
    refine g_imul rfl rfl (pc' := 209) ?_
    refine g_iload rfl rfl rfl (pc' := 210) ?_
    refine g_iadd rfl rfl (pc' := 211) ?_
    refine g_aload (r := some _) rfl rfl rfl (pc' := 212) ?_
    refine t_get (o := 53) rfl hT rfl rfl rfl (pc' := 215) rfl ?_
    refine g_iconst rfl rfl rfl (pc' := 217) ?_
    refine g_iload rfl rfl rfl (pc' := 218) ?_
    refine g_imul rfl rfl (pc' := 219) ?_
    refine g_iload rfl rfl rfl (pc' := 220) ?_
    refine g_iadd rfl rfl (pc' := 221) ?_
    obtain ⟨n1, hn1, H⟩ := H
    refine t_iaload hT (o := 53) (l := 12288) rfl rfl rfl hn1 (pc' := 222) rfl ?_
    obtain ⟨n2, hn2, H⟩ := H
    refine t_iastore hT (o := 53) (l := 12288) rfl rfl rfl hn2  (pc' := 223) rfl (fun hT => ?_)
    have H := H _ rfl
    refine g_aload (r := some _) rfl rfl rfl (pc' := 224) ?_
    refine t_get (o := 54) rfl hT rfl rfl rfl (pc' := 227) rfl ?_
    refine g_iconst rfl rfl rfl (pc' := 229) ?_
    refine g_iload rfl rfl rfl (pc' := 230) ?_
    refine g_imul rfl rfl (pc' := 231) ?_
    refine g_iload rfl rfl rfl (pc' := 232) ?_
    refine g_iadd rfl rfl (pc' := 233) ?_
    refine g_aload (r := some _) rfl rfl rfl (pc' := 234) ?_
    refine t_get (o := 54) rfl hT rfl rfl rfl (pc' := 237) rfl ?_
    refine g_iconst rfl rfl rfl (pc' := 239) ?_
    refine g_iload rfl rfl rfl (pc' := 240) ?_
    refine g_imul rfl rfl (pc' := 241) ?_
    refine g_iload rfl rfl rfl (pc' := 242) ?_
    refine g_iadd rfl rfl (pc' := 243) ?_
    obtain ⟨n4, hn4, H⟩ := H
    refine t_iaload hT (o := 54) (l := 12288) rfl rfl rfl hn4 (pc' := 244) rfl ?_
    obtain ⟨n5, hn5, H⟩ := H
    refine t_iastore hT (o := 54) (l := 12288) rfl rfl rfl hn5  (pc' := 245) rfl (fun hT => ?_)
    have H := H _ rfl
    refine g_aload (r := some _) rfl rfl rfl (pc' := 246) ?_
    refine t_get (o := 55) rfl hT rfl rfl rfl (pc' := 249) rfl ?_
    refine g_iconst rfl rfl rfl (pc' := 251) ?_
    refine g_iload rfl rfl rfl (pc' := 252) ?_
    refine g_imul rfl rfl (pc' := 253) ?_
    refine g_iload rfl rfl rfl (pc' := 254) ?_
    refine g_iadd rfl rfl (pc' := 255) ?_
    refine g_aload (r := some _) rfl rfl rfl (pc' := 256) ?_
    refine t_get (o := 55) rfl hT rfl rfl rfl (pc' := 259) rfl ?_
    refine g_iconst rfl rfl rfl (pc' := 261) ?_
    refine g_iload rfl rfl rfl (pc' := 262) ?_
    refine g_imul rfl rfl (pc' := 263) ?_
    refine g_iload rfl rfl rfl (pc' := 264) ?_
    refine g_iadd rfl rfl (pc' := 265) ?_
    obtain ⟨n7, hn7, H⟩ := H
    refine t_iaload hT (o := 55) (l := 12288) rfl rfl rfl hn7 (pc' := 266) rfl ?_
    obtain ⟨n8, hn8, H⟩ := H
    refine t_iastore hT (o := 55) (l := 12288) rfl rfl rfl hn8  (pc' := 267) rfl (fun hT => ?_)
    have H := H _ rfl
    refine g_iinc (c := (Int32.ofNat 1)) rfl rfl rfl rfl rfl (pc' := 270) ?_
    refine g_goto rfl (pc' := 195) rfl ?_
    exact g_weak (show gm_Lle [some _, some _, some _, some _] _ from ⟨rfl, ⟨rfl, ⟨rfl, ⟨rfl, trivial⟩⟩⟩⟩) H
theorem w_98_275 {m : Nat} {x1 : Int32} {x2 : Int32} {x3 : Int32} {h : hh_T} {Q : Option Value ⊕ Nat → hh_T → Prop} (hT : tw_ok h m) (H : (¬ x3 < (Int32.ofNat 64) → (gm_G 98 311 [some (.ref m), some (.int x1), some (.int x2), some (.int (Int32.ofNat 0))] [] h Q)) ∧ (x3 < (Int32.ofNat 64) → (∃ n1, gm_ix (((Int32.ofNat 64) * x1) + x3) n1 98304 ∧ (∃ n2, gm_ix (((Int32.ofNat 64) * x2) + x3) n2 98304 ∧ (∀ h3, h3 = hh_wi h (m + 56) n2 ((hh_i h (m + 56) n1).toInt8.toInt32) → (gm_G 98 275 [some (.ref m), some (.int x1), some (.int x2), some (.int (x3 + (Int32.ofNat 1)))] [] h3 Q)))))) : gm_G 98 275 [some (.ref m), some (.int x1), some (.int x2), some (.int x3)] [] h Q := by
  refine g_iload rfl rfl rfl (pc' := 276) ?_
  refine g_iconst rfl rfl rfl (pc' := 278) ?_
  refine g_ic_ge rfl (pc' := 281) (pt := 309) rfl rfl ⟨fun hc => ?_, fun hc => ?_⟩
  · have H := H.1 hc
    refine g_iconst rfl rfl rfl (pc' := 310) ?_
    refine g_istore rfl rfl rfl (pc' := 311) ?_
    exact g_weak (show gm_Lle [some _, some _, some _, some _] _ from ⟨rfl, ⟨rfl, ⟨rfl, ⟨rfl, trivial⟩⟩⟩⟩) H
  · have H := H.2 hc
    refine g_aload (r := some _) rfl rfl rfl (pc' := 282) ?_
    refine t_get (o := 56) rfl hT rfl rfl rfl (pc' := 285) rfl ?_
    refine g_iconst rfl rfl rfl (pc' := 287) ?_
    refine g_iload rfl rfl rfl (pc' := 288) ?_
    refine g_imul rfl rfl (pc' := 289) ?_
    refine g_iload rfl rfl rfl (pc' := 290) ?_
    refine g_iadd rfl rfl (pc' := 291) ?_
    refine g_aload (r := some _) rfl rfl rfl (pc' := 292) ?_
    refine t_get (o := 56) rfl hT rfl rfl rfl (pc' := 295) rfl ?_
    refine g_iconst rfl rfl rfl (pc' := 297) ?_
    refine g_iload rfl rfl rfl (pc' := 298) ?_
    refine g_imul rfl rfl (pc' := 299) ?_
    refine g_iload rfl rfl rfl (pc' := 300) ?_
    refine g_iadd rfl rfl (pc' := 301) ?_
    obtain ⟨n1, hn1, H⟩ := H
    refine t_baload hT (o := 56) (l := 98304) rfl rfl rfl hn1 (pc' := 302) rfl ?_
    obtain ⟨n2, hn2, H⟩ := H
    refine t_bastore hT (o := 56) (l := 98304) rfl rfl rfl hn2  (pc' := 303) rfl (fun hT => ?_)
    have H := H _ rfl
    refine g_iinc (c := (Int32.ofNat 1)) rfl rfl rfl rfl rfl (pc' := 306) ?_
    refine g_goto rfl (pc' := 275) rfl ?_
    exact g_weak (show gm_Lle [some _, some _, some _, some _] _ from ⟨rfl, ⟨rfl, ⟨rfl, ⟨rfl, trivial⟩⟩⟩⟩) H
theorem w_98_311 {m : Nat} {x1 : Int32} {x2 : Int32} {x3 : Int32} {h : hh_T} {Q : Option Value ⊕ Nat → hh_T → Prop} (hT : tw_ok h m) (H : (¬ x3 < (Int32.ofNat 24) → (Q (.inl none) h)) ∧ (x3 < (Int32.ofNat 24) → (∃ n1, gm_ix (((Int32.ofNat 24) * x1) + x3) n1 36864 ∧ (∃ n2, gm_ix (((Int32.ofNat 24) * x2) + x3) n2 36864 ∧ (∀ h3, h3 = hh_wi h (m + 57) n2 ((hh_i h (m + 57) n1).toInt8.toInt32) → (gm_G 98 311 [some (.ref m), some (.int x1), some (.int x2), some (.int (x3 + (Int32.ofNat 1)))] [] h3 Q)))))) : gm_G 98 311 [some (.ref m), some (.int x1), some (.int x2), some (.int x3)] [] h Q := by
  refine g_iload rfl rfl rfl (pc' := 312) ?_
  refine g_iconst rfl rfl rfl (pc' := 314) ?_
  refine g_ic_ge rfl (pc' := 317) (pt := 345) rfl rfl ⟨fun hc => ?_, fun hc => ?_⟩
  · have H := H.1 hc
    exact g_return rfl H
  · have H := H.2 hc
    refine g_aload (r := some _) rfl rfl rfl (pc' := 318) ?_
    refine t_get (o := 57) rfl hT rfl rfl rfl (pc' := 321) rfl ?_
    refine g_iconst rfl rfl rfl (pc' := 323) ?_
    refine g_iload rfl rfl rfl (pc' := 324) ?_
    refine g_imul rfl rfl (pc' := 325) ?_
    refine g_iload rfl rfl rfl (pc' := 326) ?_
    refine g_iadd rfl rfl (pc' := 327) ?_
    refine g_aload (r := some _) rfl rfl rfl (pc' := 328) ?_
    refine t_get (o := 57) rfl hT rfl rfl rfl (pc' := 331) rfl ?_
    refine g_iconst rfl rfl rfl (pc' := 333) ?_
    refine g_iload rfl rfl rfl (pc' := 334) ?_
    refine g_imul rfl rfl (pc' := 335) ?_
    refine g_iload rfl rfl rfl (pc' := 336) ?_
    refine g_iadd rfl rfl (pc' := 337) ?_
    obtain ⟨n1, hn1, H⟩ := H
    refine t_baload hT (o := 57) (l := 36864) rfl rfl rfl hn1 (pc' := 338) rfl ?_
    obtain ⟨n2, hn2, H⟩ := H
    refine t_bastore hT (o := 57) (l := 36864) rfl rfl rfl hn2  (pc' := 339) rfl (fun hT => ?_)
    have H := H _ rfl
    refine g_iinc (c := (Int32.ofNat 1)) rfl rfl rfl rfl rfl (pc' := 342) ?_
    refine g_goto rfl (pc' := 311) rfl ?_
    exact g_weak (show gm_Lle [some _, some _, some _, some _] _ from ⟨rfl, ⟨rfl, ⟨rfl, ⟨rfl, trivial⟩⟩⟩⟩) H
theorem w_99_0 {m : Nat} {x1 : Int32} {x2 : Int32} {h : hh_T} {Q : Option Value ⊕ Nat → hh_T → Prop} (hT : tw_ok h m) (H : gm_G 99 2 [some (.ref m), some (.int x1), some (.int x2), some (.int (Int32.ofNat 0))] [] h Q) : gm_G 99 0 [some (.ref m), some (.int x1), some (.int x2)] [] h Q := by
  refine g_iconst rfl rfl rfl (pc' := 1) ?_
  refine g_istore rfl rfl rfl (pc' := 2) ?_
  exact g_weak (show gm_Lle [some _, some _, some _, some _] _ from ⟨rfl, ⟨rfl, ⟨rfl, ⟨rfl, trivial⟩⟩⟩⟩) H
theorem w_99_2 {m : Nat} {x1 : Int32} {x2 : Int32} {x3 : Int32} {h : hh_T} {Q : Option Value ⊕ Nat → hh_T → Prop} (hT : tw_ok h m) (H : (¬ x3 < (Int32.ofNat 8) → (gm_G 99 239 [some (.ref m), some (.int x1), some (.int x2), some (.int (Int32.ofNat 0))] [] h Q)) ∧ (x3 < (Int32.ofNat 8) → (∃ n1, gm_ix (((Int32.ofNat 8) * x1) + x3) n1 32 ∧ (∃ n2, gm_ix (((Int32.ofNat 8) * x2) + x3) n2 32 ∧ (∀ h3, h3 = hh_wi h (m + 59) n2 (hh_i h (m + 59) n1) → (∃ n4, gm_ix (((Int32.ofNat 8) * x1) + x3) n4 32 ∧ (∃ n5, gm_ix (((Int32.ofNat 8) * x2) + x3) n5 32 ∧ (∀ h6, h6 = hh_wi h3 (m + 60) n5 (hh_i h3 (m + 60) n4) → (∃ n7, gm_ix (((Int32.ofNat 8) * x1) + x3) n7 32 ∧ (∃ n8, gm_ix (((Int32.ofNat 8) * x2) + x3) n8 32 ∧ (∀ h9, h9 = hh_wi h6 (m + 61) n8 (hh_i h6 (m + 61) n7) → (∃ n10, gm_ix (((Int32.ofNat 8) * x1) + x3) n10 32 ∧ (∃ n11, gm_ix (((Int32.ofNat 8) * x2) + x3) n11 32 ∧ (∀ h12, h12 = hh_wi h9 (m + 62) n11 (hh_i h9 (m + 62) n10) → (∃ n13, gm_ix (((Int32.ofNat 8) * x1) + x3) n13 32 ∧ (∃ n14, gm_ix (((Int32.ofNat 8) * x2) + x3) n14 32 ∧ (∀ h15, h15 = hh_wi h12 (m + 63) n14 (hh_i h12 (m + 63) n13) → (∃ n16, gm_ix (((Int32.ofNat 8) * x1) + x3) n16 32 ∧ (∃ n17, gm_ix (((Int32.ofNat 8) * x2) + x3) n17 32 ∧ (∀ h18, h18 = hh_wi h15 (m + 64) n17 (hh_i h15 (m + 64) n16) → (gm_G 99 111 [some (.ref m), some (.int x1), some (.int x2), some (.int x3), some (.int (((Int32.ofNat 8) * x1) + x3)), some (.int (((Int32.ofNat 8) * x2) + x3)), some (.int (Int32.ofNat 0))] [] h18 Q))))))))))))))))))))) : gm_G 99 2 [some (.ref m), some (.int x1), some (.int x2), some (.int x3)] [] h Q := by
  refine g_iload rfl rfl rfl (pc' := 3) ?_
  refine g_iconst rfl rfl rfl (pc' := 5) ?_
  refine g_ic_ge rfl (pc' := 8) (pt := 237) rfl rfl ⟨fun hc => ?_, fun hc => ?_⟩
  · have H := H.1 hc
    refine g_iconst rfl rfl rfl (pc' := 238) ?_
    refine g_istore rfl rfl rfl (pc' := 239) ?_
    exact g_weak (show gm_Lle [some _, some _, some _, some _] _ from ⟨rfl, ⟨rfl, ⟨rfl, ⟨rfl, trivial⟩⟩⟩⟩) H
  · have H := H.2 hc
    refine g_iconst rfl rfl rfl (pc' := 10) ?_
    refine g_iload rfl rfl rfl (pc' := 11) ?_
    refine g_imul rfl rfl (pc' := 12) ?_
    refine g_iload rfl rfl rfl (pc' := 13) ?_
    refine g_iadd rfl rfl (pc' := 14) ?_
    refine g_istore rfl rfl rfl (pc' := 16) ?_
    refine g_iconst rfl rfl rfl (pc' := 18) ?_
    refine g_iload rfl rfl rfl (pc' := 19) ?_
    refine g_imul rfl rfl (pc' := 20) ?_
    refine g_iload rfl rfl rfl (pc' := 21) ?_
    refine g_iadd rfl rfl (pc' := 22) ?_
    refine g_istore rfl rfl rfl (pc' := 24) ?_
    refine g_aload (r := some _) rfl rfl rfl (pc' := 25) ?_
    refine t_get (o := 59) rfl hT rfl rfl rfl (pc' := 28) rfl ?_
    refine g_iload rfl rfl rfl (pc' := 30) ?_
    refine g_aload (r := some _) rfl rfl rfl (pc' := 31) ?_
    refine t_get (o := 59) rfl hT rfl rfl rfl (pc' := 34) rfl ?_
    refine g_iload rfl rfl rfl (pc' := 36) ?_
    obtain ⟨n1, hn1, H⟩ := H
    refine t_iaload hT (o := 59) (l := 32) rfl rfl rfl hn1 (pc' := 37) rfl ?_
    obtain ⟨n2, hn2, H⟩ := H
    refine t_iastore hT (o := 59) (l := 32) rfl rfl rfl hn2  (pc' := 38) rfl (fun hT => ?_)
    have H := H _ rfl
    refine g_aload (r := some _) rfl rfl rfl (pc' := 39) ?_
    refine t_get (o := 60) rfl hT rfl rfl rfl (pc' := 42) rfl ?_
    refine g_iload rfl rfl rfl (pc' := 44) ?_
    refine g_aload (r := some _) rfl rfl rfl (pc' := 45) ?_
    refine t_get (o := 60) rfl hT rfl rfl rfl (pc' := 48) rfl ?_
    refine g_iload rfl rfl rfl (pc' := 50) ?_
    obtain ⟨n4, hn4, H⟩ := H
    refine t_iaload hT (o := 60) (l := 32) rfl rfl rfl hn4 (pc' := 51) rfl ?_
    obtain ⟨n5, hn5, H⟩ := H
    refine t_iastore hT (o := 60) (l := 32) rfl rfl rfl hn5  (pc' := 52) rfl (fun hT => ?_)
    have H := H _ rfl
    refine g_aload (r := some _) rfl rfl rfl (pc' := 53) ?_
    refine t_get (o := 61) rfl hT rfl rfl rfl (pc' := 56) rfl ?_
    refine g_iload rfl rfl rfl (pc' := 58) ?_
    refine g_aload (r := some _) rfl rfl rfl (pc' := 59) ?_
    refine t_get (o := 61) rfl hT rfl rfl rfl (pc' := 62) rfl ?_
    refine g_iload rfl rfl rfl (pc' := 64) ?_
    obtain ⟨n7, hn7, H⟩ := H
    refine t_iaload hT (o := 61) (l := 32) rfl rfl rfl hn7 (pc' := 65) rfl ?_
    obtain ⟨n8, hn8, H⟩ := H
    refine t_iastore hT (o := 61) (l := 32) rfl rfl rfl hn8  (pc' := 66) rfl (fun hT => ?_)
    have H := H _ rfl
    refine g_aload (r := some _) rfl rfl rfl (pc' := 67) ?_
    refine t_get (o := 62) rfl hT rfl rfl rfl (pc' := 70) rfl ?_
    refine g_iload rfl rfl rfl (pc' := 72) ?_
    refine g_aload (r := some _) rfl rfl rfl (pc' := 73) ?_
    refine t_get (o := 62) rfl hT rfl rfl rfl (pc' := 76) rfl ?_
    refine g_iload rfl rfl rfl (pc' := 78) ?_
    obtain ⟨n10, hn10, H⟩ := H
    refine t_iaload hT (o := 62) (l := 32) rfl rfl rfl hn10 (pc' := 79) rfl ?_
    obtain ⟨n11, hn11, H⟩ := H
    refine t_iastore hT (o := 62) (l := 32) rfl rfl rfl hn11  (pc' := 80) rfl (fun hT => ?_)
    have H := H _ rfl
    refine g_aload (r := some _) rfl rfl rfl (pc' := 81) ?_
    refine t_get (o := 63) rfl hT rfl rfl rfl (pc' := 84) rfl ?_
    refine g_iload rfl rfl rfl (pc' := 86) ?_
    refine g_aload (r := some _) rfl rfl rfl (pc' := 87) ?_
    refine t_get (o := 63) rfl hT rfl rfl rfl (pc' := 90) rfl ?_
    refine g_iload rfl rfl rfl (pc' := 92) ?_
    obtain ⟨n13, hn13, H⟩ := H
    refine t_iaload hT (o := 63) (l := 32) rfl rfl rfl hn13 (pc' := 93) rfl ?_
    obtain ⟨n14, hn14, H⟩ := H
    refine t_iastore hT (o := 63) (l := 32) rfl rfl rfl hn14  (pc' := 94) rfl (fun hT => ?_)
    have H := H _ rfl
    refine g_aload (r := some _) rfl rfl rfl (pc' := 95) ?_
    refine t_get (o := 64) rfl hT rfl rfl rfl (pc' := 98) rfl ?_
    refine g_iload rfl rfl rfl (pc' := 100) ?_
    refine g_aload (r := some _) rfl rfl rfl (pc' := 101) ?_
    refine t_get (o := 64) rfl hT rfl rfl rfl (pc' := 104) rfl ?_
    refine g_iload rfl rfl rfl (pc' := 106) ?_
    obtain ⟨n16, hn16, H⟩ := H
    refine t_iaload hT (o := 64) (l := 32) rfl rfl rfl hn16 (pc' := 107) rfl ?_
    obtain ⟨n17, hn17, H⟩ := H
    refine t_iastore hT (o := 64) (l := 32) rfl rfl rfl hn17  (pc' := 108) rfl (fun hT => ?_)
    have H := H _ rfl
    refine g_iconst rfl rfl rfl (pc' := 109) ?_
    refine g_istore rfl rfl rfl (pc' := 111) ?_
    exact g_weak (show gm_Lle [some _, some _, some _, some _, some _, some _, some _] _ from ⟨rfl, ⟨rfl, ⟨rfl, ⟨rfl, ⟨rfl, ⟨rfl, ⟨rfl, trivial⟩⟩⟩⟩⟩⟩⟩) H
theorem w_99_111 {m : Nat} {x1 : Int32} {x2 : Int32} {x3 : Int32} {x4 : Int32} {x5 : Int32} {x6 : Int32} {h : hh_T} {Q : Option Value ⊕ Nat → hh_T → Prop} (hT : tw_ok h m) (H : (¬ x6 < (Int32.ofNat 8) → (gm_G 99 153 [some (.ref m), some (.int x1), some (.int x2), some (.int x3), some (.int x4), some (.int x5), some (.int (Int32.ofNat 0))] [] h Q)) ∧ (x6 < (Int32.ofNat 8) → (∃ n1, gm_ix (((Int32.ofNat 8) * x4) + x6) n1 256 ∧ (∃ n2, gm_ix (((Int32.ofNat 8) * x5) + x6) n2 256 ∧ (∀ h3, h3 = hh_wi h (m + 67) n2 ((hh_i h (m + 67) n1).toInt8.toInt32) → (gm_G 99 111 [some (.ref m), some (.int x1), some (.int x2), some (.int x3), some (.int x4), some (.int x5), some (.int (x6 + (Int32.ofNat 1)))] [] h3 Q)))))) : gm_G 99 111 [some (.ref m), some (.int x1), some (.int x2), some (.int x3), some (.int x4), some (.int x5), some (.int x6)] [] h Q := by
  refine g_iload rfl rfl rfl (pc' := 113) ?_
  refine g_iconst rfl rfl rfl (pc' := 115) ?_
  refine g_ic_ge rfl (pc' := 118) (pt := 150) rfl rfl ⟨fun hc => ?_, fun hc => ?_⟩
  · have H := H.1 hc
    refine g_iconst rfl rfl rfl (pc' := 151) ?_
    refine g_istore rfl rfl rfl (pc' := 153) ?_
    exact g_weak (show gm_Lle [some _, some _, some _, some _, some _, some _, some _] _ from ⟨rfl, ⟨rfl, ⟨rfl, ⟨rfl, ⟨rfl, ⟨rfl, ⟨rfl, trivial⟩⟩⟩⟩⟩⟩⟩) H
  · have H := H.2 hc
    refine g_aload (r := some _) rfl rfl rfl (pc' := 119) ?_
    refine t_get (o := 67) rfl hT rfl rfl rfl (pc' := 122) rfl ?_
    refine g_iconst rfl rfl rfl (pc' := 124) ?_
    refine g_iload rfl rfl rfl (pc' := 126) ?_
    refine g_imul rfl rfl (pc' := 127) ?_
    refine g_iload rfl rfl rfl (pc' := 129) ?_
    refine g_iadd rfl rfl (pc' := 130) ?_
    refine g_aload (r := some _) rfl rfl rfl (pc' := 131) ?_
    refine t_get (o := 67) rfl hT rfl rfl rfl (pc' := 134) rfl ?_
    refine g_iconst rfl rfl rfl (pc' := 136) ?_
    refine g_iload rfl rfl rfl (pc' := 138) ?_
    refine g_imul rfl rfl (pc' := 139) ?_
    refine g_iload rfl rfl rfl (pc' := 141) ?_
    refine g_iadd rfl rfl (pc' := 142) ?_
    obtain ⟨n1, hn1, H⟩ := H
    refine t_baload hT (o := 67) (l := 256) rfl rfl rfl hn1 (pc' := 143) rfl ?_
    obtain ⟨n2, hn2, H⟩ := H
    refine t_bastore hT (o := 67) (l := 256) rfl rfl rfl hn2  (pc' := 144) rfl (fun hT => ?_)
    have H := H _ rfl
    refine g_iinc (c := (Int32.ofNat 1)) rfl rfl rfl rfl rfl (pc' := 147) ?_
    refine g_goto rfl (pc' := 111) rfl ?_
    exact g_weak (show gm_Lle [some _, some _, some _, some _, some _, some _, some _] _ from ⟨rfl, ⟨rfl, ⟨rfl, ⟨rfl, ⟨rfl, ⟨rfl, ⟨rfl, trivial⟩⟩⟩⟩⟩⟩⟩) H
theorem w_99_153 {m : Nat} {x1 : Int32} {x2 : Int32} {x3 : Int32} {x4 : Int32} {x5 : Int32} {x6 : Int32} {h : hh_T} {Q : Option Value ⊕ Nat → hh_T → Prop} (hT : tw_ok h m) (H : (¬ x6 < (Int32.ofNat 5) → (gm_G 99 192 [some (.ref m), some (.int x1), some (.int x2), some (.int x3), some (.int x4), some (.int x5), some (.int (Int32.ofNat 0))] [] h Q)) ∧ (x6 < (Int32.ofNat 5) → (∃ n1, gm_ix (((Int32.ofNat 5) * x4) + x6) n1 160 ∧ (∃ n2, gm_ix (((Int32.ofNat 5) * x5) + x6) n2 160 ∧ (∀ h3, h3 = hh_wi h (m + 65) n2 (hh_i h (m + 65) n1) → (gm_G 99 153 [some (.ref m), some (.int x1), some (.int x2), some (.int x3), some (.int x4), some (.int x5), some (.int (x6 + (Int32.ofNat 1)))] [] h3 Q)))))) : gm_G 99 153 [some (.ref m), some (.int x1), some (.int x2), some (.int x3), some (.int x4), some (.int x5), some (.int x6)] [] h Q := by
  refine g_iload rfl rfl rfl (pc' := 155) ?_
  refine g_iconst rfl rfl rfl (pc' := 156) ?_
  refine g_ic_ge rfl (pc' := 159) (pt := 189) rfl rfl ⟨fun hc => ?_, fun hc => ?_⟩
  · have H := H.1 hc
    refine g_iconst rfl rfl rfl (pc' := 190) ?_
    refine g_istore rfl rfl rfl (pc' := 192) ?_
    exact g_weak (show gm_Lle [some _, some _, some _, some _, some _, some _, some _] _ from ⟨rfl, ⟨rfl, ⟨rfl, ⟨rfl, ⟨rfl, ⟨rfl, ⟨rfl, trivial⟩⟩⟩⟩⟩⟩⟩) H
  · have H := H.2 hc
    refine g_aload (r := some _) rfl rfl rfl (pc' := 160) ?_
    refine t_get (o := 65) rfl hT rfl rfl rfl (pc' := 163) rfl ?_
    refine g_iconst rfl rfl rfl (pc' := 164) ?_
    refine g_iload rfl rfl rfl (pc' := 166) ?_
    refine g_imul rfl rfl (pc' := 167) ?_
    refine g_iload rfl rfl rfl (pc' := 169) ?_
    refine g_iadd rfl rfl (pc' := 170) ?_
    refine g_aload (r := some _) rfl rfl rfl (pc' := 171) ?_
    refine t_get (o := 65) rfl hT rfl rfl rfl (pc' := 174) rfl ?_
    refine g_iconst rfl rfl rfl (pc' := 175) ?_
    refine g_iload rfl rfl rfl (pc' := 177) ?_
    refine g_imul rfl rfl (pc' := 178) ?_
    refine g_iload rfl rfl rfl (pc' := 180) ?_
    refine g_iadd rfl rfl (pc' := 181) ?_
    obtain ⟨n1, hn1, H⟩ := H
    refine t_iaload hT (o := 65) (l := 160) rfl rfl rfl hn1 (pc' := 182) rfl ?_
    obtain ⟨n2, hn2, H⟩ := H
    refine t_iastore hT (o := 65) (l := 160) rfl rfl rfl hn2  (pc' := 183) rfl (fun hT => ?_)
    have H := H _ rfl
    refine g_iinc (c := (Int32.ofNat 1)) rfl rfl rfl rfl rfl (pc' := 186) ?_
    refine g_goto rfl (pc' := 153) rfl ?_
    exact g_weak (show gm_Lle [some _, some _, some _, some _, some _, some _, some _] _ from ⟨rfl, ⟨rfl, ⟨rfl, ⟨rfl, ⟨rfl, ⟨rfl, ⟨rfl, trivial⟩⟩⟩⟩⟩⟩⟩) H
theorem w_99_192 {m : Nat} {x1 : Int32} {x2 : Int32} {x3 : Int32} {x4 : Int32} {x5 : Int32} {x6 : Int32} {h : hh_T} {Q : Option Value ⊕ Nat → hh_T → Prop} (hT : tw_ok h m) (H : (¬ x6 < (Int32.ofNat 9) → (gm_G 99 2 [some (.ref m), some (.int x1), some (.int x2), some (.int (x3 + (Int32.ofNat 1)))] [] h Q)) ∧ (x6 < (Int32.ofNat 9) → (∃ n1, gm_ix (((Int32.ofNat 9) * x4) + x6) n1 288 ∧ (∃ n2, gm_ix (((Int32.ofNat 9) * x5) + x6) n2 288 ∧ (∀ h3, h3 = hh_wi h (m + 66) n2 (hh_i h (m + 66) n1) → (gm_G 99 192 [some (.ref m), some (.int x1), some (.int x2), some (.int x3), some (.int x4), some (.int x5), some (.int (x6 + (Int32.ofNat 1)))] [] h3 Q)))))) : gm_G 99 192 [some (.ref m), some (.int x1), some (.int x2), some (.int x3), some (.int x4), some (.int x5), some (.int x6)] [] h Q := by
  refine g_iload rfl rfl rfl (pc' := 194) ?_
  refine g_iconst rfl rfl rfl (pc' := 196) ?_
  refine g_ic_ge rfl (pc' := 199) (pt := 231) rfl rfl ⟨fun hc => ?_, fun hc => ?_⟩
  · have H := H.1 hc
    refine g_iinc (c := (Int32.ofNat 1)) rfl rfl rfl rfl rfl (pc' := 234) ?_
    refine g_goto rfl (pc' := 2) rfl ?_
    exact g_weak (show gm_Lle [some _, some _, some _, some _] _ from ⟨rfl, ⟨rfl, ⟨rfl, ⟨rfl, trivial⟩⟩⟩⟩) H
  · have H := H.2 hc
    refine g_aload (r := some _) rfl rfl rfl (pc' := 200) ?_
    refine t_get (o := 66) rfl hT rfl rfl rfl (pc' := 203) rfl ?_
    refine g_iconst rfl rfl rfl (pc' := 205) ?_
    refine g_iload rfl rfl rfl (pc' := 207) ?_
    refine g_imul rfl rfl (pc' := 208) ?_
    refine g_iload rfl rfl rfl (pc' := 210) ?_
    refine g_iadd rfl rfl (pc' := 211) ?_
    refine g_aload (r := some _) rfl rfl rfl (pc' := 212) ?_
    refine t_get (o := 66) rfl hT rfl rfl rfl (pc' := 215) rfl ?_
    refine g_iconst rfl rfl rfl (pc' := 217) ?_
    refine g_iload rfl rfl rfl (pc' := 219) ?_
    refine g_imul rfl rfl (pc' := 220) ?_
    refine g_iload rfl rfl rfl (pc' := 222) ?_
    refine g_iadd rfl rfl (pc' := 223) ?_
    obtain ⟨n1, hn1, H⟩ := H
    refine t_iaload hT (o := 66) (l := 288) rfl rfl rfl hn1 (pc' := 224) rfl ?_
    obtain ⟨n2, hn2, H⟩ := H
    refine t_iastore hT (o := 66) (l := 288) rfl rfl rfl hn2  (pc' := 225) rfl (fun hT => ?_)
    have H := H _ rfl
    refine g_iinc (c := (Int32.ofNat 1)) rfl rfl rfl rfl rfl (pc' := 228) ?_
    refine g_goto rfl (pc' := 192) rfl ?_
    exact g_weak (show gm_Lle [some _, some _, some _, some _, some _, some _, some _] _ from ⟨rfl, ⟨rfl, ⟨rfl, ⟨rfl, ⟨rfl, ⟨rfl, ⟨rfl, trivial⟩⟩⟩⟩⟩⟩⟩) H
theorem w_99_239 {m : Nat} {x1 : Int32} {x2 : Int32} {x3 : Int32} {h : hh_T} {Q : Option Value ⊕ Nat → hh_T → Prop} (hT : tw_ok h m) (H : (¬ x3 < (Int32.ofNat 12) → (∃ n1, gm_ix x1 n1 4 ∧ (∃ n2, gm_ix x2 n2 4 ∧ (∀ h3, h3 = hh_wi h (m + 76) n2 (hh_i h (m + 76) n1) → (∃ n4, gm_ix x1 n4 4 ∧ (∃ n5, gm_ix x2 n5 4 ∧ (∀ h6, h6 = hh_wi h3 (m + 77) n5 (hh_i h3 (m + 77) n4) → (Q (.inl none) h6)))))))) ∧ (x3 < (Int32.ofNat 12) → (∃ n7, gm_ix (((Int32.ofNat 12) * x1) + x3) n7 48 ∧ (∃ n8, gm_ix (((Int32.ofNat 12) * x2) + x3) n8 48 ∧ (∀ h9, h9 = hh_wi h (m + 69) n8 (hh_i h (m + 69) n7) → (∃ n10, gm_ix (((Int32.ofNat 12) * x1) + x3) n10 48 ∧ (∃ n11, gm_ix (((Int32.ofNat 12) * x2) + x3) n11 48 ∧ (∀ h12, h12 = hh_wi h9 (m + 70) n11 (hh_i h9 (m + 70) n10) → (∃ n13, gm_ix (((Int32.ofNat 12) * x1) + x3) n13 48 ∧ (∃ n14, gm_ix (((Int32.ofNat 12) * x2) + x3) n14 48 ∧ (∀ h15, h15 = hh_wi h12 (m + 71) n14 (hh_i h12 (m + 71) n13) → (∃ n16, gm_ix (((Int32.ofNat 12) * x1) + x3) n16 48 ∧ (∃ n17, gm_ix (((Int32.ofNat 12) * x2) + x3) n17 48 ∧ (∀ h18, h18 = hh_wi h15 (m + 72) n17 (hh_i h15 (m + 72) n16) → (∃ n19, gm_ix (((Int32.ofNat 12) * x1) + x3) n19 48 ∧ (∃ n20, gm_ix (((Int32.ofNat 12) * x2) + x3) n20 48 ∧ (∀ h21, h21 = hh_wi h18 (m + 73) n20 (hh_i h18 (m + 73) n19) → (∃ n22, gm_ix (((Int32.ofNat 12) * x1) + x3) n22 48 ∧ (∃ n23, gm_ix (((Int32.ofNat 12) * x2) + x3) n23 48 ∧ (∀ h24, h24 = hh_wi h21 (m + 74) n23 (hh_i h21 (m + 74) n22) → (∃ n25, gm_ix (((Int32.ofNat 12) * x1) + x3) n25 48 ∧ (∃ n26, gm_ix (((Int32.ofNat 12) * x2) + x3) n26 48 ∧ (∀ h27, h27 = hh_wi h24 (m + 75) n26 (hh_i h24 (m + 75) n25) → (gm_G 99 362 [some (.ref m), some (.int x1), some (.int x2), some (.int x3), some (.int (((Int32.ofNat 12) * x1) + x3)), some (.int (((Int32.ofNat 12) * x2) + x3)), some (.int (Int32.ofNat 0))] [] h27 Q)))))))))))))))))))))))) : gm_G 99 239 [some (.ref m), some (.int x1), some (.int x2), some (.int x3)] [] h Q := by
  refine g_iload rfl rfl rfl (pc' := 240) ?_
  refine g_iconst rfl rfl rfl (pc' := 242) ?_
  refine g_ic_ge rfl (pc' := 245) (pt := 407) rfl rfl ⟨fun hc => ?_, fun hc => ?_⟩
  · have H := H.1 hc
    refine g_aload (r := some _) rfl rfl rfl (pc' := 408) ?_
    refine t_get (o := 76) rfl hT rfl rfl rfl (pc' := 411) rfl ?_
    refine g_iload rfl rfl rfl (pc' := 412) ?_
    refine g_aload (r := some _) rfl rfl rfl (pc' := 413) ?_
    refine t_get (o := 76) rfl hT rfl rfl rfl (pc' := 416) rfl ?_
    refine g_iload rfl rfl rfl (pc' := 417) ?_
    obtain ⟨n1, hn1, H⟩ := H
    refine t_iaload hT (o := 76) (l := 4) rfl rfl rfl hn1 (pc' := 418) rfl ?_
    obtain ⟨n2, hn2, H⟩ := H
    refine t_iastore hT (o := 76) (l := 4) rfl rfl rfl hn2  (pc' := 419) rfl (fun hT => ?_)
    have H := H _ rfl
    refine g_aload (r := some _) rfl rfl rfl (pc' := 420) ?_
    refine t_get (o := 77) rfl hT rfl rfl rfl (pc' := 423) rfl ?_
    refine g_iload rfl rfl rfl (pc' := 424) ?_
    refine g_aload (r := some _) rfl rfl rfl (pc' := 425) ?_
    refine t_get (o := 77) rfl hT rfl rfl rfl (pc' := 428) rfl ?_
    refine g_iload rfl rfl rfl (pc' := 429) ?_
    obtain ⟨n4, hn4, H⟩ := H
    refine t_iaload hT (o := 77) (l := 4) rfl rfl rfl hn4 (pc' := 430) rfl ?_
    obtain ⟨n5, hn5, H⟩ := H
    refine t_iastore hT (o := 77) (l := 4) rfl rfl rfl hn5  (pc' := 431) rfl (fun hT => ?_)
    have H := H _ rfl
    exact g_return rfl H
  · have H := H.2 hc
    refine g_iconst rfl rfl rfl (pc' := 247) ?_
    refine g_iload rfl rfl rfl (pc' := 248) ?_
    refine g_imul rfl rfl (pc' := 249) ?_
    refine g_iload rfl rfl rfl (pc' := 250) ?_
    refine g_iadd rfl rfl (pc' := 251) ?_
    refine g_istore rfl rfl rfl (pc' := 253) ?_
    refine g_iconst rfl rfl rfl (pc' := 255) ?_
    refine g_iload rfl rfl rfl (pc' := 256) ?_
    refine g_imul rfl rfl (pc' := 257) ?_
    refine g_iload rfl rfl rfl (pc' := 258) ?_
    refine g_iadd rfl rfl (pc' := 259) ?_
    refine g_istore rfl rfl rfl (pc' := 261) ?_
    refine g_aload (r := some _) rfl rfl rfl (pc' := 262) ?_
    refine t_get (o := 69) rfl hT rfl rfl rfl (pc' := 265) rfl ?_
    refine g_iload rfl rfl rfl (pc' := 267) ?_
    refine g_aload (r := some _) rfl rfl rfl (pc' := 268) ?_
    refine t_get (o := 69) rfl hT rfl rfl rfl (pc' := 271) rfl ?_
    refine g_iload rfl rfl rfl (pc' := 273) ?_
    obtain ⟨n7, hn7, H⟩ := H
    refine t_iaload hT (o := 69) (l := 48) rfl rfl rfl hn7 (pc' := 274) rfl ?_
    obtain ⟨n8, hn8, H⟩ := H
    refine t_iastore hT (o := 69) (l := 48) rfl rfl rfl hn8  (pc' := 275) rfl (fun hT => ?_)
    have H := H _ rfl
    refine g_aload (r := some _) rfl rfl rfl (pc' := 276) ?_
    refine t_get (o := 70) rfl hT rfl rfl rfl (pc' := 279) rfl ?_
    refine g_iload rfl rfl rfl (pc' := 281) ?_
    refine g_aload (r := some _) rfl rfl rfl (pc' := 282) ?_
    refine t_get (o := 70) rfl hT rfl rfl rfl (pc' := 285) rfl ?_
    refine g_iload rfl rfl rfl (pc' := 287) ?_
    obtain ⟨n10, hn10, H⟩ := H
    refine t_iaload hT (o := 70) (l := 48) rfl rfl rfl hn10 (pc' := 288) rfl ?_
    obtain ⟨n11, hn11, H⟩ := H
    refine t_iastore hT (o := 70) (l := 48) rfl rfl rfl hn11  (pc' := 289) rfl (fun hT => ?_)
    have H := H _ rfl
    refine g_aload (r := some _) rfl rfl rfl (pc' := 290) ?_
    refine t_get (o := 71) rfl hT rfl rfl rfl (pc' := 293) rfl ?_
    refine g_iload rfl rfl rfl (pc' := 295) ?_
    refine g_aload (r := some _) rfl rfl rfl (pc' := 296) ?_
    refine t_get (o := 71) rfl hT rfl rfl rfl (pc' := 299) rfl ?_
    refine g_iload rfl rfl rfl (pc' := 301) ?_
    obtain ⟨n13, hn13, H⟩ := H
    refine t_iaload hT (o := 71) (l := 48) rfl rfl rfl hn13 (pc' := 302) rfl ?_
    obtain ⟨n14, hn14, H⟩ := H
    refine t_iastore hT (o := 71) (l := 48) rfl rfl rfl hn14  (pc' := 303) rfl (fun hT => ?_)
    have H := H _ rfl
    refine g_aload (r := some _) rfl rfl rfl (pc' := 304) ?_
    refine t_get (o := 72) rfl hT rfl rfl rfl (pc' := 307) rfl ?_
    refine g_iload rfl rfl rfl (pc' := 309) ?_
    refine g_aload (r := some _) rfl rfl rfl (pc' := 310) ?_
    refine t_get (o := 72) rfl hT rfl rfl rfl (pc' := 313) rfl ?_
    refine g_iload rfl rfl rfl (pc' := 315) ?_
    obtain ⟨n16, hn16, H⟩ := H
    refine t_iaload hT (o := 72) (l := 48) rfl rfl rfl hn16 (pc' := 316) rfl ?_
    obtain ⟨n17, hn17, H⟩ := H
    refine t_iastore hT (o := 72) (l := 48) rfl rfl rfl hn17  (pc' := 317) rfl (fun hT => ?_)
    have H := H _ rfl
    refine g_aload (r := some _) rfl rfl rfl (pc' := 318) ?_
    refine t_get (o := 73) rfl hT rfl rfl rfl (pc' := 321) rfl ?_
    refine g_iload rfl rfl rfl (pc' := 323) ?_
    refine g_aload (r := some _) rfl rfl rfl (pc' := 324) ?_
    refine t_get (o := 73) rfl hT rfl rfl rfl (pc' := 327) rfl ?_
    refine g_iload rfl rfl rfl (pc' := 329) ?_
    obtain ⟨n19, hn19, H⟩ := H
    refine t_iaload hT (o := 73) (l := 48) rfl rfl rfl hn19 (pc' := 330) rfl ?_
    obtain ⟨n20, hn20, H⟩ := H
    refine t_iastore hT (o := 73) (l := 48) rfl rfl rfl hn20  (pc' := 331) rfl (fun hT => ?_)
    have H := H _ rfl
    refine g_aload (r := some _) rfl rfl rfl (pc' := 332) ?_
    refine t_get (o := 74) rfl hT rfl rfl rfl (pc' := 335) rfl ?_
    refine g_iload rfl rfl rfl (pc' := 337) ?_
    refine g_aload (r := some _) rfl rfl rfl (pc' := 338) ?_
    refine t_get (o := 74) rfl hT rfl rfl rfl (pc' := 341) rfl ?_
    refine g_iload rfl rfl rfl (pc' := 343) ?_
    obtain ⟨n22, hn22, H⟩ := H
    refine t_iaload hT (o := 74) (l := 48) rfl rfl rfl hn22 (pc' := 344) rfl ?_
    obtain ⟨n23, hn23, H⟩ := H
    refine t_iastore hT (o := 74) (l := 48) rfl rfl rfl hn23  (pc' := 345) rfl (fun hT => ?_)
    have H := H _ rfl
    refine g_aload (r := some _) rfl rfl rfl (pc' := 346) ?_
    refine t_get (o := 75) rfl hT rfl rfl rfl (pc' := 349) rfl ?_
    refine g_iload rfl rfl rfl (pc' := 351) ?_
    refine g_aload (r := some _) rfl rfl rfl (pc' := 352) ?_
    refine t_get (o := 75) rfl hT rfl rfl rfl (pc' := 355) rfl ?_
    refine g_iload rfl rfl rfl (pc' := 357) ?_
    obtain ⟨n25, hn25, H⟩ := H
    refine t_iaload hT (o := 75) (l := 48) rfl rfl rfl hn25 (pc' := 358) rfl ?_
    obtain ⟨n26, hn26, H⟩ := H
    refine t_iastore hT (o := 75) (l := 48) rfl rfl rfl hn26  (pc' := 359) rfl (fun hT => ?_)
    have H := H _ rfl
    refine g_iconst rfl rfl rfl (pc' := 360) ?_
    refine g_istore rfl rfl rfl (pc' := 362) ?_
    exact g_weak (show gm_Lle [some _, some _, some _, some _, some _, some _, some _] _ from ⟨rfl, ⟨rfl, ⟨rfl, ⟨rfl, ⟨rfl, ⟨rfl, ⟨rfl, trivial⟩⟩⟩⟩⟩⟩⟩) H
theorem w_99_362 {m : Nat} {x1 : Int32} {x2 : Int32} {x3 : Int32} {x4 : Int32} {x5 : Int32} {x6 : Int32} {h : hh_T} {Q : Option Value ⊕ Nat → hh_T → Prop} (hT : tw_ok h m) (H : (¬ x6 < (Int32.ofNat 8) → (gm_G 99 239 [some (.ref m), some (.int x1), some (.int x2), some (.int (x3 + (Int32.ofNat 1)))] [] h Q)) ∧ (x6 < (Int32.ofNat 8) → (∃ n1, gm_ix (((Int32.ofNat 8) * x4) + x6) n1 384 ∧ (∃ n2, gm_ix (((Int32.ofNat 8) * x5) + x6) n2 384 ∧ (∀ h3, h3 = hh_wi h (m + 68) n2 ((hh_i h (m + 68) n1).toInt8.toInt32) → (gm_G 99 362 [some (.ref m), some (.int x1), some (.int x2), some (.int x3), some (.int x4), some (.int x5), some (.int (x6 + (Int32.ofNat 1)))] [] h3 Q)))))) : gm_G 99 362 [some (.ref m), some (.int x1), some (.int x2), some (.int x3), some (.int x4), some (.int x5), some (.int x6)] [] h Q := by
  refine g_iload rfl rfl rfl (pc' := 364) ?_
  refine g_iconst rfl rfl rfl (pc' := 366) ?_
  refine g_ic_ge rfl (pc' := 369) (pt := 401) rfl rfl ⟨fun hc => ?_, fun hc => ?_⟩
  · have H := H.1 hc
    refine g_iinc (c := (Int32.ofNat 1)) rfl rfl rfl rfl rfl (pc' := 404) ?_
    refine g_goto rfl (pc' := 239) rfl ?_
    exact g_weak (show gm_Lle [some _, some _, some _, some _] _ from ⟨rfl, ⟨rfl, ⟨rfl, ⟨rfl, trivial⟩⟩⟩⟩) H
  · have H := H.2 hc
    refine g_aload (r := some _) rfl rfl rfl (pc' := 370) ?_
    refine t_get (o := 68) rfl hT rfl rfl rfl (pc' := 373) rfl ?_
    refine g_iconst rfl rfl rfl (pc' := 375) ?_
    refine g_iload rfl rfl rfl (pc' := 377) ?_
    refine g_imul rfl rfl (pc' := 378) ?_
    refine g_iload rfl rfl rfl (pc' := 380) ?_
    refine g_iadd rfl rfl (pc' := 381) ?_
    refine g_aload (r := some _) rfl rfl rfl (pc' := 382) ?_
    refine t_get (o := 68) rfl hT rfl rfl rfl (pc' := 385) rfl ?_
    refine g_iconst rfl rfl rfl (pc' := 387) ?_
    refine g_iload rfl rfl rfl (pc' := 389) ?_
    refine g_imul rfl rfl (pc' := 390) ?_
    refine g_iload rfl rfl rfl (pc' := 392) ?_
    refine g_iadd rfl rfl (pc' := 393) ?_
    obtain ⟨n1, hn1, H⟩ := H
    refine t_baload hT (o := 68) (l := 384) rfl rfl rfl hn1 (pc' := 394) rfl ?_
    obtain ⟨n2, hn2, H⟩ := H
    refine t_bastore hT (o := 68) (l := 384) rfl rfl rfl hn2  (pc' := 395) rfl (fun hT => ?_)
    have H := H _ rfl
    refine g_iinc (c := (Int32.ofNat 1)) rfl rfl rfl rfl rfl (pc' := 398) ?_
    refine g_goto rfl (pc' := 362) rfl ?_
    exact g_weak (show gm_Lle [some _, some _, some _, some _, some _, some _, some _] _ from ⟨rfl, ⟨rfl, ⟨rfl, ⟨rfl, ⟨rfl, ⟨rfl, ⟨rfl, trivial⟩⟩⟩⟩⟩⟩⟩) H
theorem w_100_0 {m : Nat} {b1 : Nat} {x2 : Int32} {x3 : Int32} {x4 : Int32} {h : hh_T} {Q : Option Value ⊕ Nat → hh_T → Prop} (hT : tw_ok h m) (H : gm_G 100 6 [some (.ref m), some (.ref b1), some (.int x2), some (.int x3), some (.int x4), some (.int (Int32.ofNat 0)), some (.int (Int32.ofNat 0))] [] h Q) : gm_G 100 0 [some (.ref m), some (.ref b1), some (.int x2), some (.int x3), some (.int x4)] [] h Q := by
  refine g_iconst rfl rfl rfl (pc' := 1) ?_
  refine g_istore rfl rfl rfl (pc' := 3) ?_
  refine g_iconst rfl rfl rfl (pc' := 4) ?_
  refine g_istore rfl rfl rfl (pc' := 6) ?_
  exact g_weak (show gm_Lle [some _, some _, some _, some _, some _, some _, some _] _ from ⟨rfl, ⟨rfl, ⟨rfl, ⟨rfl, ⟨rfl, ⟨rfl, ⟨rfl, trivial⟩⟩⟩⟩⟩⟩⟩) H
theorem w_100_6 {m : Nat} {b1 : Nat} {x2 : Int32} {x3 : Int32} {x4 : Int32} {x5 : Int32} {x6 : Int32} {h : hh_T} {Q : Option Value ⊕ Nat → hh_T → Prop} (hT : tw_ok h m) (H : (¬ x5 < (Int32.ofNat 32) → (gm_G 100 307 [none, some (.ref b1), some (.int x2), some (.int x3), none, some (.int x5), some (.int x6)] [] h Q)) ∧ (x5 < (Int32.ofNat 32) → ((¬ x6 < x3 → (gm_G 100 307 [none, some (.ref b1), some (.int x2), some (.int x3), none, some (.int x5), some (.int x6)] [] h Q)) ∧ (x6 < x3 → ((hh_tg h b1 = 101 ∨ hh_tg h b1 = 102) ∧ (∃ n1, gm_ix (x2 + x6) n1 (hh_ln h b1) ∧ ((x4 = Int32.ofNat 0 → (gm_G 100 50 [some (.ref m), some (.ref b1), some (.int x2), some (.int x3), some (.int x4), some (.int x5), some (.int (x6 + (Int32.ofNat 1))), some (.int ((hh_i h b1 n1) &&& (Int32.ofNat 255)))] [] h Q)) ∧ (¬ x4 = Int32.ofNat 0 → ((¬ x4 = (Int32.ofNat 1) → (gm_G 100 66 [some (.ref m), some (.ref b1), some (.int x2), some (.int x3), some (.int x4), some (.int x5), some (.int (x6 + (Int32.ofNat 1))), some (.int ((hh_i h b1 n1) &&& (Int32.ofNat 255)))] [] h Q)) ∧ (x4 = (Int32.ofNat 1) → ((((hh_i h b1 n1) &&& (Int32.ofNat 255)) = Int32.ofNat 0 → (gm_G 100 66 [some (.ref m), some (.ref b1), some (.int x2), some (.int x3), some (.int x4), some (.int x5), some (.int (x6 + (Int32.ofNat 1))), some (.int ((hh_i h b1 n1) &&& (Int32.ofNat 255)))] [] h Q)) ∧ (¬ ((hh_i h b1 n1) &&& (Int32.ofNat 255)) = Int32.ofNat 0 → (gm_G 100 50 [some (.ref m), some (.ref b1), some (.int x2), some (.int x3), some (.int x4), some (.int x5), some (.int (x6 + (Int32.ofNat 1))), some (.int ((hh_i h b1 n1) &&& (Int32.ofNat 255)))] [] h Q))))))))))))) : gm_G 100 6 [some (.ref m), some (.ref b1), some (.int x2), some (.int x3), some (.int x4), some (.int x5), some (.int x6)] [] h Q := by
  refine g_iload rfl rfl rfl (pc' := 8) ?_
  refine g_iconst rfl rfl rfl (pc' := 10) ?_
  refine g_ic_ge rfl (pc' := 13) (pt := 307) rfl rfl ⟨fun hc => ?_, fun hc => ?_⟩
  · have H := H.1 hc
    exact g_weak (show gm_Lle [none, some _, some _, some _, none, some _, some _] _ from ⟨rfl, ⟨rfl, ⟨rfl, ⟨rfl, ⟨rfl, trivial⟩⟩⟩⟩⟩) H
  · have H := H.2 hc
    refine g_iload rfl rfl rfl (pc' := 15) ?_
    refine g_iload rfl rfl rfl (pc' := 16) ?_
    refine g_ic_ge rfl (pc' := 19) (pt := 307) rfl rfl ⟨fun hc => ?_, fun hc => ?_⟩
    · have H := H.1 hc
      exact g_weak (show gm_Lle [none, some _, some _, some _, none, some _, some _] _ from ⟨rfl, ⟨rfl, ⟨rfl, ⟨rfl, ⟨rfl, trivial⟩⟩⟩⟩⟩) H
    · have H := H.2 hc
      refine g_aload (r := some _) rfl rfl rfl (pc' := 20) ?_
      refine g_iload rfl rfl rfl (pc' := 21) ?_
      refine g_iload rfl rfl rfl (pc' := 23) ?_
      refine g_iadd rfl rfl (pc' := 24) ?_
      obtain ⟨ht2, H⟩ := H
      obtain ⟨n1, hn1, H⟩ := H
      refine g_baload rfl ht2 hn1 (pc' := 25) rfl ?_
      refine g_iconst rfl rfl rfl (pc' := 28) ?_
      refine g_iand rfl rfl (pc' := 29) ?_
      refine g_istore rfl rfl rfl (pc' := 31) ?_
      refine g_iinc (c := (Int32.ofNat 1)) rfl rfl rfl rfl rfl (pc' := 34) ?_
      refine g_iload rfl rfl rfl (pc' := 36) ?_
      refine g_if_eq rfl (pc' := 39) (pt := 50) rfl rfl ⟨fun hc => ?_, fun hc => ?_⟩
      · have H := H.1 hc
        exact g_weak (show gm_Lle [some _, some _, some _, some _, some _, some _, some _, some _] _ from ⟨rfl, ⟨rfl, ⟨rfl, ⟨rfl, ⟨rfl, ⟨rfl, ⟨rfl, ⟨rfl, trivial⟩⟩⟩⟩⟩⟩⟩⟩) H
      · have H := H.2 hc
        refine g_iload rfl rfl rfl (pc' := 41) ?_
        refine g_iconst rfl rfl rfl (pc' := 42) ?_
        refine g_ic_ne rfl (pc' := 45) (pt := 66) rfl rfl ⟨fun hc => ?_, fun hc => ?_⟩
        · have H := H.1 hc
          exact g_weak (show gm_Lle [some _, some _, some _, some _, some _, some _, some _, some _] _ from ⟨rfl, ⟨rfl, ⟨rfl, ⟨rfl, ⟨rfl, ⟨rfl, ⟨rfl, ⟨rfl, trivial⟩⟩⟩⟩⟩⟩⟩⟩) H
        · have H := H.2 hc
          refine g_iload rfl rfl rfl (pc' := 47) ?_
          refine g_if_eq rfl (pc' := 50) (pt := 66) rfl rfl ⟨fun hc => ?_, fun hc => ?_⟩
          · have H := H.1 hc
            exact g_weak (show gm_Lle [some _, some _, some _, some _, some _, some _, some _, some _] _ from ⟨rfl, ⟨rfl, ⟨rfl, ⟨rfl, ⟨rfl, ⟨rfl, ⟨rfl, ⟨rfl, trivial⟩⟩⟩⟩⟩⟩⟩⟩) H
          · have H := H.2 hc
            exact g_weak (show gm_Lle [some _, some _, some _, some _, some _, some _, some _, some _] _ from ⟨rfl, ⟨rfl, ⟨rfl, ⟨rfl, ⟨rfl, ⟨rfl, ⟨rfl, ⟨rfl, trivial⟩⟩⟩⟩⟩⟩⟩⟩) H
theorem w_100_50 {m : Nat} {b1 : Nat} {x2 : Int32} {x3 : Int32} {x4 : Int32} {x5 : Int32} {x6 : Int32} {x7 : Int32} {h : hh_T} {Q : Option Value ⊕ Nat → hh_T → Prop} (hT : tw_ok h m) (H : ∃ n1, gm_ix x5 n1 64 ∧ (∀ h2, h2 = hh_wi h (m + 29) n1 ((x7.toInt8.toInt32).toInt8.toInt32) → (gm_G 100 6 [some (.ref m), some (.ref b1), some (.int x2), some (.int x3), some (.int x4), some (.int (x5 + (Int32.ofNat 1))), some (.int x6)] [] h2 Q))) : gm_G 100 50 [some (.ref m), some (.ref b1), some (.int x2), some (.int x3), some (.int x4), some (.int x5), some (.int x6), some (.int x7)] [] h Q := by
  refine g_aload (r := some _) rfl rfl rfl (pc' := 51) ?_
  refine t_get (o := 29) rfl hT rfl rfl rfl (pc' := 54) rfl ?_
  refine g_iload rfl rfl rfl (pc' := 56) ?_
  refine g_iinc (c := (Int32.ofNat 1)) rfl rfl rfl rfl rfl (pc' := 59) ?_
  refine g_iload rfl rfl rfl (pc' := 61) ?_
  refine g_i2b rfl rfl (pc' := 62) ?_
  obtain ⟨n1, hn1, H⟩ := H
  refine t_bastore hT (o := 29) (l := 64) rfl rfl rfl hn1  (pc' := 63) rfl (fun hT => ?_)
  have H := H _ rfl
  refine g_goto rfl (pc' := 6) rfl ?_
  exact g_weak (show gm_Lle [some _, some _, some _, some _, some _, some _, some _] _ from ⟨rfl, ⟨rfl, ⟨rfl, ⟨rfl, ⟨rfl, ⟨rfl, ⟨rfl, trivial⟩⟩⟩⟩⟩⟩⟩) H
theorem w_100_66 {m : Nat} {b1 : Nat} {x2 : Int32} {x3 : Int32} {x4 : Int32} {x5 : Int32} {x6 : Int32} {x7 : Int32} {h : hh_T} {Q : Option Value ⊕ Nat → hh_T → Prop} (hT : tw_ok h m) (H : (x6 < x3 → ((¬ x4 = (Int32.ofNat 1) → ((¬ x7 < (Int32.ofNat 32) → ((hh_tg h b1 = 101 ∨ hh_tg h b1 = 102) ∧ (∃ n1, gm_ix (x2 + x6) n1 (hh_ln h b1) ∧ ((x7 < (Int32.ofNat 128) → (Q (.inl (some (.int (Int32.ofNat 0)))) h)) ∧ (¬ x7 < (Int32.ofNat 128) → ((((hh_i h b1 n1) &&& (Int32.ofNat 255)) < (Int32.ofNat 1) → (Q (.inl (some (.int (Int32.ofNat 0)))) h)) ∧ (¬ ((hh_i h b1 n1) &&& (Int32.ofNat 255)) < (Int32.ofNat 1) → ((x5 < ((hh_i h b1 n1) &&& (Int32.ofNat 255)) → (Q (.inl (some (.int (Int32.ofNat 0)))) h)) ∧ (¬ x5 < ((hh_i h b1 n1) &&& (Int32.ofNat 255)) → ((¬ (Int32.ofNat 32) < (x5 + (x7 - (Int32.ofNat 125))) → (gm_G 100 271 [some (.ref m), some (.ref b1), some (.int x2), some (.int x3), some (.int x4), some (.int x5), some (.int (x6 + (Int32.ofNat 1))), none, some (.int ((hh_i h b1 n1) &&& (Int32.ofNat 255))), some (.int (x7 - (Int32.ofNat 125))), some (.int (Int32.ofNat 0))] [] h Q)) ∧ ((Int32.ofNat 32) < (x5 + (x7 - (Int32.ofNat 125))) → (Q (.inl (some (.int (Int32.ofNat 0)))) h)))))))))))) ∧ (x7 < (Int32.ofNat 32) → (((Int32.ofNat 32) < ((x5 + x7) + (Int32.ofNat 1)) → (Q (.inl (some (.int (Int32.ofNat 0)))) h)) ∧ (¬ (Int32.ofNat 32) < ((x5 + x7) + (Int32.ofNat 1)) → ((¬ x3 < ((x6 + x7) + (Int32.ofNat 1)) → (gm_G 100 178 [some (.ref m), some (.ref b1), some (.int x2), some (.int x3), some (.int x4), some (.int x5), some (.int x6), some (.int x7), some (.int (Int32.ofNat 0))] [] h Q)) ∧ (x3 < ((x6 + x7) + (Int32.ofNat 1)) → (Q (.inl (some (.int (Int32.ofNat 0)))) h)))))))) ∧ (x4 = (Int32.ofNat 1) → ((hh_tg h b1 = 101 ∨ hh_tg h b1 = 102) ∧ (∃ n3, gm_ix (x2 + x6) n3 (hh_ln h b1) ∧ ((((hh_i h b1 n3) &&& (Int32.ofNat 255)) < (Int32.ofNat 1) → (Q (.inl (some (.int (Int32.ofNat 0)))) h)) ∧ (¬ ((hh_i h b1 n3) &&& (Int32.ofNat 255)) < (Int32.ofNat 1) → ((¬ (Int32.ofNat 32) < (x5 + ((hh_i h b1 n3) &&& (Int32.ofNat 255))) → (gm_G 100 116 [some (.ref m), some (.ref b1), some (.int x2), some (.int x3), some (.int x4), some (.int x5), some (.int (x6 + (Int32.ofNat 1))), none, some (.int ((hh_i h b1 n3) &&& (Int32.ofNat 255))), some (.int (Int32.ofNat 0))] [] h Q)) ∧ ((Int32.ofNat 32) < (x5 + ((hh_i h b1 n3) &&& (Int32.ofNat 255))) → (Q (.inl (some (.int (Int32.ofNat 0)))) h)))))))))) ∧ (¬ x6 < x3 → (Q (.inl (some (.int (Int32.ofNat 0)))) h))) : gm_G 100 66 [some (.ref m), some (.ref b1), some (.int x2), some (.int x3), some (.int x4), some (.int x5), some (.int x6), some (.int x7)] [] h Q := by
  refine g_iload rfl rfl rfl (pc' := 68) ?_
  refine g_iload rfl rfl rfl (pc' := 69) ?_
  refine g_ic_lt rfl (pc' := 72) (pt := 74) rfl rfl ⟨fun hc => ?_, fun hc => ?_⟩
  · have H := H.1 hc
    refine g_iload rfl rfl rfl (pc' := 76) ?_
    refine g_iconst rfl rfl rfl (pc' := 77) ?_
    refine g_ic_ne rfl (pc' := 80) (pt := 143) rfl rfl ⟨fun hc => ?_, fun hc => ?_⟩
    · have H := H.1 hc
      refine g_iload rfl rfl rfl (pc' := 145) ?_
      refine g_iconst rfl rfl rfl (pc' := 147) ?_
      refine g_ic_ge rfl (pc' := 150) (pt := 213) rfl rfl ⟨fun hc => ?_, fun hc => ?_⟩
      · have H := H.1 hc
        refine g_aload (r := some _) rfl rfl rfl (pc' := 214) ?_
        refine g_iload rfl rfl rfl (pc' := 215) ?_
        refine g_iload rfl rfl rfl (pc' := 217) ?_
        refine g_iadd rfl rfl (pc' := 218) ?_
        obtain ⟨ht2, H⟩ := H
        obtain ⟨n1, hn1, H⟩ := H
        refine g_baload rfl ht2 hn1 (pc' := 219) rfl ?_
        refine g_iconst rfl rfl rfl (pc' := 222) ?_
        refine g_iand rfl rfl (pc' := 223) ?_
        refine g_istore rfl rfl rfl (pc' := 225) ?_
        refine g_iinc (c := (Int32.ofNat 1)) rfl rfl rfl rfl rfl (pc' := 228) ?_
        refine g_iload rfl rfl rfl (pc' := 230) ?_
        refine g_iconst rfl rfl rfl (pc' := 232) ?_
        refine g_isub rfl rfl (pc' := 233) ?_
        refine g_istore rfl rfl rfl (pc' := 235) ?_
        refine g_iload rfl rfl rfl (pc' := 237) ?_
        refine g_iconst rfl rfl rfl (pc' := 240) ?_
        refine g_ic_lt rfl (pc' := 243) (pt := 266) rfl rfl ⟨fun hc => ?_, fun hc => ?_⟩
        · have H := H.1 hc
          refine g_iconst rfl rfl rfl (pc' := 267) ?_
          exact g_ireturn rfl (Or.inr (by decide)) H
        · have H := H.2 hc
          refine g_iload rfl rfl rfl (pc' := 245) ?_
          refine g_iconst rfl rfl rfl (pc' := 246) ?_
          refine g_ic_lt rfl (pc' := 249) (pt := 266) rfl rfl ⟨fun hc => ?_, fun hc => ?_⟩
          · have H := H.1 hc
            refine g_iconst rfl rfl rfl (pc' := 267) ?_
            exact g_ireturn rfl (Or.inr (by decide)) H
          · have H := H.2 hc
            refine g_iload rfl rfl rfl (pc' := 251) ?_
            refine g_iload rfl rfl rfl (pc' := 253) ?_
            refine g_ic_gt rfl (pc' := 256) (pt := 266) rfl rfl ⟨fun hc => ?_, fun hc => ?_⟩
            · have H := H.1 hc
              refine g_iconst rfl rfl rfl (pc' := 267) ?_
              exact g_ireturn rfl (Or.inr (by decide)) H
            · have H := H.2 hc
              refine g_iload rfl rfl rfl (pc' := 258) ?_
              refine g_iload rfl rfl rfl (pc' := 260) ?_
              refine g_iadd rfl rfl (pc' := 261) ?_
              refine g_iconst rfl rfl rfl (pc' := 263) ?_
              refine g_ic_le rfl (pc' := 266) (pt := 268) rfl rfl ⟨fun hc => ?_, fun hc => ?_⟩
              · have H := H.1 hc
                refine g_iconst rfl rfl rfl (pc' := 269) ?_
                refine g_istore rfl rfl rfl (pc' := 271) ?_
                exact g_weak (show gm_Lle [some _, some _, some _, some _, some _, some _, some _, none, some _, some _, some _] _ from ⟨rfl, ⟨rfl, ⟨rfl, ⟨rfl, ⟨rfl, ⟨rfl, ⟨rfl, ⟨rfl, ⟨rfl, ⟨rfl, trivial⟩⟩⟩⟩⟩⟩⟩⟩⟩⟩) H
              · have H := H.2 hc
                refine g_iconst rfl rfl rfl (pc' := 267) ?_
                exact g_ireturn rfl (Or.inr (by decide)) H
      · have H := H.2 hc
        refine g_iload rfl rfl rfl (pc' := 152) ?_
        refine g_iload rfl rfl rfl (pc' := 154) ?_
        refine g_iadd rfl rfl (pc' := 155) ?_
        refine g_iconst rfl rfl rfl (pc' := 156) ?_
        refine g_iadd rfl rfl (pc' := 157) ?_
        refine g_iconst rfl rfl rfl (pc' := 159) ?_
        refine g_ic_gt rfl (pc' := 162) (pt := 173) rfl rfl ⟨fun hc => ?_, fun hc => ?_⟩
        · have H := H.1 hc
          refine g_iconst rfl rfl rfl (pc' := 174) ?_
          exact g_ireturn rfl (Or.inr (by decide)) H
        · have H := H.2 hc
          refine g_iload rfl rfl rfl (pc' := 164) ?_
          refine g_iload rfl rfl rfl (pc' := 166) ?_
          refine g_iadd rfl rfl (pc' := 167) ?_
          refine g_iconst rfl rfl rfl (pc' := 168) ?_
          refine g_iadd rfl rfl (pc' := 169) ?_
          refine g_iload rfl rfl rfl (pc' := 170) ?_
          refine g_ic_le rfl (pc' := 173) (pt := 175) rfl rfl ⟨fun hc => ?_, fun hc => ?_⟩
          · have H := H.1 hc
            refine g_iconst rfl rfl rfl (pc' := 176) ?_
            refine g_istore rfl rfl rfl (pc' := 178) ?_
            exact g_weak (show gm_Lle [some _, some _, some _, some _, some _, some _, some _, some _, some _] _ from ⟨rfl, ⟨rfl, ⟨rfl, ⟨rfl, ⟨rfl, ⟨rfl, ⟨rfl, ⟨rfl, ⟨rfl, trivial⟩⟩⟩⟩⟩⟩⟩⟩⟩) H
          · have H := H.2 hc
            refine g_iconst rfl rfl rfl (pc' := 174) ?_
            exact g_ireturn rfl (Or.inr (by decide)) H
    · have H := H.2 hc
      refine g_aload (r := some _) rfl rfl rfl (pc' := 81) ?_
      refine g_iload rfl rfl rfl (pc' := 82) ?_
      refine g_iload rfl rfl rfl (pc' := 84) ?_
      refine g_iadd rfl rfl (pc' := 85) ?_
      obtain ⟨ht4, H⟩ := H
      obtain ⟨n3, hn3, H⟩ := H
      refine g_baload rfl ht4 hn3 (pc' := 86) rfl ?_
      refine g_iconst rfl rfl rfl (pc' := 89) ?_
      refine g_iand rfl rfl (pc' := 90) ?_
      refine g_istore rfl rfl rfl (pc' := 92) ?_
      refine g_iinc (c := (Int32.ofNat 1)) rfl rfl rfl rfl rfl (pc' := 95) ?_
      refine g_iload rfl rfl rfl (pc' := 97) ?_
      refine g_iconst rfl rfl rfl (pc' := 98) ?_
      refine g_ic_lt rfl (pc' := 101) (pt := 111) rfl rfl ⟨fun hc => ?_, fun hc => ?_⟩
      · have H := H.1 hc
        refine g_iconst rfl rfl rfl (pc' := 112) ?_
        exact g_ireturn rfl (Or.inr (by decide)) H
      · have H := H.2 hc
        refine g_iload rfl rfl rfl (pc' := 103) ?_
        refine g_iload rfl rfl rfl (pc' := 105) ?_
        refine g_iadd rfl rfl (pc' := 106) ?_
        refine g_iconst rfl rfl rfl (pc' := 108) ?_
        refine g_ic_le rfl (pc' := 111) (pt := 113) rfl rfl ⟨fun hc => ?_, fun hc => ?_⟩
        · have H := H.1 hc
          refine g_iconst rfl rfl rfl (pc' := 114) ?_
          refine g_istore rfl rfl rfl (pc' := 116) ?_
          exact g_weak (show gm_Lle [some _, some _, some _, some _, some _, some _, some _, none, some _, some _] _ from ⟨rfl, ⟨rfl, ⟨rfl, ⟨rfl, ⟨rfl, ⟨rfl, ⟨rfl, ⟨rfl, ⟨rfl, trivial⟩⟩⟩⟩⟩⟩⟩⟩⟩) H
        · have H := H.2 hc
          refine g_iconst rfl rfl rfl (pc' := 112) ?_
          exact g_ireturn rfl (Or.inr (by decide)) H
  · have H := H.2 hc
    refine g_iconst rfl rfl rfl (pc' := 73) ?_
    exact g_ireturn rfl (Or.inr (by decide)) H
theorem w_100_116 {m : Nat} {b1 : Nat} {x2 : Int32} {x3 : Int32} {x4 : Int32} {x5 : Int32} {x6 : Int32} {x8 : Int32} {x9 : Int32} {h : hh_T} {Q : Option Value ⊕ Nat → hh_T → Prop} (hT : tw_ok h m) (H : (¬ x9 < x8 → (gm_G 100 304 [some (.ref m), some (.ref b1), some (.int x2), some (.int x3), some (.int x4), some (.int x5), some (.int x6)] [] h Q)) ∧ (x9 < x8 → (∃ n1, gm_ix x5 n1 64 ∧ (∀ h2, h2 = hh_wi h (m + 29) n1 ((Int32.ofNat 0).toInt8.toInt32) → (gm_G 100 116 [some (.ref m), some (.ref b1), some (.int x2), some (.int x3), some (.int x4), some (.int (x5 + (Int32.ofNat 1))), some (.int x6), none, some (.int x8), some (.int (x9 + (Int32.ofNat 1)))] [] h2 Q))))) : gm_G 100 116 [some (.ref m), some (.ref b1), some (.int x2), some (.int x3), some (.int x4), some (.int x5), some (.int x6), none, some (.int x8), some (.int x9)] [] h Q := by
  refine g_iload rfl rfl rfl (pc' := 118) ?_
  refine g_iload rfl rfl rfl (pc' := 120) ?_
  refine g_ic_ge rfl (pc' := 123) (pt := 140) rfl rfl ⟨fun hc => ?_, fun hc => ?_⟩
  · have H := H.1 hc
    refine g_goto rfl (pc' := 304) rfl ?_
    exact g_weak (show gm_Lle [some _, some _, some _, some _, some _, some _, some _] _ from ⟨rfl, ⟨rfl, ⟨rfl, ⟨rfl, ⟨rfl, ⟨rfl, ⟨rfl, trivial⟩⟩⟩⟩⟩⟩⟩) H
  · have H := H.2 hc
    refine g_aload (r := some _) rfl rfl rfl (pc' := 124) ?_
    refine t_get (o := 29) rfl hT rfl rfl rfl (pc' := 127) rfl ?_
    refine g_iload rfl rfl rfl (pc' := 129) ?_
    refine g_iinc (c := (Int32.ofNat 1)) rfl rfl rfl rfl rfl (pc' := 132) ?_
    refine g_iconst rfl rfl rfl (pc' := 133) ?_
    obtain ⟨n1, hn1, H⟩ := H
    refine t_bastore hT (o := 29) (l := 64) rfl rfl rfl hn1  (pc' := 134) rfl (fun hT => ?_)
    have H := H _ rfl
    refine g_iinc (c := (Int32.ofNat 1)) rfl rfl rfl rfl rfl (pc' := 137) ?_
    refine g_goto rfl (pc' := 116) rfl ?_
    exact g_weak (show gm_Lle [some _, some _, some _, some _, some _, some _, some _, none, some _, some _] _ from ⟨rfl, ⟨rfl, ⟨rfl, ⟨rfl, ⟨rfl, ⟨rfl, ⟨rfl, ⟨rfl, ⟨rfl, trivial⟩⟩⟩⟩⟩⟩⟩⟩⟩) H
theorem w_100_178 {m : Nat} {b1 : Nat} {x2 : Int32} {x3 : Int32} {x4 : Int32} {x5 : Int32} {x6 : Int32} {x7 : Int32} {x8 : Int32} {h : hh_T} {Q : Option Value ⊕ Nat → hh_T → Prop} (hT : tw_ok h m) (H : (x7 < x8 → (gm_G 100 304 [some (.ref m), some (.ref b1), some (.int x2), some (.int x3), some (.int x4), some (.int x5), some (.int x6)] [] h Q)) ∧ (¬ x7 < x8 → ((hh_tg h b1 = 101 ∨ hh_tg h b1 = 102) ∧ (∃ n1, gm_ix (x2 + x6) n1 (hh_ln h b1) ∧ (∃ n3, gm_ix x5 n3 64 ∧ (∀ h4, h4 = hh_wi h (m + 29) n3 ((hh_i h b1 n1).toInt8.toInt32) → (gm_G 100 178 [some (.ref m), some (.ref b1), some (.int x2), some (.int x3), some (.int x4), some (.int (x5 + (Int32.ofNat 1))), some (.int (x6 + (Int32.ofNat 1))), some (.int x7), some (.int (x8 + (Int32.ofNat 1)))] [] h4 Q))))))) : gm_G 100 178 [some (.ref m), some (.ref b1), some (.int x2), some (.int x3), some (.int x4), some (.int x5), some (.int x6), some (.int x7), some (.int x8)] [] h Q := by
  refine g_iload rfl rfl rfl (pc' := 180) ?_
  refine g_iload rfl rfl rfl (pc' := 182) ?_
  refine g_ic_gt rfl (pc' := 185) (pt := 210) rfl rfl ⟨fun hc => ?_, fun hc => ?_⟩
  · have H := H.1 hc
    refine g_goto rfl (pc' := 304) rfl ?_
    exact g_weak (show gm_Lle [some _, some _, some _, some _, some _, some _, some _] _ from ⟨rfl, ⟨rfl, ⟨rfl, ⟨rfl, ⟨rfl, ⟨rfl, ⟨rfl, trivial⟩⟩⟩⟩⟩⟩⟩) H
  · have H := H.2 hc
    refine g_aload (r := some _) rfl rfl rfl (pc' := 186) ?_
    refine t_get (o := 29) rfl hT rfl rfl rfl (pc' := 189) rfl ?_
    refine g_iload rfl rfl rfl (pc' := 191) ?_
    refine g_iinc (c := (Int32.ofNat 1)) rfl rfl rfl rfl rfl (pc' := 194) ?_
    refine g_aload (r := some _) rfl rfl rfl (pc' := 195) ?_
    refine g_iload rfl rfl rfl (pc' := 196) ?_
    refine g_iload rfl rfl rfl (pc' := 198) ?_
    refine g_iinc (c := (Int32.ofNat 1)) rfl rfl rfl rfl rfl (pc' := 201) ?_
    refine g_iadd rfl rfl (pc' := 202) ?_
    obtain ⟨ht2, H⟩ := H
    obtain ⟨n1, hn1, H⟩ := H
    refine g_baload rfl ht2 hn1 (pc' := 203) rfl ?_
    obtain ⟨n3, hn3, H⟩ := H
    refine t_bastore hT (o := 29) (l := 64) rfl rfl rfl hn3  (pc' := 204) rfl (fun hT => ?_)
    have H := H _ rfl
    refine g_iinc (c := (Int32.ofNat 1)) rfl rfl rfl rfl rfl (pc' := 207) ?_
    refine g_goto rfl (pc' := 178) rfl ?_
    exact g_weak (show gm_Lle [some _, some _, some _, some _, some _, some _, some _, some _, some _] _ from ⟨rfl, ⟨rfl, ⟨rfl, ⟨rfl, ⟨rfl, ⟨rfl, ⟨rfl, ⟨rfl, ⟨rfl, trivial⟩⟩⟩⟩⟩⟩⟩⟩⟩) H
theorem w_100_271 {m : Nat} {b1 : Nat} {x2 : Int32} {x3 : Int32} {x4 : Int32} {x5 : Int32} {x6 : Int32} {x8 : Int32} {x9 : Int32} {x10 : Int32} {h : hh_T} {Q : Option Value ⊕ Nat → hh_T → Prop} (hT : tw_ok h m) (H : (¬ x10 < x9 → (gm_G 100 304 [some (.ref m), some (.ref b1), some (.int x2), some (.int x3), some (.int x4), some (.int x5), some (.int x6)] [] h Q)) ∧ (x10 < x9 → (∃ n1, gm_ix (x5 - x8) n1 64 ∧ (∃ n2, gm_ix x5 n2 64 ∧ (∀ h3, h3 = hh_wi h (m + 29) n2 ((hh_i h (m + 29) n1).toInt8.toInt32) → (gm_G 100 271 [some (.ref m), some (.ref b1), some (.int x2), some (.int x3), some (.int x4), some (.int (x5 + (Int32.ofNat 1))), some (.int x6), none, some (.int x8), some (.int x9), some (.int (x10 + (Int32.ofNat 1)))] [] h3 Q)))))) : gm_G 100 271 [some (.ref m), some (.ref b1), some (.int x2), some (.int x3), some (.int x4), some (.int x5), some (.int x6), none, some (.int x8), some (.int x9), some (.int x10)] [] h Q := by
  refine g_iload rfl rfl rfl (pc' := 273) ?_
  refine g_iload rfl rfl rfl (pc' := 275) ?_
  refine g_ic_ge rfl (pc' := 278) (pt := 304) rfl rfl ⟨fun hc => ?_, fun hc => ?_⟩
  · have H := H.1 hc
    exact g_weak (show gm_Lle [some _, some _, some _, some _, some _, some _, some _] _ from ⟨rfl, ⟨rfl, ⟨rfl, ⟨rfl, ⟨rfl, ⟨rfl, ⟨rfl, trivial⟩⟩⟩⟩⟩⟩⟩) H
  · have H := H.2 hc
    refine g_aload (r := some _) rfl rfl rfl (pc' := 279) ?_
    refine t_get (o := 29) rfl hT rfl rfl rfl (pc' := 282) rfl ?_
    refine g_iload rfl rfl rfl (pc' := 284) ?_
    refine g_aload (r := some _) rfl rfl rfl (pc' := 285) ?_
    refine t_get (o := 29) rfl hT rfl rfl rfl (pc' := 288) rfl ?_
    refine g_iload rfl rfl rfl (pc' := 290) ?_
    refine g_iload rfl rfl rfl (pc' := 292) ?_
    refine g_isub rfl rfl (pc' := 293) ?_
    obtain ⟨n1, hn1, H⟩ := H
    refine t_baload hT (o := 29) (l := 64) rfl rfl rfl hn1 (pc' := 294) rfl ?_
    obtain ⟨n2, hn2, H⟩ := H
    refine t_bastore hT (o := 29) (l := 64) rfl rfl rfl hn2  (pc' := 295) rfl (fun hT => ?_)
    have H := H _ rfl
    refine g_iinc (c := (Int32.ofNat 1)) rfl rfl rfl rfl rfl (pc' := 298) ?_
    refine g_iinc (c := (Int32.ofNat 1)) rfl rfl rfl rfl rfl (pc' := 301) ?_
    refine g_goto rfl (pc' := 271) rfl ?_
    exact g_weak (show gm_Lle [some _, some _, some _, some _, some _, some _, some _, none, some _, some _, some _] _ from ⟨rfl, ⟨rfl, ⟨rfl, ⟨rfl, ⟨rfl, ⟨rfl, ⟨rfl, ⟨rfl, ⟨rfl, ⟨rfl, trivial⟩⟩⟩⟩⟩⟩⟩⟩⟩⟩) H
theorem w_100_304 {m : Nat} {b1 : Nat} {x2 : Int32} {x3 : Int32} {x4 : Int32} {x5 : Int32} {x6 : Int32} {h : hh_T} {Q : Option Value ⊕ Nat → hh_T → Prop} (hT : tw_ok h m) (H : gm_G 100 6 [some (.ref m), some (.ref b1), some (.int x2), some (.int x3), some (.int x4), some (.int x5), some (.int x6)] [] h Q) : gm_G 100 304 [some (.ref m), some (.ref b1), some (.int x2), some (.int x3), some (.int x4), some (.int x5), some (.int x6)] [] h Q := by
  refine g_goto rfl (pc' := 6) rfl ?_
  exact g_weak (show gm_Lle [some _, some _, some _, some _, some _, some _, some _] _ from ⟨rfl, ⟨rfl, ⟨rfl, ⟨rfl, ⟨rfl, ⟨rfl, ⟨rfl, trivial⟩⟩⟩⟩⟩⟩⟩) H
theorem w_100_307 {m : Nat} {b1 : Nat} {x2 : Int32} {x3 : Int32} {x5 : Int32} {x6 : Int32} {h : hh_T} {Q : Option Value ⊕ Nat → hh_T → Prop} (hT : tw_ok h m) (H : (¬ x5 = (Int32.ofNat 32) → (Q (.inl (some (.int (Int32.ofNat 0)))) h)) ∧ (x5 = (Int32.ofNat 32) → (((x3 - x6) < (Int32.ofNat 8) → (gm_G 100 325 [none, some (.ref b1), some (.int x2), some (.int x3), none, none, some (.int x6)] [] h Q)) ∧ (¬ (x3 - x6) < (Int32.ofNat 8) → (Q (.inl (some (.int (Int32.ofNat 0)))) h))))) : gm_G 100 307 [none, some (.ref b1), some (.int x2), some (.int x3), none, some (.int x5), some (.int x6)] [] h Q := by
  refine g_iload rfl rfl rfl (pc' := 309) ?_
  refine g_iconst rfl rfl rfl (pc' := 311) ?_
  refine g_ic_ne rfl (pc' := 314) (pt := 323) rfl rfl ⟨fun hc => ?_, fun hc => ?_⟩
  · have H := H.1 hc
    refine g_iconst rfl rfl rfl (pc' := 324) ?_
    exact g_ireturn rfl (Or.inr (by decide)) H
  · have H := H.2 hc
    refine g_iload rfl rfl rfl (pc' := 315) ?_
    refine g_iload rfl rfl rfl (pc' := 317) ?_
    refine g_isub rfl rfl (pc' := 318) ?_
    refine g_iconst rfl rfl rfl (pc' := 320) ?_
    refine g_ic_lt rfl (pc' := 323) (pt := 325) rfl rfl ⟨fun hc => ?_, fun hc => ?_⟩
    · have H := H.1 hc
      exact g_weak (show gm_Lle [none, some _, some _, some _, none, none, some _] _ from ⟨rfl, ⟨rfl, ⟨rfl, ⟨rfl, trivial⟩⟩⟩⟩) H
    · have H := H.2 hc
      refine g_iconst rfl rfl rfl (pc' := 324) ?_
      exact g_ireturn rfl (Or.inr (by decide)) H
theorem w_100_325 {m : Nat} {b1 : Nat} {x2 : Int32} {x3 : Int32} {x6 : Int32} {h : hh_T} {Q : Option Value ⊕ Nat → hh_T → Prop} (hT : tw_ok h m) (H : (¬ x6 < x3 → (Q (.inl (some (.int (Int32.ofNat 1)))) h)) ∧ (x6 < x3 → ((hh_tg h b1 = 101 ∨ hh_tg h b1 = 102) ∧ (∃ n1, gm_ix (x2 + x6) n1 (hh_ln h b1) ∧ (((hh_i h b1 n1) = Int32.ofNat 0 → (gm_G 100 325 [none, some (.ref b1), some (.int x2), some (.int x3), none, none, some (.int (x6 + (Int32.ofNat 1)))] [] h Q)) ∧ (¬ (hh_i h b1 n1) = Int32.ofNat 0 → (Q (.inl (some (.int (Int32.ofNat 0)))) h))))))) : gm_G 100 325 [none, some (.ref b1), some (.int x2), some (.int x3), none, none, some (.int x6)] [] h Q := by
  refine g_iload rfl rfl rfl (pc' := 327) ?_
  refine g_iload rfl rfl rfl (pc' := 328) ?_
  refine g_ic_ge rfl (pc' := 331) (pt := 348) rfl rfl ⟨fun hc => ?_, fun hc => ?_⟩
  · have H := H.1 hc
    refine g_iconst rfl rfl rfl (pc' := 349) ?_
    exact g_ireturn rfl (Or.inr (by decide)) H
  · have H := H.2 hc
    refine g_aload (r := some _) rfl rfl rfl (pc' := 332) ?_
    refine g_iload rfl rfl rfl (pc' := 333) ?_
    refine g_iload rfl rfl rfl (pc' := 335) ?_
    refine g_iadd rfl rfl (pc' := 336) ?_
    obtain ⟨ht2, H⟩ := H
    obtain ⟨n1, hn1, H⟩ := H
    refine g_baload rfl ht2 hn1 (pc' := 337) rfl ?_
    refine g_if_eq rfl (pc' := 340) (pt := 342) rfl rfl ⟨fun hc => ?_, fun hc => ?_⟩
    · have H := H.1 hc
      refine g_iinc (c := (Int32.ofNat 1)) rfl rfl rfl rfl rfl (pc' := 345) ?_
      refine g_goto rfl (pc' := 325) rfl ?_
      exact g_weak (show gm_Lle [none, some _, some _, some _, none, none, some _] _ from ⟨rfl, ⟨rfl, ⟨rfl, ⟨rfl, trivial⟩⟩⟩⟩) H
    · have H := H.2 hc
      refine g_iconst rfl rfl rfl (pc' := 341) ?_
      exact g_ireturn rfl (Or.inr (by decide)) H
theorem w_101_0 {m : Nat} {x1 : Int32} {h : hh_T} {Q : Option Value ⊕ Nat → hh_T → Prop} (hT : tw_ok h m) (H : (x1 < (Int32.ofNat 8) → (Q (.inl (some (.int (Int32.ofInt (-1))))) h)) ∧ (¬ x1 < (Int32.ofNat 8) → ((¬ (Int32.ofNat 64) < x1 → ((¬ (hh_i h m 7) = (Int32.ofNat 8) → (∃ n1, gm_ix (hh_i h m 7) n1 8 ∧ (∀ h2, h2 = hh_wi h (m + 4) n1 x1 → (∀ h3, h3 = hh_wi h2 m 7 ((hh_i h2 m 7) + (Int32.ofNat 1)) → (Q (.inl (some (.int ((hh_i h3 m 7) - (Int32.ofNat 1))))) h3))))) ∧ ((hh_i h m 7) = (Int32.ofNat 8) → (Q (.inl (some (.int (Int32.ofInt (-3))))) h)))) ∧ ((Int32.ofNat 64) < x1 → (Q (.inl (some (.int (Int32.ofInt (-1))))) h))))) : gm_G 101 0 [some (.ref m), some (.int x1)] [] h Q := by
  refine g_iload rfl rfl rfl (pc' := 1) ?_
  refine g_iconst rfl rfl rfl (pc' := 3) ?_
  refine g_ic_lt rfl (pc' := 6) (pt := 12) rfl rfl ⟨fun hc => ?_, fun hc => ?_⟩
  · have H := H.1 hc
    refine g_iconst rfl rfl rfl (pc' := 13) ?_
    exact g_ireturn rfl (Or.inl rfl) H
  · have H := H.2 hc
    refine g_iload rfl rfl rfl (pc' := 7) ?_
    refine g_iconst rfl rfl rfl (pc' := 9) ?_
    refine g_ic_le rfl (pc' := 12) (pt := 14) rfl rfl ⟨fun hc => ?_, fun hc => ?_⟩
    · have H := H.1 hc
      refine g_aload (r := some _) rfl rfl rfl (pc' := 15) ?_
      refine t_getI rfl hT rfl rfl (pc' := 18) rfl ?_
      refine g_iconst rfl rfl rfl (pc' := 20) ?_
      refine g_ic_ne rfl (pc' := 23) (pt := 26) rfl rfl ⟨fun hc => ?_, fun hc => ?_⟩
      · have H := H.1 hc
        refine g_aload (r := some _) rfl rfl rfl (pc' := 27) ?_
        refine t_get (o := 4) rfl hT rfl rfl rfl (pc' := 30) rfl ?_
        refine g_aload (r := some _) rfl rfl rfl (pc' := 31) ?_
        refine t_getI rfl hT rfl rfl (pc' := 34) rfl ?_
        refine g_iload rfl rfl rfl (pc' := 35) ?_
        obtain ⟨n1, hn1, H⟩ := H
        refine t_iastore hT (o := 4) (l := 8) rfl rfl rfl hn1  (pc' := 36) rfl (fun hT => ?_)
        have H := H _ rfl
        refine g_aload (r := some _) rfl rfl rfl (pc' := 37) ?_
        refine g_dup_a (r := some _) rfl rfl (pc' := 38) ?_
        refine t_getI rfl hT rfl rfl (pc' := 41) rfl ?_
        refine g_iconst rfl rfl rfl (pc' := 42) ?_
        refine g_iadd rfl rfl (pc' := 43) ?_
        refine t_putI rfl hT rfl rfl  (pc' := 46) rfl (fun hT => ?_)
        have H := H _ rfl
        refine g_aload (r := some _) rfl rfl rfl (pc' := 47) ?_
        refine t_getI rfl hT rfl rfl (pc' := 50) rfl ?_
        refine g_iconst rfl rfl rfl (pc' := 51) ?_
        refine g_isub rfl rfl (pc' := 52) ?_
        exact g_ireturn rfl (Or.inl rfl) H
      · have H := H.2 hc
        refine g_iconst rfl rfl rfl (pc' := 25) ?_
        exact g_ireturn rfl (Or.inl rfl) H
    · have H := H.2 hc
      refine g_iconst rfl rfl rfl (pc' := 13) ?_
      exact g_ireturn rfl (Or.inl rfl) H
theorem w_102_0 {m : Nat} {x1 : Int32} {x2 : Int32} {h : hh_T} {Q : Option Value ⊕ Nat → hh_T → Prop} (hT : tw_ok h m) (H : gm_G 102 7 [some (.ref m), some (.int x1), none, some (.int (((Int32.ofNat 8) * x1) + x2))] [] h Q) : gm_G 102 0 [some (.ref m), some (.int x1), some (.int x2)] [] h Q := by
  refine g_iconst rfl rfl rfl (pc' := 2) ?_
  refine g_iload rfl rfl rfl (pc' := 3) ?_
  refine g_imul rfl rfl (pc' := 4) ?_
  refine g_iload rfl rfl rfl (pc' := 5) ?_
  refine g_iadd rfl rfl (pc' := 6) ?_
  refine g_istore rfl rfl rfl (pc' := 7) ?_
  exact g_weak (show gm_Lle [some _, some _, none, some _] _ from ⟨rfl, ⟨rfl, ⟨rfl, trivial⟩⟩⟩) H
theorem w_102_7 {m : Nat} {x1 : Int32} {x3 : Int32} {h : hh_T} {Q : Option Value ⊕ Nat → hh_T → Prop} (hT : tw_ok h m) (H : ∃ n1, gm_ix x1 n1 1536 ∧ ((¬ x3 < ((((Int32.ofNat 8) * x1) + (hh_i h (m + 45) n1)) - (Int32.ofNat 1)) → (∃ n2, gm_ix x1 n2 1536 ∧ (∃ n3, gm_ix x1 n3 1536 ∧ (∀ h4, h4 = hh_wi h (m + 45) n3 ((hh_i h (m + 45) n2) - (Int32.ofNat 1)) → (Q (.inl none) h4))))) ∧ (x3 < ((((Int32.ofNat 8) * x1) + (hh_i h (m + 45) n1)) - (Int32.ofNat 1)) → (∃ n5, gm_ix (x3 + (Int32.ofNat 1)) n5 12288 ∧ (∃ n6, gm_ix x3 n6 12288 ∧ (∀ h7, h7 = hh_wi h (m + 53) n6 (hh_i h (m + 53) n5) → (∃ n8, gm_ix (x3 + (Int32.ofNat 1)) n8 12288 ∧ (∃ n9, gm_ix x3 n9 12288 ∧ (∀ h10, h10 = hh_wi h7 (m + 54) n9 (hh_i h7 (m + 54) n8) → (gm_G 102 55 [some (.ref m), some (.int x1), none, some (.int x3), some (.int (Int32.ofNat 0))] [] h10 Q)))))))))) : gm_G 102 7 [some (.ref m), some (.int x1), none, some (.int x3)] [] h Q := by
  refine g_iload rfl rfl rfl (pc' := 8) ?_
  refine g_iconst rfl rfl rfl (pc' := 10) ?_
  refine g_iload rfl rfl rfl (pc' := 11) ?_
  refine g_imul rfl rfl (pc' := 12) ?_
  refine g_aload (r := some _) rfl rfl rfl (pc' := 13) ?_
  refine t_get (o := 45) rfl hT rfl rfl rfl (pc' := 16) rfl ?_
  refine g_iload rfl rfl rfl (pc' := 17) ?_
  obtain ⟨n1, hn1, H⟩ := H
  refine t_iaload hT (o := 45) (l := 1536) rfl rfl rfl hn1 (pc' := 18) rfl ?_
  refine g_iadd rfl rfl (pc' := 19) ?_
  refine g_iconst rfl rfl rfl (pc' := 20) ?_
  refine g_isub rfl rfl (pc' := 21) ?_
  refine g_ic_ge rfl (pc' := 24) (pt := 101) rfl rfl ⟨fun hc => ?_, fun hc => ?_⟩
  · have H := H.1 hc
    refine g_aload (r := some _) rfl rfl rfl (pc' := 102) ?_
    refine t_get (o := 45) rfl hT rfl rfl rfl (pc' := 105) rfl ?_
    refine g_iload rfl rfl rfl (pc' := 106) ?_
    refine g_dup2_a rfl (pc' := 107) rfl ?_
    obtain ⟨n2, hn2, H⟩ := H
    refine t_iaload hT (o := 45) (l := 1536) rfl rfl rfl hn2 (pc' := 108) rfl ?_
    refine g_iconst rfl rfl rfl (pc' := 109) ?_
    refine g_isub rfl rfl (pc' := 110) ?_
    obtain ⟨n3, hn3, H⟩ := H
    refine t_iastore hT (o := 45) (l := 1536) rfl rfl rfl hn3  (pc' := 111) rfl (fun hT => ?_)
    have H := H _ rfl
    exact g_return rfl H
  · have H := H.2 hc
    refine g_aload (r := some _) rfl rfl rfl (pc' := 25) ?_
    refine t_get (o := 53) rfl hT rfl rfl rfl (pc' := 28) rfl ?_
    refine g_iload rfl rfl rfl (pc' := 29) ?_
    refine g_aload (r := some _) rfl rfl rfl (pc' := 30) ?_
    refine t_get (o := 53) rfl hT rfl rfl rfl (pc' := 33) rfl ?_
    refine g_iload rfl rfl rfl (pc' := 34) ?_
    refine g_iconst rfl rfl rfl (pc' := 35) ?_
    refine g_iadd rfl rfl (pc' := 36) ?_
    obtain ⟨n5, hn5, H⟩ := H
    refine t_iaload hT (o := 53) (l := 12288) rfl rfl rfl hn5 (pc' := 37) rfl ?_
    obtain ⟨n6, hn6, H⟩ := H
    refine t_iastore hT (o := 53) (l := 12288) rfl rfl rfl hn6  (pc' := 38) rfl (fun hT => ?_)
    have H := H _ rfl
    refine g_aload (r := some _) rfl rfl rfl (pc' := 39) ?_
    refine t_get (o := 54) rfl hT rfl rfl rfl (pc' := 42) rfl ?_
    refine g_iload rfl rfl rfl (pc' := 43) ?_
    refine g_aload (r := some _) rfl rfl rfl (pc' := 44) ?_
    refine t_get (o := 54) rfl hT rfl rfl rfl (pc' := 47) rfl ?_
    refine g_iload rfl rfl rfl (pc' := 48) ?_
    refine g_iconst rfl rfl rfl (pc' := 49) ?_
    refine g_iadd rfl rfl (pc' := 50) ?_
    obtain ⟨n8, hn8, H⟩ := H
    refine t_iaload hT (o := 54) (l := 12288) rfl rfl rfl hn8 (pc' := 51) rfl ?_
    obtain ⟨n9, hn9, H⟩ := H
    refine t_iastore hT (o := 54) (l := 12288) rfl rfl rfl hn9  (pc' := 52) rfl (fun hT => ?_)
    have H := H _ rfl
    refine g_iconst rfl rfl rfl (pc' := 53) ?_
    refine g_istore rfl rfl rfl (pc' := 55) ?_
    exact g_weak (show gm_Lle [some _, some _, none, some _, some _] _ from ⟨rfl, ⟨rfl, ⟨rfl, ⟨rfl, trivial⟩⟩⟩⟩) H
theorem w_102_55 {m : Nat} {x1 : Int32} {x3 : Int32} {x4 : Int32} {h : hh_T} {Q : Option Value ⊕ Nat → hh_T → Prop} (hT : tw_ok h m) (H : (¬ x4 < (Int32.ofNat 8) → (gm_G 102 7 [some (.ref m), some (.int x1), none, some (.int (x3 + (Int32.ofNat 1)))] [] h Q)) ∧ (x4 < (Int32.ofNat 8) → (∃ n1, gm_ix ((((Int32.ofNat 8) * x3) + (Int32.ofNat 8)) + x4) n1 98304 ∧ (∃ n2, gm_ix (((Int32.ofNat 8) * x3) + x4) n2 98304 ∧ (∀ h3, h3 = hh_wi h (m + 56) n2 ((hh_i h (m + 56) n1).toInt8.toInt32) → (gm_G 102 55 [some (.ref m), some (.int x1), none, some (.int x3), some (.int (x4 + (Int32.ofNat 1)))] [] h3 Q)))))) : gm_G 102 55 [some (.ref m), some (.int x1), none, some (.int x3), some (.int x4)] [] h Q := by
  refine g_iload rfl rfl rfl (pc' := 57) ?_
  refine g_iconst rfl rfl rfl (pc' := 59) ?_
  refine g_ic_ge rfl (pc' := 62) (pt := 95) rfl rfl ⟨fun hc => ?_, fun hc => ?_⟩
  · have H := H.1 hc
    refine g_iinc (c := (Int32.ofNat 1)) rfl rfl rfl rfl rfl (pc' := 98) ?_
    refine g_goto rfl (pc' := 7) rfl ?_
    exact g_weak (show gm_Lle [some _, some _, none, some _] _ from ⟨rfl, ⟨rfl, ⟨rfl, trivial⟩⟩⟩) H
  · have H := H.2 hc
    refine g_aload (r := some _) rfl rfl rfl (pc' := 63) ?_
    refine t_get (o := 56) rfl hT rfl rfl rfl (pc' := 66) rfl ?_
    refine g_iconst rfl rfl rfl (pc' := 68) ?_
    refine g_iload rfl rfl rfl (pc' := 69) ?_
    refine g_imul rfl rfl (pc' := 70) ?_
    refine g_iload rfl rfl rfl (pc' := 72) ?_
    refine g_iadd rfl rfl (pc' := 73) ?_
    refine g_aload (r := some _) rfl rfl rfl (pc' := 74) ?_
    refine t_get (o := 56) rfl hT rfl rfl rfl (pc' := 77) rfl ?_
    refine g_iconst rfl rfl rfl (pc' := 79) ?_
    refine g_iload rfl rfl rfl (pc' := 80) ?_
    refine g_imul rfl rfl (pc' := 81) ?_
    refine g_iconst rfl rfl rfl (pc' := 83) ?_
    refine g_iadd rfl rfl (pc' := 84) ?_
    refine g_iload rfl rfl rfl (pc' := 86) ?_
    refine g_iadd rfl rfl (pc' := 87) ?_
    obtain ⟨n1, hn1, H⟩ := H
    refine t_baload hT (o := 56) (l := 98304) rfl rfl rfl hn1 (pc' := 88) rfl ?_
    obtain ⟨n2, hn2, H⟩ := H
    refine t_bastore hT (o := 56) (l := 98304) rfl rfl rfl hn2  (pc' := 89) rfl (fun hT => ?_)
    have H := H _ rfl
    refine g_iinc (c := (Int32.ofNat 1)) rfl rfl rfl rfl rfl (pc' := 92) ?_
    refine g_goto rfl (pc' := 55) rfl ?_
    exact g_weak (show gm_Lle [some _, some _, none, some _, some _] _ from ⟨rfl, ⟨rfl, ⟨rfl, ⟨rfl, trivial⟩⟩⟩⟩) H
theorem w_103_0 {m : Nat} {x1 : Int32} {h : hh_T} {Q : Option Value ⊕ Nat → hh_T → Prop} (hT : tw_ok h m) (H : gm_G 103 2 [some (.ref m), some (.int x1), some (.int (Int32.ofNat 0))] [] h Q) : gm_G 103 0 [some (.ref m), some (.int x1)] [] h Q := by
  refine g_iconst rfl rfl rfl (pc' := 1) ?_
  refine g_istore rfl rfl rfl (pc' := 2) ?_
  exact g_weak (show gm_Lle [some _, some _, some _] _ from ⟨rfl, ⟨rfl, ⟨rfl, trivial⟩⟩⟩) H
theorem w_103_2 {m : Nat} {x1 : Int32} {x2 : Int32} {h : hh_T} {Q : Option Value ⊕ Nat → hh_T → Prop} (hT : tw_ok h m) (H : (¬ x2 < (Int32.ofNat 4) → (Q (.inl none) h)) ∧ (x2 < (Int32.ofNat 4) → (∃ n1, gm_ix x2 n1 4 ∧ (((hh_i h (m + 97) n1) = Int32.ofNat 0 → (gm_G 103 33 [some (.ref m), some (.int x1), some (.int x2)] [] h Q)) ∧ (¬ (hh_i h (m + 97) n1) = Int32.ofNat 0 → (∃ n2, gm_ix x2 n2 4 ∧ ((¬ (hh_i h (m + 99) n2) = x1 → (gm_G 103 33 [some (.ref m), some (.int x1), some (.int x2)] [] h Q)) ∧ ((hh_i h (m + 99) n2) = x1 → (∃ n3, gm_ix x2 n3 4 ∧ (∀ h4, h4 = hh_wi h (m + 97) n3 (Int32.ofNat 0) → (gm_G 103 33 [some (.ref m), some (.int x1), some (.int x2)] [] h4 Q))))))))))) : gm_G 103 2 [some (.ref m), some (.int x1), some (.int x2)] [] h Q := by
  refine g_iload rfl rfl rfl (pc' := 3) ?_
  refine g_iconst rfl rfl rfl (pc' := 4) ?_
  refine g_ic_ge rfl (pc' := 7) (pt := 39) rfl rfl ⟨fun hc => ?_, fun hc => ?_⟩
  · have H := H.1 hc
    exact g_return rfl H
  · have H := H.2 hc
    refine g_aload (r := some _) rfl rfl rfl (pc' := 8) ?_
    refine t_get (o := 97) rfl hT rfl rfl rfl (pc' := 11) rfl ?_
    refine g_iload rfl rfl rfl (pc' := 12) ?_
    obtain ⟨n1, hn1, H⟩ := H
    refine t_zaload hT (o := 97) (l := 4) rfl rfl rfl hn1 (pc' := 13) rfl ?_
    refine g_if_eq rfl (pc' := 16) (pt := 33) rfl rfl ⟨fun hc => ?_, fun hc => ?_⟩
    · have H := H.1 hc
      exact g_weak (show gm_Lle [some _, some _, some _] _ from ⟨rfl, ⟨rfl, ⟨rfl, trivial⟩⟩⟩) H
    · have H := H.2 hc
      refine g_aload (r := some _) rfl rfl rfl (pc' := 17) ?_
      refine t_get (o := 99) rfl hT rfl rfl rfl (pc' := 20) rfl ?_
      refine g_iload rfl rfl rfl (pc' := 21) ?_
      obtain ⟨n2, hn2, H⟩ := H
      refine t_iaload hT (o := 99) (l := 4) rfl rfl rfl hn2 (pc' := 22) rfl ?_
      refine g_iload rfl rfl rfl (pc' := 23) ?_
      refine g_ic_ne rfl (pc' := 26) (pt := 33) rfl rfl ⟨fun hc => ?_, fun hc => ?_⟩
      · have H := H.1 hc
        exact g_weak (show gm_Lle [some _, some _, some _] _ from ⟨rfl, ⟨rfl, ⟨rfl, trivial⟩⟩⟩) H
      · have H := H.2 hc
        refine g_aload (r := some _) rfl rfl rfl (pc' := 27) ?_
        refine t_get (o := 97) rfl hT rfl rfl rfl (pc' := 30) rfl ?_
        refine g_iload rfl rfl rfl (pc' := 31) ?_
        refine g_iconst rfl rfl rfl (pc' := 32) ?_
        obtain ⟨n3, hn3, H⟩ := H
        refine t_zastore hT (o := 97) (l := 4) rfl rfl rfl hn3 (by decide) (pc' := 33) rfl (fun hT => ?_)
        have H := H _ rfl
        exact g_weak (show gm_Lle [some _, some _, some _] _ from ⟨rfl, ⟨rfl, ⟨rfl, trivial⟩⟩⟩) H
theorem w_103_33 {m : Nat} {x1 : Int32} {x2 : Int32} {h : hh_T} {Q : Option Value ⊕ Nat → hh_T → Prop} (hT : tw_ok h m) (H : gm_G 103 2 [some (.ref m), some (.int x1), some (.int (x2 + (Int32.ofNat 1)))] [] h Q) : gm_G 103 33 [some (.ref m), some (.int x1), some (.int x2)] [] h Q := by
  refine g_iinc (c := (Int32.ofNat 1)) rfl rfl rfl rfl rfl (pc' := 36) ?_
  refine g_goto rfl (pc' := 2) rfl ?_
  exact g_weak (show gm_Lle [some _, some _, some _] _ from ⟨rfl, ⟨rfl, ⟨rfl, trivial⟩⟩⟩) H
theorem w_104_0 {m : Nat} {x1 : Int32} {h : hh_T} {Q : Option Value ⊕ Nat → hh_T → Prop} (hT : tw_ok h m) (H : (x1 < Int32.ofNat 0 → (Q (.inl (some (.int (Int32.ofInt (-1))))) h)) ∧ (¬ x1 < Int32.ofNat 0 → ((¬ (hh_i h m 2) < x1 → (∀ h1, h1 = hh_wi h m 2 x1 → (Q (.inl (some (.int x1))) h1))) ∧ ((hh_i h m 2) < x1 → (Q (.inl (some (.int (Int32.ofInt (-1))))) h))))) : gm_G 104 0 [some (.ref m), some (.int x1)] [] h Q := by
  refine g_iload rfl rfl rfl (pc' := 1) ?_
  refine g_if_lt rfl (pc' := 4) (pt := 12) rfl rfl ⟨fun hc => ?_, fun hc => ?_⟩
  · have H := H.1 hc
    refine g_iconst rfl rfl rfl (pc' := 13) ?_
    exact g_ireturn rfl (Or.inl rfl) H
  · have H := H.2 hc
    refine g_iload rfl rfl rfl (pc' := 5) ?_
    refine g_aload (r := some _) rfl rfl rfl (pc' := 6) ?_
    refine t_getI rfl hT rfl rfl (pc' := 9) rfl ?_
    refine g_ic_le rfl (pc' := 12) (pt := 14) rfl rfl ⟨fun hc => ?_, fun hc => ?_⟩
    · have H := H.1 hc
      refine g_aload (r := some _) rfl rfl rfl (pc' := 15) ?_
      refine g_iload rfl rfl rfl (pc' := 16) ?_
      refine t_putI rfl hT rfl rfl  (pc' := 19) rfl (fun hT => ?_)
      have H := H _ rfl
      refine g_iload rfl rfl rfl (pc' := 20) ?_
      exact g_ireturn rfl (Or.inl rfl) H
    · have H := H.2 hc
      refine g_iconst rfl rfl rfl (pc' := 13) ?_
      exact g_ireturn rfl (Or.inl rfl) H
theorem w_105_0 {m : Nat} {x1 : Int32} {h : hh_T} {Q : Option Value ⊕ Nat → hh_T → Prop} (hT : tw_ok h m) (H : ∃ n1, gm_ix x1 n1 8 ∧ (∀ h2, h2 = hh_wi h (m + 94) n1 (Int32.ofNat 0) → (∃ n3, gm_ix x1 n3 8 ∧ (∀ h4, h4 = hh_wi h2 (m + 89) n3 (Int32.ofNat 0) → (Q (.inl none) h4))))) : gm_G 105 0 [some (.ref m), some (.int x1)] [] h Q := by
  refine g_aload (r := some _) rfl rfl rfl (pc' := 1) ?_
  refine t_get (o := 94) rfl hT rfl rfl rfl (pc' := 4) rfl ?_
  refine g_iload rfl rfl rfl (pc' := 5) ?_
  refine g_iconst rfl rfl rfl (pc' := 6) ?_
  obtain ⟨n1, hn1, H⟩ := H
  refine t_iastore hT (o := 94) (l := 8) rfl rfl rfl hn1  (pc' := 7) rfl (fun hT => ?_)
  have H := H _ rfl
  refine g_aload (r := some _) rfl rfl rfl (pc' := 8) ?_
  refine t_get (o := 89) rfl hT rfl rfl rfl (pc' := 11) rfl ?_
  refine g_iload rfl rfl rfl (pc' := 12) ?_
  refine g_iconst rfl rfl rfl (pc' := 13) ?_
  obtain ⟨n3, hn3, H⟩ := H
  refine t_zastore hT (o := 89) (l := 8) rfl rfl rfl hn3 (by decide) (pc' := 14) rfl (fun hT => ?_)
  have H := H _ rfl
  exact g_return rfl H
theorem w_106_0 {m : Nat} {x1 : Int32} {b2 : Nat} {x3 : Int32} {x4 : Int32} {h : hh_T} {Q : Option Value ⊕ Nat → hh_T → Prop} (hT : tw_ok h m) (H : gm_G 106 3 [some (.ref m), some (.int x1), some (.ref b2), some (.int x3), some (.int x4), some (.int (Int32.ofNat 0))] [] h Q) : gm_G 106 0 [some (.ref m), some (.int x1), some (.ref b2), some (.int x3), some (.int x4)] [] h Q := by
  refine g_iconst rfl rfl rfl (pc' := 1) ?_
  refine g_istore rfl rfl rfl (pc' := 3) ?_
  exact g_weak (show gm_Lle [some _, some _, some _, some _, some _, some _] _ from ⟨rfl, ⟨rfl, ⟨rfl, ⟨rfl, ⟨rfl, ⟨rfl, trivial⟩⟩⟩⟩⟩⟩) H
theorem w_106_3 {m : Nat} {x1 : Int32} {b2 : Nat} {x3 : Int32} {x4 : Int32} {x5 : Int32} {h : hh_T} {Q : Option Value ⊕ Nat → hh_T → Prop} (hT : tw_ok h m) (H : ∃ n1, gm_ix x1 n1 1536 ∧ ((¬ x5 < (hh_i h (m + 45) n1) → (Q (.inl (some (.int (Int32.ofInt (-1))))) h)) ∧ (x5 < (hh_i h (m + 45) n1) → (∃ n2, gm_ix (((Int32.ofNat 8) * x1) + x5) n2 12288 ∧ ((¬ (hh_i h (m + 54) n2) = x4 → (gm_G 106 36 [some (.ref m), some (.int x1), some (.ref b2), some (.int x3), some (.int x4), some (.int x5)] [.int (Int32.ofNat 0)] h Q)) ∧ ((hh_i h (m + 54) n2) = x4 → (gm_G 106 36 [some (.ref m), some (.int x1), some (.ref b2), some (.int x3), some (.int x4), some (.int x5)] [.int (Int32.ofNat 1)] h Q))))))) : gm_G 106 3 [some (.ref m), some (.int x1), some (.ref b2), some (.int x3), some (.int x4), some (.int x5)] [] h Q := by
  refine g_iload rfl rfl rfl (pc' := 5) ?_
  refine g_aload (r := some _) rfl rfl rfl (pc' := 6) ?_
  refine t_get (o := 45) rfl hT rfl rfl rfl (pc' := 9) rfl ?_
  refine g_iload rfl rfl rfl (pc' := 10) ?_
  obtain ⟨n1, hn1, H⟩ := H
  refine t_iaload hT (o := 45) (l := 1536) rfl rfl rfl hn1 (pc' := 11) rfl ?_
  refine g_ic_ge rfl (pc' := 14) (pt := 107) rfl rfl ⟨fun hc => ?_, fun hc => ?_⟩
  · have H := H.1 hc
    refine g_iconst rfl rfl rfl (pc' := 108) ?_
    exact g_ireturn rfl (Or.inl rfl) H
  · have H := H.2 hc
    refine g_aload (r := some _) rfl rfl rfl (pc' := 15) ?_
    refine t_get (o := 54) rfl hT rfl rfl rfl (pc' := 18) rfl ?_
    refine g_iconst rfl rfl rfl (pc' := 20) ?_
    refine g_iload rfl rfl rfl (pc' := 21) ?_
    refine g_imul rfl rfl (pc' := 22) ?_
    refine g_iload rfl rfl rfl (pc' := 24) ?_
    refine g_iadd rfl rfl (pc' := 25) ?_
    obtain ⟨n2, hn2, H⟩ := H
    refine t_iaload hT (o := 54) (l := 12288) rfl rfl rfl hn2 (pc' := 26) rfl ?_
    refine g_iload rfl rfl rfl (pc' := 28) ?_
    refine g_ic_ne rfl (pc' := 31) (pt := 35) rfl rfl ⟨fun hc => ?_, fun hc => ?_⟩
    · have H := H.1 hc
      refine g_iconst rfl rfl rfl (pc' := 36) ?_
      exact g_weak (show gm_Lle [some _, some _, some _, some _, some _, some _] _ from ⟨rfl, ⟨rfl, ⟨rfl, ⟨rfl, ⟨rfl, ⟨rfl, trivial⟩⟩⟩⟩⟩⟩) H
    · have H := H.2 hc
      refine g_iconst rfl rfl rfl (pc' := 32) ?_
      refine g_goto rfl (pc' := 36) rfl ?_
      exact g_weak (show gm_Lle [some _, some _, some _, some _, some _, some _] _ from ⟨rfl, ⟨rfl, ⟨rfl, ⟨rfl, ⟨rfl, ⟨rfl, trivial⟩⟩⟩⟩⟩⟩) H
theorem w_106_36 {m : Nat} {x1 : Int32} {b2 : Nat} {x3 : Int32} {x4 : Int32} {x5 : Int32} {y0 : Int32} {h : hh_T} {Q : Option Value ⊕ Nat → hh_T → Prop} (hT : tw_ok h m) (H : gm_G 106 41 [some (.ref m), some (.int x1), some (.ref b2), some (.int x3), some (.int x4), some (.int x5), some (.int y0), some (.int (Int32.ofNat 0))] [] h Q) : gm_G 106 36 [some (.ref m), some (.int x1), some (.ref b2), some (.int x3), some (.int x4), some (.int x5)] [.int y0] h Q := by
  refine g_istore rfl rfl rfl (pc' := 38) ?_
  refine g_iconst rfl rfl rfl (pc' := 39) ?_
  refine g_istore rfl rfl rfl (pc' := 41) ?_
  exact g_weak (show gm_Lle [some _, some _, some _, some _, some _, some _, some _, some _] _ from ⟨rfl, ⟨rfl, ⟨rfl, ⟨rfl, ⟨rfl, ⟨rfl, ⟨rfl, ⟨rfl, trivial⟩⟩⟩⟩⟩⟩⟩⟩) H
theorem w_106_41 {m : Nat} {x1 : Int32} {b2 : Nat} {x3 : Int32} {x4 : Int32} {x5 : Int32} {x6 : Int32} {x7 : Int32} {h : hh_T} {Q : Option Value ⊕ Nat → hh_T → Prop} (hT : tw_ok h m) (H : (x6 = Int32.ofNat 0 → (gm_G 106 93 [some (.ref m), some (.int x1), some (.ref b2), some (.int x3), some (.int x4), some (.int x5), some (.int x6)] [] h Q)) ∧ (¬ x6 = Int32.ofNat 0 → ((¬ x7 < x4 → (gm_G 106 93 [some (.ref m), some (.int x1), some (.ref b2), some (.int x3), some (.int x4), some (.int x5), some (.int x6)] [] h Q)) ∧ (x7 < x4 → (∃ n1, gm_ix (((Int32.ofNat 8) * (((Int32.ofNat 8) * x1) + x5)) + x7) n1 98304 ∧ ((hh_tg h b2 = 101 ∨ hh_tg h b2 = 102) ∧ (∃ n2, gm_ix (x3 + x7) n2 (hh_ln h b2) ∧ ((¬ (hh_i h (m + 56) n1) = (hh_i h b2 n2) → (gm_G 106 85 [some (.ref m), some (.int x1), some (.ref b2), some (.int x3), some (.int x4), some (.int x5), none, some (.int x7)] [.int (Int32.ofNat 0)] h Q)) ∧ ((hh_i h (m + 56) n1) = (hh_i h b2 n2) → (gm_G 106 85 [some (.ref m), some (.int x1), some (.ref b2), some (.int x3), some (.int x4), some (.int x5), none, some (.int x7)] [.int (Int32.ofNat 1)] h Q)))))))))) : gm_G 106 41 [some (.ref m), some (.int x1), some (.ref b2), some (.int x3), some (.int x4), some (.int x5), some (.int x6), some (.int x7)] [] h Q := by
  refine g_iload rfl rfl rfl (pc' := 43) ?_
  refine g_if_eq rfl (pc' := 46) (pt := 93) rfl rfl ⟨fun hc => ?_, fun hc => ?_⟩
  · have H := H.1 hc
    exact g_weak (show gm_Lle [some _, some _, some _, some _, some _, some _, some _] _ from ⟨rfl, ⟨rfl, ⟨rfl, ⟨rfl, ⟨rfl, ⟨rfl, ⟨rfl, trivial⟩⟩⟩⟩⟩⟩⟩) H
  · have H := H.2 hc
    refine g_iload rfl rfl rfl (pc' := 48) ?_
    refine g_iload rfl rfl rfl (pc' := 50) ?_
    refine g_ic_ge rfl (pc' := 53) (pt := 93) rfl rfl ⟨fun hc => ?_, fun hc => ?_⟩
    · have H := H.1 hc
      exact g_weak (show gm_Lle [some _, some _, some _, some _, some _, some _, some _] _ from ⟨rfl, ⟨rfl, ⟨rfl, ⟨rfl, ⟨rfl, ⟨rfl, ⟨rfl, trivial⟩⟩⟩⟩⟩⟩⟩) H
    · have H := H.2 hc
      refine g_aload (r := some _) rfl rfl rfl (pc' := 54) ?_
      refine t_get (o := 56) rfl hT rfl rfl rfl (pc' := 57) rfl ?_
      refine g_iconst rfl rfl rfl (pc' := 59) ?_
      refine g_iconst rfl rfl rfl (pc' := 61) ?_
      refine g_iload rfl rfl rfl (pc' := 62) ?_
      refine g_imul rfl rfl (pc' := 63) ?_
      refine g_iload rfl rfl rfl (pc' := 65) ?_
      refine g_iadd rfl rfl (pc' := 66) ?_
      refine g_imul rfl rfl (pc' := 67) ?_
      refine g_iload rfl rfl rfl (pc' := 69) ?_
      refine g_iadd rfl rfl (pc' := 70) ?_
      obtain ⟨n1, hn1, H⟩ := H
      refine t_baload hT (o := 56) (l := 98304) rfl rfl rfl hn1 (pc' := 71) rfl ?_
      refine g_aload (r := some _) rfl rfl rfl (pc' := 72) ?_
      refine g_iload rfl rfl rfl (pc' := 73) ?_
      refine g_iload rfl rfl rfl (pc' := 75) ?_
      refine g_iadd rfl rfl (pc' := 76) ?_
      obtain ⟨ht3, H⟩ := H
      obtain ⟨n2, hn2, H⟩ := H
      refine g_baload rfl ht3 hn2 (pc' := 77) rfl ?_
      refine g_ic_ne rfl (pc' := 80) (pt := 84) rfl rfl ⟨fun hc => ?_, fun hc => ?_⟩
      · have H := H.1 hc
        refine g_iconst rfl rfl rfl (pc' := 85) ?_
        exact g_weak (show gm_Lle [some _, some _, some _, some _, some _, some _, none, some _] _ from ⟨rfl, ⟨rfl, ⟨rfl, ⟨rfl, ⟨rfl, ⟨rfl, ⟨rfl, trivial⟩⟩⟩⟩⟩⟩⟩) H
      · have H := H.2 hc
        refine g_iconst rfl rfl rfl (pc' := 81) ?_
        refine g_goto rfl (pc' := 85) rfl ?_
        exact g_weak (show gm_Lle [some _, some _, some _, some _, some _, some _, none, some _] _ from ⟨rfl, ⟨rfl, ⟨rfl, ⟨rfl, ⟨rfl, ⟨rfl, ⟨rfl, trivial⟩⟩⟩⟩⟩⟩⟩) H
theorem w_106_85 {m : Nat} {x1 : Int32} {b2 : Nat} {x3 : Int32} {x4 : Int32} {x5 : Int32} {x7 : Int32} {y0 : Int32} {h : hh_T} {Q : Option Value ⊕ Nat → hh_T → Prop} (hT : tw_ok h m) (H : gm_G 106 41 [some (.ref m), some (.int x1), some (.ref b2), some (.int x3), some (.int x4), some (.int x5), some (.int y0), some (.int (x7 + (Int32.ofNat 1)))] [] h Q) : gm_G 106 85 [some (.ref m), some (.int x1), some (.ref b2), some (.int x3), some (.int x4), some (.int x5), none, some (.int x7)] [.int y0] h Q := by
  refine g_istore rfl rfl rfl (pc' := 87) ?_
  refine g_iinc (c := (Int32.ofNat 1)) rfl rfl rfl rfl rfl (pc' := 90) ?_
  refine g_goto rfl (pc' := 41) rfl ?_
  exact g_weak (show gm_Lle [some _, some _, some _, some _, some _, some _, some _, some _] _ from ⟨rfl, ⟨rfl, ⟨rfl, ⟨rfl, ⟨rfl, ⟨rfl, ⟨rfl, ⟨rfl, trivial⟩⟩⟩⟩⟩⟩⟩⟩) H
theorem w_106_93 {m : Nat} {x1 : Int32} {b2 : Nat} {x3 : Int32} {x4 : Int32} {x5 : Int32} {x6 : Int32} {h : hh_T} {Q : Option Value ⊕ Nat → hh_T → Prop} (hT : tw_ok h m) (H : (x6 = Int32.ofNat 0 → (gm_G 106 3 [some (.ref m), some (.int x1), some (.ref b2), some (.int x3), some (.int x4), some (.int (x5 + (Int32.ofNat 1)))] [] h Q)) ∧ (¬ x6 = Int32.ofNat 0 → (Q (.inl (some (.int x5))) h))) : gm_G 106 93 [some (.ref m), some (.int x1), some (.ref b2), some (.int x3), some (.int x4), some (.int x5), some (.int x6)] [] h Q := by
  refine g_iload rfl rfl rfl (pc' := 95) ?_
  refine g_if_eq rfl (pc' := 98) (pt := 101) rfl rfl ⟨fun hc => ?_, fun hc => ?_⟩
  · have H := H.1 hc
    refine g_iinc (c := (Int32.ofNat 1)) rfl rfl rfl rfl rfl (pc' := 104) ?_
    refine g_goto rfl (pc' := 3) rfl ?_
    exact g_weak (show gm_Lle [some _, some _, some _, some _, some _, some _] _ from ⟨rfl, ⟨rfl, ⟨rfl, ⟨rfl, ⟨rfl, ⟨rfl, trivial⟩⟩⟩⟩⟩⟩) H
  · have H := H.2 hc
    refine g_iload rfl rfl rfl (pc' := 100) ?_
    exact g_ireturn rfl (Or.inl rfl) H
theorem w_107_0 {m : Nat} {x1 : Int32} {h : hh_T} {Q : Option Value ⊕ Nat → hh_T → Prop} (hT : tw_ok h m) (H : (x1 < Int32.ofNat 0 → (gm_G 107 18 [] [] h Q)) ∧ (¬ x1 < Int32.ofNat 0 → (((Int32.ofNat 15) < x1 → (gm_G 107 18 [] [] h Q)) ∧ (¬ (Int32.ofNat 15) < x1 → ((x1 < (hh_i h m 49) → (∃ n1, gm_ix x1 n1 16 ∧ (Q (.inl (some (.int (hh_i h (m + 34) n1)))) h))) ∧ (¬ x1 < (hh_i h m 49) → (gm_G 107 18 [] [] h Q))))))) : gm_G 107 0 [some (.ref m), some (.int x1)] [] h Q := by
  refine g_iload rfl rfl rfl (pc' := 1) ?_
  refine g_if_lt rfl (pc' := 4) (pt := 18) rfl rfl ⟨fun hc => ?_, fun hc => ?_⟩
  · have H := H.1 hc
    exact g_weak (show gm_Lle [] _ from trivial) H
  · have H := H.2 hc
    refine g_iload rfl rfl rfl (pc' := 5) ?_
    refine g_iconst rfl rfl rfl (pc' := 7) ?_
    refine g_ic_gt rfl (pc' := 10) (pt := 18) rfl rfl ⟨fun hc => ?_, fun hc => ?_⟩
    · have H := H.1 hc
      exact g_weak (show gm_Lle [] _ from trivial) H
    · have H := H.2 hc
      refine g_iload rfl rfl rfl (pc' := 11) ?_
      refine g_aload (r := some _) rfl rfl rfl (pc' := 12) ?_
      refine t_getI rfl hT rfl rfl (pc' := 15) rfl ?_
      refine g_ic_lt rfl (pc' := 18) (pt := 23) rfl rfl ⟨fun hc => ?_, fun hc => ?_⟩
      · have H := H.1 hc
        refine g_aload (r := some _) rfl rfl rfl (pc' := 24) ?_
        refine t_get (o := 34) rfl hT rfl rfl rfl (pc' := 27) rfl ?_
        refine g_iload rfl rfl rfl (pc' := 28) ?_
        obtain ⟨n1, hn1, H⟩ := H
        refine t_iaload hT (o := 34) (l := 16) rfl rfl rfl hn1 (pc' := 29) rfl ?_
        exact g_ireturn rfl (Or.inl rfl) H
      · have H := H.2 hc
        exact g_weak (show gm_Lle [] _ from trivial) H
theorem w_107_18 {m : Nat}  {h : hh_T} {Q : Option Value ⊕ Nat → hh_T → Prop} (hT : tw_ok h m) (H : Q (.inl (some (.int (Int32.ofInt (-2))))) h) : gm_G 107 18 [] [] h Q := by
  refine g_iconst rfl rfl rfl (pc' := 20) ?_
  refine g_goto rfl (pc' := 29) rfl ?_
  exact g_ireturn rfl (Or.inl rfl) H
theorem w_108_0 {m : Nat}  {h : hh_T} {Q : Option Value ⊕ Nat → hh_T → Prop} (hT : tw_ok h m) (H : (¬ (hh_i h m 15) = Int32.ofNat 0 → (Q (.inl (some (.int (Int32.ofNat 0)))) h)) ∧ ((hh_i h m 15) = Int32.ofNat 0 → (Q (.inl (some (.int (Int32.ofNat 1)))) h))) : gm_G 108 0 [some (.ref m)] [] h Q := by
  refine g_aload (r := some _) rfl rfl rfl (pc' := 1) ?_
  refine t_getI rfl hT rfl rfl (pc' := 4) rfl ?_
  refine g_if_ne rfl (pc' := 7) (pt := 11) rfl rfl ⟨fun hc => ?_, fun hc => ?_⟩
  · have H := H.1 hc
    refine g_iconst rfl rfl rfl (pc' := 12) ?_
    exact g_ireturn rfl (Or.inr (by decide)) H
  · have H := H.2 hc
    refine g_iconst rfl rfl rfl (pc' := 8) ?_
    refine g_goto rfl (pc' := 12) rfl ?_
    exact g_ireturn rfl (Or.inr (by decide)) H
theorem w_109_0 {m : Nat}  {h : hh_T} {Q : Option Value ⊕ Nat → hh_T → Prop} (hT : tw_ok h m) (H : ∀ h1, h1 = hh_wi h m 77 (Int32.ofNat 0) → (∀ h2, h2 = hh_wi h1 m 15 (Int32.ofInt (-1)) → (gm_G 109 12 [some (.ref m), some (.int (Int32.ofNat 0))] [] h2 Q))) : gm_G 109 0 [some (.ref m)] [] h Q := by
  refine g_aload (r := some _) rfl rfl rfl (pc' := 1) ?_
  refine g_iconst rfl rfl rfl (pc' := 2) ?_
  refine t_putZ rfl hT rfl rfl (by decide) (pc' := 5) rfl (fun hT => ?_)
  have H := H _ rfl
  refine g_aload (r := some _) rfl rfl rfl (pc' := 6) ?_
  refine g_iconst rfl rfl rfl (pc' := 7) ?_
  refine t_putI rfl hT rfl rfl  (pc' := 10) rfl (fun hT => ?_)
  have H := H _ rfl
  refine g_iconst rfl rfl rfl (pc' := 11) ?_
  refine g_istore rfl rfl rfl (pc' := 12) ?_
  exact g_weak (show gm_Lle [some _, some _] _ from ⟨rfl, ⟨rfl, trivial⟩⟩) H
theorem w_109_12 {m : Nat} {x1 : Int32} {h : hh_T} {Q : Option Value ⊕ Nat → hh_T → Prop} (hT : tw_ok h m) (H : (¬ x1 < (Int32.ofNat 8) → (∀ h1, h1 = hh_wi h m 112 (Int32.ofNat 0) → (∀ h2, h2 = hh_wi h1 m 110 (Int32.ofNat 0) → (gm_G 109 48 [some (.ref m), some (.int (Int32.ofNat 0))] [] h2 Q)))) ∧ (x1 < (Int32.ofNat 8) → (∃ n3, gm_ix x1 n3 8 ∧ (∃ n4, gm_ix x1 n4 8 ∧ (∀ h5, h5 = hh_wi h (m + 80) n4 (hh_i h (m + 81) n3) → (gm_G 109 12 [some (.ref m), some (.int (x1 + (Int32.ofNat 1)))] [] h5 Q)))))) : gm_G 109 12 [some (.ref m), some (.int x1)] [] h Q := by
  refine g_iload rfl rfl rfl (pc' := 13) ?_
  refine g_iconst rfl rfl rfl (pc' := 15) ?_
  refine g_ic_ge rfl (pc' := 18) (pt := 36) rfl rfl ⟨fun hc => ?_, fun hc => ?_⟩
  · have H := H.1 hc
    refine g_aload (r := some _) rfl rfl rfl (pc' := 37) ?_
    refine g_iconst rfl rfl rfl (pc' := 38) ?_
    refine t_putZ rfl hT rfl rfl (by decide) (pc' := 41) rfl (fun hT => ?_)
    have H := H _ rfl
    refine g_aload (r := some _) rfl rfl rfl (pc' := 42) ?_
    refine g_iconst rfl rfl rfl (pc' := 43) ?_
    refine t_putI rfl hT rfl rfl  (pc' := 46) rfl (fun hT => ?_)
    have H := H _ rfl
    refine g_iconst rfl rfl rfl (pc' := 47) ?_
    refine g_istore rfl rfl rfl (pc' := 48) ?_
    exact g_weak (show gm_Lle [some _, some _] _ from ⟨rfl, ⟨rfl, trivial⟩⟩) H
  · have H := H.2 hc
    refine g_aload (r := some _) rfl rfl rfl (pc' := 19) ?_
    refine t_get (o := 80) rfl hT rfl rfl rfl (pc' := 22) rfl ?_
    refine g_iload rfl rfl rfl (pc' := 23) ?_
    refine g_aload (r := some _) rfl rfl rfl (pc' := 24) ?_
    refine t_get (o := 81) rfl hT rfl rfl rfl (pc' := 27) rfl ?_
    refine g_iload rfl rfl rfl (pc' := 28) ?_
    obtain ⟨n3, hn3, H⟩ := H
    refine t_iaload hT (o := 81) (l := 8) rfl rfl rfl hn3 (pc' := 29) rfl ?_
    obtain ⟨n4, hn4, H⟩ := H
    refine t_iastore hT (o := 80) (l := 8) rfl rfl rfl hn4  (pc' := 30) rfl (fun hT => ?_)
    have H := H _ rfl
    refine g_iinc (c := (Int32.ofNat 1)) rfl rfl rfl rfl rfl (pc' := 33) ?_
    refine g_goto rfl (pc' := 12) rfl ?_
    exact g_weak (show gm_Lle [some _, some _] _ from ⟨rfl, ⟨rfl, trivial⟩⟩) H
theorem w_109_48 {m : Nat} {x1 : Int32} {h : hh_T} {Q : Option Value ⊕ Nat → hh_T → Prop} (hT : tw_ok h m) (H : (¬ x1 < (Int32.ofNat 8) → (gm_G 109 76 [some (.ref m), some (.int (Int32.ofNat 0))] [] h Q)) ∧ (x1 < (Int32.ofNat 8) → (∃ n1, gm_ix x1 n1 8 ∧ (∀ h2, h2 = hh_wi h (m + 88) n1 (Int32.ofNat 0) → (∃ n3, gm_ix x1 n3 8 ∧ (∀ h4, h4 = hh_wi h2 (m + 94) n3 (Int32.ofNat 0) → (gm_G 109 48 [some (.ref m), some (.int (x1 + (Int32.ofNat 1)))] [] h4 Q))))))) : gm_G 109 48 [some (.ref m), some (.int x1)] [] h Q := by
  refine g_iload rfl rfl rfl (pc' := 49) ?_
  refine g_iconst rfl rfl rfl (pc' := 51) ?_
  refine g_ic_ge rfl (pc' := 54) (pt := 74) rfl rfl ⟨fun hc => ?_, fun hc => ?_⟩
  · have H := H.1 hc
    refine g_iconst rfl rfl rfl (pc' := 75) ?_
    refine g_istore rfl rfl rfl (pc' := 76) ?_
    exact g_weak (show gm_Lle [some _, some _] _ from ⟨rfl, ⟨rfl, trivial⟩⟩) H
  · have H := H.2 hc
    refine g_aload (r := some _) rfl rfl rfl (pc' := 55) ?_
    refine t_get (o := 88) rfl hT rfl rfl rfl (pc' := 58) rfl ?_
    refine g_iload rfl rfl rfl (pc' := 59) ?_
    refine g_iconst rfl rfl rfl (pc' := 60) ?_
    obtain ⟨n1, hn1, H⟩ := H
    refine t_zastore hT (o := 88) (l := 8) rfl rfl rfl hn1 (by decide) (pc' := 61) rfl (fun hT => ?_)
    have H := H _ rfl
    refine g_aload (r := some _) rfl rfl rfl (pc' := 62) ?_
    refine t_get (o := 94) rfl hT rfl rfl rfl (pc' := 65) rfl ?_
    refine g_iload rfl rfl rfl (pc' := 66) ?_
    refine g_iconst rfl rfl rfl (pc' := 67) ?_
    obtain ⟨n3, hn3, H⟩ := H
    refine t_iastore hT (o := 94) (l := 8) rfl rfl rfl hn3  (pc' := 68) rfl (fun hT => ?_)
    have H := H _ rfl
    refine g_iinc (c := (Int32.ofNat 1)) rfl rfl rfl rfl rfl (pc' := 71) ?_
    refine g_goto rfl (pc' := 48) rfl ?_
    exact g_weak (show gm_Lle [some _, some _] _ from ⟨rfl, ⟨rfl, trivial⟩⟩) H
theorem w_109_76 {m : Nat} {x1 : Int32} {h : hh_T} {Q : Option Value ⊕ Nat → hh_T → Prop} (hT : tw_ok h m) (H : (¬ x1 < (Int32.ofNat 4) → (gm_G 109 96 [some (.ref m), some (.int (Int32.ofNat 0))] [] h Q)) ∧ (x1 < (Int32.ofNat 4) → (∃ n1, gm_ix x1 n1 4 ∧ (∀ h2, h2 = hh_wi h (m + 97) n1 (Int32.ofNat 0) → (gm_G 109 76 [some (.ref m), some (.int (x1 + (Int32.ofNat 1)))] [] h2 Q))))) : gm_G 109 76 [some (.ref m), some (.int x1)] [] h Q := by
  refine g_iload rfl rfl rfl (pc' := 77) ?_
  refine g_iconst rfl rfl rfl (pc' := 78) ?_
  refine g_ic_ge rfl (pc' := 81) (pt := 94) rfl rfl ⟨fun hc => ?_, fun hc => ?_⟩
  · have H := H.1 hc
    refine g_iconst rfl rfl rfl (pc' := 95) ?_
    refine g_istore rfl rfl rfl (pc' := 96) ?_
    exact g_weak (show gm_Lle [some _, some _] _ from ⟨rfl, ⟨rfl, trivial⟩⟩) H
  · have H := H.2 hc
    refine g_aload (r := some _) rfl rfl rfl (pc' := 82) ?_
    refine t_get (o := 97) rfl hT rfl rfl rfl (pc' := 85) rfl ?_
    refine g_iload rfl rfl rfl (pc' := 86) ?_
    refine g_iconst rfl rfl rfl (pc' := 87) ?_
    obtain ⟨n1, hn1, H⟩ := H
    refine t_zastore hT (o := 97) (l := 4) rfl rfl rfl hn1 (by decide) (pc' := 88) rfl (fun hT => ?_)
    have H := H _ rfl
    refine g_iinc (c := (Int32.ofNat 1)) rfl rfl rfl rfl rfl (pc' := 91) ?_
    refine g_goto rfl (pc' := 76) rfl ?_
    exact g_weak (show gm_Lle [some _, some _] _ from ⟨rfl, ⟨rfl, trivial⟩⟩) H
theorem w_109_96 {m : Nat} {x1 : Int32} {h : hh_T} {Q : Option Value ⊕ Nat → hh_T → Prop} (hT : tw_ok h m) (H : (¬ x1 < (Int32.ofNat 4) → (gm_G 109 116 [some (.ref m), some (.int (Int32.ofNat 0))] [] h Q)) ∧ (x1 < (Int32.ofNat 4) → (∃ n1, gm_ix x1 n1 4 ∧ (∀ h2, h2 = hh_wi h (m + 117) n1 (Int32.ofInt (-1)) → (gm_G 109 96 [some (.ref m), some (.int (x1 + (Int32.ofNat 1)))] [] h2 Q))))) : gm_G 109 96 [some (.ref m), some (.int x1)] [] h Q := by
  refine g_iload rfl rfl rfl (pc' := 97) ?_
  refine g_iconst rfl rfl rfl (pc' := 98) ?_
  refine g_ic_ge rfl (pc' := 101) (pt := 114) rfl rfl ⟨fun hc => ?_, fun hc => ?_⟩
  · have H := H.1 hc
    refine g_iconst rfl rfl rfl (pc' := 115) ?_
    refine g_istore rfl rfl rfl (pc' := 116) ?_
    exact g_weak (show gm_Lle [some _, some _] _ from ⟨rfl, ⟨rfl, trivial⟩⟩) H
  · have H := H.2 hc
    refine g_aload (r := some _) rfl rfl rfl (pc' := 102) ?_
    refine t_get (o := 117) rfl hT rfl rfl rfl (pc' := 105) rfl ?_
    refine g_iload rfl rfl rfl (pc' := 106) ?_
    refine g_iconst rfl rfl rfl (pc' := 107) ?_
    obtain ⟨n1, hn1, H⟩ := H
    refine t_iastore hT (o := 117) (l := 4) rfl rfl rfl hn1  (pc' := 108) rfl (fun hT => ?_)
    have H := H _ rfl
    refine g_iinc (c := (Int32.ofNat 1)) rfl rfl rfl rfl rfl (pc' := 111) ?_
    refine g_goto rfl (pc' := 96) rfl ?_
    exact g_weak (show gm_Lle [some _, some _] _ from ⟨rfl, ⟨rfl, trivial⟩⟩) H
theorem w_109_116 {m : Nat} {x1 : Int32} {h : hh_T} {Q : Option Value ⊕ Nat → hh_T → Prop} (hT : tw_ok h m) (H : (¬ x1 < (Int32.ofNat 32) → (gm_G 109 137 [some (.ref m), some (.int (Int32.ofNat 0))] [] h Q)) ∧ (x1 < (Int32.ofNat 32) → (∃ n1, gm_ix x1 n1 32 ∧ (∀ h2, h2 = hh_wi h (m + 116) n1 (Int32.ofNat 0) → (gm_G 109 116 [some (.ref m), some (.int (x1 + (Int32.ofNat 1)))] [] h2 Q))))) : gm_G 109 116 [some (.ref m), some (.int x1)] [] h Q := by
  refine g_iload rfl rfl rfl (pc' := 117) ?_
  refine g_iconst rfl rfl rfl (pc' := 119) ?_
  refine g_ic_ge rfl (pc' := 122) (pt := 135) rfl rfl ⟨fun hc => ?_, fun hc => ?_⟩
  · have H := H.1 hc
    refine g_iconst rfl rfl rfl (pc' := 136) ?_
    refine g_istore rfl rfl rfl (pc' := 137) ?_
    exact g_weak (show gm_Lle [some _, some _] _ from ⟨rfl, ⟨rfl, trivial⟩⟩) H
  · have H := H.2 hc
    refine g_aload (r := some _) rfl rfl rfl (pc' := 123) ?_
    refine t_get (o := 116) rfl hT rfl rfl rfl (pc' := 126) rfl ?_
    refine g_iload rfl rfl rfl (pc' := 127) ?_
    refine g_iconst rfl rfl rfl (pc' := 128) ?_
    obtain ⟨n1, hn1, H⟩ := H
    refine t_zastore hT (o := 116) (l := 32) rfl rfl rfl hn1 (by decide) (pc' := 129) rfl (fun hT => ?_)
    have H := H _ rfl
    refine g_iinc (c := (Int32.ofNat 1)) rfl rfl rfl rfl rfl (pc' := 132) ?_
    refine g_goto rfl (pc' := 116) rfl ?_
    exact g_weak (show gm_Lle [some _, some _] _ from ⟨rfl, ⟨rfl, trivial⟩⟩) H
theorem w_109_137 {m : Nat} {x1 : Int32} {h : hh_T} {Q : Option Value ⊕ Nat → hh_T → Prop} (hT : tw_ok h m) (H : (¬ x1 < (Int32.ofNat 4) → (∀ h1, h1 = hh_wi h m 46 (Int32.ofNat 0) → (∀ h2, h2 = hh_wi h1 m 41 (Int32.ofNat 0) → (Q (.inl none) h2)))) ∧ (x1 < (Int32.ofNat 4) → (∃ n3, gm_ix x1 n3 4 ∧ (∀ h4, h4 = hh_wi h (m + 33) n3 (Int32.ofNat 0) → (gm_G 109 137 [some (.ref m), some (.int (x1 + (Int32.ofNat 1)))] [] h4 Q))))) : gm_G 109 137 [some (.ref m), some (.int x1)] [] h Q := by
  refine g_iload rfl rfl rfl (pc' := 138) ?_
  refine g_iconst rfl rfl rfl (pc' := 139) ?_
  refine g_ic_ge rfl (pc' := 142) (pt := 155) rfl rfl ⟨fun hc => ?_, fun hc => ?_⟩
  · have H := H.1 hc
    refine g_aload (r := some _) rfl rfl rfl (pc' := 156) ?_
    refine g_iconst rfl rfl rfl (pc' := 157) ?_
    refine t_putI rfl hT rfl rfl  (pc' := 160) rfl (fun hT => ?_)
    have H := H _ rfl
    refine g_aload (r := some _) rfl rfl rfl (pc' := 161) ?_
    refine g_iconst rfl rfl rfl (pc' := 162) ?_
    refine t_putI rfl hT rfl rfl  (pc' := 165) rfl (fun hT => ?_)
    have H := H _ rfl
    exact g_return rfl H
  · have H := H.2 hc
    refine g_aload (r := some _) rfl rfl rfl (pc' := 143) ?_
    refine t_get (o := 33) rfl hT rfl rfl rfl (pc' := 146) rfl ?_
    refine g_iload rfl rfl rfl (pc' := 147) ?_
    refine g_iconst rfl rfl rfl (pc' := 148) ?_
    obtain ⟨n3, hn3, H⟩ := H
    refine t_iastore hT (o := 33) (l := 4) rfl rfl rfl hn3  (pc' := 149) rfl (fun hT => ?_)
    have H := H _ rfl
    refine g_iinc (c := (Int32.ofNat 1)) rfl rfl rfl rfl rfl (pc' := 152) ?_
    refine g_goto rfl (pc' := 137) rfl ?_
    exact g_weak (show gm_Lle [some _, some _] _ from ⟨rfl, ⟨rfl, trivial⟩⟩) H
theorem w_110_0 {m : Nat} {x1 : Int32} {x2 : Int32} {x3 : Int32} {x4 : Int32} {h : hh_T} {Q : Option Value ⊕ Nat → hh_T → Prop} (hT : tw_ok h m) (H : (¬ (Int32.ofNat 320) < ((hh_i h m 2) + (Int32.ofNat 16)) → (gm_G 110 19 [some (.ref m), some (.int x1), some (.int x2), some (.int x3), some (.int x4), some (.int (Int32.ofNat 0))] [] h Q)) ∧ ((Int32.ofNat 320) < ((hh_i h m 2) + (Int32.ofNat 16)) → (Q (.inl (some (.int (Int32.ofInt (-3))))) h))) : gm_G 110 0 [some (.ref m), some (.int x1), some (.int x2), some (.int x3), some (.int x4)] [] h Q := by
  refine g_aload (r := some _) rfl rfl rfl (pc' := 1) ?_
  refine t_getI rfl hT rfl rfl (pc' := 4) rfl ?_
  refine g_iconst rfl rfl rfl (pc' := 6) ?_
  refine g_iadd rfl rfl (pc' := 7) ?_
  refine g_iconst rfl rfl rfl (pc' := 10) ?_
  refine g_ic_le rfl (pc' := 13) (pt := 16) rfl rfl ⟨fun hc => ?_, fun hc => ?_⟩
  · have H := H.1 hc
    refine g_iconst rfl rfl rfl (pc' := 17) ?_
    refine g_istore rfl rfl rfl (pc' := 19) ?_
    exact g_weak (show gm_Lle [some _, some _, some _, some _, some _, some _] _ from ⟨rfl, ⟨rfl, ⟨rfl, ⟨rfl, ⟨rfl, ⟨rfl, trivial⟩⟩⟩⟩⟩⟩) H
  · have H := H.2 hc
    refine g_iconst rfl rfl rfl (pc' := 15) ?_
    exact g_ireturn rfl (Or.inl rfl) H
theorem w_110_19 {m : Nat} {x1 : Int32} {x2 : Int32} {x3 : Int32} {x4 : Int32} {x5 : Int32} {h : hh_T} {Q : Option Value ⊕ Nat → hh_T → Prop} (hT : tw_ok h m) (H : (¬ x5 < (Int32.ofNat 16) → (∀ h1, h1 = hh_wi h m 2 ((hh_i h m 2) + (Int32.ofNat 16)) → (Q (.inl (some (.int (hh_i h1 m 2)))) h1))) ∧ (x5 < (Int32.ofNat 16) → ((¬ x5 < (Int32.ofNat 4) → ((¬ x5 < (Int32.ofNat 8) → ((¬ x5 < (Int32.ofNat 12) → (gm_G 110 60 [some (.ref m), some (.int x1), some (.int x2), some (.int x3), some (.int x4), some (.int x5)] [.int x4] h Q)) ∧ (x5 < (Int32.ofNat 12) → (gm_G 110 60 [some (.ref m), some (.int x1), some (.int x2), some (.int x3), some (.int x4), some (.int x5)] [.int x3] h Q)))) ∧ (x5 < (Int32.ofNat 8) → (gm_G 110 60 [some (.ref m), some (.int x1), some (.int x2), some (.int x3), some (.int x4), some (.int x5)] [.int x2] h Q)))) ∧ (x5 < (Int32.ofNat 4) → (gm_G 110 60 [some (.ref m), some (.int x1), some (.int x2), some (.int x3), some (.int x4), some (.int x5)] [.int x1] h Q))))) : gm_G 110 19 [some (.ref m), some (.int x1), some (.int x2), some (.int x3), some (.int x4), some (.int x5)] [] h Q := by
  refine g_iload rfl rfl rfl (pc' := 21) ?_
  refine g_iconst rfl rfl rfl (pc' := 23) ?_
  refine g_ic_ge rfl (pc' := 26) (pt := 94) rfl rfl ⟨fun hc => ?_, fun hc => ?_⟩
  · have H := H.1 hc
    refine g_aload (r := some _) rfl rfl rfl (pc' := 95) ?_
    refine g_dup_a (r := some _) rfl rfl (pc' := 96) ?_
    refine t_getI rfl hT rfl rfl (pc' := 99) rfl ?_
    refine g_iconst rfl rfl rfl (pc' := 101) ?_
    refine g_iadd rfl rfl (pc' := 102) ?_
    refine t_putI rfl hT rfl rfl  (pc' := 105) rfl (fun hT => ?_)
    have H := H _ rfl
    refine g_aload (r := some _) rfl rfl rfl (pc' := 106) ?_
    refine t_getI rfl hT rfl rfl (pc' := 109) rfl ?_
    exact g_ireturn rfl (Or.inl rfl) H
  · have H := H.2 hc
    refine g_iload rfl rfl rfl (pc' := 28) ?_
    refine g_iconst rfl rfl rfl (pc' := 29) ?_
    refine g_ic_ge rfl (pc' := 32) (pt := 36) rfl rfl ⟨fun hc => ?_, fun hc => ?_⟩
    · have H := H.1 hc
      refine g_iload rfl rfl rfl (pc' := 38) ?_
      refine g_iconst rfl rfl rfl (pc' := 40) ?_
      refine g_ic_ge rfl (pc' := 43) (pt := 47) rfl rfl ⟨fun hc => ?_, fun hc => ?_⟩
      · have H := H.1 hc
        refine g_iload rfl rfl rfl (pc' := 49) ?_
        refine g_iconst rfl rfl rfl (pc' := 51) ?_
        refine g_ic_ge rfl (pc' := 54) (pt := 58) rfl rfl ⟨fun hc => ?_, fun hc => ?_⟩
        · have H := H.1 hc
          refine g_iload rfl rfl rfl (pc' := 60) ?_
          exact g_weak (show gm_Lle [some _, some _, some _, some _, some _, some _] _ from ⟨rfl, ⟨rfl, ⟨rfl, ⟨rfl, ⟨rfl, ⟨rfl, trivial⟩⟩⟩⟩⟩⟩) H
        · have H := H.2 hc
          refine g_iload rfl rfl rfl (pc' := 55) ?_
          refine g_goto rfl (pc' := 60) rfl ?_
          exact g_weak (show gm_Lle [some _, some _, some _, some _, some _, some _] _ from ⟨rfl, ⟨rfl, ⟨rfl, ⟨rfl, ⟨rfl, ⟨rfl, trivial⟩⟩⟩⟩⟩⟩) H
      · have H := H.2 hc
        refine g_iload rfl rfl rfl (pc' := 44) ?_
        refine g_goto rfl (pc' := 60) rfl ?_
        exact g_weak (show gm_Lle [some _, some _, some _, some _, some _, some _] _ from ⟨rfl, ⟨rfl, ⟨rfl, ⟨rfl, ⟨rfl, ⟨rfl, trivial⟩⟩⟩⟩⟩⟩) H
    · have H := H.2 hc
      refine g_iload rfl rfl rfl (pc' := 33) ?_
      refine g_goto rfl (pc' := 60) rfl ?_
      exact g_weak (show gm_Lle [some _, some _, some _, some _, some _, some _] _ from ⟨rfl, ⟨rfl, ⟨rfl, ⟨rfl, ⟨rfl, ⟨rfl, trivial⟩⟩⟩⟩⟩⟩) H
theorem w_110_60 {m : Nat} {x1 : Int32} {x2 : Int32} {x3 : Int32} {x4 : Int32} {x5 : Int32} {y0 : Int32} {h : hh_T} {Q : Option Value ⊕ Nat → hh_T → Prop} (hT : tw_ok h m) (H : ∃ n1, gm_ix ((hh_i h m 2) + x5) n1 320 ∧ (∀ h2, h2 = hh_wi h (m + 1) n1 (((y0 >>> (((Int32.ofNat 24) - ((Int32.ofNat 8) * (x5 &&& (Int32.ofNat 3)))) &&& 31)).toInt8.toInt32).toInt8.toInt32) → (gm_G 110 19 [some (.ref m), some (.int x1), some (.int x2), some (.int x3), some (.int x4), some (.int (x5 + (Int32.ofNat 1)))] [] h2 Q))) : gm_G 110 60 [some (.ref m), some (.int x1), some (.int x2), some (.int x3), some (.int x4), some (.int x5)] [.int y0] h Q := by
  refine g_istore rfl rfl rfl (pc' := 62) ?_
  refine g_aload (r := some _) rfl rfl rfl (pc' := 63) ?_
  refine t_get (o := 1) rfl hT rfl rfl rfl (pc' := 66) rfl ?_
  refine g_aload (r := some _) rfl rfl rfl (pc' := 67) ?_
  refine t_getI rfl hT rfl rfl (pc' := 70) rfl ?_
  refine g_iload rfl rfl rfl (pc' := 72) ?_
  refine g_iadd rfl rfl (pc' := 73) ?_
  refine g_iload rfl rfl rfl (pc' := 75) ?_
  refine g_iconst rfl rfl rfl (pc' := 77) ?_
  refine g_iconst rfl rfl rfl (pc' := 79) ?_
  refine g_iload rfl rfl rfl (pc' := 81) ?_
  refine g_iconst rfl rfl rfl (pc' := 82) ?_
  refine g_iand rfl rfl (pc' := 83) ?_
  refine g_imul rfl rfl (pc' := 84) ?_
  refine g_isub rfl rfl (pc' := 85) ?_
  refine g_ishr rfl rfl (pc' := 86) ?_
  refine g_i2b rfl rfl (pc' := 87) ?_
  obtain ⟨n1, hn1, H⟩ := H
  refine t_bastore hT (o := 1) (l := 320) rfl rfl rfl hn1  (pc' := 88) rfl (fun hT => ?_)
  have H := H _ rfl
  refine g_iinc (c := (Int32.ofNat 1)) rfl rfl rfl rfl rfl (pc' := 91) ?_
  refine g_goto rfl (pc' := 19) rfl ?_
  exact g_weak (show gm_Lle [some _, some _, some _, some _, some _, some _] _ from ⟨rfl, ⟨rfl, ⟨rfl, ⟨rfl, ⟨rfl, ⟨rfl, trivial⟩⟩⟩⟩⟩⟩) H
theorem w_111_0 {m : Nat} {x1 : Int32} {h : hh_T} {Q : Option Value ⊕ Nat → hh_T → Prop} (hT : tw_ok h m) (H : gm_G 111 2 [some (.ref m), some (.int x1), some (.int (Int32.ofNat 0))] [] h Q) : gm_G 111 0 [some (.ref m), some (.int x1)] [] h Q := by
  refine g_iconst rfl rfl rfl (pc' := 1) ?_
  refine g_istore rfl rfl rfl (pc' := 2) ?_
  exact g_weak (show gm_Lle [some _, some _, some _] _ from ⟨rfl, ⟨rfl, ⟨rfl, trivial⟩⟩⟩) H
theorem w_111_2 {m : Nat} {x1 : Int32} {x2 : Int32} {h : hh_T} {Q : Option Value ⊕ Nat → hh_T → Prop} (hT : tw_ok h m) (H : (¬ x2 < (Int32.ofNat 16) → (Q (.inl (some (.int (Int32.ofInt (-1))))) h)) ∧ (x2 < (Int32.ofNat 16) → (∃ n1, gm_ix (((Int32.ofNat 16) * x1) + x2) n1 1536 ∧ ((¬ (hh_i h (m + 40) n1) = Int32.ofNat 0 → (gm_G 111 2 [some (.ref m), some (.int x1), some (.int (x2 + (Int32.ofNat 1)))] [] h Q)) ∧ ((hh_i h (m + 40) n1) = Int32.ofNat 0 → (Q (.inl (some (.int x2))) h)))))) : gm_G 111 2 [some (.ref m), some (.int x1), some (.int x2)] [] h Q := by
  refine g_iload rfl rfl rfl (pc' := 3) ?_
  refine g_iconst rfl rfl rfl (pc' := 5) ?_
  refine g_ic_ge rfl (pc' := 8) (pt := 30) rfl rfl ⟨fun hc => ?_, fun hc => ?_⟩
  · have H := H.1 hc
    refine g_iconst rfl rfl rfl (pc' := 31) ?_
    exact g_ireturn rfl (Or.inl rfl) H
  · have H := H.2 hc
    refine g_aload (r := some _) rfl rfl rfl (pc' := 9) ?_
    refine t_get (o := 40) rfl hT rfl rfl rfl (pc' := 12) rfl ?_
    refine g_iconst rfl rfl rfl (pc' := 14) ?_
    refine g_iload rfl rfl rfl (pc' := 15) ?_
    refine g_imul rfl rfl (pc' := 16) ?_
    refine g_iload rfl rfl rfl (pc' := 17) ?_
    refine g_iadd rfl rfl (pc' := 18) ?_
    obtain ⟨n1, hn1, H⟩ := H
    refine t_iaload hT (o := 40) (l := 1536) rfl rfl rfl hn1 (pc' := 19) rfl ?_
    refine g_if_ne rfl (pc' := 22) (pt := 24) rfl rfl ⟨fun hc => ?_, fun hc => ?_⟩
    · have H := H.1 hc
      refine g_iinc (c := (Int32.ofNat 1)) rfl rfl rfl rfl rfl (pc' := 27) ?_
      refine g_goto rfl (pc' := 2) rfl ?_
      exact g_weak (show gm_Lle [some _, some _, some _] _ from ⟨rfl, ⟨rfl, ⟨rfl, trivial⟩⟩⟩) H
    · have H := H.2 hc
      refine g_iload rfl rfl rfl (pc' := 23) ?_
      exact g_ireturn rfl (Or.inl rfl) H
theorem w_112_0 {m : Nat}  {h : hh_T} {Q : Option Value ⊕ Nat → hh_T → Prop} (hT : tw_ok h m) (H : gm_G 112 2 [some (.ref m), some (.int (Int32.ofNat 0))] [] h Q) : gm_G 112 0 [some (.ref m)] [] h Q := by
  refine g_iconst rfl rfl rfl (pc' := 1) ?_
  refine g_istore rfl rfl rfl (pc' := 2) ?_
  exact g_weak (show gm_Lle [some _, some _] _ from ⟨rfl, ⟨rfl, trivial⟩⟩) H
theorem w_112_2 {m : Nat} {x1 : Int32} {h : hh_T} {Q : Option Value ⊕ Nat → hh_T → Prop} (hT : tw_ok h m) (H : (¬ x1 < (Int32.ofNat 8) → (Q (.inl (some (.int (Int32.ofInt (-1))))) h)) ∧ (x1 < (Int32.ofNat 8) → (∃ n1, gm_ix x1 n1 32 ∧ ((¬ (hh_i h (m + 59) n1) < Int32.ofNat 0 → (gm_G 112 2 [some (.ref m), some (.int (x1 + (Int32.ofNat 1)))] [] h Q)) ∧ ((hh_i h (m + 59) n1) < Int32.ofNat 0 → (Q (.inl (some (.int x1))) h)))))) : gm_G 112 2 [some (.ref m), some (.int x1)] [] h Q := by
  refine g_iload rfl rfl rfl (pc' := 3) ?_
  refine g_iconst rfl rfl rfl (pc' := 5) ?_
  refine g_ic_ge rfl (pc' := 8) (pt := 25) rfl rfl ⟨fun hc => ?_, fun hc => ?_⟩
  · have H := H.1 hc
    refine g_iconst rfl rfl rfl (pc' := 26) ?_
    exact g_ireturn rfl (Or.inl rfl) H
  · have H := H.2 hc
    refine g_aload (r := some _) rfl rfl rfl (pc' := 9) ?_
    refine t_get (o := 59) rfl hT rfl rfl rfl (pc' := 12) rfl ?_
    refine g_iload rfl rfl rfl (pc' := 13) ?_
    obtain ⟨n1, hn1, H⟩ := H
    refine t_iaload hT (o := 59) (l := 32) rfl rfl rfl hn1 (pc' := 14) rfl ?_
    refine g_if_ge rfl (pc' := 17) (pt := 19) rfl rfl ⟨fun hc => ?_, fun hc => ?_⟩
    · have H := H.1 hc
      refine g_iinc (c := (Int32.ofNat 1)) rfl rfl rfl rfl rfl (pc' := 22) ?_
      refine g_goto rfl (pc' := 2) rfl ?_
      exact g_weak (show gm_Lle [some _, some _] _ from ⟨rfl, ⟨rfl, trivial⟩⟩) H
    · have H := H.2 hc
      refine g_iload rfl rfl rfl (pc' := 18) ?_
      exact g_ireturn rfl (Or.inl rfl) H
theorem w_113_0 {m : Nat}  {h : hh_T} {Q : Option Value ⊕ Nat → hh_T → Prop} (hT : tw_ok h m) (H : gm_G 113 2 [some (.ref m), some (.int (Int32.ofNat 0))] [] h Q) : gm_G 113 0 [some (.ref m)] [] h Q := by
  refine g_iconst rfl rfl rfl (pc' := 1) ?_
  refine g_istore rfl rfl rfl (pc' := 2) ?_
  exact g_weak (show gm_Lle [some _, some _] _ from ⟨rfl, ⟨rfl, trivial⟩⟩) H
theorem w_113_2 {m : Nat} {x1 : Int32} {h : hh_T} {Q : Option Value ⊕ Nat → hh_T → Prop} (hT : tw_ok h m) (H : (¬ x1 < (Int32.ofNat 12) → (Q (.inl (some (.int (Int32.ofInt (-1))))) h)) ∧ (x1 < (Int32.ofNat 12) → (∃ n1, gm_ix x1 n1 48 ∧ ((¬ (hh_i h (m + 69) n1) < Int32.ofNat 0 → (gm_G 113 2 [some (.ref m), some (.int (x1 + (Int32.ofNat 1)))] [] h Q)) ∧ ((hh_i h (m + 69) n1) < Int32.ofNat 0 → (Q (.inl (some (.int x1))) h)))))) : gm_G 113 2 [some (.ref m), some (.int x1)] [] h Q := by
  refine g_iload rfl rfl rfl (pc' := 3) ?_
  refine g_iconst rfl rfl rfl (pc' := 5) ?_
  refine g_ic_ge rfl (pc' := 8) (pt := 25) rfl rfl ⟨fun hc => ?_, fun hc => ?_⟩
  · have H := H.1 hc
    refine g_iconst rfl rfl rfl (pc' := 26) ?_
    exact g_ireturn rfl (Or.inl rfl) H
  · have H := H.2 hc
    refine g_aload (r := some _) rfl rfl rfl (pc' := 9) ?_
    refine t_get (o := 69) rfl hT rfl rfl rfl (pc' := 12) rfl ?_
    refine g_iload rfl rfl rfl (pc' := 13) ?_
    obtain ⟨n1, hn1, H⟩ := H
    refine t_iaload hT (o := 69) (l := 48) rfl rfl rfl hn1 (pc' := 14) rfl ?_
    refine g_if_ge rfl (pc' := 17) (pt := 19) rfl rfl ⟨fun hc => ?_, fun hc => ?_⟩
    · have H := H.1 hc
      refine g_iinc (c := (Int32.ofNat 1)) rfl rfl rfl rfl rfl (pc' := 22) ?_
      refine g_goto rfl (pc' := 2) rfl ?_
      exact g_weak (show gm_Lle [some _, some _] _ from ⟨rfl, ⟨rfl, trivial⟩⟩) H
    · have H := H.2 hc
      refine g_iload rfl rfl rfl (pc' := 18) ?_
      exact g_ireturn rfl (Or.inl rfl) H
theorem w_114_0 {m : Nat}  {h : hh_T} {Q : Option Value ⊕ Nat → hh_T → Prop} (hT : tw_ok h m) (H : ∀ h1, h1 = hh_wi h m 147 ((hh_i h m 147) + (Int32.ofNat 1)) → (∃ n2, gm_ix ((hh_i h1 m 147) - (Int32.ofNat 1)) n2 12200 ∧ (Q (.inl (some (.int ((hh_i h1 (m + 112) n2) &&& (Int32.ofNat 255))))) h1))) : gm_G 114 0 [some (.ref m)] [] h Q := by
  refine g_aload (r := some _) rfl rfl rfl (pc' := 1) ?_
  refine g_dup_a (r := some _) rfl rfl (pc' := 2) ?_
  refine t_getI rfl hT rfl rfl (pc' := 5) rfl ?_
  refine g_iconst rfl rfl rfl (pc' := 6) ?_
  refine g_iadd rfl rfl (pc' := 7) ?_
  refine t_putI rfl hT rfl rfl  (pc' := 10) rfl (fun hT => ?_)
  have H := H _ rfl
  refine g_aload (r := some _) rfl rfl rfl (pc' := 11) ?_
  refine t_get (o := 112) rfl hT rfl rfl rfl (pc' := 14) rfl ?_
  refine g_aload (r := some _) rfl rfl rfl (pc' := 15) ?_
  refine t_getI rfl hT rfl rfl (pc' := 18) rfl ?_
  refine g_iconst rfl rfl rfl (pc' := 19) ?_
  refine g_isub rfl rfl (pc' := 20) ?_
  obtain ⟨n2, hn2, H⟩ := H
  refine t_baload hT (o := 112) (l := 12200) rfl rfl rfl hn2 (pc' := 21) rfl ?_
  refine g_iconst rfl rfl rfl (pc' := 24) ?_
  refine g_iand rfl rfl (pc' := 25) ?_
  exact g_ireturn rfl (Or.inl rfl) H
theorem w_115_0 {m : Nat} {x1 : Int32} {x2 : Int32} {x3 : Int32} {h : hh_T} {Q : Option Value ⊕ Nat → hh_T → Prop} (hT : tw_ok h m) (H : (¬ x2 = Int32.ofNat 0 → (∃ n1, gm_ix x1 n1 1536 ∧ ((¬ (hh_i h (m + 42) n1) = x2 → (gm_G 115 21 [some (.ref m), some (.int x1), some (.int x2), some (.int x3)] [.int (Int32.ofNat 0)] h Q)) ∧ ((hh_i h (m + 42) n1) = x2 → (gm_G 115 21 [some (.ref m), some (.int x1), some (.int x2), some (.int x3)] [.int (Int32.ofNat 1)] h Q))))) ∧ (x2 = Int32.ofNat 0 → (Q (.inl (some (.int (Int32.ofNat 1)))) h))) : gm_G 115 0 [some (.ref m), some (.int x1), some (.int x2), some (.int x3)] [] h Q := by
  refine g_iload rfl rfl rfl (pc' := 1) ?_
  refine g_if_ne rfl (pc' := 4) (pt := 6) rfl rfl ⟨fun hc => ?_, fun hc => ?_⟩
  · have H := H.1 hc
    refine g_aload (r := some _) rfl rfl rfl (pc' := 7) ?_
    refine t_get (o := 42) rfl hT rfl rfl rfl (pc' := 10) rfl ?_
    refine g_iload rfl rfl rfl (pc' := 11) ?_
    obtain ⟨n1, hn1, H⟩ := H
    refine t_iaload hT (o := 42) (l := 1536) rfl rfl rfl hn1 (pc' := 12) rfl ?_
    refine g_iload rfl rfl rfl (pc' := 13) ?_
    refine g_ic_ne rfl (pc' := 16) (pt := 20) rfl rfl ⟨fun hc => ?_, fun hc => ?_⟩
    · have H := H.1 hc
      refine g_iconst rfl rfl rfl (pc' := 21) ?_
      exact g_weak (show gm_Lle [some _, some _, some _, some _] _ from ⟨rfl, ⟨rfl, ⟨rfl, ⟨rfl, trivial⟩⟩⟩⟩) H
    · have H := H.2 hc
      refine g_iconst rfl rfl rfl (pc' := 17) ?_
      refine g_goto rfl (pc' := 21) rfl ?_
      exact g_weak (show gm_Lle [some _, some _, some _, some _] _ from ⟨rfl, ⟨rfl, ⟨rfl, ⟨rfl, trivial⟩⟩⟩⟩) H
  · have H := H.2 hc
    refine g_iconst rfl rfl rfl (pc' := 5) ?_
    exact g_ireturn rfl (Or.inr (by decide)) H
theorem w_115_21 {m : Nat} {x1 : Int32} {x2 : Int32} {x3 : Int32} {y0 : Int32} {h : hh_T} {Q : Option Value ⊕ Nat → hh_T → Prop} (hT : tw_ok h m) (H : gm_G 115 28 [some (.ref m), some (.int x1), some (.int x2), some (.int x3), some (.int y0), some (.int ((Int32.ofNat 4) * x1))] [] h Q) : gm_G 115 21 [some (.ref m), some (.int x1), some (.int x2), some (.int x3)] [.int y0] h Q := by
  refine g_istore rfl rfl rfl (pc' := 23) ?_
  refine g_iconst rfl rfl rfl (pc' := 24) ?_
  refine g_iload rfl rfl rfl (pc' := 25) ?_
  refine g_imul rfl rfl (pc' := 26) ?_
  refine g_istore rfl rfl rfl (pc' := 28) ?_
  exact g_weak (show gm_Lle [some _, some _, some _, some _, some _, some _] _ from ⟨rfl, ⟨rfl, ⟨rfl, ⟨rfl, ⟨rfl, ⟨rfl, trivial⟩⟩⟩⟩⟩⟩) H
theorem w_115_28 {m : Nat} {x1 : Int32} {x2 : Int32} {x3 : Int32} {x4 : Int32} {x5 : Int32} {h : hh_T} {Q : Option Value ⊕ Nat → hh_T → Prop} (hT : tw_ok h m) (H : ∃ n1, gm_ix x1 n1 1536 ∧ ((¬ x5 < (((Int32.ofNat 4) * x1) + (hh_i h (m + 49) n1)) → ((x4 = Int32.ofNat 0 → (∃ n2, gm_ix x1 n2 1536 ∧ (∃ n3, gm_ix (((Int32.ofNat 8) * x2) + (hh_i h (m + 43) n2)) n3 64 ∧ (((hh_i h (m + 3) n3) = Int32.ofNat 0 → (gm_G 115 214 [some (.ref m), some (.int x1), none, some (.int x3)] [.int (Int32.ofNat 0)] h Q)) ∧ (¬ (hh_i h (m + 3) n3) = Int32.ofNat 0 → (gm_G 115 214 [some (.ref m), some (.int x1), none, some (.int x3)] [.int (Int32.ofNat 3)] h Q)))))) ∧ (¬ x4 = Int32.ofNat 0 → (gm_G 115 214 [some (.ref m), some (.int x1), none, some (.int x3)] [.int (Int32.ofNat 6)] h Q)))) ∧ (x5 < (((Int32.ofNat 4) * x1) + (hh_i h (m + 49) n1)) → (∃ n4, gm_ix x5 n4 6144 ∧ ((¬ ((hh_i h (m + 52) n4) &&& x3) = Int32.ofNat 0 → (∃ n5, gm_ix x5 n5 6144 ∧ ((¬ (hh_i h (m + 51) n5) = Int32.ofNat 0 → ((¬ (hh_i h (m + 51) n5) = (Int32.ofNat 1) → (((hh_i h (m + 51) n5) = (Int32.ofNat 2) → (gm_G 115 145 [some (.ref m), some (.int x1), some (.int x2), some (.int x3), some (.int x4), some (.int x5)] [] h Q)) ∧ (¬ (hh_i h (m + 51) n5) = (Int32.ofNat 2) → ((¬ (hh_i h (m + 51) n5) < (Int32.ofNat 16) → (∃ n6, gm_ix ((((Int32.ofNat 8) * x2) + (hh_i h (m + 51) n5)) - (Int32.ofNat 16)) n6 64 ∧ (((hh_i h (m + 3) n6) = Int32.ofNat 0 → (gm_G 115 149 [some (.ref m), some (.int x1), some (.int x2), some (.int x3), some (.int x4), some (.int x5)] [] h Q)) ∧ (¬ (hh_i h (m + 3) n6) = Int32.ofNat 0 → (gm_G 115 145 [some (.ref m), some (.int x1), some (.int x2), some (.int x3), some (.int x4), some (.int x5)] [] h Q))))) ∧ ((hh_i h (m + 51) n5) < (Int32.ofNat 16) → ((¬ ((hh_i h (m + 51) n5) - (Int32.ofNat 8)) = x2 → (gm_G 115 149 [some (.ref m), some (.int x1), some (.int x2), some (.int x3), some (.int x4), some (.int x5)] [] h Q)) ∧ (((hh_i h (m + 51) n5) - (Int32.ofNat 8)) = x2 → (gm_G 115 145 [some (.ref m), some (.int x1), some (.int x2), some (.int x3), some (.int x4), some (.int x5)] [] h Q)))))))) ∧ ((hh_i h (m + 51) n5) = (Int32.ofNat 1) → (∃ n7, gm_ix x1 n7 1536 ∧ (∃ n8, gm_ix (((Int32.ofNat 8) * x2) + (hh_i h (m + 43) n7)) n8 64 ∧ (gm_G 115 150 [some (.ref m), some (.int x1), some (.int x2), some (.int x3), some (.int x4), some (.int x5)] [.int (hh_i h (m + 3) n8)] h Q)))))) ∧ ((hh_i h (m + 51) n5) = Int32.ofNat 0 → (gm_G 115 150 [some (.ref m), some (.int x1), some (.int x2), some (.int x3), some (.int x4), some (.int x5)] [.int x4] h Q))))) ∧ (((hh_i h (m + 52) n4) &&& x3) = Int32.ofNat 0 → (gm_G 115 174 [some (.ref m), some (.int x1), some (.int x2), some (.int x3), some (.int x4), some (.int x5)] [] h Q))))))) : gm_G 115 28 [some (.ref m), some (.int x1), some (.int x2), some (.int x3), some (.int x4), some (.int x5)] [] h Q := by
  refine g_iload rfl rfl rfl (pc' := 30) ?_
  refine g_iconst rfl rfl rfl (pc' := 31) ?_
  refine g_iload rfl rfl rfl (pc' := 32) ?_
  refine g_imul rfl rfl (pc' := 33) ?_
  refine g_aload (r := some _) rfl rfl rfl (pc' := 34) ?_
  refine t_get (o := 49) rfl hT rfl rfl rfl (pc' := 37) rfl ?_
  refine g_iload rfl rfl rfl (pc' := 38) ?_
  obtain ⟨n1, hn1, H⟩ := H
  refine t_iaload hT (o := 49) (l := 1536) rfl rfl rfl hn1 (pc' := 39) rfl ?_
  refine g_iadd rfl rfl (pc' := 40) ?_
  refine g_ic_ge rfl (pc' := 43) (pt := 180) rfl rfl ⟨fun hc => ?_, fun hc => ?_⟩
  · have H := H.1 hc
    refine g_iload rfl rfl rfl (pc' := 182) ?_
    refine g_if_eq rfl (pc' := 185) (pt := 190) rfl rfl ⟨fun hc => ?_, fun hc => ?_⟩
    · have H := H.1 hc
      refine g_aload (r := some _) rfl rfl rfl (pc' := 191) ?_
      refine t_get (o := 3) rfl hT rfl rfl rfl (pc' := 194) rfl ?_
      refine g_iconst rfl rfl rfl (pc' := 196) ?_
      refine g_iload rfl rfl rfl (pc' := 197) ?_
      refine g_imul rfl rfl (pc' := 198) ?_
      refine g_aload (r := some _) rfl rfl rfl (pc' := 199) ?_
      refine t_get (o := 43) rfl hT rfl rfl rfl (pc' := 202) rfl ?_
      refine g_iload rfl rfl rfl (pc' := 203) ?_
      obtain ⟨n2, hn2, H⟩ := H
      refine t_iaload hT (o := 43) (l := 1536) rfl rfl rfl hn2 (pc' := 204) rfl ?_
      refine g_iadd rfl rfl (pc' := 205) ?_
      obtain ⟨n3, hn3, H⟩ := H
      refine t_zaload hT (o := 3) (l := 64) rfl rfl rfl hn3 (pc' := 206) rfl ?_
      refine g_if_eq rfl (pc' := 209) (pt := 213) rfl rfl ⟨fun hc => ?_, fun hc => ?_⟩
      · have H := H.1 hc
        refine g_iconst rfl rfl rfl (pc' := 214) ?_
        exact g_weak (show gm_Lle [some _, some _, none, some _] _ from ⟨rfl, ⟨rfl, ⟨rfl, trivial⟩⟩⟩) H
      · have H := H.2 hc
        refine g_iconst rfl rfl rfl (pc' := 210) ?_
        refine g_goto rfl (pc' := 214) rfl ?_
        exact g_weak (show gm_Lle [some _, some _, none, some _] _ from ⟨rfl, ⟨rfl, ⟨rfl, trivial⟩⟩⟩) H
    · have H := H.2 hc
      refine g_iconst rfl rfl rfl (pc' := 187) ?_
      refine g_goto rfl (pc' := 214) rfl ?_
      exact g_weak (show gm_Lle [some _, some _, none, some _] _ from ⟨rfl, ⟨rfl, ⟨rfl, trivial⟩⟩⟩) H
  · have H := H.2 hc
    refine g_aload (r := some _) rfl rfl rfl (pc' := 44) ?_
    refine t_get (o := 52) rfl hT rfl rfl rfl (pc' := 47) rfl ?_
    refine g_iload rfl rfl rfl (pc' := 49) ?_
    obtain ⟨n4, hn4, H⟩ := H
    refine t_iaload hT (o := 52) (l := 6144) rfl rfl rfl hn4 (pc' := 50) rfl ?_
    refine g_iload rfl rfl rfl (pc' := 51) ?_
    refine g_iand rfl rfl (pc' := 52) ?_
    refine g_if_ne rfl (pc' := 55) (pt := 58) rfl rfl ⟨fun hc => ?_, fun hc => ?_⟩
    · have H := H.1 hc
      refine g_aload (r := some _) rfl rfl rfl (pc' := 59) ?_
      refine t_get (o := 51) rfl hT rfl rfl rfl (pc' := 62) rfl ?_
      refine g_iload rfl rfl rfl (pc' := 64) ?_
      obtain ⟨n5, hn5, H⟩ := H
      refine t_iaload hT (o := 51) (l := 6144) rfl rfl rfl hn5 (pc' := 65) rfl ?_
      refine g_istore rfl rfl rfl (pc' := 67) ?_
      refine g_iload rfl rfl rfl (pc' := 69) ?_
      refine g_if_ne rfl (pc' := 72) (pt := 77) rfl rfl ⟨fun hc => ?_, fun hc => ?_⟩
      · have H := H.1 hc
        refine g_iload rfl rfl rfl (pc' := 79) ?_
        refine g_iconst rfl rfl rfl (pc' := 80) ?_
        refine g_ic_ne rfl (pc' := 83) (pt := 102) rfl rfl ⟨fun hc => ?_, fun hc => ?_⟩
        · have H := H.1 hc
          refine g_iload rfl rfl rfl (pc' := 104) ?_
          refine g_iconst rfl rfl rfl (pc' := 105) ?_
          refine g_ic_eq rfl (pc' := 108) (pt := 145) rfl rfl ⟨fun hc => ?_, fun hc => ?_⟩
          · have H := H.1 hc
            exact g_weak (show gm_Lle [some _, some _, some _, some _, some _, some _] _ from ⟨rfl, ⟨rfl, ⟨rfl, ⟨rfl, ⟨rfl, ⟨rfl, trivial⟩⟩⟩⟩⟩⟩) H
          · have H := H.2 hc
            refine g_iload rfl rfl rfl (pc' := 110) ?_
            refine g_iconst rfl rfl rfl (pc' := 112) ?_
            refine g_ic_ge rfl (pc' := 115) (pt := 127) rfl rfl ⟨fun hc => ?_, fun hc => ?_⟩
            · have H := H.1 hc
              refine g_aload (r := some _) rfl rfl rfl (pc' := 128) ?_
              refine t_get (o := 3) rfl hT rfl rfl rfl (pc' := 131) rfl ?_
              refine g_iconst rfl rfl rfl (pc' := 133) ?_
              refine g_iload rfl rfl rfl (pc' := 134) ?_
              refine g_imul rfl rfl (pc' := 135) ?_
              refine g_iload rfl rfl rfl (pc' := 137) ?_
              refine g_iadd rfl rfl (pc' := 138) ?_
              refine g_iconst rfl rfl rfl (pc' := 140) ?_
              refine g_isub rfl rfl (pc' := 141) ?_
              obtain ⟨n6, hn6, H⟩ := H
              refine t_zaload hT (o := 3) (l := 64) rfl rfl rfl hn6 (pc' := 142) rfl ?_
              refine g_if_eq rfl (pc' := 145) (pt := 149) rfl rfl ⟨fun hc => ?_, fun hc => ?_⟩
              · have H := H.1 hc
                exact g_weak (show gm_Lle [some _, some _, some _, some _, some _, some _] _ from ⟨rfl, ⟨rfl, ⟨rfl, ⟨rfl, ⟨rfl, ⟨rfl, trivial⟩⟩⟩⟩⟩⟩) H
              · have H := H.2 hc
                exact g_weak (show gm_Lle [some _, some _, some _, some _, some _, some _] _ from ⟨rfl, ⟨rfl, ⟨rfl, ⟨rfl, ⟨rfl, ⟨rfl, trivial⟩⟩⟩⟩⟩⟩) H
            · have H := H.2 hc
              refine g_iload rfl rfl rfl (pc' := 117) ?_
              refine g_iconst rfl rfl rfl (pc' := 119) ?_
              refine g_isub rfl rfl (pc' := 120) ?_
              refine g_iload rfl rfl rfl (pc' := 121) ?_
              refine g_ic_ne rfl (pc' := 124) (pt := 149) rfl rfl ⟨fun hc => ?_, fun hc => ?_⟩
              · have H := H.1 hc
                exact g_weak (show gm_Lle [some _, some _, some _, some _, some _, some _] _ from ⟨rfl, ⟨rfl, ⟨rfl, ⟨rfl, ⟨rfl, ⟨rfl, trivial⟩⟩⟩⟩⟩⟩) H
              · have H := H.2 hc
                refine g_goto rfl (pc' := 145) rfl ?_
                exact g_weak (show gm_Lle [some _, some _, some _, some _, some _, some _] _ from ⟨rfl, ⟨rfl, ⟨rfl, ⟨rfl, ⟨rfl, ⟨rfl, trivial⟩⟩⟩⟩⟩⟩) H
        · have H := H.2 hc
          refine g_aload (r := some _) rfl rfl rfl (pc' := 84) ?_
          refine t_get (o := 3) rfl hT rfl rfl rfl (pc' := 87) rfl ?_
          refine g_iconst rfl rfl rfl (pc' := 89) ?_
          refine g_iload rfl rfl rfl (pc' := 90) ?_
          refine g_imul rfl rfl (pc' := 91) ?_
          refine g_aload (r := some _) rfl rfl rfl (pc' := 92) ?_
          refine t_get (o := 43) rfl hT rfl rfl rfl (pc' := 95) rfl ?_
          refine g_iload rfl rfl rfl (pc' := 96) ?_
          obtain ⟨n7, hn7, H⟩ := H
          refine t_iaload hT (o := 43) (l := 1536) rfl rfl rfl hn7 (pc' := 97) rfl ?_
          refine g_iadd rfl rfl (pc' := 98) ?_
          obtain ⟨n8, hn8, H⟩ := H
          refine t_zaload hT (o := 3) (l := 64) rfl rfl rfl hn8 (pc' := 99) rfl ?_
          refine g_goto rfl (pc' := 150) rfl ?_
          exact g_weak (show gm_Lle [some _, some _, some _, some _, some _, some _] _ from ⟨rfl, ⟨rfl, ⟨rfl, ⟨rfl, ⟨rfl, ⟨rfl, trivial⟩⟩⟩⟩⟩⟩) H
      · have H := H.2 hc
        refine g_iload rfl rfl rfl (pc' := 74) ?_
        refine g_goto rfl (pc' := 150) rfl ?_
        exact g_weak (show gm_Lle [some _, some _, some _, some _, some _, some _] _ from ⟨rfl, ⟨rfl, ⟨rfl, ⟨rfl, ⟨rfl, ⟨rfl, trivial⟩⟩⟩⟩⟩⟩) H
    · have H := H.2 hc
      refine g_goto rfl (pc' := 174) rfl ?_
      exact g_weak (show gm_Lle [some _, some _, some _, some _, some _, some _] _ from ⟨rfl, ⟨rfl, ⟨rfl, ⟨rfl, ⟨rfl, ⟨rfl, trivial⟩⟩⟩⟩⟩⟩) H
theorem w_115_145 {m : Nat} {x1 : Int32} {x2 : Int32} {x3 : Int32} {x4 : Int32} {x5 : Int32} {h : hh_T} {Q : Option Value ⊕ Nat → hh_T → Prop} (hT : tw_ok h m) (H : gm_G 115 150 [some (.ref m), some (.int x1), some (.int x2), some (.int x3), some (.int x4), some (.int x5)] [.int (Int32.ofNat 1)] h Q) : gm_G 115 145 [some (.ref m), some (.int x1), some (.int x2), some (.int x3), some (.int x4), some (.int x5)] [] h Q := by
  refine g_iconst rfl rfl rfl (pc' := 146) ?_
  refine g_goto rfl (pc' := 150) rfl ?_
  exact g_weak (show gm_Lle [some _, some _, some _, some _, some _, some _] _ from ⟨rfl, ⟨rfl, ⟨rfl, ⟨rfl, ⟨rfl, ⟨rfl, trivial⟩⟩⟩⟩⟩⟩) H
theorem w_115_149 {m : Nat} {x1 : Int32} {x2 : Int32} {x3 : Int32} {x4 : Int32} {x5 : Int32} {h : hh_T} {Q : Option Value ⊕ Nat → hh_T → Prop} (hT : tw_ok h m) (H : gm_G 115 150 [some (.ref m), some (.int x1), some (.int x2), some (.int x3), some (.int x4), some (.int x5)] [.int (Int32.ofNat 0)] h Q) : gm_G 115 149 [some (.ref m), some (.int x1), some (.int x2), some (.int x3), some (.int x4), some (.int x5)] [] h Q := by
  refine g_iconst rfl rfl rfl (pc' := 150) ?_
  exact g_weak (show gm_Lle [some _, some _, some _, some _, some _, some _] _ from ⟨rfl, ⟨rfl, ⟨rfl, ⟨rfl, ⟨rfl, ⟨rfl, trivial⟩⟩⟩⟩⟩⟩) H
theorem w_115_150 {m : Nat} {x1 : Int32} {x2 : Int32} {x3 : Int32} {x4 : Int32} {x5 : Int32} {y0 : Int32} {h : hh_T} {Q : Option Value ⊕ Nat → hh_T → Prop} (hT : tw_ok h m) (H : (y0 = Int32.ofNat 0 → (gm_G 115 174 [some (.ref m), some (.int x1), some (.int x2), some (.int x3), some (.int x4), some (.int x5)] [] h Q)) ∧ (¬ y0 = Int32.ofNat 0 → (∃ n1, gm_ix x5 n1 6144 ∧ ((¬ (hh_i h (m + 50) n1) = (Int32.ofNat 1) → (Q (.inl (some (.int (Int32.ofNat 0)))) h)) ∧ ((hh_i h (m + 50) n1) = (Int32.ofNat 1) → (Q (.inl (some (.int (Int32.ofNat 1)))) h)))))) : gm_G 115 150 [some (.ref m), some (.int x1), some (.int x2), some (.int x3), some (.int x4), some (.int x5)] [.int y0] h Q := by
  refine g_istore rfl rfl rfl (pc' := 152) ?_
  refine g_iload rfl rfl rfl (pc' := 154) ?_
  refine g_if_eq rfl (pc' := 157) (pt := 174) rfl rfl ⟨fun hc => ?_, fun hc => ?_⟩
  · have H := H.1 hc
    exact g_weak (show gm_Lle [some _, some _, some _, some _, some _, some _] _ from ⟨rfl, ⟨rfl, ⟨rfl, ⟨rfl, ⟨rfl, ⟨rfl, trivial⟩⟩⟩⟩⟩⟩) H
  · have H := H.2 hc
    refine g_aload (r := some _) rfl rfl rfl (pc' := 158) ?_
    refine t_get (o := 50) rfl hT rfl rfl rfl (pc' := 161) rfl ?_
    refine g_iload rfl rfl rfl (pc' := 163) ?_
    obtain ⟨n1, hn1, H⟩ := H
    refine t_iaload hT (o := 50) (l := 6144) rfl rfl rfl hn1 (pc' := 164) rfl ?_
    refine g_iconst rfl rfl rfl (pc' := 165) ?_
    refine g_ic_ne rfl (pc' := 168) (pt := 172) rfl rfl ⟨fun hc => ?_, fun hc => ?_⟩
    · have H := H.1 hc
      refine g_iconst rfl rfl rfl (pc' := 173) ?_
      exact g_ireturn rfl (Or.inr (by decide)) H
    · have H := H.2 hc
      refine g_iconst rfl rfl rfl (pc' := 169) ?_
      refine g_goto rfl (pc' := 173) rfl ?_
      exact g_ireturn rfl (Or.inr (by decide)) H
theorem w_115_174 {m : Nat} {x1 : Int32} {x2 : Int32} {x3 : Int32} {x4 : Int32} {x5 : Int32} {h : hh_T} {Q : Option Value ⊕ Nat → hh_T → Prop} (hT : tw_ok h m) (H : gm_G 115 28 [some (.ref m), some (.int x1), some (.int x2), some (.int x3), some (.int x4), some (.int (x5 + (Int32.ofNat 1)))] [] h Q) : gm_G 115 174 [some (.ref m), some (.int x1), some (.int x2), some (.int x3), some (.int x4), some (.int x5)] [] h Q := by
  refine g_iinc (c := (Int32.ofNat 1)) rfl rfl rfl rfl rfl (pc' := 177) ?_
  refine g_goto rfl (pc' := 28) rfl ?_
  exact g_weak (show gm_Lle [some _, some _, some _, some _, some _, some _] _ from ⟨rfl, ⟨rfl, ⟨rfl, ⟨rfl, ⟨rfl, ⟨rfl, trivial⟩⟩⟩⟩⟩⟩) H
theorem w_115_214 {m : Nat} {x1 : Int32} {x3 : Int32} {y0 : Int32} {h : hh_T} {Q : Option Value ⊕ Nat → hh_T → Prop} (hT : tw_ok h m) (H : ∃ n1, gm_ix x1 n1 1536 ∧ (((((hh_i h (m + 41) n1) >>> (y0 &&& 31)) &&& x3) = Int32.ofNat 0 → (Q (.inl (some (.int (Int32.ofNat 0)))) h)) ∧ (¬ (((hh_i h (m + 41) n1) >>> (y0 &&& 31)) &&& x3) = Int32.ofNat 0 → (Q (.inl (some (.int (Int32.ofNat 1)))) h)))) : gm_G 115 214 [some (.ref m), some (.int x1), none, some (.int x3)] [.int y0] h Q := by
  refine g_istore rfl rfl rfl (pc' := 216) ?_
  refine g_aload (r := some _) rfl rfl rfl (pc' := 217) ?_
  refine t_get (o := 41) rfl hT rfl rfl rfl (pc' := 220) rfl ?_
  refine g_iload rfl rfl rfl (pc' := 221) ?_
  obtain ⟨n1, hn1, H⟩ := H
  refine t_iaload hT (o := 41) (l := 1536) rfl rfl rfl hn1 (pc' := 222) rfl ?_
  refine g_iload rfl rfl rfl (pc' := 224) ?_
  refine g_ishr rfl rfl (pc' := 225) ?_
  refine g_iload rfl rfl rfl (pc' := 226) ?_
  refine g_iand rfl rfl (pc' := 227) ?_
  refine g_if_eq rfl (pc' := 230) (pt := 234) rfl rfl ⟨fun hc => ?_, fun hc => ?_⟩
  · have H := H.1 hc
    refine g_iconst rfl rfl rfl (pc' := 235) ?_
    exact g_ireturn rfl (Or.inr (by decide)) H
  · have H := H.2 hc
    refine g_iconst rfl rfl rfl (pc' := 231) ?_
    refine g_goto rfl (pc' := 235) rfl ?_
    exact g_ireturn rfl (Or.inr (by decide)) H
theorem w_116_0 {m : Nat} {x1 : Int32} {h : hh_T} {Q : Option Value ⊕ Nat → hh_T → Prop} (hT : tw_ok h m) (H : gm_G 116 2 [some (.ref m), some (.int x1), some (.int (Int32.ofNat 0))] [] h Q) : gm_G 116 0 [some (.ref m), some (.int x1)] [] h Q := by
  refine g_iconst rfl rfl rfl (pc' := 1) ?_
  refine g_istore rfl rfl rfl (pc' := 2) ?_
  exact g_weak (show gm_Lle [some _, some _, some _] _ from ⟨rfl, ⟨rfl, ⟨rfl, trivial⟩⟩⟩) H
theorem w_116_2 {m : Nat} {x1 : Int32} {x2 : Int32} {h : hh_T} {Q : Option Value ⊕ Nat → hh_T → Prop} (hT : tw_ok h m) (H : (¬ x2 < (Int32.ofNat 4) → (Q (.inl (some (.int (Int32.ofInt (-1))))) h)) ∧ (x2 < (Int32.ofNat 4) → (gm_G 116 9 [some (.ref m), some (.int x1), some (.int x2), some (.int (Int32.ofNat 0))] [] h Q))) : gm_G 116 2 [some (.ref m), some (.int x1), some (.int x2)] [] h Q := by
  refine g_iload rfl rfl rfl (pc' := 3) ?_
  refine g_iconst rfl rfl rfl (pc' := 4) ?_
  refine g_ic_ge rfl (pc' := 7) (pt := 48) rfl rfl ⟨fun hc => ?_, fun hc => ?_⟩
  · have H := H.1 hc
    refine g_iconst rfl rfl rfl (pc' := 49) ?_
    exact g_ireturn rfl (Or.inl rfl) H
  · have H := H.2 hc
    refine g_iconst rfl rfl rfl (pc' := 8) ?_
    refine g_istore rfl rfl rfl (pc' := 9) ?_
    exact g_weak (show gm_Lle [some _, some _, some _, some _] _ from ⟨rfl, ⟨rfl, ⟨rfl, ⟨rfl, trivial⟩⟩⟩⟩) H
theorem w_116_9 {m : Nat} {x1 : Int32} {x2 : Int32} {x3 : Int32} {h : hh_T} {Q : Option Value ⊕ Nat → hh_T → Prop} (hT : tw_ok h m) (H : ∃ n1, gm_ix x2 n1 4 ∧ ((¬ x3 < (hh_i h (m + 33) n1) → (gm_G 116 2 [some (.ref m), some (.int x1), some (.int (x2 + (Int32.ofNat 1)))] [] h Q)) ∧ (x3 < (hh_i h (m + 33) n1) → (∃ n2, gm_ix (((Int32.ofNat 16) * x2) + x3) n2 64 ∧ ((¬ (hh_i h (m + 32) n2) = x1 → (gm_G 116 9 [some (.ref m), some (.int x1), some (.int x2), some (.int (x3 + (Int32.ofNat 1)))] [] h Q)) ∧ ((hh_i h (m + 32) n2) = x1 → (Q (.inl (some (.int x2))) h))))))) : gm_G 116 9 [some (.ref m), some (.int x1), some (.int x2), some (.int x3)] [] h Q := by
  refine g_iload rfl rfl rfl (pc' := 10) ?_
  refine g_aload (r := some _) rfl rfl rfl (pc' := 11) ?_
  refine t_get (o := 33) rfl hT rfl rfl rfl (pc' := 14) rfl ?_
  refine g_iload rfl rfl rfl (pc' := 15) ?_
  obtain ⟨n1, hn1, H⟩ := H
  refine t_iaload hT (o := 33) (l := 4) rfl rfl rfl hn1 (pc' := 16) rfl ?_
  refine g_ic_ge rfl (pc' := 19) (pt := 42) rfl rfl ⟨fun hc => ?_, fun hc => ?_⟩
  · have H := H.1 hc
    refine g_iinc (c := (Int32.ofNat 1)) rfl rfl rfl rfl rfl (pc' := 45) ?_
    refine g_goto rfl (pc' := 2) rfl ?_
    exact g_weak (show gm_Lle [some _, some _, some _] _ from ⟨rfl, ⟨rfl, ⟨rfl, trivial⟩⟩⟩) H
  · have H := H.2 hc
    refine g_aload (r := some _) rfl rfl rfl (pc' := 20) ?_
    refine t_get (o := 32) rfl hT rfl rfl rfl (pc' := 23) rfl ?_
    refine g_iconst rfl rfl rfl (pc' := 25) ?_
    refine g_iload rfl rfl rfl (pc' := 26) ?_
    refine g_imul rfl rfl (pc' := 27) ?_
    refine g_iload rfl rfl rfl (pc' := 28) ?_
    refine g_iadd rfl rfl (pc' := 29) ?_
    obtain ⟨n2, hn2, H⟩ := H
    refine t_iaload hT (o := 32) (l := 64) rfl rfl rfl hn2 (pc' := 30) rfl ?_
    refine g_iload rfl rfl rfl (pc' := 31) ?_
    refine g_ic_ne rfl (pc' := 34) (pt := 36) rfl rfl ⟨fun hc => ?_, fun hc => ?_⟩
    · have H := H.1 hc
      refine g_iinc (c := (Int32.ofNat 1)) rfl rfl rfl rfl rfl (pc' := 39) ?_
      refine g_goto rfl (pc' := 9) rfl ?_
      exact g_weak (show gm_Lle [some _, some _, some _, some _] _ from ⟨rfl, ⟨rfl, ⟨rfl, ⟨rfl, trivial⟩⟩⟩⟩) H
    · have H := H.2 hc
      refine g_iload rfl rfl rfl (pc' := 35) ?_
      exact g_ireturn rfl (Or.inl rfl) H
theorem w_117_0 {m : Nat} {x1 : Int32} {x2 : Int32} {h : hh_T} {Q : Option Value ⊕ Nat → hh_T → Prop} (hT : tw_ok h m) (H : ∃ n1, gm_ix x1 n1 12288 ∧ (∃ n2, gm_ix x2 n2 12288 ∧ ((¬ (hh_i h (m + 54) n1) < (hh_i h (m + 54) n2) → (∃ n3, gm_ix x2 n3 12288 ∧ (gm_G 117 30 [some (.ref m), some (.int x1), some (.int x2)] [.int (hh_i h (m + 54) n3)] h Q))) ∧ ((hh_i h (m + 54) n1) < (hh_i h (m + 54) n2) → (∃ n4, gm_ix x1 n4 12288 ∧ (gm_G 117 30 [some (.ref m), some (.int x1), some (.int x2)] [.int (hh_i h (m + 54) n4)] h Q)))))) : gm_G 117 0 [some (.ref m), some (.int x1), some (.int x2)] [] h Q := by
  refine g_aload (r := some _) rfl rfl rfl (pc' := 1) ?_
  refine t_get (o := 54) rfl hT rfl rfl rfl (pc' := 4) rfl ?_
  refine g_iload rfl rfl rfl (pc' := 5) ?_
  obtain ⟨n1, hn1, H⟩ := H
  refine t_iaload hT (o := 54) (l := 12288) rfl rfl rfl hn1 (pc' := 6) rfl ?_
  refine g_aload (r := some _) rfl rfl rfl (pc' := 7) ?_
  refine t_get (o := 54) rfl hT rfl rfl rfl (pc' := 10) rfl ?_
  refine g_iload rfl rfl rfl (pc' := 11) ?_
  obtain ⟨n2, hn2, H⟩ := H
  refine t_iaload hT (o := 54) (l := 12288) rfl rfl rfl hn2 (pc' := 12) rfl ?_
  refine g_ic_ge rfl (pc' := 15) (pt := 24) rfl rfl ⟨fun hc => ?_, fun hc => ?_⟩
  · have H := H.1 hc
    refine g_aload (r := some _) rfl rfl rfl (pc' := 25) ?_
    refine t_get (o := 54) rfl hT rfl rfl rfl (pc' := 28) rfl ?_
    refine g_iload rfl rfl rfl (pc' := 29) ?_
    obtain ⟨n3, hn3, H⟩ := H
    refine t_iaload hT (o := 54) (l := 12288) rfl rfl rfl hn3 (pc' := 30) rfl ?_
    exact g_weak (show gm_Lle [some _, some _, some _] _ from ⟨rfl, ⟨rfl, ⟨rfl, trivial⟩⟩⟩) H
  · have H := H.2 hc
    refine g_aload (r := some _) rfl rfl rfl (pc' := 16) ?_
    refine t_get (o := 54) rfl hT rfl rfl rfl (pc' := 19) rfl ?_
    refine g_iload rfl rfl rfl (pc' := 20) ?_
    obtain ⟨n4, hn4, H⟩ := H
    refine t_iaload hT (o := 54) (l := 12288) rfl rfl rfl hn4 (pc' := 21) rfl ?_
    refine g_goto rfl (pc' := 30) rfl ?_
    exact g_weak (show gm_Lle [some _, some _, some _] _ from ⟨rfl, ⟨rfl, ⟨rfl, trivial⟩⟩⟩) H
theorem w_117_30 {m : Nat} {x1 : Int32} {x2 : Int32} {y0 : Int32} {h : hh_T} {Q : Option Value ⊕ Nat → hh_T → Prop} (hT : tw_ok h m) (H : gm_G 117 34 [some (.ref m), some (.int x1), some (.int x2), some (.int y0), some (.int (Int32.ofNat 0))] [] h Q) : gm_G 117 30 [some (.ref m), some (.int x1), some (.int x2)] [.int y0] h Q := by
  refine g_istore rfl rfl rfl (pc' := 31) ?_
  refine g_iconst rfl rfl rfl (pc' := 32) ?_
  refine g_istore rfl rfl rfl (pc' := 34) ?_
  exact g_weak (show gm_Lle [some _, some _, some _, some _, some _] _ from ⟨rfl, ⟨rfl, ⟨rfl, ⟨rfl, ⟨rfl, trivial⟩⟩⟩⟩⟩) H
theorem w_117_34 {m : Nat} {x1 : Int32} {x2 : Int32} {x3 : Int32} {x4 : Int32} {h : hh_T} {Q : Option Value ⊕ Nat → hh_T → Prop} (hT : tw_ok h m) (H : (¬ x4 < x3 → (∃ n1, gm_ix x1 n1 12288 ∧ (∃ n2, gm_ix x2 n2 12288 ∧ ((¬ (hh_i h (m + 54) n1) < (hh_i h (m + 54) n2) → (Q (.inl (some (.int (Int32.ofNat 0)))) h)) ∧ ((hh_i h (m + 54) n1) < (hh_i h (m + 54) n2) → (Q (.inl (some (.int (Int32.ofNat 1)))) h)))))) ∧ (x4 < x3 → (∃ n3, gm_ix (((Int32.ofNat 8) * x1) + x4) n3 98304 ∧ (∃ n4, gm_ix (((Int32.ofNat 8) * x2) + x4) n4 98304 ∧ (((hh_i h (m + 56) n3) = (hh_i h (m + 56) n4) → (gm_G 117 34 [some (.ref m), some (.int x1), some (.int x2), some (.int x3), some (.int (x4 + (Int32.ofNat 1)))] [] h Q)) ∧ (¬ (hh_i h (m + 56) n3) = (hh_i h (m + 56) n4) → (∃ n5, gm_ix (((Int32.ofNat 8) * x1) + x4) n5 98304 ∧ (∃ n6, gm_ix (((Int32.ofNat 8) * x2) + x4) n6 98304 ∧ ((¬ (hh_i h (m + 56) n5) < (hh_i h (m + 56) n6) → (Q (.inl (some (.int (Int32.ofNat 0)))) h)) ∧ ((hh_i h (m + 56) n5) < (hh_i h (m + 56) n6) → (Q (.inl (some (.int (Int32.ofNat 1)))) h))))))))))) : gm_G 117 34 [some (.ref m), some (.int x1), some (.int x2), some (.int x3), some (.int x4)] [] h Q := by
  refine g_iload rfl rfl rfl (pc' := 36) ?_
  refine g_iload rfl rfl rfl (pc' := 37) ?_
  refine g_ic_ge rfl (pc' := 40) (pt := 106) rfl rfl ⟨fun hc => ?_, fun hc => ?_⟩
  · have H := H.1 hc
    refine g_aload (r := some _) rfl rfl rfl (pc' := 107) ?_
    refine t_get (o := 54) rfl hT rfl rfl rfl (pc' := 110) rfl ?_
    refine g_iload rfl rfl rfl (pc' := 111) ?_
    obtain ⟨n1, hn1, H⟩ := H
    refine t_iaload hT (o := 54) (l := 12288) rfl rfl rfl hn1 (pc' := 112) rfl ?_
    refine g_aload (r := some _) rfl rfl rfl (pc' := 113) ?_
    refine t_get (o := 54) rfl hT rfl rfl rfl (pc' := 116) rfl ?_
    refine g_iload rfl rfl rfl (pc' := 117) ?_
    obtain ⟨n2, hn2, H⟩ := H
    refine t_iaload hT (o := 54) (l := 12288) rfl rfl rfl hn2 (pc' := 118) rfl ?_
    refine g_ic_ge rfl (pc' := 121) (pt := 125) rfl rfl ⟨fun hc => ?_, fun hc => ?_⟩
    · have H := H.1 hc
      refine g_iconst rfl rfl rfl (pc' := 126) ?_
      exact g_ireturn rfl (Or.inr (by decide)) H
    · have H := H.2 hc
      refine g_iconst rfl rfl rfl (pc' := 122) ?_
      refine g_goto rfl (pc' := 126) rfl ?_
      exact g_ireturn rfl (Or.inr (by decide)) H
  · have H := H.2 hc
    refine g_aload (r := some _) rfl rfl rfl (pc' := 41) ?_
    refine t_get (o := 56) rfl hT rfl rfl rfl (pc' := 44) rfl ?_
    refine g_iconst rfl rfl rfl (pc' := 46) ?_
    refine g_iload rfl rfl rfl (pc' := 47) ?_
    refine g_imul rfl rfl (pc' := 48) ?_
    refine g_iload rfl rfl rfl (pc' := 50) ?_
    refine g_iadd rfl rfl (pc' := 51) ?_
    obtain ⟨n3, hn3, H⟩ := H
    refine t_baload hT (o := 56) (l := 98304) rfl rfl rfl hn3 (pc' := 52) rfl ?_
    refine g_aload (r := some _) rfl rfl rfl (pc' := 53) ?_
    refine t_get (o := 56) rfl hT rfl rfl rfl (pc' := 56) rfl ?_
    refine g_iconst rfl rfl rfl (pc' := 58) ?_
    refine g_iload rfl rfl rfl (pc' := 59) ?_
    refine g_imul rfl rfl (pc' := 60) ?_
    refine g_iload rfl rfl rfl (pc' := 62) ?_
    refine g_iadd rfl rfl (pc' := 63) ?_
    obtain ⟨n4, hn4, H⟩ := H
    refine t_baload hT (o := 56) (l := 98304) rfl rfl rfl hn4 (pc' := 64) rfl ?_
    refine g_ic_eq rfl (pc' := 67) (pt := 100) rfl rfl ⟨fun hc => ?_, fun hc => ?_⟩
    · have H := H.1 hc
      refine g_iinc (c := (Int32.ofNat 1)) rfl rfl rfl rfl rfl (pc' := 103) ?_
      refine g_goto rfl (pc' := 34) rfl ?_
      exact g_weak (show gm_Lle [some _, some _, some _, some _, some _] _ from ⟨rfl, ⟨rfl, ⟨rfl, ⟨rfl, ⟨rfl, trivial⟩⟩⟩⟩⟩) H
    · have H := H.2 hc
      refine g_aload (r := some _) rfl rfl rfl (pc' := 68) ?_
      refine t_get (o := 56) rfl hT rfl rfl rfl (pc' := 71) rfl ?_
      refine g_iconst rfl rfl rfl (pc' := 73) ?_
      refine g_iload rfl rfl rfl (pc' := 74) ?_
      refine g_imul rfl rfl (pc' := 75) ?_
      refine g_iload rfl rfl rfl (pc' := 77) ?_
      refine g_iadd rfl rfl (pc' := 78) ?_
      obtain ⟨n5, hn5, H⟩ := H
      refine t_baload hT (o := 56) (l := 98304) rfl rfl rfl hn5 (pc' := 79) rfl ?_
      refine g_aload (r := some _) rfl rfl rfl (pc' := 80) ?_
      refine t_get (o := 56) rfl hT rfl rfl rfl (pc' := 83) rfl ?_
      refine g_iconst rfl rfl rfl (pc' := 85) ?_
      refine g_iload rfl rfl rfl (pc' := 86) ?_
      refine g_imul rfl rfl (pc' := 87) ?_
      refine g_iload rfl rfl rfl (pc' := 89) ?_
      refine g_iadd rfl rfl (pc' := 90) ?_
      obtain ⟨n6, hn6, H⟩ := H
      refine t_baload hT (o := 56) (l := 98304) rfl rfl rfl hn6 (pc' := 91) rfl ?_
      refine g_ic_ge rfl (pc' := 94) (pt := 98) rfl rfl ⟨fun hc => ?_, fun hc => ?_⟩
      · have H := H.1 hc
        refine g_iconst rfl rfl rfl (pc' := 99) ?_
        exact g_ireturn rfl (Or.inr (by decide)) H
      · have H := H.2 hc
        refine g_iconst rfl rfl rfl (pc' := 95) ?_
        refine g_goto rfl (pc' := 99) rfl ?_
        exact g_ireturn rfl (Or.inr (by decide)) H
theorem w_118_0 {m : Nat} {x1 : Int32} {x2 : Int32} {x3 : Int32} {h : hh_T} {Q : Option Value ⊕ Nat → hh_T → Prop} (hT : tw_ok h m) (H : gm_G 118 3 [some (.ref m), some (.int x1), none, some (.int x3), some (.int x2)] [] h Q) : gm_G 118 0 [some (.ref m), some (.int x1), some (.int x2), some (.int x3)] [] h Q := by
  refine g_iload rfl rfl rfl (pc' := 1) ?_
  refine g_istore rfl rfl rfl (pc' := 3) ?_
  exact g_weak (show gm_Lle [some _, some _, none, some _, some _] _ from ⟨rfl, ⟨rfl, ⟨rfl, ⟨rfl, trivial⟩⟩⟩⟩) H
theorem w_118_3 {m : Nat} {x1 : Int32} {x3 : Int32} {x4 : Int32} {h : hh_T} {Q : Option Value ⊕ Nat → hh_T → Prop} (hT : tw_ok h m) (H : (x4 = x3 → (gm_G 118 31 [none, none, none, some (.int x3), some (.int x4)] [] h Q)) ∧ (¬ x4 = x3 → ((x4 = Int32.ofNat 0 → (gm_G 118 31 [none, none, none, some (.int x3), some (.int x4)] [] h Q)) ∧ (¬ x4 = Int32.ofNat 0 → (∃ n1, gm_ix (((Int32.ofNat 16) * x1) + x4) n1 1536 ∧ (gm_G 118 3 [some (.ref m), some (.int x1), none, some (.int x3), some (.int (hh_i h (m + 48) n1))] [] h Q)))))) : gm_G 118 3 [some (.ref m), some (.int x1), none, some (.int x3), some (.int x4)] [] h Q := by
  refine g_iload rfl rfl rfl (pc' := 5) ?_
  refine g_iload rfl rfl rfl (pc' := 6) ?_
  refine g_ic_eq rfl (pc' := 9) (pt := 31) rfl rfl ⟨fun hc => ?_, fun hc => ?_⟩
  · have H := H.1 hc
    exact g_weak (show gm_Lle [none, none, none, some _, some _] _ from ⟨rfl, ⟨rfl, trivial⟩⟩) H
  · have H := H.2 hc
    refine g_iload rfl rfl rfl (pc' := 11) ?_
    refine g_if_eq rfl (pc' := 14) (pt := 31) rfl rfl ⟨fun hc => ?_, fun hc => ?_⟩
    · have H := H.1 hc
      exact g_weak (show gm_Lle [none, none, none, some _, some _] _ from ⟨rfl, ⟨rfl, trivial⟩⟩) H
    · have H := H.2 hc
      refine g_aload (r := some _) rfl rfl rfl (pc' := 15) ?_
      refine t_get (o := 48) rfl hT rfl rfl rfl (pc' := 18) rfl ?_
      refine g_iconst rfl rfl rfl (pc' := 20) ?_
      refine g_iload rfl rfl rfl (pc' := 21) ?_
      refine g_imul rfl rfl (pc' := 22) ?_
      refine g_iload rfl rfl rfl (pc' := 24) ?_
      refine g_iadd rfl rfl (pc' := 25) ?_
      obtain ⟨n1, hn1, H⟩ := H
      refine t_iaload hT (o := 48) (l := 1536) rfl rfl rfl hn1 (pc' := 26) rfl ?_
      refine g_istore rfl rfl rfl (pc' := 28) ?_
      refine g_goto rfl (pc' := 3) rfl ?_
      exact g_weak (show gm_Lle [some _, some _, none, some _, some _] _ from ⟨rfl, ⟨rfl, ⟨rfl, ⟨rfl, trivial⟩⟩⟩⟩) H
theorem w_118_31 {m : Nat} {x3 : Int32} {x4 : Int32} {h : hh_T} {Q : Option Value ⊕ Nat → hh_T → Prop} (hT : tw_ok h m) (H : (¬ x4 = x3 → (Q (.inl (some (.int (Int32.ofNat 0)))) h)) ∧ (x4 = x3 → (Q (.inl (some (.int (Int32.ofNat 1)))) h))) : gm_G 118 31 [none, none, none, some (.int x3), some (.int x4)] [] h Q := by
  refine g_iload rfl rfl rfl (pc' := 33) ?_
  refine g_iload rfl rfl rfl (pc' := 34) ?_
  refine g_ic_ne rfl (pc' := 37) (pt := 41) rfl rfl ⟨fun hc => ?_, fun hc => ?_⟩
  · have H := H.1 hc
    refine g_iconst rfl rfl rfl (pc' := 42) ?_
    exact g_ireturn rfl (Or.inr (by decide)) H
  · have H := H.2 hc
    refine g_iconst rfl rfl rfl (pc' := 38) ?_
    refine g_goto rfl (pc' := 42) rfl ?_
    exact g_ireturn rfl (Or.inr (by decide)) H
theorem w_119_0 {m : Nat} {b0 : Nat} {x1 : Int32} {x2 : Int32} {h : hh_T} {Q : Option Value ⊕ Nat → hh_T → Prop} (hT : tw_ok h m) (H : (¬ x2 = (Int32.ofNat 1) → (gm_G 119 13 [some (.ref b0), some (.int x1), some (.int x2)] [] h Q)) ∧ (x2 = (Int32.ofNat 1) → ((hh_tg h b0 = 101 ∨ hh_tg h b0 = 102) ∧ (∃ n1, gm_ix x1 n1 (hh_ln h b0) ∧ (((hh_i h b0 n1) = (Int32.ofNat 46) → (gm_G 119 36 [] [] h Q)) ∧ (¬ (hh_i h b0 n1) = (Int32.ofNat 46) → (gm_G 119 13 [some (.ref b0), some (.int x1), some (.int x2)] [] h Q))))))) : gm_G 119 0 [some (.ref b0), some (.int x1), some (.int x2)] [] h Q := by
  refine g_iload rfl rfl rfl (pc' := 1) ?_
  refine g_iconst rfl rfl rfl (pc' := 2) ?_
  refine g_ic_ne rfl (pc' := 5) (pt := 13) rfl rfl ⟨fun hc => ?_, fun hc => ?_⟩
  · have H := H.1 hc
    exact g_weak (show gm_Lle [some _, some _, some _] _ from ⟨rfl, ⟨rfl, ⟨rfl, trivial⟩⟩⟩) H
  · have H := H.2 hc
    refine g_aload (r := some _) rfl rfl rfl (pc' := 6) ?_
    refine g_iload rfl rfl rfl (pc' := 7) ?_
    obtain ⟨ht2, H⟩ := H
    obtain ⟨n1, hn1, H⟩ := H
    refine g_baload rfl ht2 hn1 (pc' := 8) rfl ?_
    refine g_iconst rfl rfl rfl (pc' := 10) ?_
    refine g_ic_eq rfl (pc' := 13) (pt := 36) rfl rfl ⟨fun hc => ?_, fun hc => ?_⟩
    · have H := H.1 hc
      exact g_weak (show gm_Lle [] _ from trivial) H
    · have H := H.2 hc
      exact g_weak (show gm_Lle [some _, some _, some _] _ from ⟨rfl, ⟨rfl, ⟨rfl, trivial⟩⟩⟩) H
theorem w_119_13 {m : Nat} {b0 : Nat} {x1 : Int32} {x2 : Int32} {h : hh_T} {Q : Option Value ⊕ Nat → hh_T → Prop} (hT : tw_ok h m) (H : (¬ x2 = (Int32.ofNat 2) → (Q (.inl (some (.int (Int32.ofNat 0)))) h)) ∧ (x2 = (Int32.ofNat 2) → ((hh_tg h b0 = 101 ∨ hh_tg h b0 = 102) ∧ (∃ n1, gm_ix x1 n1 (hh_ln h b0) ∧ ((¬ (hh_i h b0 n1) = (Int32.ofNat 46) → (Q (.inl (some (.int (Int32.ofNat 0)))) h)) ∧ ((hh_i h b0 n1) = (Int32.ofNat 46) → (∃ n3, gm_ix (x1 + (Int32.ofNat 1)) n3 (hh_ln h b0) ∧ ((¬ (hh_i h b0 n3) = (Int32.ofNat 46) → (Q (.inl (some (.int (Int32.ofNat 0)))) h)) ∧ ((hh_i h b0 n3) = (Int32.ofNat 46) → (gm_G 119 36 [] [] h Q)))))))))) : gm_G 119 13 [some (.ref b0), some (.int x1), some (.int x2)] [] h Q := by
  refine g_iload rfl rfl rfl (pc' := 14) ?_
  refine g_iconst rfl rfl rfl (pc' := 15) ?_
  refine g_ic_ne rfl (pc' := 18) (pt := 40) rfl rfl ⟨fun hc => ?_, fun hc => ?_⟩
  · have H := H.1 hc
    refine g_iconst rfl rfl rfl (pc' := 41) ?_
    exact g_ireturn rfl (Or.inr (by decide)) H
  · have H := H.2 hc
    refine g_aload (r := some _) rfl rfl rfl (pc' := 19) ?_
    refine g_iload rfl rfl rfl (pc' := 20) ?_
    obtain ⟨ht2, H⟩ := H
    obtain ⟨n1, hn1, H⟩ := H
    refine g_baload rfl ht2 hn1 (pc' := 21) rfl ?_
    refine g_iconst rfl rfl rfl (pc' := 23) ?_
    refine g_ic_ne rfl (pc' := 26) (pt := 40) rfl rfl ⟨fun hc => ?_, fun hc => ?_⟩
    · have H := H.1 hc
      refine g_iconst rfl rfl rfl (pc' := 41) ?_
      exact g_ireturn rfl (Or.inr (by decide)) H
    · have H := H.2 hc
      refine g_aload (r := some _) rfl rfl rfl (pc' := 27) ?_
      refine g_iload rfl rfl rfl (pc' := 28) ?_
      refine g_iconst rfl rfl rfl (pc' := 29) ?_
      refine g_iadd rfl rfl (pc' := 30) ?_
      obtain ⟨n3, hn3, H⟩ := H
      refine g_baload rfl ht2 hn3 (pc' := 31) rfl ?_
      refine g_iconst rfl rfl rfl (pc' := 33) ?_
      refine g_ic_ne rfl (pc' := 36) (pt := 40) rfl rfl ⟨fun hc => ?_, fun hc => ?_⟩
      · have H := H.1 hc
        refine g_iconst rfl rfl rfl (pc' := 41) ?_
        exact g_ireturn rfl (Or.inr (by decide)) H
      · have H := H.2 hc
        exact g_weak (show gm_Lle [] _ from trivial) H
theorem w_119_36 {m : Nat}  {h : hh_T} {Q : Option Value ⊕ Nat → hh_T → Prop} (hT : tw_ok h m) (H : Q (.inl (some (.int (Int32.ofNat 1)))) h) : gm_G 119 36 [] [] h Q := by
  refine g_iconst rfl rfl rfl (pc' := 37) ?_
  refine g_goto rfl (pc' := 41) rfl ?_
  exact g_ireturn rfl (Or.inr (by decide)) H
theorem w_120_0 {m : Nat} {x1 : Int32} {h : hh_T} {Q : Option Value ⊕ Nat → hh_T → Prop} (hT : tw_ok h m) (H : gm_G 120 4 [some (.ref m), some (.int x1), some (.int (Int32.ofNat 0)), some (.int (Int32.ofNat 0))] [] h Q) : gm_G 120 0 [some (.ref m), some (.int x1)] [] h Q := by
  refine g_iconst rfl rfl rfl (pc' := 1) ?_
  refine g_istore rfl rfl rfl (pc' := 2) ?_
  refine g_iconst rfl rfl rfl (pc' := 3) ?_
  refine g_istore rfl rfl rfl (pc' := 4) ?_
  exact g_weak (show gm_Lle [some _, some _, some _, some _] _ from ⟨rfl, ⟨rfl, ⟨rfl, ⟨rfl, trivial⟩⟩⟩⟩) H
theorem w_120_4 {m : Nat} {x1 : Int32} {x2 : Int32} {x3 : Int32} {h : hh_T} {Q : Option Value ⊕ Nat → hh_T → Prop} (hT : tw_ok h m) (H : ∃ n1, gm_ix x1 n1 3 ∧ ((¬ x3 < (hh_i h (m + 13) n1) → (∃ n2, gm_ix x1 n2 3 ∧ ((¬ (hh_i h (m + 11) n2) = (Int32.ofNat 2) → (∃ n3, gm_ix x1 n3 3 ∧ ((¬ x2 < (hh_i h (m + 13) n3) → (Q (.inl (some (.int (Int32.ofNat 0)))) h)) ∧ (x2 < (hh_i h (m + 13) n3) → (Q (.inl (some (.int (Int32.ofNat 1)))) h))))) ∧ ((hh_i h (m + 11) n2) = (Int32.ofNat 2) → (∃ n4, gm_ix x1 n4 3 ∧ (((hh_i h (m + 12) n4) < x2 → (Q (.inl (some (.int (Int32.ofNat 0)))) h)) ∧ (¬ (hh_i h (m + 12) n4) < x2 → (Q (.inl (some (.int (Int32.ofNat 1)))) h)))))))) ∧ (x3 < (hh_i h (m + 13) n1) → (∃ n5, gm_ix (((Int32.ofNat 6) * x1) + x3) n5 18 ∧ (∃ n6, gm_ix (hh_i h (m + 15) n5) n6 8 ∧ (((hh_i h (m + 7) n6) = Int32.ofNat 0 → (gm_G 120 39 [some (.ref m), some (.int x1), none, some (.int x3)] [.int (Int32.ofNat 0), .int x2] h Q)) ∧ (¬ (hh_i h (m + 7) n6) = Int32.ofNat 0 → (gm_G 120 39 [some (.ref m), some (.int x1), none, some (.int x3)] [.int (Int32.ofNat 1), .int x2] h Q)))))))) : gm_G 120 4 [some (.ref m), some (.int x1), some (.int x2), some (.int x3)] [] h Q := by
  refine g_iload rfl rfl rfl (pc' := 5) ?_
  refine g_aload (r := some _) rfl rfl rfl (pc' := 6) ?_
  refine t_get (o := 13) rfl hT rfl rfl rfl (pc' := 9) rfl ?_
  refine g_iload rfl rfl rfl (pc' := 10) ?_
  obtain ⟨n1, hn1, H⟩ := H
  refine t_iaload hT (o := 13) (l := 3) rfl rfl rfl hn1 (pc' := 11) rfl ?_
  refine g_ic_ge rfl (pc' := 14) (pt := 47) rfl rfl ⟨fun hc => ?_, fun hc => ?_⟩
  · have H := H.1 hc
    refine g_aload (r := some _) rfl rfl rfl (pc' := 48) ?_
    refine t_get (o := 11) rfl hT rfl rfl rfl (pc' := 51) rfl ?_
    refine g_iload rfl rfl rfl (pc' := 52) ?_
    obtain ⟨n2, hn2, H⟩ := H
    refine t_iaload hT (o := 11) (l := 3) rfl rfl rfl hn2 (pc' := 53) rfl ?_
    refine g_iconst rfl rfl rfl (pc' := 54) ?_
    refine g_ic_ne rfl (pc' := 57) (pt := 75) rfl rfl ⟨fun hc => ?_, fun hc => ?_⟩
    · have H := H.1 hc
      refine g_iload rfl rfl rfl (pc' := 76) ?_
      refine g_aload (r := some _) rfl rfl rfl (pc' := 77) ?_
      refine t_get (o := 13) rfl hT rfl rfl rfl (pc' := 80) rfl ?_
      refine g_iload rfl rfl rfl (pc' := 81) ?_
      obtain ⟨n3, hn3, H⟩ := H
      refine t_iaload hT (o := 13) (l := 3) rfl rfl rfl hn3 (pc' := 82) rfl ?_
      refine g_ic_ge rfl (pc' := 85) (pt := 89) rfl rfl ⟨fun hc => ?_, fun hc => ?_⟩
      · have H := H.1 hc
        refine g_iconst rfl rfl rfl (pc' := 90) ?_
        exact g_ireturn rfl (Or.inr (by decide)) H
      · have H := H.2 hc
        refine g_iconst rfl rfl rfl (pc' := 86) ?_
        refine g_goto rfl (pc' := 90) rfl ?_
        exact g_ireturn rfl (Or.inr (by decide)) H
    · have H := H.2 hc
      refine g_iload rfl rfl rfl (pc' := 58) ?_
      refine g_aload (r := some _) rfl rfl rfl (pc' := 59) ?_
      refine t_get (o := 12) rfl hT rfl rfl rfl (pc' := 62) rfl ?_
      refine g_iload rfl rfl rfl (pc' := 63) ?_
      obtain ⟨n4, hn4, H⟩ := H
      refine t_iaload hT (o := 12) (l := 3) rfl rfl rfl hn4 (pc' := 64) rfl ?_
      refine g_ic_gt rfl (pc' := 67) (pt := 71) rfl rfl ⟨fun hc => ?_, fun hc => ?_⟩
      · have H := H.1 hc
        refine g_iconst rfl rfl rfl (pc' := 72) ?_
        refine g_goto rfl (pc' := 90) rfl ?_
        exact g_ireturn rfl (Or.inr (by decide)) H
      · have H := H.2 hc
        refine g_iconst rfl rfl rfl (pc' := 68) ?_
        refine g_goto rfl (pc' := 90) rfl ?_
        exact g_ireturn rfl (Or.inr (by decide)) H
  · have H := H.2 hc
    refine g_iload rfl rfl rfl (pc' := 15) ?_
    refine g_aload (r := some _) rfl rfl rfl (pc' := 16) ?_
    refine t_get (o := 7) rfl hT rfl rfl rfl (pc' := 19) rfl ?_
    refine g_aload (r := some _) rfl rfl rfl (pc' := 20) ?_
    refine t_get (o := 15) rfl hT rfl rfl rfl (pc' := 23) rfl ?_
    refine g_iconst rfl rfl rfl (pc' := 25) ?_
    refine g_iload rfl rfl rfl (pc' := 26) ?_
    refine g_imul rfl rfl (pc' := 27) ?_
    refine g_iload rfl rfl rfl (pc' := 28) ?_
    refine g_iadd rfl rfl (pc' := 29) ?_
    obtain ⟨n5, hn5, H⟩ := H
    refine t_iaload hT (o := 15) (l := 18) rfl rfl rfl hn5 (pc' := 30) rfl ?_
    obtain ⟨n6, hn6, H⟩ := H
    refine t_zaload hT (o := 7) (l := 8) rfl rfl rfl hn6 (pc' := 31) rfl ?_
    refine g_if_eq rfl (pc' := 34) (pt := 38) rfl rfl ⟨fun hc => ?_, fun hc => ?_⟩
    · have H := H.1 hc
      refine g_iconst rfl rfl rfl (pc' := 39) ?_
      exact g_weak (show gm_Lle [some _, some _, none, some _] _ from ⟨rfl, ⟨rfl, ⟨rfl, trivial⟩⟩⟩) H
    · have H := H.2 hc
      refine g_iconst rfl rfl rfl (pc' := 35) ?_
      refine g_goto rfl (pc' := 39) rfl ?_
      exact g_weak (show gm_Lle [some _, some _, none, some _] _ from ⟨rfl, ⟨rfl, ⟨rfl, trivial⟩⟩⟩) H
theorem w_120_39 {m : Nat} {x1 : Int32} {x3 : Int32} {y0 : Int32} {y1 : Int32} {h : hh_T} {Q : Option Value ⊕ Nat → hh_T → Prop} (hT : tw_ok h m) (H : gm_G 120 4 [some (.ref m), some (.int x1), some (.int (y1 + y0)), some (.int (x3 + (Int32.ofNat 1)))] [] h Q) : gm_G 120 39 [some (.ref m), some (.int x1), none, some (.int x3)] [.int y0, .int y1] h Q := by
  refine g_iadd rfl rfl (pc' := 40) ?_
  refine g_istore rfl rfl rfl (pc' := 41) ?_
  refine g_iinc (c := (Int32.ofNat 1)) rfl rfl rfl rfl rfl (pc' := 44) ?_
  refine g_goto rfl (pc' := 4) rfl ?_
  exact g_weak (show gm_Lle [some _, some _, some _, some _] _ from ⟨rfl, ⟨rfl, ⟨rfl, ⟨rfl, trivial⟩⟩⟩⟩) H
theorem w_121_0 {m : Nat} {x1 : Int32} {h : hh_T} {Q : Option Value ⊕ Nat → hh_T → Prop} (hT : tw_ok h m) (H : (x1 < (Int32.ofNat 97) → (gm_G 121 12 [none, some (.int x1)] [] h Q)) ∧ (¬ x1 < (Int32.ofNat 97) → ((¬ (Int32.ofNat 122) < x1 → (gm_G 121 42 [] [] h Q)) ∧ ((Int32.ofNat 122) < x1 → (gm_G 121 12 [none, some (.int x1)] [] h Q))))) : gm_G 121 0 [some (.ref m), some (.int x1)] [] h Q := by
  refine g_iload rfl rfl rfl (pc' := 1) ?_
  refine g_iconst rfl rfl rfl (pc' := 3) ?_
  refine g_ic_lt rfl (pc' := 6) (pt := 12) rfl rfl ⟨fun hc => ?_, fun hc => ?_⟩
  · have H := H.1 hc
    exact g_weak (show gm_Lle [none, some _] _ from ⟨rfl, trivial⟩) H
  · have H := H.2 hc
    refine g_iload rfl rfl rfl (pc' := 7) ?_
    refine g_iconst rfl rfl rfl (pc' := 9) ?_
    refine g_ic_le rfl (pc' := 12) (pt := 42) rfl rfl ⟨fun hc => ?_, fun hc => ?_⟩
    · have H := H.1 hc
      exact g_weak (show gm_Lle [] _ from trivial) H
    · have H := H.2 hc
      exact g_weak (show gm_Lle [none, some _] _ from ⟨rfl, trivial⟩) H
theorem w_121_12 {m : Nat} {x1 : Int32} {h : hh_T} {Q : Option Value ⊕ Nat → hh_T → Prop} (hT : tw_ok h m) (H : (x1 < (Int32.ofNat 48) → (gm_G 121 24 [none, some (.int x1)] [] h Q)) ∧ (¬ x1 < (Int32.ofNat 48) → ((¬ (Int32.ofNat 57) < x1 → (gm_G 121 42 [] [] h Q)) ∧ ((Int32.ofNat 57) < x1 → (gm_G 121 24 [none, some (.int x1)] [] h Q))))) : gm_G 121 12 [none, some (.int x1)] [] h Q := by
  refine g_iload rfl rfl rfl (pc' := 13) ?_
  refine g_iconst rfl rfl rfl (pc' := 15) ?_
  refine g_ic_lt rfl (pc' := 18) (pt := 24) rfl rfl ⟨fun hc => ?_, fun hc => ?_⟩
  · have H := H.1 hc
    exact g_weak (show gm_Lle [none, some _] _ from ⟨rfl, trivial⟩) H
  · have H := H.2 hc
    refine g_iload rfl rfl rfl (pc' := 19) ?_
    refine g_iconst rfl rfl rfl (pc' := 21) ?_
    refine g_ic_le rfl (pc' := 24) (pt := 42) rfl rfl ⟨fun hc => ?_, fun hc => ?_⟩
    · have H := H.1 hc
      exact g_weak (show gm_Lle [] _ from trivial) H
    · have H := H.2 hc
      exact g_weak (show gm_Lle [none, some _] _ from ⟨rfl, trivial⟩) H
theorem w_121_24 {m : Nat} {x1 : Int32} {h : hh_T} {Q : Option Value ⊕ Nat → hh_T → Prop} (hT : tw_ok h m) (H : (x1 = (Int32.ofNat 45) → (gm_G 121 42 [] [] h Q)) ∧ (¬ x1 = (Int32.ofNat 45) → ((x1 = (Int32.ofNat 95) → (gm_G 121 42 [] [] h Q)) ∧ (¬ x1 = (Int32.ofNat 95) → ((¬ x1 = (Int32.ofNat 46) → (Q (.inl (some (.int (Int32.ofNat 0)))) h)) ∧ (x1 = (Int32.ofNat 46) → (gm_G 121 42 [] [] h Q))))))) : gm_G 121 24 [none, some (.int x1)] [] h Q := by
  refine g_iload rfl rfl rfl (pc' := 25) ?_
  refine g_iconst rfl rfl rfl (pc' := 27) ?_
  refine g_ic_eq rfl (pc' := 30) (pt := 42) rfl rfl ⟨fun hc => ?_, fun hc => ?_⟩
  · have H := H.1 hc
    exact g_weak (show gm_Lle [] _ from trivial) H
  · have H := H.2 hc
    refine g_iload rfl rfl rfl (pc' := 31) ?_
    refine g_iconst rfl rfl rfl (pc' := 33) ?_
    refine g_ic_eq rfl (pc' := 36) (pt := 42) rfl rfl ⟨fun hc => ?_, fun hc => ?_⟩
    · have H := H.1 hc
      exact g_weak (show gm_Lle [] _ from trivial) H
    · have H := H.2 hc
      refine g_iload rfl rfl rfl (pc' := 37) ?_
      refine g_iconst rfl rfl rfl (pc' := 39) ?_
      refine g_ic_ne rfl (pc' := 42) (pt := 46) rfl rfl ⟨fun hc => ?_, fun hc => ?_⟩
      · have H := H.1 hc
        refine g_iconst rfl rfl rfl (pc' := 47) ?_
        exact g_ireturn rfl (Or.inr (by decide)) H
      · have H := H.2 hc
        exact g_weak (show gm_Lle [] _ from trivial) H
theorem w_121_42 {m : Nat}  {h : hh_T} {Q : Option Value ⊕ Nat → hh_T → Prop} (hT : tw_ok h m) (H : Q (.inl (some (.int (Int32.ofNat 1)))) h) : gm_G 121 42 [] [] h Q := by
  refine g_iconst rfl rfl rfl (pc' := 43) ?_
  refine g_goto rfl (pc' := 47) rfl ?_
  exact g_ireturn rfl (Or.inr (by decide)) H
theorem w_122_0 {m : Nat} {x1 : Int32} {x2 : Int32} {h : hh_T} {Q : Option Value ⊕ Nat → hh_T → Prop} (hT : tw_ok h m) (H : ∃ n1, gm_ix x1 n1 8 ∧ ((¬ (hh_i h (m + 7) n1) = Int32.ofNat 0 → (gm_G 122 37 [] [] h Q)) ∧ ((hh_i h (m + 7) n1) = Int32.ofNat 0 → (∃ n2, gm_ix (((Int32.ofNat 64) * x1) + x2) n2 512 ∧ ((¬ (hh_i h (m + 8) n2) = Int32.ofNat 0 → (gm_G 122 37 [] [] h Q)) ∧ ((hh_i h (m + 8) n2) = Int32.ofNat 0 → (∃ n3, gm_ix (((Int32.ofNat 64) * x1) + x2) n3 512 ∧ (((hh_i h (m + 9) n3) = Int32.ofNat 0 → (Q (.inl (some (.int (Int32.ofNat 0)))) h)) ∧ (¬ (hh_i h (m + 9) n3) = Int32.ofNat 0 → (gm_G 122 37 [] [] h Q)))))))))) : gm_G 122 0 [some (.ref m), some (.int x1), some (.int x2)] [] h Q := by
  refine g_aload (r := some _) rfl rfl rfl (pc' := 1) ?_
  refine t_get (o := 7) rfl hT rfl rfl rfl (pc' := 4) rfl ?_
  refine g_iload rfl rfl rfl (pc' := 5) ?_
  obtain ⟨n1, hn1, H⟩ := H
  refine t_zaload hT (o := 7) (l := 8) rfl rfl rfl hn1 (pc' := 6) rfl ?_
  refine g_if_ne rfl (pc' := 9) (pt := 37) rfl rfl ⟨fun hc => ?_, fun hc => ?_⟩
  · have H := H.1 hc
    exact g_weak (show gm_Lle [] _ from trivial) H
  · have H := H.2 hc
    refine g_aload (r := some _) rfl rfl rfl (pc' := 10) ?_
    refine t_get (o := 8) rfl hT rfl rfl rfl (pc' := 13) rfl ?_
    refine g_iconst rfl rfl rfl (pc' := 15) ?_
    refine g_iload rfl rfl rfl (pc' := 16) ?_
    refine g_imul rfl rfl (pc' := 17) ?_
    refine g_iload rfl rfl rfl (pc' := 18) ?_
    refine g_iadd rfl rfl (pc' := 19) ?_
    obtain ⟨n2, hn2, H⟩ := H
    refine t_zaload hT (o := 8) (l := 512) rfl rfl rfl hn2 (pc' := 20) rfl ?_
    refine g_if_ne rfl (pc' := 23) (pt := 37) rfl rfl ⟨fun hc => ?_, fun hc => ?_⟩
    · have H := H.1 hc
      exact g_weak (show gm_Lle [] _ from trivial) H
    · have H := H.2 hc
      refine g_aload (r := some _) rfl rfl rfl (pc' := 24) ?_
      refine t_get (o := 9) rfl hT rfl rfl rfl (pc' := 27) rfl ?_
      refine g_iconst rfl rfl rfl (pc' := 29) ?_
      refine g_iload rfl rfl rfl (pc' := 30) ?_
      refine g_imul rfl rfl (pc' := 31) ?_
      refine g_iload rfl rfl rfl (pc' := 32) ?_
      refine g_iadd rfl rfl (pc' := 33) ?_
      obtain ⟨n3, hn3, H⟩ := H
      refine t_zaload hT (o := 9) (l := 512) rfl rfl rfl hn3 (pc' := 34) rfl ?_
      refine g_if_eq rfl (pc' := 37) (pt := 41) rfl rfl ⟨fun hc => ?_, fun hc => ?_⟩
      · have H := H.1 hc
        refine g_iconst rfl rfl rfl (pc' := 42) ?_
        exact g_ireturn rfl (Or.inr (by decide)) H
      · have H := H.2 hc
        exact g_weak (show gm_Lle [] _ from trivial) H
theorem w_122_37 {m : Nat}  {h : hh_T} {Q : Option Value ⊕ Nat → hh_T → Prop} (hT : tw_ok h m) (H : Q (.inl (some (.int (Int32.ofNat 1)))) h) : gm_G 122 37 [] [] h Q := by
  refine g_iconst rfl rfl rfl (pc' := 38) ?_
  refine g_goto rfl (pc' := 42) rfl ?_
  exact g_ireturn rfl (Or.inr (by decide)) H
theorem w_123_0 {m : Nat} {x1 : Int32} {x2 : Int32} {x3 : Int32} {x4 : Int32} {x5 : Int32} {h : hh_T} {Q : Option Value ⊕ Nat → hh_T → Prop} (hT : tw_ok h m) (H : ∃ n1, gm_ix x1 n1 1536 ∧ ((¬ ((((hh_i h (m + 45) n1) + (Int32.ofNat 31)) / (Int32.ofNat 32)) * (Int32.ofNat 32)) < ((Int32.ofNat 32) * (x3 + x5)) → ((((hh_i h (m + 45) n1) - (hh_i h (m + 45) n1) / (Int32.ofNat 32) * (Int32.ofNat 32)) = Int32.ofNat 0 → (Q (.inl (some (.int (Int32.ofNat 0)))) h)) ∧ (¬ ((hh_i h (m + 45) n1) - (hh_i h (m + 45) n1) / (Int32.ofNat 32) * (Int32.ofNat 32)) = Int32.ofNat 0 → ((¬ (hh_i h (m + 45) n1) < ((Int32.ofNat 32) * (x3 + x5)) → (Q (.inl (some (.int (Int32.ofNat 0)))) h)) ∧ ((hh_i h (m + 45) n1) < ((Int32.ofNat 32) * (x3 + x5)) → (∃ n2, gm_ix x2 n2 1536 ∧ ((¬ ((Int32.ofNat 32) * (x4 + x5)) < (hh_i h (m + 45) n2) → (Q (.inl (some (.int (Int32.ofNat 0)))) h)) ∧ (((Int32.ofNat 32) * (x4 + x5)) < (hh_i h (m + 45) n2) → (Q (.inl (some (.int (Int32.ofNat 1)))) h))))))))) ∧ (((((hh_i h (m + 45) n1) + (Int32.ofNat 31)) / (Int32.ofNat 32)) * (Int32.ofNat 32)) < ((Int32.ofNat 32) * (x3 + x5)) → (Q (.inl (some (.int (Int32.ofNat 1)))) h)))) : gm_G 123 0 [some (.ref m), some (.int x1), some (.int x2), some (.int x3), some (.int x4), some (.int x5)] [] h Q := by
  refine g_aload (r := some _) rfl rfl rfl (pc' := 1) ?_
  refine t_get (o := 45) rfl hT rfl rfl rfl (pc' := 4) rfl ?_
  refine g_iload rfl rfl rfl (pc' := 5) ?_
  obtain ⟨n1, hn1, H⟩ := H
  refine t_iaload hT (o := 45) (l := 1536) rfl rfl rfl hn1 (pc' := 6) rfl ?_
  refine g_istore rfl rfl rfl (pc' := 8) ?_
  refine g_iconst rfl rfl rfl (pc' := 10) ?_
  refine g_iload rfl rfl rfl (pc' := 11) ?_
  refine g_iload rfl rfl rfl (pc' := 13) ?_
  refine g_iadd rfl rfl (pc' := 14) ?_
  refine g_imul rfl rfl (pc' := 15) ?_
  refine g_iload rfl rfl rfl (pc' := 17) ?_
  refine g_iconst rfl rfl rfl (pc' := 19) ?_
  refine g_iadd rfl rfl (pc' := 20) ?_
  refine g_iconst rfl rfl rfl (pc' := 22) ?_
  refine g_idiv rfl (by decide) (pc' := 23) rfl ?_
  refine g_iconst rfl rfl rfl (pc' := 25) ?_
  refine g_imul rfl rfl (pc' := 26) ?_
  refine g_ic_le rfl (pc' := 29) (pt := 31) rfl rfl ⟨fun hc => ?_, fun hc => ?_⟩
  · have H := H.1 hc
    refine g_iload rfl rfl rfl (pc' := 33) ?_
    refine g_iconst rfl rfl rfl (pc' := 35) ?_
    refine g_irem rfl (by decide) (pc' := 36) rfl ?_
    refine g_if_eq rfl (pc' := 39) (pt := 72) rfl rfl ⟨fun hc => ?_, fun hc => ?_⟩
    · have H := H.1 hc
      refine g_iconst rfl rfl rfl (pc' := 73) ?_
      exact g_ireturn rfl (Or.inr (by decide)) H
    · have H := H.2 hc
      refine g_iconst rfl rfl rfl (pc' := 41) ?_
      refine g_iload rfl rfl rfl (pc' := 42) ?_
      refine g_iload rfl rfl rfl (pc' := 44) ?_
      refine g_iadd rfl rfl (pc' := 45) ?_
      refine g_imul rfl rfl (pc' := 46) ?_
      refine g_iload rfl rfl rfl (pc' := 48) ?_
      refine g_ic_le rfl (pc' := 51) (pt := 72) rfl rfl ⟨fun hc => ?_, fun hc => ?_⟩
      · have H := H.1 hc
        refine g_iconst rfl rfl rfl (pc' := 73) ?_
        exact g_ireturn rfl (Or.inr (by decide)) H
      · have H := H.2 hc
        refine g_iconst rfl rfl rfl (pc' := 53) ?_
        refine g_iload rfl rfl rfl (pc' := 55) ?_
        refine g_iload rfl rfl rfl (pc' := 57) ?_
        refine g_iadd rfl rfl (pc' := 58) ?_
        refine g_imul rfl rfl (pc' := 59) ?_
        refine g_aload (r := some _) rfl rfl rfl (pc' := 60) ?_
        refine t_get (o := 45) rfl hT rfl rfl rfl (pc' := 63) rfl ?_
        refine g_iload rfl rfl rfl (pc' := 64) ?_
        obtain ⟨n2, hn2, H⟩ := H
        refine t_iaload hT (o := 45) (l := 1536) rfl rfl rfl hn2 (pc' := 65) rfl ?_
        refine g_ic_ge rfl (pc' := 68) (pt := 72) rfl rfl ⟨fun hc => ?_, fun hc => ?_⟩
        · have H := H.1 hc
          refine g_iconst rfl rfl rfl (pc' := 73) ?_
          exact g_ireturn rfl (Or.inr (by decide)) H
        · have H := H.2 hc
          refine g_iconst rfl rfl rfl (pc' := 69) ?_
          refine g_goto rfl (pc' := 73) rfl ?_
          exact g_ireturn rfl (Or.inr (by decide)) H
  · have H := H.2 hc
    refine g_iconst rfl rfl rfl (pc' := 30) ?_
    exact g_ireturn rfl (Or.inr (by decide)) H
theorem w_124_0 {m : Nat} {x1 : Int32} {x2 : Int32} {x3 : Int32} {h : hh_T} {Q : Option Value ⊕ Nat → hh_T → Prop} (hT : tw_ok h m) (H : gm_G 124 3 [some (.ref m), some (.int x1), some (.int x2), some (.int x3), some (.int (Int32.ofNat 0))] [] h Q) : gm_G 124 0 [some (.ref m), some (.int x1), some (.int x2), some (.int x3)] [] h Q := by
  refine g_iconst rfl rfl rfl (pc' := 1) ?_
  refine g_istore rfl rfl rfl (pc' := 3) ?_
  exact g_weak (show gm_Lle [some _, some _, some _, some _, some _] _ from ⟨rfl, ⟨rfl, ⟨rfl, ⟨rfl, ⟨rfl, trivial⟩⟩⟩⟩⟩) H
theorem w_124_3 {m : Nat} {x1 : Int32} {x2 : Int32} {x3 : Int32} {x4 : Int32} {h : hh_T} {Q : Option Value ⊕ Nat → hh_T → Prop} (hT : tw_ok h m) (H : (¬ x4 < (Int32.ofNat 8) → (Q (.inl (some (.int (Int32.ofNat 0)))) h)) ∧ (x4 < (Int32.ofNat 8) → ((x4 = x3 → (gm_G 124 50 [some (.ref m), some (.int x1), some (.int x2), some (.int x3), some (.int x4)] [] h Q)) ∧ (¬ x4 = x3 → (∃ n1, gm_ix x4 n1 8 ∧ (((hh_i h (m + 88) n1) = Int32.ofNat 0 → (gm_G 124 50 [some (.ref m), some (.int x1), some (.int x2), some (.int x3), some (.int x4)] [] h Q)) ∧ (¬ (hh_i h (m + 88) n1) = Int32.ofNat 0 → (∃ n2, gm_ix x4 n2 8 ∧ ((¬ (hh_i h (m + 90) n2) = x1 → (gm_G 124 50 [some (.ref m), some (.int x1), some (.int x2), some (.int x3), some (.int x4)] [] h Q)) ∧ ((hh_i h (m + 90) n2) = x1 → (∃ n3, gm_ix x4 n3 8 ∧ ((¬ (hh_i h (m + 91) n3) = x2 → (gm_G 124 50 [some (.ref m), some (.int x1), some (.int x2), some (.int x3), some (.int x4)] [] h Q)) ∧ ((hh_i h (m + 91) n3) = x2 → (Q (.inl (some (.int (Int32.ofNat 1)))) h)))))))))))))) : gm_G 124 3 [some (.ref m), some (.int x1), some (.int x2), some (.int x3), some (.int x4)] [] h Q := by
  refine g_iload rfl rfl rfl (pc' := 5) ?_
  refine g_iconst rfl rfl rfl (pc' := 7) ?_
  refine g_ic_ge rfl (pc' := 10) (pt := 56) rfl rfl ⟨fun hc => ?_, fun hc => ?_⟩
  · have H := H.1 hc
    refine g_iconst rfl rfl rfl (pc' := 57) ?_
    exact g_ireturn rfl (Or.inr (by decide)) H
  · have H := H.2 hc
    refine g_iload rfl rfl rfl (pc' := 12) ?_
    refine g_iload rfl rfl rfl (pc' := 13) ?_
    refine g_ic_eq rfl (pc' := 16) (pt := 50) rfl rfl ⟨fun hc => ?_, fun hc => ?_⟩
    · have H := H.1 hc
      exact g_weak (show gm_Lle [some _, some _, some _, some _, some _] _ from ⟨rfl, ⟨rfl, ⟨rfl, ⟨rfl, ⟨rfl, trivial⟩⟩⟩⟩⟩) H
    · have H := H.2 hc
      refine g_aload (r := some _) rfl rfl rfl (pc' := 17) ?_
      refine t_get (o := 88) rfl hT rfl rfl rfl (pc' := 20) rfl ?_
      refine g_iload rfl rfl rfl (pc' := 22) ?_
      obtain ⟨n1, hn1, H⟩ := H
      refine t_zaload hT (o := 88) (l := 8) rfl rfl rfl hn1 (pc' := 23) rfl ?_
      refine g_if_eq rfl (pc' := 26) (pt := 50) rfl rfl ⟨fun hc => ?_, fun hc => ?_⟩
      · have H := H.1 hc
        exact g_weak (show gm_Lle [some _, some _, some _, some _, some _] _ from ⟨rfl, ⟨rfl, ⟨rfl, ⟨rfl, ⟨rfl, trivial⟩⟩⟩⟩⟩) H
      · have H := H.2 hc
        refine g_aload (r := some _) rfl rfl rfl (pc' := 27) ?_
        refine t_get (o := 90) rfl hT rfl rfl rfl (pc' := 30) rfl ?_
        refine g_iload rfl rfl rfl (pc' := 32) ?_
        obtain ⟨n2, hn2, H⟩ := H
        refine t_iaload hT (o := 90) (l := 8) rfl rfl rfl hn2 (pc' := 33) rfl ?_
        refine g_iload rfl rfl rfl (pc' := 34) ?_
        refine g_ic_ne rfl (pc' := 37) (pt := 50) rfl rfl ⟨fun hc => ?_, fun hc => ?_⟩
        · have H := H.1 hc
          exact g_weak (show gm_Lle [some _, some _, some _, some _, some _] _ from ⟨rfl, ⟨rfl, ⟨rfl, ⟨rfl, ⟨rfl, trivial⟩⟩⟩⟩⟩) H
        · have H := H.2 hc
          refine g_aload (r := some _) rfl rfl rfl (pc' := 38) ?_
          refine t_get (o := 91) rfl hT rfl rfl rfl (pc' := 41) rfl ?_
          refine g_iload rfl rfl rfl (pc' := 43) ?_
          obtain ⟨n3, hn3, H⟩ := H
          refine t_iaload hT (o := 91) (l := 8) rfl rfl rfl hn3 (pc' := 44) rfl ?_
          refine g_iload rfl rfl rfl (pc' := 45) ?_
          refine g_ic_ne rfl (pc' := 48) (pt := 50) rfl rfl ⟨fun hc => ?_, fun hc => ?_⟩
          · have H := H.1 hc
            exact g_weak (show gm_Lle [some _, some _, some _, some _, some _] _ from ⟨rfl, ⟨rfl, ⟨rfl, ⟨rfl, ⟨rfl, trivial⟩⟩⟩⟩⟩) H
          · have H := H.2 hc
            refine g_iconst rfl rfl rfl (pc' := 49) ?_
            exact g_ireturn rfl (Or.inr (by decide)) H
theorem w_124_50 {m : Nat} {x1 : Int32} {x2 : Int32} {x3 : Int32} {x4 : Int32} {h : hh_T} {Q : Option Value ⊕ Nat → hh_T → Prop} (hT : tw_ok h m) (H : gm_G 124 3 [some (.ref m), some (.int x1), some (.int x2), some (.int x3), some (.int (x4 + (Int32.ofNat 1)))] [] h Q) : gm_G 124 50 [some (.ref m), some (.int x1), some (.int x2), some (.int x3), some (.int x4)] [] h Q := by
  refine g_iinc (c := (Int32.ofNat 1)) rfl rfl rfl rfl rfl (pc' := 53) ?_
  refine g_goto rfl (pc' := 3) rfl ?_
  exact g_weak (show gm_Lle [some _, some _, some _, some _, some _] _ from ⟨rfl, ⟨rfl, ⟨rfl, ⟨rfl, ⟨rfl, trivial⟩⟩⟩⟩⟩) H
theorem w_125_0 {m : Nat} {x1 : Int32} {h : hh_T} {Q : Option Value ⊕ Nat → hh_T → Prop} (hT : tw_ok h m) (H : gm_G 125 2 [some (.ref m), some (.int x1), some (.int (Int32.ofNat 0))] [] h Q) : gm_G 125 0 [some (.ref m), some (.int x1)] [] h Q := by
  refine g_iconst rfl rfl rfl (pc' := 1) ?_
  refine g_istore rfl rfl rfl (pc' := 2) ?_
  exact g_weak (show gm_Lle [some _, some _, some _] _ from ⟨rfl, ⟨rfl, ⟨rfl, trivial⟩⟩⟩) H
theorem w_125_2 {m : Nat} {x1 : Int32} {x2 : Int32} {h : hh_T} {Q : Option Value ⊕ Nat → hh_T → Prop} (hT : tw_ok h m) (H : (¬ x2 < (Int32.ofNat 8) → (Q (.inl (some (.int (Int32.ofNat 0)))) h)) ∧ (x2 < (Int32.ofNat 8) → (∃ n1, gm_ix x2 n1 8 ∧ (((hh_i h (m + 88) n1) = Int32.ofNat 0 → (gm_G 125 29 [some (.ref m), some (.int x1), some (.int x2)] [] h Q)) ∧ (¬ (hh_i h (m + 88) n1) = Int32.ofNat 0 → (∃ n2, gm_ix x2 n2 8 ∧ ((¬ (hh_i h (m + 90) n2) = x1 → (gm_G 125 29 [some (.ref m), some (.int x1), some (.int x2)] [] h Q)) ∧ ((hh_i h (m + 90) n2) = x1 → (Q (.inl (some (.int (Int32.ofNat 1)))) h))))))))) : gm_G 125 2 [some (.ref m), some (.int x1), some (.int x2)] [] h Q := by
  refine g_iload rfl rfl rfl (pc' := 3) ?_
  refine g_iconst rfl rfl rfl (pc' := 5) ?_
  refine g_ic_ge rfl (pc' := 8) (pt := 35) rfl rfl ⟨fun hc => ?_, fun hc => ?_⟩
  · have H := H.1 hc
    refine g_iconst rfl rfl rfl (pc' := 36) ?_
    exact g_ireturn rfl (Or.inr (by decide)) H
  · have H := H.2 hc
    refine g_aload (r := some _) rfl rfl rfl (pc' := 9) ?_
    refine t_get (o := 88) rfl hT rfl rfl rfl (pc' := 12) rfl ?_
    refine g_iload rfl rfl rfl (pc' := 13) ?_
    obtain ⟨n1, hn1, H⟩ := H
    refine t_zaload hT (o := 88) (l := 8) rfl rfl rfl hn1 (pc' := 14) rfl ?_
    refine g_if_eq rfl (pc' := 17) (pt := 29) rfl rfl ⟨fun hc => ?_, fun hc => ?_⟩
    · have H := H.1 hc
      exact g_weak (show gm_Lle [some _, some _, some _] _ from ⟨rfl, ⟨rfl, ⟨rfl, trivial⟩⟩⟩) H
    · have H := H.2 hc
      refine g_aload (r := some _) rfl rfl rfl (pc' := 18) ?_
      refine t_get (o := 90) rfl hT rfl rfl rfl (pc' := 21) rfl ?_
      refine g_iload rfl rfl rfl (pc' := 22) ?_
      obtain ⟨n2, hn2, H⟩ := H
      refine t_iaload hT (o := 90) (l := 8) rfl rfl rfl hn2 (pc' := 23) rfl ?_
      refine g_iload rfl rfl rfl (pc' := 24) ?_
      refine g_ic_ne rfl (pc' := 27) (pt := 29) rfl rfl ⟨fun hc => ?_, fun hc => ?_⟩
      · have H := H.1 hc
        exact g_weak (show gm_Lle [some _, some _, some _] _ from ⟨rfl, ⟨rfl, ⟨rfl, trivial⟩⟩⟩) H
      · have H := H.2 hc
        refine g_iconst rfl rfl rfl (pc' := 28) ?_
        exact g_ireturn rfl (Or.inr (by decide)) H
theorem w_125_29 {m : Nat} {x1 : Int32} {x2 : Int32} {h : hh_T} {Q : Option Value ⊕ Nat → hh_T → Prop} (hT : tw_ok h m) (H : gm_G 125 2 [some (.ref m), some (.int x1), some (.int (x2 + (Int32.ofNat 1)))] [] h Q) : gm_G 125 29 [some (.ref m), some (.int x1), some (.int x2)] [] h Q := by
  refine g_iinc (c := (Int32.ofNat 1)) rfl rfl rfl rfl rfl (pc' := 32) ?_
  refine g_goto rfl (pc' := 2) rfl ?_
  exact g_weak (show gm_Lle [some _, some _, some _] _ from ⟨rfl, ⟨rfl, ⟨rfl, trivial⟩⟩⟩) H
theorem w_126_0 {m : Nat} {x1 : Int32} {x2 : Int32} {x3 : Int32} {x4 : Int32} {h : hh_T} {Q : Option Value ⊕ Nat → hh_T → Prop} (hT : tw_ok h m) (H : (((Int32.ofNat 32) * x1) < x2 → (gm_G 126 29 [] [] h Q)) ∧ (¬ ((Int32.ofNat 32) * x1) < x2 → ((¬ x3 < (((Int32.ofNat 32) * x1) + (Int32.ofNat 32)) → (Q (.inl (some (.int (Int32.ofNat 0)))) h)) ∧ (x3 < (((Int32.ofNat 32) * x1) + (Int32.ofNat 32)) → ((¬ x3 < x4 → (Q (.inl (some (.int (Int32.ofNat 0)))) h)) ∧ (x3 < x4 → (gm_G 126 29 [] [] h Q))))))) : gm_G 126 0 [some (.ref m), some (.int x1), some (.int x2), some (.int x3), some (.int x4)] [] h Q := by
  refine g_iconst rfl rfl rfl (pc' := 2) ?_
  refine g_iload rfl rfl rfl (pc' := 3) ?_
  refine g_imul rfl rfl (pc' := 4) ?_
  refine g_iconst rfl rfl rfl (pc' := 6) ?_
  refine g_iadd rfl rfl (pc' := 7) ?_
  refine g_istore rfl rfl rfl (pc' := 9) ?_
  refine g_iload rfl rfl rfl (pc' := 10) ?_
  refine g_iconst rfl rfl rfl (pc' := 12) ?_
  refine g_iload rfl rfl rfl (pc' := 13) ?_
  refine g_imul rfl rfl (pc' := 14) ?_
  refine g_ic_gt rfl (pc' := 17) (pt := 29) rfl rfl ⟨fun hc => ?_, fun hc => ?_⟩
  · have H := H.1 hc
    exact g_weak (show gm_Lle [] _ from trivial) H
  · have H := H.2 hc
    refine g_iload rfl rfl rfl (pc' := 18) ?_
    refine g_iload rfl rfl rfl (pc' := 20) ?_
    refine g_ic_ge rfl (pc' := 23) (pt := 33) rfl rfl ⟨fun hc => ?_, fun hc => ?_⟩
    · have H := H.1 hc
      refine g_iconst rfl rfl rfl (pc' := 34) ?_
      exact g_ireturn rfl (Or.inr (by decide)) H
    · have H := H.2 hc
      refine g_iload rfl rfl rfl (pc' := 24) ?_
      refine g_iload rfl rfl rfl (pc' := 26) ?_
      refine g_ic_ge rfl (pc' := 29) (pt := 33) rfl rfl ⟨fun hc => ?_, fun hc => ?_⟩
      · have H := H.1 hc
        refine g_iconst rfl rfl rfl (pc' := 34) ?_
        exact g_ireturn rfl (Or.inr (by decide)) H
      · have H := H.2 hc
        exact g_weak (show gm_Lle [] _ from trivial) H
theorem w_126_29 {m : Nat}  {h : hh_T} {Q : Option Value ⊕ Nat → hh_T → Prop} (hT : tw_ok h m) (H : Q (.inl (some (.int (Int32.ofNat 1)))) h) : gm_G 126 29 [] [] h Q := by
  refine g_iconst rfl rfl rfl (pc' := 30) ?_
  refine g_goto rfl (pc' := 34) rfl ?_
  exact g_ireturn rfl (Or.inr (by decide)) H
theorem w_127_0 {m : Nat} {x1 : Int32} {x2 : Int32} {h : hh_T} {Q : Option Value ⊕ Nat → hh_T → Prop} (hT : tw_ok h m) (H : ∃ n1, gm_ix x2 n1 8 ∧ (((hh_i h (m + 88) n1) = Int32.ofNat 0 → (Q (.inl (some (.int (Int32.ofNat 0)))) h)) ∧ (¬ (hh_i h (m + 88) n1) = Int32.ofNat 0 → (∃ n2, gm_ix x1 n2 8 ∧ (∃ n3, gm_ix x2 n3 8 ∧ ((¬ (hh_i h (m + 90) n2) = (hh_i h (m + 90) n3) → (Q (.inl (some (.int (Int32.ofNat 0)))) h)) ∧ ((hh_i h (m + 90) n2) = (hh_i h (m + 90) n3) → (∃ n4, gm_ix x1 n4 8 ∧ (∃ n5, gm_ix x2 n5 8 ∧ ((¬ (hh_i h (m + 91) n4) = (hh_i h (m + 91) n5) → (Q (.inl (some (.int (Int32.ofNat 0)))) h)) ∧ ((hh_i h (m + 91) n4) = (hh_i h (m + 91) n5) → (Q (.inl (some (.int (Int32.ofNat 1)))) h)))))))))))) : gm_G 127 0 [some (.ref m), some (.int x1), some (.int x2)] [] h Q := by
  refine g_aload (r := some _) rfl rfl rfl (pc' := 1) ?_
  refine t_get (o := 88) rfl hT rfl rfl rfl (pc' := 4) rfl ?_
  refine g_iload rfl rfl rfl (pc' := 5) ?_
  obtain ⟨n1, hn1, H⟩ := H
  refine t_zaload hT (o := 88) (l := 8) rfl rfl rfl hn1 (pc' := 6) rfl ?_
  refine g_if_eq rfl (pc' := 9) (pt := 43) rfl rfl ⟨fun hc => ?_, fun hc => ?_⟩
  · have H := H.1 hc
    refine g_iconst rfl rfl rfl (pc' := 44) ?_
    exact g_ireturn rfl (Or.inr (by decide)) H
  · have H := H.2 hc
    refine g_aload (r := some _) rfl rfl rfl (pc' := 10) ?_
    refine t_get (o := 90) rfl hT rfl rfl rfl (pc' := 13) rfl ?_
    refine g_iload rfl rfl rfl (pc' := 14) ?_
    obtain ⟨n2, hn2, H⟩ := H
    refine t_iaload hT (o := 90) (l := 8) rfl rfl rfl hn2 (pc' := 15) rfl ?_
    refine g_aload (r := some _) rfl rfl rfl (pc' := 16) ?_
    refine t_get (o := 90) rfl hT rfl rfl rfl (pc' := 19) rfl ?_
    refine g_iload rfl rfl rfl (pc' := 20) ?_
    obtain ⟨n3, hn3, H⟩ := H
    refine t_iaload hT (o := 90) (l := 8) rfl rfl rfl hn3 (pc' := 21) rfl ?_
    refine g_ic_ne rfl (pc' := 24) (pt := 43) rfl rfl ⟨fun hc => ?_, fun hc => ?_⟩
    · have H := H.1 hc
      refine g_iconst rfl rfl rfl (pc' := 44) ?_
      exact g_ireturn rfl (Or.inr (by decide)) H
    · have H := H.2 hc
      refine g_aload (r := some _) rfl rfl rfl (pc' := 25) ?_
      refine t_get (o := 91) rfl hT rfl rfl rfl (pc' := 28) rfl ?_
      refine g_iload rfl rfl rfl (pc' := 29) ?_
      obtain ⟨n4, hn4, H⟩ := H
      refine t_iaload hT (o := 91) (l := 8) rfl rfl rfl hn4 (pc' := 30) rfl ?_
      refine g_aload (r := some _) rfl rfl rfl (pc' := 31) ?_
      refine t_get (o := 91) rfl hT rfl rfl rfl (pc' := 34) rfl ?_
      refine g_iload rfl rfl rfl (pc' := 35) ?_
      obtain ⟨n5, hn5, H⟩ := H
      refine t_iaload hT (o := 91) (l := 8) rfl rfl rfl hn5 (pc' := 36) rfl ?_
      refine g_ic_ne rfl (pc' := 39) (pt := 43) rfl rfl ⟨fun hc => ?_, fun hc => ?_⟩
      · have H := H.1 hc
        refine g_iconst rfl rfl rfl (pc' := 44) ?_
        exact g_ireturn rfl (Or.inr (by decide)) H
      · have H := H.2 hc
        refine g_iconst rfl rfl rfl (pc' := 40) ?_
        refine g_goto rfl (pc' := 44) rfl ?_
        exact g_ireturn rfl (Or.inr (by decide)) H
theorem w_128_0 {m : Nat} {x1 : Int32} {x2 : Int32} {h : hh_T} {Q : Option Value ⊕ Nat → hh_T → Prop} (hT : tw_ok h m) (H : gm_G 128 6 [some (.ref m), some (.int x1), some (.int x2), some (.int ((Int32.ofNat 128) * x1))] [] h Q) : gm_G 128 0 [some (.ref m), some (.int x1), some (.int x2)] [] h Q := by
  refine g_iconst rfl rfl rfl (pc' := 3) ?_
  refine g_iload rfl rfl rfl (pc' := 4) ?_
  refine g_imul rfl rfl (pc' := 5) ?_
  refine g_istore rfl rfl rfl (pc' := 6) ?_
  exact g_weak (show gm_Lle [some _, some _, some _, some _] _ from ⟨rfl, ⟨rfl, ⟨rfl, ⟨rfl, trivial⟩⟩⟩⟩) H
theorem w_128_6 {m : Nat} {x1 : Int32} {x2 : Int32} {x3 : Int32} {h : hh_T} {Q : Option Value ⊕ Nat → hh_T → Prop} (hT : tw_ok h m) (H : (¬ x3 < (((Int32.ofNat 128) * x1) + (Int32.ofNat 128)) → (Q (.inl (some (.int (Int32.ofNat 0)))) h)) ∧ (x3 < (((Int32.ofNat 128) * x1) + (Int32.ofNat 128)) → (∃ n1, gm_ix x3 n1 12288 ∧ ((¬ (hh_i h (m + 55) n1) = x2 → (gm_G 128 43 [some (.ref m), some (.int x1), some (.int x2), some (.int x3)] [] h Q)) ∧ ((hh_i h (m + 55) n1) = x2 → (∃ n2, gm_ix (x3 / (Int32.ofNat 8)) n2 1536 ∧ ((¬ Int32.ofNat 0 < (hh_i h (m + 40) n2) → (gm_G 128 43 [some (.ref m), some (.int x1), some (.int x2), some (.int x3)] [] h Q)) ∧ (Int32.ofNat 0 < (hh_i h (m + 40) n2) → (Q (.inl (some (.int (Int32.ofNat 1)))) h))))))))) : gm_G 128 6 [some (.ref m), some (.int x1), some (.int x2), some (.int x3)] [] h Q := by
  refine g_iload rfl rfl rfl (pc' := 7) ?_
  refine g_iconst rfl rfl rfl (pc' := 10) ?_
  refine g_iload rfl rfl rfl (pc' := 11) ?_
  refine g_imul rfl rfl (pc' := 12) ?_
  refine g_iconst rfl rfl rfl (pc' := 15) ?_
  refine g_iadd rfl rfl (pc' := 16) ?_
  refine g_ic_ge rfl (pc' := 19) (pt := 49) rfl rfl ⟨fun hc => ?_, fun hc => ?_⟩
  · have H := H.1 hc
    refine g_iconst rfl rfl rfl (pc' := 50) ?_
    exact g_ireturn rfl (Or.inr (by decide)) H
  · have H := H.2 hc
    refine g_aload (r := some _) rfl rfl rfl (pc' := 20) ?_
    refine t_get (o := 55) rfl hT rfl rfl rfl (pc' := 23) rfl ?_
    refine g_iload rfl rfl rfl (pc' := 24) ?_
    obtain ⟨n1, hn1, H⟩ := H
    refine t_iaload hT (o := 55) (l := 12288) rfl rfl rfl hn1 (pc' := 25) rfl ?_
    refine g_iload rfl rfl rfl (pc' := 26) ?_
    refine g_ic_ne rfl (pc' := 29) (pt := 43) rfl rfl ⟨fun hc => ?_, fun hc => ?_⟩
    · have H := H.1 hc
      exact g_weak (show gm_Lle [some _, some _, some _, some _] _ from ⟨rfl, ⟨rfl, ⟨rfl, ⟨rfl, trivial⟩⟩⟩⟩) H
    · have H := H.2 hc
      refine g_aload (r := some _) rfl rfl rfl (pc' := 30) ?_
      refine t_get (o := 40) rfl hT rfl rfl rfl (pc' := 33) rfl ?_
      refine g_iload rfl rfl rfl (pc' := 34) ?_
      refine g_iconst rfl rfl rfl (pc' := 36) ?_
      refine g_idiv rfl (by decide) (pc' := 37) rfl ?_
      obtain ⟨n2, hn2, H⟩ := H
      refine t_iaload hT (o := 40) (l := 1536) rfl rfl rfl hn2 (pc' := 38) rfl ?_
      refine g_if_le rfl (pc' := 41) (pt := 43) rfl rfl ⟨fun hc => ?_, fun hc => ?_⟩
      · have H := H.1 hc
        exact g_weak (show gm_Lle [some _, some _, some _, some _] _ from ⟨rfl, ⟨rfl, ⟨rfl, ⟨rfl, trivial⟩⟩⟩⟩) H
      · have H := H.2 hc
        refine g_iconst rfl rfl rfl (pc' := 42) ?_
        exact g_ireturn rfl (Or.inr (by decide)) H
theorem w_128_43 {m : Nat} {x1 : Int32} {x2 : Int32} {x3 : Int32} {h : hh_T} {Q : Option Value ⊕ Nat → hh_T → Prop} (hT : tw_ok h m) (H : gm_G 128 6 [some (.ref m), some (.int x1), some (.int x2), some (.int (x3 + (Int32.ofNat 1)))] [] h Q) : gm_G 128 43 [some (.ref m), some (.int x1), some (.int x2), some (.int x3)] [] h Q := by
  refine g_iinc (c := (Int32.ofNat 1)) rfl rfl rfl rfl rfl (pc' := 46) ?_
  refine g_goto rfl (pc' := 6) rfl ?_
  exact g_weak (show gm_Lle [some _, some _, some _, some _] _ from ⟨rfl, ⟨rfl, ⟨rfl, ⟨rfl, trivial⟩⟩⟩⟩) H
theorem w_129_0 {m : Nat} {x1 : Int32} {h : hh_T} {Q : Option Value ⊕ Nat → hh_T → Prop} (hT : tw_ok h m) (H : gm_G 129 2 [some (.ref m), some (.int x1), some (.int (Int32.ofNat 0))] [] h Q) : gm_G 129 0 [some (.ref m), some (.int x1)] [] h Q := by
  refine g_iconst rfl rfl rfl (pc' := 1) ?_
  refine g_istore rfl rfl rfl (pc' := 2) ?_
  exact g_weak (show gm_Lle [some _, some _, some _] _ from ⟨rfl, ⟨rfl, ⟨rfl, trivial⟩⟩⟩) H
theorem w_129_2 {m : Nat} {x1 : Int32} {x2 : Int32} {h : hh_T} {Q : Option Value ⊕ Nat → hh_T → Prop} (hT : tw_ok h m) (H : (¬ x2 < (Int32.ofNat 4) → (Q (.inl none) h)) ∧ (x2 < (Int32.ofNat 4) → (gm_G 129 12 [some (.ref m), some (.int x1), some (.int x2), some (.int (Int32.ofNat 0)), some (.int (Int32.ofNat 0))] [] h Q))) : gm_G 129 2 [some (.ref m), some (.int x1), some (.int x2)] [] h Q := by
  refine g_iload rfl rfl rfl (pc' := 3) ?_
  refine g_iconst rfl rfl rfl (pc' := 4) ?_
  refine g_ic_ge rfl (pc' := 7) (pt := 84) rfl rfl ⟨fun hc => ?_, fun hc => ?_⟩
  · have H := H.1 hc
    exact g_return rfl H
  · have H := H.2 hc
    refine g_iconst rfl rfl rfl (pc' := 8) ?_
    refine g_istore rfl rfl rfl (pc' := 9) ?_
    refine g_iconst rfl rfl rfl (pc' := 10) ?_
    refine g_istore rfl rfl rfl (pc' := 12) ?_
    exact g_weak (show gm_Lle [some _, some _, some _, some _, some _] _ from ⟨rfl, ⟨rfl, ⟨rfl, ⟨rfl, ⟨rfl, trivial⟩⟩⟩⟩⟩) H
theorem w_129_12 {m : Nat} {x1 : Int32} {x2 : Int32} {x3 : Int32} {x4 : Int32} {h : hh_T} {Q : Option Value ⊕ Nat → hh_T → Prop} (hT : tw_ok h m) (H : ∃ n1, gm_ix x2 n1 4 ∧ ((¬ x4 < (hh_i h (m + 33) n1) → (∃ n2, gm_ix x2 n2 4 ∧ (∀ h3, h3 = hh_wi h (m + 33) n2 x3 → (gm_G 129 2 [some (.ref m), some (.int x1), some (.int (x2 + (Int32.ofNat 1)))] [] h3 Q)))) ∧ (x4 < (hh_i h (m + 33) n1) → (∃ n4, gm_ix (((Int32.ofNat 16) * x2) + x4) n4 64 ∧ (((hh_i h (m + 32) n4) = x1 → (gm_G 129 65 [some (.ref m), some (.int x1), some (.int x2), some (.int x3), some (.int x4)] [] h Q)) ∧ (¬ (hh_i h (m + 32) n4) = x1 → (∃ n5, gm_ix (((Int32.ofNat 16) * x2) + x4) n5 64 ∧ (∃ n6, gm_ix (((Int32.ofNat 16) * x2) + x3) n6 64 ∧ (∀ h7, h7 = hh_wi h (m + 32) n6 (hh_i h (m + 32) n5) → (gm_G 129 65 [some (.ref m), some (.int x1), some (.int x2), some (.int (x3 + (Int32.ofNat 1))), some (.int x4)] [] h7 Q)))))))))) : gm_G 129 12 [some (.ref m), some (.int x1), some (.int x2), some (.int x3), some (.int x4)] [] h Q := by
  refine g_iload rfl rfl rfl (pc' := 14) ?_
  refine g_aload (r := some _) rfl rfl rfl (pc' := 15) ?_
  refine t_get (o := 33) rfl hT rfl rfl rfl (pc' := 18) rfl ?_
  refine g_iload rfl rfl rfl (pc' := 19) ?_
  obtain ⟨n1, hn1, H⟩ := H
  refine t_iaload hT (o := 33) (l := 4) rfl rfl rfl hn1 (pc' := 20) rfl ?_
  refine g_ic_ge rfl (pc' := 23) (pt := 71) rfl rfl ⟨fun hc => ?_, fun hc => ?_⟩
  · have H := H.1 hc
    refine g_aload (r := some _) rfl rfl rfl (pc' := 72) ?_
    refine t_get (o := 33) rfl hT rfl rfl rfl (pc' := 75) rfl ?_
    refine g_iload rfl rfl rfl (pc' := 76) ?_
    refine g_iload rfl rfl rfl (pc' := 77) ?_
    obtain ⟨n2, hn2, H⟩ := H
    refine t_iastore hT (o := 33) (l := 4) rfl rfl rfl hn2  (pc' := 78) rfl (fun hT => ?_)
    have H := H _ rfl
    refine g_iinc (c := (Int32.ofNat 1)) rfl rfl rfl rfl rfl (pc' := 81) ?_
    refine g_goto rfl (pc' := 2) rfl ?_
    exact g_weak (show gm_Lle [some _, some _, some _] _ from ⟨rfl, ⟨rfl, ⟨rfl, trivial⟩⟩⟩) H
  · have H := H.2 hc
    refine g_aload (r := some _) rfl rfl rfl (pc' := 24) ?_
    refine t_get (o := 32) rfl hT rfl rfl rfl (pc' := 27) rfl ?_
    refine g_iconst rfl rfl rfl (pc' := 29) ?_
    refine g_iload rfl rfl rfl (pc' := 30) ?_
    refine g_imul rfl rfl (pc' := 31) ?_
    refine g_iload rfl rfl rfl (pc' := 33) ?_
    refine g_iadd rfl rfl (pc' := 34) ?_
    obtain ⟨n4, hn4, H⟩ := H
    refine t_iaload hT (o := 32) (l := 64) rfl rfl rfl hn4 (pc' := 35) rfl ?_
    refine g_iload rfl rfl rfl (pc' := 36) ?_
    refine g_ic_eq rfl (pc' := 39) (pt := 65) rfl rfl ⟨fun hc => ?_, fun hc => ?_⟩
    · have H := H.1 hc
      exact g_weak (show gm_Lle [some _, some _, some _, some _, some _] _ from ⟨rfl, ⟨rfl, ⟨rfl, ⟨rfl, ⟨rfl, trivial⟩⟩⟩⟩⟩) H
    · have H := H.2 hc
      refine g_aload (r := some _) rfl rfl rfl (pc' := 40) ?_
      refine t_get (o := 32) rfl hT rfl rfl rfl (pc' := 43) rfl ?_
      refine g_iconst rfl rfl rfl (pc' := 45) ?_
      refine g_iload rfl rfl rfl (pc' := 46) ?_
      refine g_imul rfl rfl (pc' := 47) ?_
      refine g_iload rfl rfl rfl (pc' := 48) ?_
      refine g_iinc (c := (Int32.ofNat 1)) rfl rfl rfl rfl rfl (pc' := 51) ?_
      refine g_iadd rfl rfl (pc' := 52) ?_
      refine g_aload (r := some _) rfl rfl rfl (pc' := 53) ?_
      refine t_get (o := 32) rfl hT rfl rfl rfl (pc' := 56) rfl ?_
      refine g_iconst rfl rfl rfl (pc' := 58) ?_
      refine g_iload rfl rfl rfl (pc' := 59) ?_
      refine g_imul rfl rfl (pc' := 60) ?_
      refine g_iload rfl rfl rfl (pc' := 62) ?_
      refine g_iadd rfl rfl (pc' := 63) ?_
      obtain ⟨n5, hn5, H⟩ := H
      refine t_iaload hT (o := 32) (l := 64) rfl rfl rfl hn5 (pc' := 64) rfl ?_
      obtain ⟨n6, hn6, H⟩ := H
      refine t_iastore hT (o := 32) (l := 64) rfl rfl rfl hn6  (pc' := 65) rfl (fun hT => ?_)
      have H := H _ rfl
      exact g_weak (show gm_Lle [some _, some _, some _, some _, some _] _ from ⟨rfl, ⟨rfl, ⟨rfl, ⟨rfl, ⟨rfl, trivial⟩⟩⟩⟩⟩) H
theorem w_129_65 {m : Nat} {x1 : Int32} {x2 : Int32} {x3 : Int32} {x4 : Int32} {h : hh_T} {Q : Option Value ⊕ Nat → hh_T → Prop} (hT : tw_ok h m) (H : gm_G 129 12 [some (.ref m), some (.int x1), some (.int x2), some (.int x3), some (.int (x4 + (Int32.ofNat 1)))] [] h Q) : gm_G 129 65 [some (.ref m), some (.int x1), some (.int x2), some (.int x3), some (.int x4)] [] h Q := by
  refine g_iinc (c := (Int32.ofNat 1)) rfl rfl rfl rfl rfl (pc' := 68) ?_
  refine g_goto rfl (pc' := 12) rfl ?_
  exact g_weak (show gm_Lle [some _, some _, some _, some _, some _] _ from ⟨rfl, ⟨rfl, ⟨rfl, ⟨rfl, ⟨rfl, trivial⟩⟩⟩⟩⟩) H
theorem w_130_0 {m : Nat} {b1 : Nat} {x2 : Int32} {x3 : Int32} {x4 : Int32} {h : hh_T} {Q : Option Value ⊕ Nat → hh_T → Prop} (hT : tw_ok h m) (H : (¬ x3 = Int32.ofNat 0 → (∃ n1, gm_ix x4 n1 80 ∧ (∀ h2, h2 = hh_wi h (m + 28) n1 (((x3 - (Int32.ofNat 1)).toInt8.toInt32).toInt8.toInt32) → (gm_G 130 21 [some (.ref m), some (.ref b1), some (.int x2), some (.int x3), some (.int x4), some (.int (Int32.ofNat 0))] [] h2 Q)))) ∧ (x3 = Int32.ofNat 0 → (Q (.inl (some (.int x4))) h))) : gm_G 130 0 [some (.ref m), some (.ref b1), some (.int x2), some (.int x3), some (.int x4)] [] h Q := by
  refine g_iload rfl rfl rfl (pc' := 1) ?_
  refine g_if_ne rfl (pc' := 4) (pt := 7) rfl rfl ⟨fun hc => ?_, fun hc => ?_⟩
  · have H := H.1 hc
    refine g_aload (r := some _) rfl rfl rfl (pc' := 8) ?_
    refine t_get (o := 28) rfl hT rfl rfl rfl (pc' := 11) rfl ?_
    refine g_iload rfl rfl rfl (pc' := 13) ?_
    refine g_iload rfl rfl rfl (pc' := 14) ?_
    refine g_iconst rfl rfl rfl (pc' := 15) ?_
    refine g_isub rfl rfl (pc' := 16) ?_
    refine g_i2b rfl rfl (pc' := 17) ?_
    obtain ⟨n1, hn1, H⟩ := H
    refine t_bastore hT (o := 28) (l := 80) rfl rfl rfl hn1  (pc' := 18) rfl (fun hT => ?_)
    have H := H _ rfl
    refine g_iconst rfl rfl rfl (pc' := 19) ?_
    refine g_istore rfl rfl rfl (pc' := 21) ?_
    exact g_weak (show gm_Lle [some _, some _, some _, some _, some _, some _] _ from ⟨rfl, ⟨rfl, ⟨rfl, ⟨rfl, ⟨rfl, ⟨rfl, trivial⟩⟩⟩⟩⟩⟩) H
  · have H := H.2 hc
    refine g_iload rfl rfl rfl (pc' := 6) ?_
    exact g_ireturn rfl (Or.inl rfl) H
theorem w_130_21 {m : Nat} {b1 : Nat} {x2 : Int32} {x3 : Int32} {x4 : Int32} {x5 : Int32} {h : hh_T} {Q : Option Value ⊕ Nat → hh_T → Prop} (hT : tw_ok h m) (H : (¬ x5 < x3 → (Q (.inl (some (.int ((x4 + (Int32.ofNat 1)) + x3)))) h)) ∧ (x5 < x3 → ((hh_tg h b1 = 101 ∨ hh_tg h b1 = 102) ∧ (∃ n1, gm_ix (x2 + x5) n1 (hh_ln h b1) ∧ (∃ n3, gm_ix ((x4 + (Int32.ofNat 1)) + x5) n3 80 ∧ (∀ h4, h4 = hh_wi h (m + 28) n3 ((hh_i h b1 n1).toInt8.toInt32) → (gm_G 130 21 [some (.ref m), some (.ref b1), some (.int x2), some (.int x3), some (.int x4), some (.int (x5 + (Int32.ofNat 1)))] [] h4 Q))))))) : gm_G 130 21 [some (.ref m), some (.ref b1), some (.int x2), some (.int x3), some (.int x4), some (.int x5)] [] h Q := by
  refine g_iload rfl rfl rfl (pc' := 23) ?_
  refine g_iload rfl rfl rfl (pc' := 24) ?_
  refine g_ic_ge rfl (pc' := 27) (pt := 51) rfl rfl ⟨fun hc => ?_, fun hc => ?_⟩
  · have H := H.1 hc
    refine g_iload rfl rfl rfl (pc' := 53) ?_
    refine g_iconst rfl rfl rfl (pc' := 54) ?_
    refine g_iadd rfl rfl (pc' := 55) ?_
    refine g_iload rfl rfl rfl (pc' := 56) ?_
    refine g_iadd rfl rfl (pc' := 57) ?_
    exact g_ireturn rfl (Or.inl rfl) H
  · have H := H.2 hc
    refine g_aload (r := some _) rfl rfl rfl (pc' := 28) ?_
    refine t_get (o := 28) rfl hT rfl rfl rfl (pc' := 31) rfl ?_
    refine g_iload rfl rfl rfl (pc' := 33) ?_
    refine g_iconst rfl rfl rfl (pc' := 34) ?_
    refine g_iadd rfl rfl (pc' := 35) ?_
    refine g_iload rfl rfl rfl (pc' := 37) ?_
    refine g_iadd rfl rfl (pc' := 38) ?_
    refine g_aload (r := some _) rfl rfl rfl (pc' := 39) ?_
    refine g_iload rfl rfl rfl (pc' := 40) ?_
    refine g_iload rfl rfl rfl (pc' := 42) ?_
    refine g_iadd rfl rfl (pc' := 43) ?_
    obtain ⟨ht2, H⟩ := H
    obtain ⟨n1, hn1, H⟩ := H
    refine g_baload rfl ht2 hn1 (pc' := 44) rfl ?_
    obtain ⟨n3, hn3, H⟩ := H
    refine t_bastore hT (o := 28) (l := 80) rfl rfl rfl hn3  (pc' := 45) rfl (fun hT => ?_)
    have H := H _ rfl
    refine g_iinc (c := (Int32.ofNat 1)) rfl rfl rfl rfl rfl (pc' := 48) ?_
    refine g_goto rfl (pc' := 21) rfl ?_
    exact g_weak (show gm_Lle [some _, some _, some _, some _, some _, some _] _ from ⟨rfl, ⟨rfl, ⟨rfl, ⟨rfl, ⟨rfl, ⟨rfl, trivial⟩⟩⟩⟩⟩⟩) H
theorem w_131_0 {m : Nat} {x1 : Int32} {x2 : Int32} {h : hh_T} {Q : Option Value ⊕ Nat → hh_T → Prop} (hT : tw_ok h m) (H : gm_G 131 2 [some (.ref m), some (.int x1), some (.int x2), some (.int (Int32.ofNat 0))] [] h Q) : gm_G 131 0 [some (.ref m), some (.int x1), some (.int x2)] [] h Q := by
  refine g_iconst rfl rfl rfl (pc' := 1) ?_
  refine g_istore rfl rfl rfl (pc' := 2) ?_
  exact g_weak (show gm_Lle [some _, some _, some _, some _] _ from ⟨rfl, ⟨rfl, ⟨rfl, ⟨rfl, trivial⟩⟩⟩⟩) H
theorem w_131_2 {m : Nat} {x1 : Int32} {x2 : Int32} {x3 : Int32} {h : hh_T} {Q : Option Value ⊕ Nat → hh_T → Prop} (hT : tw_ok h m) (H : ∃ n1, gm_ix x1 n1 3 ∧ ((¬ x3 < (hh_i h (m + 14) n1) → (Q (.inl none) h)) ∧ (x3 < (hh_i h (m + 14) n1) → (∃ n2, gm_ix (((Int32.ofNat 64) * x2) + x3) n2 512 ∧ (∀ h3, h3 = hh_wi h (m + 9) n2 (Int32.ofNat 1) → (gm_G 131 2 [some (.ref m), some (.int x1), some (.int x2), some (.int (x3 + (Int32.ofNat 1)))] [] h3 Q)))))) : gm_G 131 2 [some (.ref m), some (.int x1), some (.int x2), some (.int x3)] [] h Q := by
  refine g_iload rfl rfl rfl (pc' := 3) ?_
  refine g_aload (r := some _) rfl rfl rfl (pc' := 4) ?_
  refine t_get (o := 14) rfl hT rfl rfl rfl (pc' := 7) rfl ?_
  refine g_iload rfl rfl rfl (pc' := 8) ?_
  obtain ⟨n1, hn1, H⟩ := H
  refine t_iaload hT (o := 14) (l := 3) rfl rfl rfl hn1 (pc' := 9) rfl ?_
  refine g_ic_ge rfl (pc' := 12) (pt := 30) rfl rfl ⟨fun hc => ?_, fun hc => ?_⟩
  · have H := H.1 hc
    exact g_return rfl H
  · have H := H.2 hc
    refine g_aload (r := some _) rfl rfl rfl (pc' := 13) ?_
    refine t_get (o := 9) rfl hT rfl rfl rfl (pc' := 16) rfl ?_
    refine g_iconst rfl rfl rfl (pc' := 18) ?_
    refine g_iload rfl rfl rfl (pc' := 19) ?_
    refine g_imul rfl rfl (pc' := 20) ?_
    refine g_iload rfl rfl rfl (pc' := 21) ?_
    refine g_iadd rfl rfl (pc' := 22) ?_
    refine g_iconst rfl rfl rfl (pc' := 23) ?_
    obtain ⟨n2, hn2, H⟩ := H
    refine t_zastore hT (o := 9) (l := 512) rfl rfl rfl hn2 (by decide) (pc' := 24) rfl (fun hT => ?_)
    have H := H _ rfl
    refine g_iinc (c := (Int32.ofNat 1)) rfl rfl rfl rfl rfl (pc' := 27) ?_
    refine g_goto rfl (pc' := 2) rfl ?_
    exact g_weak (show gm_Lle [some _, some _, some _, some _] _ from ⟨rfl, ⟨rfl, ⟨rfl, ⟨rfl, trivial⟩⟩⟩⟩) H
theorem w_132_0 {m : Nat} {x1 : Int32} {x2 : Int32} {x3 : Int32} {h : hh_T} {Q : Option Value ⊕ Nat → hh_T → Prop} (hT : tw_ok h m) (H : (x1 < Int32.ofNat 0 → (Q (.inl (some (.int (Int32.ofInt (-1))))) h)) ∧ (¬ x1 < Int32.ofNat 0 → (((Int32.ofNat 7) < x1 → (Q (.inl (some (.int (Int32.ofInt (-1))))) h)) ∧ (¬ (Int32.ofNat 7) < x1 → ((x2 < Int32.ofNat 0 → (Q (.inl (some (.int (Int32.ofInt (-1))))) h)) ∧ (¬ x2 < Int32.ofNat 0 → ((¬ (Int32.ofNat 7) < x2 → (∃ n1, gm_ix (((Int32.ofNat 8) * x1) + x2) n1 64 ∧ (∃ n2, gm_ix (((Int32.ofNat 8) * x1) + x2) n2 64 ∧ ((x3 = 0 ∨ x3 = 1) ∧ (∀ h3, h3 = hh_wi h (m + 3) n2 x3 → ((¬ (hh_i h (m + 3) n1) = x3 → (Q (.inl (some (.int (Int32.ofNat 1)))) h3)) ∧ ((hh_i h (m + 3) n1) = x3 → (Q (.inl (some (.int (Int32.ofNat 0)))) h3)))))))) ∧ ((Int32.ofNat 7) < x2 → (Q (.inl (some (.int (Int32.ofInt (-1))))) h))))))))) : gm_G 132 0 [some (.ref m), some (.int x1), some (.int x2), some (.int x3)] [] h Q := by
  refine g_iload rfl rfl rfl (pc' := 1) ?_
  refine g_if_lt rfl (pc' := 4) (pt := 20) rfl rfl ⟨fun hc => ?_, fun hc => ?_⟩
  · have H := H.1 hc
    refine g_iconst rfl rfl rfl (pc' := 21) ?_
    exact g_ireturn rfl (Or.inl rfl) H
  · have H := H.2 hc
    refine g_iload rfl rfl rfl (pc' := 5) ?_
    refine g_iconst rfl rfl rfl (pc' := 7) ?_
    refine g_ic_gt rfl (pc' := 10) (pt := 20) rfl rfl ⟨fun hc => ?_, fun hc => ?_⟩
    · have H := H.1 hc
      refine g_iconst rfl rfl rfl (pc' := 21) ?_
      exact g_ireturn rfl (Or.inl rfl) H
    · have H := H.2 hc
      refine g_iload rfl rfl rfl (pc' := 11) ?_
      refine g_if_lt rfl (pc' := 14) (pt := 20) rfl rfl ⟨fun hc => ?_, fun hc => ?_⟩
      · have H := H.1 hc
        refine g_iconst rfl rfl rfl (pc' := 21) ?_
        exact g_ireturn rfl (Or.inl rfl) H
      · have H := H.2 hc
        refine g_iload rfl rfl rfl (pc' := 15) ?_
        refine g_iconst rfl rfl rfl (pc' := 17) ?_
        refine g_ic_le rfl (pc' := 20) (pt := 22) rfl rfl ⟨fun hc => ?_, fun hc => ?_⟩
        · have H := H.1 hc
          refine g_aload (r := some _) rfl rfl rfl (pc' := 23) ?_
          refine t_get (o := 3) rfl hT rfl rfl rfl (pc' := 26) rfl ?_
          refine g_iconst rfl rfl rfl (pc' := 28) ?_
          refine g_iload rfl rfl rfl (pc' := 29) ?_
          refine g_imul rfl rfl (pc' := 30) ?_
          refine g_iload rfl rfl rfl (pc' := 31) ?_
          refine g_iadd rfl rfl (pc' := 32) ?_
          obtain ⟨n1, hn1, H⟩ := H
          refine t_zaload hT (o := 3) (l := 64) rfl rfl rfl hn1 (pc' := 33) rfl ?_
          refine g_istore rfl rfl rfl (pc' := 35) ?_
          refine g_aload (r := some _) rfl rfl rfl (pc' := 36) ?_
          refine t_get (o := 3) rfl hT rfl rfl rfl (pc' := 39) rfl ?_
          refine g_iconst rfl rfl rfl (pc' := 41) ?_
          refine g_iload rfl rfl rfl (pc' := 42) ?_
          refine g_imul rfl rfl (pc' := 43) ?_
          refine g_iload rfl rfl rfl (pc' := 44) ?_
          refine g_iadd rfl rfl (pc' := 45) ?_
          refine g_iload rfl rfl rfl (pc' := 46) ?_
          obtain ⟨n2, hn2, H⟩ := H
          obtain ⟨Hz, H⟩ := H
          refine t_zastore hT (o := 3) (l := 64) rfl rfl rfl hn2 Hz (pc' := 47) rfl (fun hT => ?_)
          have H := H _ rfl
          refine g_iload rfl rfl rfl (pc' := 49) ?_
          refine g_iload rfl rfl rfl (pc' := 50) ?_
          refine g_ic_ne rfl (pc' := 53) (pt := 57) rfl rfl ⟨fun hc => ?_, fun hc => ?_⟩
          · have H := H.1 hc
            refine g_iconst rfl rfl rfl (pc' := 58) ?_
            exact g_ireturn rfl (Or.inl rfl) H
          · have H := H.2 hc
            refine g_iconst rfl rfl rfl (pc' := 54) ?_
            refine g_goto rfl (pc' := 58) rfl ?_
            exact g_ireturn rfl (Or.inl rfl) H
        · have H := H.2 hc
          refine g_iconst rfl rfl rfl (pc' := 21) ?_
          exact g_ireturn rfl (Or.inl rfl) H
theorem w_133_0 {m : Nat} {x1 : Int32} {b2 : Nat} {x3 : Int32} {x4 : Int32} {h : hh_T} {Q : Option Value ⊕ Nat → hh_T → Prop} (hT : tw_ok h m) (H : ∃ n1, gm_ix x1 n1 32 ∧ (∀ h2, h2 = hh_wi h (m + 64) n1 x4 → (gm_G 133 11 [some (.ref m), some (.int x1), some (.ref b2), some (.int x3), some (.int x4), some (.int (Int32.ofNat 0))] [] h2 Q))) : gm_G 133 0 [some (.ref m), some (.int x1), some (.ref b2), some (.int x3), some (.int x4)] [] h Q := by
  refine g_aload (r := some _) rfl rfl rfl (pc' := 1) ?_
  refine t_get (o := 64) rfl hT rfl rfl rfl (pc' := 4) rfl ?_
  refine g_iload rfl rfl rfl (pc' := 5) ?_
  refine g_iload rfl rfl rfl (pc' := 7) ?_
  obtain ⟨n1, hn1, H⟩ := H
  refine t_iastore hT (o := 64) (l := 32) rfl rfl rfl hn1  (pc' := 8) rfl (fun hT => ?_)
  have H := H _ rfl
  refine g_iconst rfl rfl rfl (pc' := 9) ?_
  refine g_istore rfl rfl rfl (pc' := 11) ?_
  exact g_weak (show gm_Lle [some _, some _, some _, some _, some _, some _] _ from ⟨rfl, ⟨rfl, ⟨rfl, ⟨rfl, ⟨rfl, ⟨rfl, trivial⟩⟩⟩⟩⟩⟩) H
theorem w_133_11 {m : Nat} {x1 : Int32} {b2 : Nat} {x3 : Int32} {x4 : Int32} {x5 : Int32} {h : hh_T} {Q : Option Value ⊕ Nat → hh_T → Prop} (hT : tw_ok h m) (H : (¬ x5 < x4 → (Q (.inl none) h)) ∧ (x5 < x4 → ((hh_tg h b2 = 101 ∨ hh_tg h b2 = 102) ∧ (∃ n1, gm_ix (x3 + x5) n1 (hh_ln h b2) ∧ (∃ n3, gm_ix (((Int32.ofNat 8) * x1) + x5) n3 256 ∧ (∀ h4, h4 = hh_wi h (m + 67) n3 ((hh_i h b2 n1).toInt8.toInt32) → (gm_G 133 11 [some (.ref m), some (.int x1), some (.ref b2), some (.int x3), some (.int x4), some (.int (x5 + (Int32.ofNat 1)))] [] h4 Q))))))) : gm_G 133 11 [some (.ref m), some (.int x1), some (.ref b2), some (.int x3), some (.int x4), some (.int x5)] [] h Q := by
  refine g_iload rfl rfl rfl (pc' := 13) ?_
  refine g_iload rfl rfl rfl (pc' := 15) ?_
  refine g_ic_ge rfl (pc' := 18) (pt := 42) rfl rfl ⟨fun hc => ?_, fun hc => ?_⟩
  · have H := H.1 hc
    exact g_return rfl H
  · have H := H.2 hc
    refine g_aload (r := some _) rfl rfl rfl (pc' := 19) ?_
    refine t_get (o := 67) rfl hT rfl rfl rfl (pc' := 22) rfl ?_
    refine g_iconst rfl rfl rfl (pc' := 24) ?_
    refine g_iload rfl rfl rfl (pc' := 25) ?_
    refine g_imul rfl rfl (pc' := 26) ?_
    refine g_iload rfl rfl rfl (pc' := 28) ?_
    refine g_iadd rfl rfl (pc' := 29) ?_
    refine g_aload (r := some _) rfl rfl rfl (pc' := 30) ?_
    refine g_iload rfl rfl rfl (pc' := 31) ?_
    refine g_iload rfl rfl rfl (pc' := 33) ?_
    refine g_iadd rfl rfl (pc' := 34) ?_
    obtain ⟨ht2, H⟩ := H
    obtain ⟨n1, hn1, H⟩ := H
    refine g_baload rfl ht2 hn1 (pc' := 35) rfl ?_
    obtain ⟨n3, hn3, H⟩ := H
    refine t_bastore hT (o := 67) (l := 256) rfl rfl rfl hn3  (pc' := 36) rfl (fun hT => ?_)
    have H := H _ rfl
    refine g_iinc (c := (Int32.ofNat 1)) rfl rfl rfl rfl rfl (pc' := 39) ?_
    refine g_goto rfl (pc' := 11) rfl ?_
    exact g_weak (show gm_Lle [some _, some _, some _, some _, some _, some _] _ from ⟨rfl, ⟨rfl, ⟨rfl, ⟨rfl, ⟨rfl, ⟨rfl, trivial⟩⟩⟩⟩⟩⟩) H
theorem w_134_0 {m : Nat} {x1 : Int32} {x2 : Int32} {x3 : Int32} {x4 : Int32} {x5 : Int32} {h : hh_T} {Q : Option Value ⊕ Nat → hh_T → Prop} (hT : tw_ok h m) (H : ∃ n1, gm_ix x1 n1 32 ∧ (∀ h2, h2 = hh_wi h (m + 59) n1 x2 → (∃ n3, gm_ix x1 n3 32 ∧ (∀ h4, h4 = hh_wi h2 (m + 60) n3 x3 → (∃ n5, gm_ix x1 n5 32 ∧ (∀ h6, h6 = hh_wi h4 (m + 61) n5 x4 → (∃ n7, gm_ix x1 n7 32 ∧ (∀ h8, h8 = hh_wi h6 (m + 62) n7 x5 → (gm_G 134 33 [some (.ref m), some (.int x1), none, none, none, none, some (.int (Int32.ofNat 0))] [] h8 Q))))))))) : gm_G 134 0 [some (.ref m), some (.int x1), some (.int x2), some (.int x3), some (.int x4), some (.int x5)] [] h Q := by
  refine g_aload (r := some _) rfl rfl rfl (pc' := 1) ?_
  refine t_get (o := 59) rfl hT rfl rfl rfl (pc' := 4) rfl ?_
  refine g_iload rfl rfl rfl (pc' := 5) ?_
  refine g_iload rfl rfl rfl (pc' := 6) ?_
  obtain ⟨n1, hn1, H⟩ := H
  refine t_iastore hT (o := 59) (l := 32) rfl rfl rfl hn1  (pc' := 7) rfl (fun hT => ?_)
  have H := H _ rfl
  refine g_aload (r := some _) rfl rfl rfl (pc' := 8) ?_
  refine t_get (o := 60) rfl hT rfl rfl rfl (pc' := 11) rfl ?_
  refine g_iload rfl rfl rfl (pc' := 12) ?_
  refine g_iload rfl rfl rfl (pc' := 13) ?_
  obtain ⟨n3, hn3, H⟩ := H
  refine t_iastore hT (o := 60) (l := 32) rfl rfl rfl hn3  (pc' := 14) rfl (fun hT => ?_)
  have H := H _ rfl
  refine g_aload (r := some _) rfl rfl rfl (pc' := 15) ?_
  refine t_get (o := 61) rfl hT rfl rfl rfl (pc' := 18) rfl ?_
  refine g_iload rfl rfl rfl (pc' := 19) ?_
  refine g_iload rfl rfl rfl (pc' := 21) ?_
  obtain ⟨n5, hn5, H⟩ := H
  refine t_iastore hT (o := 61) (l := 32) rfl rfl rfl hn5  (pc' := 22) rfl (fun hT => ?_)
  have H := H _ rfl
  refine g_aload (r := some _) rfl rfl rfl (pc' := 23) ?_
  refine t_get (o := 62) rfl hT rfl rfl rfl (pc' := 26) rfl ?_
  refine g_iload rfl rfl rfl (pc' := 27) ?_
  refine g_iload rfl rfl rfl (pc' := 29) ?_
  obtain ⟨n7, hn7, H⟩ := H
  refine t_iastore hT (o := 62) (l := 32) rfl rfl rfl hn7  (pc' := 30) rfl (fun hT => ?_)
  have H := H _ rfl
  refine g_iconst rfl rfl rfl (pc' := 31) ?_
  refine g_istore rfl rfl rfl (pc' := 33) ?_
  exact g_weak (show gm_Lle [some _, some _, none, none, none, none, some _] _ from ⟨rfl, ⟨rfl, ⟨rfl, trivial⟩⟩⟩) H
theorem w_134_33 {m : Nat} {x1 : Int32} {x6 : Int32} {h : hh_T} {Q : Option Value ⊕ Nat → hh_T → Prop} (hT : tw_ok h m) (H : (¬ x6 < (Int32.ofNat 5) → (gm_G 134 60 [some (.ref m), some (.int x1), none, none, none, none, some (.int (Int32.ofNat 0))] [] h Q)) ∧ (x6 < (Int32.ofNat 5) → (∃ n1, gm_ix (((Int32.ofNat 5) * x1) + x6) n1 160 ∧ (∀ h2, h2 = hh_wi h (m + 65) n1 (Int32.ofInt (-1)) → (gm_G 134 33 [some (.ref m), some (.int x1), none, none, none, none, some (.int (x6 + (Int32.ofNat 1)))] [] h2 Q))))) : gm_G 134 33 [some (.ref m), some (.int x1), none, none, none, none, some (.int x6)] [] h Q := by
  refine g_iload rfl rfl rfl (pc' := 35) ?_
  refine g_iconst rfl rfl rfl (pc' := 36) ?_
  refine g_ic_ge rfl (pc' := 39) (pt := 57) rfl rfl ⟨fun hc => ?_, fun hc => ?_⟩
  · have H := H.1 hc
    refine g_iconst rfl rfl rfl (pc' := 58) ?_
    refine g_istore rfl rfl rfl (pc' := 60) ?_
    exact g_weak (show gm_Lle [some _, some _, none, none, none, none, some _] _ from ⟨rfl, ⟨rfl, ⟨rfl, trivial⟩⟩⟩) H
  · have H := H.2 hc
    refine g_aload (r := some _) rfl rfl rfl (pc' := 40) ?_
    refine t_get (o := 65) rfl hT rfl rfl rfl (pc' := 43) rfl ?_
    refine g_iconst rfl rfl rfl (pc' := 44) ?_
    refine g_iload rfl rfl rfl (pc' := 45) ?_
    refine g_imul rfl rfl (pc' := 46) ?_
    refine g_iload rfl rfl rfl (pc' := 48) ?_
    refine g_iadd rfl rfl (pc' := 49) ?_
    refine g_iconst rfl rfl rfl (pc' := 50) ?_
    obtain ⟨n1, hn1, H⟩ := H
    refine t_iastore hT (o := 65) (l := 160) rfl rfl rfl hn1  (pc' := 51) rfl (fun hT => ?_)
    have H := H _ rfl
    refine g_iinc (c := (Int32.ofNat 1)) rfl rfl rfl rfl rfl (pc' := 54) ?_
    refine g_goto rfl (pc' := 33) rfl ?_
    exact g_weak (show gm_Lle [some _, some _, none, none, none, none, some _] _ from ⟨rfl, ⟨rfl, ⟨rfl, trivial⟩⟩⟩) H
theorem w_134_60 {m : Nat} {x1 : Int32} {x6 : Int32} {h : hh_T} {Q : Option Value ⊕ Nat → hh_T → Prop} (hT : tw_ok h m) (H : (¬ x6 < (Int32.ofNat 9) → (Q (.inl none) h)) ∧ (x6 < (Int32.ofNat 9) → (∃ n1, gm_ix (((Int32.ofNat 9) * x1) + x6) n1 288 ∧ (∀ h2, h2 = hh_wi h (m + 66) n1 (Int32.ofInt (-1)) → (gm_G 134 60 [some (.ref m), some (.int x1), none, none, none, none, some (.int (x6 + (Int32.ofNat 1)))] [] h2 Q))))) : gm_G 134 60 [some (.ref m), some (.int x1), none, none, none, none, some (.int x6)] [] h Q := by
  refine g_iload rfl rfl rfl (pc' := 62) ?_
  refine g_iconst rfl rfl rfl (pc' := 64) ?_
  refine g_ic_ge rfl (pc' := 67) (pt := 86) rfl rfl ⟨fun hc => ?_, fun hc => ?_⟩
  · have H := H.1 hc
    exact g_return rfl H
  · have H := H.2 hc
    refine g_aload (r := some _) rfl rfl rfl (pc' := 68) ?_
    refine t_get (o := 66) rfl hT rfl rfl rfl (pc' := 71) rfl ?_
    refine g_iconst rfl rfl rfl (pc' := 73) ?_
    refine g_iload rfl rfl rfl (pc' := 74) ?_
    refine g_imul rfl rfl (pc' := 75) ?_
    refine g_iload rfl rfl rfl (pc' := 77) ?_
    refine g_iadd rfl rfl (pc' := 78) ?_
    refine g_iconst rfl rfl rfl (pc' := 79) ?_
    obtain ⟨n1, hn1, H⟩ := H
    refine t_iastore hT (o := 66) (l := 288) rfl rfl rfl hn1  (pc' := 80) rfl (fun hT => ?_)
    have H := H _ rfl
    refine g_iinc (c := (Int32.ofNat 1)) rfl rfl rfl rfl rfl (pc' := 83) ?_
    refine g_goto rfl (pc' := 60) rfl ?_
    exact g_weak (show gm_Lle [some _, some _, none, none, none, none, some _] _ from ⟨rfl, ⟨rfl, ⟨rfl, trivial⟩⟩⟩) H
theorem w_135_0 {m : Nat} {x1 : Int32} {h : hh_T} {Q : Option Value ⊕ Nat → hh_T → Prop} (hT : tw_ok h m) (H : (x1 < Int32.ofNat 0 → (gm_G 135 12 [] [] h Q)) ∧ (¬ x1 < Int32.ofNat 0 → ((x1 < (hh_i h m 7) → (Q (.inl (some (.int (Int32.ofNat 0)))) h)) ∧ (¬ x1 < (hh_i h m 7) → (gm_G 135 12 [] [] h Q))))) : gm_G 135 0 [some (.ref m), some (.int x1)] [] h Q := by
  refine g_iload rfl rfl rfl (pc' := 1) ?_
  refine g_if_lt rfl (pc' := 4) (pt := 12) rfl rfl ⟨fun hc => ?_, fun hc => ?_⟩
  · have H := H.1 hc
    exact g_weak (show gm_Lle [] _ from trivial) H
  · have H := H.2 hc
    refine g_iload rfl rfl rfl (pc' := 5) ?_
    refine g_aload (r := some _) rfl rfl rfl (pc' := 6) ?_
    refine t_getI rfl hT rfl rfl (pc' := 9) rfl ?_
    refine g_ic_lt rfl (pc' := 12) (pt := 16) rfl rfl ⟨fun hc => ?_, fun hc => ?_⟩
    · have H := H.1 hc
      refine g_iconst rfl rfl rfl (pc' := 17) ?_
      exact g_ireturn rfl (Or.inr (by decide)) H
    · have H := H.2 hc
      exact g_weak (show gm_Lle [] _ from trivial) H
theorem w_135_12 {m : Nat}  {h : hh_T} {Q : Option Value ⊕ Nat → hh_T → Prop} (hT : tw_ok h m) (H : Q (.inl (some (.int (Int32.ofNat 1)))) h) : gm_G 135 12 [] [] h Q := by
  refine g_iconst rfl rfl rfl (pc' := 13) ?_
  refine g_goto rfl (pc' := 17) rfl ?_
  exact g_ireturn rfl (Or.inr (by decide)) H
theorem w_136_0 {m : Nat} {x1 : Int32} {h : hh_T} {Q : Option Value ⊕ Nat → hh_T → Prop} (hT : tw_ok h m) (H : (x1 < Int32.ofNat 0 → (gm_G 136 12 [] [] h Q)) ∧ (¬ x1 < Int32.ofNat 0 → ((x1 < (hh_i h m 19) → (Q (.inl (some (.int (Int32.ofNat 0)))) h)) ∧ (¬ x1 < (hh_i h m 19) → (gm_G 136 12 [] [] h Q))))) : gm_G 136 0 [some (.ref m), some (.int x1)] [] h Q := by
  refine g_iload rfl rfl rfl (pc' := 1) ?_
  refine g_if_lt rfl (pc' := 4) (pt := 12) rfl rfl ⟨fun hc => ?_, fun hc => ?_⟩
  · have H := H.1 hc
    exact g_weak (show gm_Lle [] _ from trivial) H
  · have H := H.2 hc
    refine g_iload rfl rfl rfl (pc' := 5) ?_
    refine g_aload (r := some _) rfl rfl rfl (pc' := 6) ?_
    refine t_getI rfl hT rfl rfl (pc' := 9) rfl ?_
    refine g_ic_lt rfl (pc' := 12) (pt := 16) rfl rfl ⟨fun hc => ?_, fun hc => ?_⟩
    · have H := H.1 hc
      refine g_iconst rfl rfl rfl (pc' := 17) ?_
      exact g_ireturn rfl (Or.inr (by decide)) H
    · have H := H.2 hc
      exact g_weak (show gm_Lle [] _ from trivial) H
theorem w_136_12 {m : Nat}  {h : hh_T} {Q : Option Value ⊕ Nat → hh_T → Prop} (hT : tw_ok h m) (H : Q (.inl (some (.int (Int32.ofNat 1)))) h) : gm_G 136 12 [] [] h Q := by
  refine g_iconst rfl rfl rfl (pc' := 13) ?_
  refine g_goto rfl (pc' := 17) rfl ?_
  exact g_ireturn rfl (Or.inr (by decide)) H
theorem w_137_0 {m : Nat} {x1 : Int32} {x2 : Int32} {h : hh_T} {Q : Option Value ⊕ Nat → hh_T → Prop} (hT : tw_ok h m) (H : (x2 < Int32.ofNat 0 → (gm_G 137 24 [] [] h Q)) ∧ (¬ x2 < Int32.ofNat 0 → (((Int32.ofNat 15) < x2 → (gm_G 137 24 [] [] h Q)) ∧ (¬ (Int32.ofNat 15) < x2 → (∃ n1, gm_ix (((Int32.ofNat 16) * x1) + x2) n1 1536 ∧ ((¬ (hh_i h (m + 40) n1) = Int32.ofNat 0 → (Q (.inl (some (.int (Int32.ofNat 0)))) h)) ∧ ((hh_i h (m + 40) n1) = Int32.ofNat 0 → (gm_G 137 24 [] [] h Q)))))))) : gm_G 137 0 [some (.ref m), some (.int x1), some (.int x2)] [] h Q := by
  refine g_iload rfl rfl rfl (pc' := 1) ?_
  refine g_if_lt rfl (pc' := 4) (pt := 24) rfl rfl ⟨fun hc => ?_, fun hc => ?_⟩
  · have H := H.1 hc
    exact g_weak (show gm_Lle [] _ from trivial) H
  · have H := H.2 hc
    refine g_iload rfl rfl rfl (pc' := 5) ?_
    refine g_iconst rfl rfl rfl (pc' := 7) ?_
    refine g_ic_gt rfl (pc' := 10) (pt := 24) rfl rfl ⟨fun hc => ?_, fun hc => ?_⟩
    · have H := H.1 hc
      exact g_weak (show gm_Lle [] _ from trivial) H
    · have H := H.2 hc
      refine g_aload (r := some _) rfl rfl rfl (pc' := 11) ?_
      refine t_get (o := 40) rfl hT rfl rfl rfl (pc' := 14) rfl ?_
      refine g_iconst rfl rfl rfl (pc' := 16) ?_
      refine g_iload rfl rfl rfl (pc' := 17) ?_
      refine g_imul rfl rfl (pc' := 18) ?_
      refine g_iload rfl rfl rfl (pc' := 19) ?_
      refine g_iadd rfl rfl (pc' := 20) ?_
      obtain ⟨n1, hn1, H⟩ := H
      refine t_iaload hT (o := 40) (l := 1536) rfl rfl rfl hn1 (pc' := 21) rfl ?_
      refine g_if_ne rfl (pc' := 24) (pt := 28) rfl rfl ⟨fun hc => ?_, fun hc => ?_⟩
      · have H := H.1 hc
        refine g_iconst rfl rfl rfl (pc' := 29) ?_
        exact g_ireturn rfl (Or.inr (by decide)) H
      · have H := H.2 hc
        exact g_weak (show gm_Lle [] _ from trivial) H
theorem w_137_24 {m : Nat}  {h : hh_T} {Q : Option Value ⊕ Nat → hh_T → Prop} (hT : tw_ok h m) (H : Q (.inl (some (.int (Int32.ofNat 1)))) h) : gm_G 137 24 [] [] h Q := by
  refine g_iconst rfl rfl rfl (pc' := 25) ?_
  refine g_goto rfl (pc' := 29) rfl ?_
  exact g_ireturn rfl (Or.inr (by decide)) H
theorem w_138_0 {m : Nat} {x0 : Int32} {h : hh_T} {Q : Option Value ⊕ Nat → hh_T → Prop} (hT : tw_ok h m) (H : (x0 < Int32.ofNat 0 → (gm_G 138 10 [] [] h Q)) ∧ (¬ x0 < Int32.ofNat 0 → ((¬ (Int32.ofNat 7) < x0 → (Q (.inl (some (.int (Int32.ofNat 0)))) h)) ∧ ((Int32.ofNat 7) < x0 → (gm_G 138 10 [] [] h Q))))) : gm_G 138 0 [some (.int x0)] [] h Q := by
  refine g_iload rfl rfl rfl (pc' := 1) ?_
  refine g_if_lt rfl (pc' := 4) (pt := 10) rfl rfl ⟨fun hc => ?_, fun hc => ?_⟩
  · have H := H.1 hc
    exact g_weak (show gm_Lle [] _ from trivial) H
  · have H := H.2 hc
    refine g_iload rfl rfl rfl (pc' := 5) ?_
    refine g_iconst rfl rfl rfl (pc' := 7) ?_
    refine g_ic_le rfl (pc' := 10) (pt := 14) rfl rfl ⟨fun hc => ?_, fun hc => ?_⟩
    · have H := H.1 hc
      refine g_iconst rfl rfl rfl (pc' := 15) ?_
      exact g_ireturn rfl (Or.inr (by decide)) H
    · have H := H.2 hc
      exact g_weak (show gm_Lle [] _ from trivial) H
theorem w_138_10 {m : Nat}  {h : hh_T} {Q : Option Value ⊕ Nat → hh_T → Prop} (hT : tw_ok h m) (H : Q (.inl (some (.int (Int32.ofNat 1)))) h) : gm_G 138 10 [] [] h Q := by
  refine g_iconst rfl rfl rfl (pc' := 11) ?_
  refine g_goto rfl (pc' := 15) rfl ?_
  exact g_ireturn rfl (Or.inr (by decide)) H
theorem w_139_0 {m : Nat} {b1 : Nat} {x2 : Int32} {x3 : Int32} {x4 : Int32} {h : hh_T} {Q : Option Value ⊕ Nat → hh_T → Prop} (hT : tw_ok h m) (H : (¬ (hh_i h m 108) < Int32.ofNat 0 → (∃ n1, gm_ix (((hh_i h m 108) + (Int32.ofNat 8)) + x4) n1 37120 ∧ (∀ h2, h2 = hh_wi h (m + 82) n1 x3 → (gm_G 139 27 [some (.ref m), some (.ref b1), some (.int x2), some (.int x3), none, some (.int (Int32.ofNat 0))] [] h2 Q)))) ∧ ((hh_i h m 108) < Int32.ofNat 0 → (Q (.inl none) h))) : gm_G 139 0 [some (.ref m), some (.ref b1), some (.int x2), some (.int x3), some (.int x4)] [] h Q := by
  refine g_aload (r := some _) rfl rfl rfl (pc' := 1) ?_
  refine t_getI rfl hT rfl rfl (pc' := 4) rfl ?_
  refine g_if_ge rfl (pc' := 7) (pt := 8) rfl rfl ⟨fun hc => ?_, fun hc => ?_⟩
  · have H := H.1 hc
    refine g_aload (r := some _) rfl rfl rfl (pc' := 9) ?_
    refine t_get (o := 82) rfl hT rfl rfl rfl (pc' := 12) rfl ?_
    refine g_aload (r := some _) rfl rfl rfl (pc' := 13) ?_
    refine t_getI rfl hT rfl rfl (pc' := 16) rfl ?_
    refine g_iconst rfl rfl rfl (pc' := 18) ?_
    refine g_iadd rfl rfl (pc' := 19) ?_
    refine g_iload rfl rfl rfl (pc' := 21) ?_
    refine g_iadd rfl rfl (pc' := 22) ?_
    refine g_iload rfl rfl rfl (pc' := 23) ?_
    obtain ⟨n1, hn1, H⟩ := H
    refine t_iastore hT (o := 82) (l := 37120) rfl rfl rfl hn1  (pc' := 24) rfl (fun hT => ?_)
    have H := H _ rfl
    refine g_iconst rfl rfl rfl (pc' := 25) ?_
    refine g_istore rfl rfl rfl (pc' := 27) ?_
    exact g_weak (show gm_Lle [some _, some _, some _, some _, none, some _] _ from ⟨rfl, ⟨rfl, ⟨rfl, ⟨rfl, ⟨rfl, trivial⟩⟩⟩⟩⟩) H
  · have H := H.2 hc
    exact g_return rfl H
theorem w_139_27 {m : Nat} {b1 : Nat} {x2 : Int32} {x3 : Int32} {x5 : Int32} {h : hh_T} {Q : Option Value ⊕ Nat → hh_T → Prop} (hT : tw_ok h m) (H : (¬ x5 < x3 → (∀ h1, h1 = hh_wi h m 109 ((hh_i h m 109) + x3) → (Q (.inl none) h1))) ∧ (x5 < x3 → ((hh_tg h b1 = 101 ∨ hh_tg h b1 = 102) ∧ (∃ n2, gm_ix (x2 + x5) n2 (hh_ln h b1) ∧ (∃ n4, gm_ix ((hh_i h m 109) + x5) n4 37120 ∧ (∀ h5, h5 = hh_wi h (m + 82) n4 (hh_i h b1 n2) → (gm_G 139 27 [some (.ref m), some (.ref b1), some (.int x2), some (.int x3), none, some (.int (x5 + (Int32.ofNat 1)))] [] h5 Q))))))) : gm_G 139 27 [some (.ref m), some (.ref b1), some (.int x2), some (.int x3), none, some (.int x5)] [] h Q := by
  refine g_iload rfl rfl rfl (pc' := 29) ?_
  refine g_iload rfl rfl rfl (pc' := 30) ?_
  refine g_ic_ge rfl (pc' := 33) (pt := 57) rfl rfl ⟨fun hc => ?_, fun hc => ?_⟩
  · have H := H.1 hc
    refine g_aload (r := some _) rfl rfl rfl (pc' := 58) ?_
    refine g_dup_a (r := some _) rfl rfl (pc' := 59) ?_
    refine t_getI rfl hT rfl rfl (pc' := 62) rfl ?_
    refine g_iload rfl rfl rfl (pc' := 63) ?_
    refine g_iadd rfl rfl (pc' := 64) ?_
    refine t_putI rfl hT rfl rfl  (pc' := 67) rfl (fun hT => ?_)
    have H := H _ rfl
    exact g_return rfl H
  · have H := H.2 hc
    refine g_aload (r := some _) rfl rfl rfl (pc' := 34) ?_
    refine t_get (o := 82) rfl hT rfl rfl rfl (pc' := 37) rfl ?_
    refine g_aload (r := some _) rfl rfl rfl (pc' := 38) ?_
    refine t_getI rfl hT rfl rfl (pc' := 41) rfl ?_
    refine g_iload rfl rfl rfl (pc' := 43) ?_
    refine g_iadd rfl rfl (pc' := 44) ?_
    refine g_aload (r := some _) rfl rfl rfl (pc' := 45) ?_
    refine g_iload rfl rfl rfl (pc' := 46) ?_
    refine g_iload rfl rfl rfl (pc' := 48) ?_
    refine g_iadd rfl rfl (pc' := 49) ?_
    obtain ⟨ht3, H⟩ := H
    obtain ⟨n2, hn2, H⟩ := H
    refine g_baload rfl ht3 hn2 (pc' := 50) rfl ?_
    obtain ⟨n4, hn4, H⟩ := H
    refine t_iastore hT (o := 82) (l := 37120) rfl rfl rfl hn4  (pc' := 51) rfl (fun hT => ?_)
    have H := H _ rfl
    refine g_iinc (c := (Int32.ofNat 1)) rfl rfl rfl rfl rfl (pc' := 54) ?_
    refine g_goto rfl (pc' := 27) rfl ?_
    exact g_weak (show gm_Lle [some _, some _, some _, some _, none, some _] _ from ⟨rfl, ⟨rfl, ⟨rfl, ⟨rfl, ⟨rfl, trivial⟩⟩⟩⟩⟩) H
theorem w_140_0 {m : Nat} {x1 : Int32} {h : hh_T} {Q : Option Value ⊕ Nat → hh_T → Prop} (hT : tw_ok h m) (H : gm_G 140 3 [some (.ref m), some (.int x1), some (.int (Int32.ofNat 15))] [] h Q) : gm_G 140 0 [some (.ref m), some (.int x1)] [] h Q := by
  refine g_iconst rfl rfl rfl (pc' := 2) ?_
  refine g_istore rfl rfl rfl (pc' := 3) ?_
  exact g_weak (show gm_Lle [some _, some _, some _] _ from ⟨rfl, ⟨rfl, ⟨rfl, trivial⟩⟩⟩) H
theorem w_140_3 {m : Nat} {x1 : Int32} {x2 : Int32} {h : hh_T} {Q : Option Value ⊕ Nat → hh_T → Prop} (hT : tw_ok h m) (H : (¬ Int32.ofNat 0 < x2 → (∃ n1, gm_ix ((Int32.ofNat 2) * x1) n1 1280 ∧ (∃ n2, gm_ix ((Int32.ofNat 2) * x1) n2 1280 ∧ (∀ h3, h3 = hh_wi h (m + 34) 0 (((Int32.ofNat 512) * (hh_i h (m + 23) n1)) + (hh_i h (m + 24) n2)) → (∀ h4, h4 = hh_wi h3 m 49 ((hh_i h3 m 49) + (Int32.ofNat 1)) → (Q (.inl none) h4)))))) ∧ (Int32.ofNat 0 < x2 → (∃ n5, gm_ix (x2 - (Int32.ofNat 1)) n5 16 ∧ (∃ n6, gm_ix x2 n6 16 ∧ (∀ h7, h7 = hh_wi h (m + 34) n6 (hh_i h (m + 34) n5) → (gm_G 140 3 [some (.ref m), some (.int x1), some (.int (x2 + (Int32.ofInt (-1))))] [] h7 Q)))))) : gm_G 140 3 [some (.ref m), some (.int x1), some (.int x2)] [] h Q := by
  refine g_iload rfl rfl rfl (pc' := 4) ?_
  refine g_if_le rfl (pc' := 7) (pt := 27) rfl rfl ⟨fun hc => ?_, fun hc => ?_⟩
  · have H := H.1 hc
    refine g_aload (r := some _) rfl rfl rfl (pc' := 28) ?_
    refine t_get (o := 34) rfl hT rfl rfl rfl (pc' := 31) rfl ?_
    refine g_iconst rfl rfl rfl (pc' := 32) ?_
    refine g_iconst rfl rfl rfl (pc' := 35) ?_
    refine g_aload (r := some _) rfl rfl rfl (pc' := 36) ?_
    refine t_get (o := 23) rfl hT rfl rfl rfl (pc' := 39) rfl ?_
    refine g_iconst rfl rfl rfl (pc' := 40) ?_
    refine g_iload rfl rfl rfl (pc' := 41) ?_
    refine g_imul rfl rfl (pc' := 42) ?_
    obtain ⟨n1, hn1, H⟩ := H
    refine t_iaload hT (o := 23) (l := 1280) rfl rfl rfl hn1 (pc' := 43) rfl ?_
    refine g_imul rfl rfl (pc' := 44) ?_
    refine g_aload (r := some _) rfl rfl rfl (pc' := 45) ?_
    refine t_get (o := 24) rfl hT rfl rfl rfl (pc' := 48) rfl ?_
    refine g_iconst rfl rfl rfl (pc' := 49) ?_
    refine g_iload rfl rfl rfl (pc' := 50) ?_
    refine g_imul rfl rfl (pc' := 51) ?_
    obtain ⟨n2, hn2, H⟩ := H
    refine t_iaload hT (o := 24) (l := 1280) rfl rfl rfl hn2 (pc' := 52) rfl ?_
    refine g_iadd rfl rfl (pc' := 53) ?_
    refine t_iastore hT (o := 34) (l := 16) rfl rfl rfl ⟨rfl, by decide, by decide⟩  (pc' := 54) rfl (fun hT => ?_)
    have H := H _ rfl
    refine g_aload (r := some _) rfl rfl rfl (pc' := 55) ?_
    refine g_dup_a (r := some _) rfl rfl (pc' := 56) ?_
    refine t_getI rfl hT rfl rfl (pc' := 59) rfl ?_
    refine g_iconst rfl rfl rfl (pc' := 60) ?_
    refine g_iadd rfl rfl (pc' := 61) ?_
    refine t_putI rfl hT rfl rfl  (pc' := 64) rfl (fun hT => ?_)
    have H := H _ rfl
    exact g_return rfl H
  · have H := H.2 hc
    refine g_aload (r := some _) rfl rfl rfl (pc' := 8) ?_
    refine t_get (o := 34) rfl hT rfl rfl rfl (pc' := 11) rfl ?_
    refine g_iload rfl rfl rfl (pc' := 12) ?_
    refine g_aload (r := some _) rfl rfl rfl (pc' := 13) ?_
    refine t_get (o := 34) rfl hT rfl rfl rfl (pc' := 16) rfl ?_
    refine g_iload rfl rfl rfl (pc' := 17) ?_
    refine g_iconst rfl rfl rfl (pc' := 18) ?_
    refine g_isub rfl rfl (pc' := 19) ?_
    obtain ⟨n5, hn5, H⟩ := H
    refine t_iaload hT (o := 34) (l := 16) rfl rfl rfl hn5 (pc' := 20) rfl ?_
    obtain ⟨n6, hn6, H⟩ := H
    refine t_iastore hT (o := 34) (l := 16) rfl rfl rfl hn6  (pc' := 21) rfl (fun hT => ?_)
    have H := H _ rfl
    refine g_iinc (c := (Int32.ofInt (-1))) rfl rfl rfl rfl rfl (pc' := 24) ?_
    refine g_goto rfl (pc' := 3) rfl ?_
    exact g_weak (show gm_Lle [some _, some _, some _] _ from ⟨rfl, ⟨rfl, ⟨rfl, trivial⟩⟩⟩) H
theorem w_141_0 {m : Nat} {x1 : Int32} {h : hh_T} {Q : Option Value ⊕ Nat → hh_T → Prop} (hT : tw_ok h m) (H : (¬ x1 = (Int32.ofInt (-1)) → ((x1 < Int32.ofNat 0 → (gm_G 141 22 [] [] h Q)) ∧ (¬ x1 < Int32.ofNat 0 → ((x1 < (hh_i h m 3) → (∃ n1, gm_ix x1 n1 512 ∧ (Q (.inl (some (.int ((hh_i h (m + 2) n1) &&& (Int32.ofNat 255))))) h))) ∧ (¬ x1 < (hh_i h m 3) → (gm_G 141 22 [] [] h Q)))))) ∧ (x1 = (Int32.ofInt (-1)) → (Q (.inl (some (.int (hh_i h m 3)))) h))) : gm_G 141 0 [some (.ref m), some (.int x1)] [] h Q := by
  refine g_iload rfl rfl rfl (pc' := 1) ?_
  refine g_iconst rfl rfl rfl (pc' := 2) ?_
  refine g_ic_ne rfl (pc' := 5) (pt := 10) rfl rfl ⟨fun hc => ?_, fun hc => ?_⟩
  · have H := H.1 hc
    refine g_iload rfl rfl rfl (pc' := 11) ?_
    refine g_if_lt rfl (pc' := 14) (pt := 22) rfl rfl ⟨fun hc => ?_, fun hc => ?_⟩
    · have H := H.1 hc
      exact g_weak (show gm_Lle [] _ from trivial) H
    · have H := H.2 hc
      refine g_iload rfl rfl rfl (pc' := 15) ?_
      refine g_aload (r := some _) rfl rfl rfl (pc' := 16) ?_
      refine t_getI rfl hT rfl rfl (pc' := 19) rfl ?_
      refine g_ic_lt rfl (pc' := 22) (pt := 27) rfl rfl ⟨fun hc => ?_, fun hc => ?_⟩
      · have H := H.1 hc
        refine g_aload (r := some _) rfl rfl rfl (pc' := 28) ?_
        refine t_get (o := 2) rfl hT rfl rfl rfl (pc' := 31) rfl ?_
        refine g_iload rfl rfl rfl (pc' := 32) ?_
        obtain ⟨n1, hn1, H⟩ := H
        refine t_baload hT (o := 2) (l := 512) rfl rfl rfl hn1 (pc' := 33) rfl ?_
        refine g_iconst rfl rfl rfl (pc' := 36) ?_
        refine g_iand rfl rfl (pc' := 37) ?_
        exact g_ireturn rfl (Or.inl rfl) H
      · have H := H.2 hc
        exact g_weak (show gm_Lle [] _ from trivial) H
  · have H := H.2 hc
    refine g_aload (r := some _) rfl rfl rfl (pc' := 6) ?_
    refine t_getI rfl hT rfl rfl (pc' := 9) rfl ?_
    exact g_ireturn rfl (Or.inl rfl) H
theorem w_141_22 {m : Nat}  {h : hh_T} {Q : Option Value ⊕ Nat → hh_T → Prop} (hT : tw_ok h m) (H : Q (.inl (some (.int (Int32.ofInt (-2))))) h) : gm_G 141 22 [] [] h Q := by
  refine g_iconst rfl rfl rfl (pc' := 24) ?_
  refine g_goto rfl (pc' := 37) rfl ?_
  exact g_ireturn rfl (Or.inl rfl) H
theorem w_142_0 {m : Nat} {x1 : Int32} {h : hh_T} {Q : Option Value ⊕ Nat → hh_T → Prop} (hT : tw_ok h m) (H : gm_G 142 2 [some (.ref m), some (.int x1), some (.int (Int32.ofNat 0))] [] h Q) : gm_G 142 0 [some (.ref m), some (.int x1)] [] h Q := by
  refine g_iconst rfl rfl rfl (pc' := 1) ?_
  refine g_istore rfl rfl rfl (pc' := 2) ?_
  exact g_weak (show gm_Lle [some _, some _, some _] _ from ⟨rfl, ⟨rfl, ⟨rfl, trivial⟩⟩⟩) H
theorem w_142_2 {m : Nat} {x1 : Int32} {x2 : Int32} {h : hh_T} {Q : Option Value ⊕ Nat → hh_T → Prop} (hT : tw_ok h m) (H : (¬ x2 < (Int32.ofNat 8) → (Q (.inl none) h)) ∧ (x2 < (Int32.ofNat 8) → (∃ n1, gm_ix (((Int32.ofNat 8) * x1) + x2) n1 12288 ∧ (∃ n2, gm_ix x2 n2 8 ∧ (∀ h3, h3 = hh_wi h (m + 104) n2 (hh_i h (m + 55) n1) → (gm_G 142 2 [some (.ref m), some (.int x1), some (.int (x2 + (Int32.ofNat 1)))] [] h3 Q)))))) : gm_G 142 2 [some (.ref m), some (.int x1), some (.int x2)] [] h Q := by
  refine g_iload rfl rfl rfl (pc' := 3) ?_
  refine g_iconst rfl rfl rfl (pc' := 5) ?_
  refine g_ic_ge rfl (pc' := 8) (pt := 31) rfl rfl ⟨fun hc => ?_, fun hc => ?_⟩
  · have H := H.1 hc
    exact g_return rfl H
  · have H := H.2 hc
    refine g_aload (r := some _) rfl rfl rfl (pc' := 9) ?_
    refine t_get (o := 104) rfl hT rfl rfl rfl (pc' := 12) rfl ?_
    refine g_iload rfl rfl rfl (pc' := 13) ?_
    refine g_aload (r := some _) rfl rfl rfl (pc' := 14) ?_
    refine t_get (o := 55) rfl hT rfl rfl rfl (pc' := 17) rfl ?_
    refine g_iconst rfl rfl rfl (pc' := 19) ?_
    refine g_iload rfl rfl rfl (pc' := 20) ?_
    refine g_imul rfl rfl (pc' := 21) ?_
    refine g_iload rfl rfl rfl (pc' := 22) ?_
    refine g_iadd rfl rfl (pc' := 23) ?_
    obtain ⟨n1, hn1, H⟩ := H
    refine t_iaload hT (o := 55) (l := 12288) rfl rfl rfl hn1 (pc' := 24) rfl ?_
    obtain ⟨n2, hn2, H⟩ := H
    refine t_iastore hT (o := 104) (l := 8) rfl rfl rfl hn2  (pc' := 25) rfl (fun hT => ?_)
    have H := H _ rfl
    refine g_iinc (c := (Int32.ofNat 1)) rfl rfl rfl rfl rfl (pc' := 28) ?_
    refine g_goto rfl (pc' := 2) rfl ?_
    exact g_weak (show gm_Lle [some _, some _, some _] _ from ⟨rfl, ⟨rfl, ⟨rfl, trivial⟩⟩⟩) H
theorem w_143_0 {m : Nat} {x1 : Int32} {h : hh_T} {Q : Option Value ⊕ Nat → hh_T → Prop} (hT : tw_ok h m) (H : ∃ n1, gm_ix x1 n1 3 ∧ ((¬ (hh_i h (m + 11) n1) = (Int32.ofNat 2) → (∃ n2, gm_ix x1 n2 3 ∧ (Q (.inl (some (.int (hh_i h (m + 14) n2)))) h))) ∧ ((hh_i h (m + 11) n1) = (Int32.ofNat 2) → (∃ n3, gm_ix x1 n3 3 ∧ (∃ n4, gm_ix x1 n4 3 ∧ (Q (.inl (some (.int ((hh_i h (m + 13) n3) * (hh_i h (m + 14) n4))))) h)))))) : gm_G 143 0 [some (.ref m), some (.int x1)] [] h Q := by
  refine g_aload (r := some _) rfl rfl rfl (pc' := 1) ?_
  refine t_get (o := 11) rfl hT rfl rfl rfl (pc' := 4) rfl ?_
  refine g_iload rfl rfl rfl (pc' := 5) ?_
  obtain ⟨n1, hn1, H⟩ := H
  refine t_iaload hT (o := 11) (l := 3) rfl rfl rfl hn1 (pc' := 6) rfl ?_
  refine g_iconst rfl rfl rfl (pc' := 7) ?_
  refine g_ic_ne rfl (pc' := 10) (pt := 26) rfl rfl ⟨fun hc => ?_, fun hc => ?_⟩
  · have H := H.1 hc
    refine g_aload (r := some _) rfl rfl rfl (pc' := 27) ?_
    refine t_get (o := 14) rfl hT rfl rfl rfl (pc' := 30) rfl ?_
    refine g_iload rfl rfl rfl (pc' := 31) ?_
    obtain ⟨n2, hn2, H⟩ := H
    refine t_iaload hT (o := 14) (l := 3) rfl rfl rfl hn2 (pc' := 32) rfl ?_
    exact g_ireturn rfl (Or.inl rfl) H
  · have H := H.2 hc
    refine g_aload (r := some _) rfl rfl rfl (pc' := 11) ?_
    refine t_get (o := 13) rfl hT rfl rfl rfl (pc' := 14) rfl ?_
    refine g_iload rfl rfl rfl (pc' := 15) ?_
    obtain ⟨n3, hn3, H⟩ := H
    refine t_iaload hT (o := 13) (l := 3) rfl rfl rfl hn3 (pc' := 16) rfl ?_
    refine g_aload (r := some _) rfl rfl rfl (pc' := 17) ?_
    refine t_get (o := 14) rfl hT rfl rfl rfl (pc' := 20) rfl ?_
    refine g_iload rfl rfl rfl (pc' := 21) ?_
    obtain ⟨n4, hn4, H⟩ := H
    refine t_iaload hT (o := 14) (l := 3) rfl rfl rfl hn4 (pc' := 22) rfl ?_
    refine g_imul rfl rfl (pc' := 23) ?_
    refine g_goto rfl (pc' := 32) rfl ?_
    exact g_ireturn rfl (Or.inl rfl) H
theorem w_144_0 {m : Nat} {x1 : Int32} {x2 : Int32} {h : hh_T} {Q : Option Value ⊕ Nat → hh_T → Prop} (hT : tw_ok h m) (H : (x1 < (Int32.ofInt (-1)) → (Q (.inl (some (.int (Int32.ofInt (-1))))) h)) ∧ (¬ x1 < (Int32.ofInt (-1)) → (((Int32.ofNat 4000) < x1 → (Q (.inl (some (.int (Int32.ofInt (-1))))) h)) ∧ (¬ (Int32.ofNat 4000) < x1 → ((x2 < Int32.ofNat 0 → (Q (.inl (some (.int (Int32.ofInt (-1))))) h)) ∧ (¬ x2 < Int32.ofNat 0 → ((¬ (Int32.ofNat 7) < x2 → (∀ h1, h1 = hh_wi h m 15 x1 → (∀ h2, h2 = hh_wi h1 m 16 x2 → (Q (.inl (some (.int (Int32.ofNat 0)))) h2)))) ∧ ((Int32.ofNat 7) < x2 → (Q (.inl (some (.int (Int32.ofInt (-1))))) h))))))))) : gm_G 144 0 [some (.ref m), some (.int x1), some (.int x2)] [] h Q := by
  refine g_iload rfl rfl rfl (pc' := 1) ?_
  refine g_iconst rfl rfl rfl (pc' := 2) ?_
  refine g_ic_lt rfl (pc' := 5) (pt := 22) rfl rfl ⟨fun hc => ?_, fun hc => ?_⟩
  · have H := H.1 hc
    refine g_iconst rfl rfl rfl (pc' := 23) ?_
    exact g_ireturn rfl (Or.inl rfl) H
  · have H := H.2 hc
    refine g_iload rfl rfl rfl (pc' := 6) ?_
    refine g_iconst rfl rfl rfl (pc' := 9) ?_
    refine g_ic_gt rfl (pc' := 12) (pt := 22) rfl rfl ⟨fun hc => ?_, fun hc => ?_⟩
    · have H := H.1 hc
      refine g_iconst rfl rfl rfl (pc' := 23) ?_
      exact g_ireturn rfl (Or.inl rfl) H
    · have H := H.2 hc
      refine g_iload rfl rfl rfl (pc' := 13) ?_
      refine g_if_lt rfl (pc' := 16) (pt := 22) rfl rfl ⟨fun hc => ?_, fun hc => ?_⟩
      · have H := H.1 hc
        refine g_iconst rfl rfl rfl (pc' := 23) ?_
        exact g_ireturn rfl (Or.inl rfl) H
      · have H := H.2 hc
        refine g_iload rfl rfl rfl (pc' := 17) ?_
        refine g_iconst rfl rfl rfl (pc' := 19) ?_
        refine g_ic_le rfl (pc' := 22) (pt := 24) rfl rfl ⟨fun hc => ?_, fun hc => ?_⟩
        · have H := H.1 hc
          refine g_aload (r := some _) rfl rfl rfl (pc' := 25) ?_
          refine g_iload rfl rfl rfl (pc' := 26) ?_
          refine t_putI rfl hT rfl rfl  (pc' := 29) rfl (fun hT => ?_)
          have H := H _ rfl
          refine g_aload (r := some _) rfl rfl rfl (pc' := 30) ?_
          refine g_iload rfl rfl rfl (pc' := 31) ?_
          refine t_putI rfl hT rfl rfl  (pc' := 34) rfl (fun hT => ?_)
          have H := H _ rfl
          refine g_iconst rfl rfl rfl (pc' := 35) ?_
          exact g_ireturn rfl (Or.inl rfl) H
        · have H := H.2 hc
          refine g_iconst rfl rfl rfl (pc' := 23) ?_
          exact g_ireturn rfl (Or.inl rfl) H
theorem w_145_0 {m : Nat}  {h : hh_T} {Q : Option Value ⊕ Nat → hh_T → Prop} (hT : tw_ok h m) (H : gm_G 145 4 [some (.ref m), some (.int (Int32.ofNat 0)), some (.int (Int32.ofNat 0))] [] h Q) : gm_G 145 0 [some (.ref m)] [] h Q := by
  refine g_iconst rfl rfl rfl (pc' := 1) ?_
  refine g_istore rfl rfl rfl (pc' := 2) ?_
  refine g_iconst rfl rfl rfl (pc' := 3) ?_
  refine g_istore rfl rfl rfl (pc' := 4) ?_
  exact g_weak (show gm_Lle [some _, some _, some _] _ from ⟨rfl, ⟨rfl, ⟨rfl, trivial⟩⟩⟩) H
theorem w_145_4 {m : Nat} {x1 : Int32} {x2 : Int32} {h : hh_T} {Q : Option Value ⊕ Nat → hh_T → Prop} (hT : tw_ok h m) (H : (¬ x2 < (Int32.ofNat 8) → (Q (.inl (some (.int x1))) h)) ∧ (x2 < (Int32.ofNat 8) → (∃ n1, gm_ix x2 n1 8 ∧ (gm_G 145 4 [some (.ref m), some (.int (x1 + (hh_i h (m + 81) n1))), some (.int (x2 + (Int32.ofNat 1)))] [] h Q)))) : gm_G 145 4 [some (.ref m), some (.int x1), some (.int x2)] [] h Q := by
  refine g_iload rfl rfl rfl (pc' := 5) ?_
  refine g_iconst rfl rfl rfl (pc' := 7) ?_
  refine g_ic_ge rfl (pc' := 10) (pt := 25) rfl rfl ⟨fun hc => ?_, fun hc => ?_⟩
  · have H := H.1 hc
    refine g_iload rfl rfl rfl (pc' := 26) ?_
    exact g_ireturn rfl (Or.inl rfl) H
  · have H := H.2 hc
    refine g_iload rfl rfl rfl (pc' := 11) ?_
    refine g_aload (r := some _) rfl rfl rfl (pc' := 12) ?_
    refine t_get (o := 81) rfl hT rfl rfl rfl (pc' := 15) rfl ?_
    refine g_iload rfl rfl rfl (pc' := 16) ?_
    obtain ⟨n1, hn1, H⟩ := H
    refine t_iaload hT (o := 81) (l := 8) rfl rfl rfl hn1 (pc' := 17) rfl ?_
    refine g_iadd rfl rfl (pc' := 18) ?_
    refine g_istore rfl rfl rfl (pc' := 19) ?_
    refine g_iinc (c := (Int32.ofNat 1)) rfl rfl rfl rfl rfl (pc' := 22) ?_
    refine g_goto rfl (pc' := 4) rfl ?_
    exact g_weak (show gm_Lle [some _, some _, some _] _ from ⟨rfl, ⟨rfl, ⟨rfl, trivial⟩⟩⟩) H
