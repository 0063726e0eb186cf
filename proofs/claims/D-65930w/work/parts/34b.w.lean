/-! STAGE 2, 5: the twin, label by label (printed) -/
theorem w_146_0 {m : Nat} {x1 : Int32} {h : hh_T} {Q : Option Value ⊕ Nat → hh_T → Prop} (hT : tw_ok h m) (H : (¬ (hh_i h m 146) < (Int32.ofNat 6400) → (gm_G 146 21 [some (.ref m)] [] h Q)) ∧ ((hh_i h m 146) < (Int32.ofNat 6400) → (∃ n1, gm_ix (hh_i h m 146) n1 6400 ∧ (∀ h2, h2 = hh_wi h (m + 114) n1 ((x1.toInt8.toInt32).toInt8.toInt32) → (gm_G 146 21 [some (.ref m)] [] h2 Q))))) : gm_G 146 0 [some (.ref m), some (.int x1)] [] h Q := by
  refine g_aload (r := some _) rfl rfl rfl (pc' := 1) ?_
  refine t_getI rfl hT rfl rfl (pc' := 4) rfl ?_
  refine g_iconst rfl rfl rfl (pc' := 7) ?_
  refine g_ic_ge rfl (pc' := 10) (pt := 21) rfl rfl ⟨fun hc => ?_, fun hc => ?_⟩
  · have H := H.1 hc
    exact g_weak (show gm_Lle [some _] _ from ⟨rfl, trivial⟩) H
  · have H := H.2 hc
    refine g_aload (r := some _) rfl rfl rfl (pc' := 11) ?_
    refine t_get (o := 114) rfl hT rfl rfl rfl (pc' := 14) rfl ?_
    refine g_aload (r := some _) rfl rfl rfl (pc' := 15) ?_
    refine t_getI rfl hT rfl rfl (pc' := 18) rfl ?_
    refine g_iload rfl rfl rfl (pc' := 19) ?_
    refine g_i2b rfl rfl (pc' := 20) ?_
    obtain ⟨n1, hn1, H⟩ := H
    refine t_bastore hT (o := 114) (l := 6400) rfl rfl rfl hn1  (pc' := 21) rfl (fun hT => ?_)
    have H := H _ rfl
    exact g_weak (show gm_Lle [some _] _ from ⟨rfl, trivial⟩) H
theorem w_146_21 {m : Nat}  {h : hh_T} {Q : Option Value ⊕ Nat → hh_T → Prop} (hT : tw_ok h m) (H : ∀ h1, h1 = hh_wi h m 146 ((hh_i h m 146) + (Int32.ofNat 1)) → (Q (.inl none) h1)) : gm_G 146 21 [some (.ref m)] [] h Q := by
  refine g_aload (r := some _) rfl rfl rfl (pc' := 22) ?_
  refine g_dup_a (r := some _) rfl rfl (pc' := 23) ?_
  refine t_getI rfl hT rfl rfl (pc' := 26) rfl ?_
  refine g_iconst rfl rfl rfl (pc' := 27) ?_
  refine g_iadd rfl rfl (pc' := 28) ?_
  refine t_putI rfl hT rfl rfl  (pc' := 31) rfl (fun hT => ?_)
  have H := H _ rfl
  exact g_return rfl H
theorem w_147_0 {m : Nat} {x1 : Int32} {h : hh_T} {Q : Option Value ⊕ Nat → hh_T → Prop} (hT : tw_ok h m) (H : gm_G 147 4 [some (.ref m), some (.int x1), some (.int (Int32.ofNat 0)), some (.int (Int32.ofNat 0))] [] h Q) : gm_G 147 0 [some (.ref m), some (.int x1)] [] h Q := by
  refine g_iconst rfl rfl rfl (pc' := 1) ?_
  refine g_istore rfl rfl rfl (pc' := 2) ?_
  refine g_iconst rfl rfl rfl (pc' := 3) ?_
  refine g_istore rfl rfl rfl (pc' := 4) ?_
  exact g_weak (show gm_Lle [some _, some _, some _, some _] _ from ⟨rfl, ⟨rfl, ⟨rfl, ⟨rfl, trivial⟩⟩⟩⟩) H
theorem w_147_4 {m : Nat} {x1 : Int32} {x2 : Int32} {x3 : Int32} {h : hh_T} {Q : Option Value ⊕ Nat → hh_T → Prop} (hT : tw_ok h m) (H : (¬ x3 < (Int32.ofNat 8) → (∀ h1, h1 = hh_wi h m 138 (Int32.ofNat 0) → (gm_G 147 28 [some (.ref m), some (.int x1), some (.int x2)] [] h1 Q))) ∧ (x3 < (Int32.ofNat 8) → (∃ n2, gm_ix x3 n2 8 ∧ (∀ h3, h3 = hh_wi h (m + 109) n2 (Int32.ofNat 0) → (gm_G 147 4 [some (.ref m), some (.int x1), some (.int x2), some (.int (x3 + (Int32.ofNat 1)))] [] h3 Q))))) : gm_G 147 4 [some (.ref m), some (.int x1), some (.int x2), some (.int x3)] [] h Q := by
  refine g_iload rfl rfl rfl (pc' := 5) ?_
  refine g_iconst rfl rfl rfl (pc' := 7) ?_
  refine g_ic_ge rfl (pc' := 10) (pt := 23) rfl rfl ⟨fun hc => ?_, fun hc => ?_⟩
  · have H := H.1 hc
    refine g_aload (r := some _) rfl rfl rfl (pc' := 24) ?_
    refine g_iconst rfl rfl rfl (pc' := 25) ?_
    refine t_putI rfl hT rfl rfl  (pc' := 28) rfl (fun hT => ?_)
    have H := H _ rfl
    exact g_weak (show gm_Lle [some _, some _, some _] _ from ⟨rfl, ⟨rfl, ⟨rfl, trivial⟩⟩⟩) H
  · have H := H.2 hc
    refine g_aload (r := some _) rfl rfl rfl (pc' := 11) ?_
    refine t_get (o := 109) rfl hT rfl rfl rfl (pc' := 14) rfl ?_
    refine g_iload rfl rfl rfl (pc' := 15) ?_
    refine g_iconst rfl rfl rfl (pc' := 16) ?_
    obtain ⟨n2, hn2, H⟩ := H
    refine t_zastore hT (o := 109) (l := 8) rfl rfl rfl hn2 (by decide) (pc' := 17) rfl (fun hT => ?_)
    have H := H _ rfl
    refine g_iinc (c := (Int32.ofNat 1)) rfl rfl rfl rfl rfl (pc' := 20) ?_
    refine g_goto rfl (pc' := 4) rfl ?_
    exact g_weak (show gm_Lle [some _, some _, some _, some _] _ from ⟨rfl, ⟨rfl, ⟨rfl, ⟨rfl, trivial⟩⟩⟩⟩) H
theorem w_147_28 {m : Nat} {x1 : Int32} {x2 : Int32} {h : hh_T} {Q : Option Value ⊕ Nat → hh_T → Prop} (hT : tw_ok h m) (H : (¬ x2 < x1 → (gm_G 147 43 [some (.ref m), some (.int x1), some (.int x2)] [.int (Int32.ofNat 0)] h Q)) ∧ (x2 < x1 → (∃ n1, gm_ix x2 n1 320 ∧ (gm_G 147 43 [some (.ref m), some (.int x1), some (.int x2)] [.int (hh_i h (m + 1) n1)] h Q)))) : gm_G 147 28 [some (.ref m), some (.int x1), some (.int x2)] [] h Q := by
  refine g_iload rfl rfl rfl (pc' := 29) ?_
  refine g_iload rfl rfl rfl (pc' := 30) ?_
  refine g_ic_ge rfl (pc' := 33) (pt := 42) rfl rfl ⟨fun hc => ?_, fun hc => ?_⟩
  · have H := H.1 hc
    refine g_iconst rfl rfl rfl (pc' := 43) ?_
    exact g_weak (show gm_Lle [some _, some _, some _] _ from ⟨rfl, ⟨rfl, ⟨rfl, trivial⟩⟩⟩) H
  · have H := H.2 hc
    refine g_aload (r := some _) rfl rfl rfl (pc' := 34) ?_
    refine t_get (o := 1) rfl hT rfl rfl rfl (pc' := 37) rfl ?_
    refine g_iload rfl rfl rfl (pc' := 38) ?_
    obtain ⟨n1, hn1, H⟩ := H
    refine t_baload hT (o := 1) (l := 320) rfl rfl rfl hn1 (pc' := 39) rfl ?_
    refine g_goto rfl (pc' := 43) rfl ?_
    exact g_weak (show gm_Lle [some _, some _, some _] _ from ⟨rfl, ⟨rfl, ⟨rfl, trivial⟩⟩⟩) H
theorem w_147_43 {m : Nat} {x1 : Int32} {x2 : Int32} {y0 : Int32} {h : hh_T} {Q : Option Value ⊕ Nat → hh_T → Prop} (hT : tw_ok h m) (H : (¬ x2 < x1 → (gm_G 147 73 [none, none, some (.int x2)] [] h Q)) ∧ (x2 < x1 → ((y0 = (Int32.ofNat 112) → (gm_G 147 75 [some (.ref m), some (.int x1), some (.int x2), some (.int y0)] [] h Q)) ∧ (¬ y0 = (Int32.ofNat 112) → ((y0 = (Int32.ofNat 109) → (gm_G 147 75 [some (.ref m), some (.int x1), some (.int x2), some (.int y0)] [] h Q)) ∧ (¬ y0 = (Int32.ofNat 109) → ((y0 < (Int32.ofNat 120) → (gm_G 147 73 [none, none, some (.int x2)] [] h Q)) ∧ (¬ y0 < (Int32.ofNat 120) → ((¬ (Int32.ofNat 122) < y0 → (gm_G 147 75 [some (.ref m), some (.int x1), some (.int x2), some (.int y0)] [] h Q)) ∧ ((Int32.ofNat 122) < y0 → (gm_G 147 73 [none, none, some (.int x2)] [] h Q))))))))))) : gm_G 147 43 [some (.ref m), some (.int x1), some (.int x2)] [.int y0] h Q := by
  refine g_istore rfl rfl rfl (pc' := 44) ?_
  refine g_iload rfl rfl rfl (pc' := 45) ?_
  refine g_iload rfl rfl rfl (pc' := 46) ?_
  refine g_ic_ge rfl (pc' := 49) (pt := 73) rfl rfl ⟨fun hc => ?_, fun hc => ?_⟩
  · have H := H.1 hc
    exact g_weak (show gm_Lle [none, none, some _] _ from ⟨rfl, trivial⟩) H
  · have H := H.2 hc
    refine g_iload rfl rfl rfl (pc' := 50) ?_
    refine g_iconst rfl rfl rfl (pc' := 52) ?_
    refine g_ic_eq rfl (pc' := 55) (pt := 75) rfl rfl ⟨fun hc => ?_, fun hc => ?_⟩
    · have H := H.1 hc
      exact g_weak (show gm_Lle [some _, some _, some _, some _] _ from ⟨rfl, ⟨rfl, ⟨rfl, ⟨rfl, trivial⟩⟩⟩⟩) H
    · have H := H.2 hc
      refine g_iload rfl rfl rfl (pc' := 56) ?_
      refine g_iconst rfl rfl rfl (pc' := 58) ?_
      refine g_ic_eq rfl (pc' := 61) (pt := 75) rfl rfl ⟨fun hc => ?_, fun hc => ?_⟩
      · have H := H.1 hc
        exact g_weak (show gm_Lle [some _, some _, some _, some _] _ from ⟨rfl, ⟨rfl, ⟨rfl, ⟨rfl, trivial⟩⟩⟩⟩) H
      · have H := H.2 hc
        refine g_iload rfl rfl rfl (pc' := 62) ?_
        refine g_iconst rfl rfl rfl (pc' := 64) ?_
        refine g_ic_lt rfl (pc' := 67) (pt := 73) rfl rfl ⟨fun hc => ?_, fun hc => ?_⟩
        · have H := H.1 hc
          exact g_weak (show gm_Lle [none, none, some _] _ from ⟨rfl, trivial⟩) H
        · have H := H.2 hc
          refine g_iload rfl rfl rfl (pc' := 68) ?_
          refine g_iconst rfl rfl rfl (pc' := 70) ?_
          refine g_ic_le rfl (pc' := 73) (pt := 75) rfl rfl ⟨fun hc => ?_, fun hc => ?_⟩
          · have H := H.1 hc
            exact g_weak (show gm_Lle [some _, some _, some _, some _] _ from ⟨rfl, ⟨rfl, ⟨rfl, ⟨rfl, trivial⟩⟩⟩⟩) H
          · have H := H.2 hc
            exact g_weak (show gm_Lle [none, none, some _] _ from ⟨rfl, trivial⟩) H
theorem w_147_73 {m : Nat} {x2 : Int32} {h : hh_T} {Q : Option Value ⊕ Nat → hh_T → Prop} (hT : tw_ok h m) (H : Q (.inl (some (.int x2))) h) : gm_G 147 73 [none, none, some (.int x2)] [] h Q := by
  refine g_iload rfl rfl rfl (pc' := 74) ?_
  exact g_ireturn rfl (Or.inl rfl) H
theorem w_147_75 {m : Nat} {x1 : Int32} {x2 : Int32} {x3 : Int32} {h : hh_T} {Q : Option Value ⊕ Nat → hh_T → Prop} (hT : tw_ok h m) (H : (¬ x3 = (Int32.ofNat 112) → ((¬ x3 = (Int32.ofNat 109) → (gm_G 147 108 [some (.ref m), some (.int x1), some (.int x2), some (.int x3), some (.int (hh_i h m 138))] [.int (Int32.ofNat 2), .int (hh_i h m 138), .ref (m + 105)] h Q)) ∧ (x3 = (Int32.ofNat 109) → (gm_G 147 108 [some (.ref m), some (.int x1), some (.int x2), some (.int x3), some (.int (hh_i h m 138))] [.int (Int32.ofNat 1), .int (hh_i h m 138), .ref (m + 105)] h Q)))) ∧ (x3 = (Int32.ofNat 112) → (gm_G 147 108 [some (.ref m), some (.int x1), some (.int x2), some (.int x3), some (.int (hh_i h m 138))] [.int (Int32.ofNat 0), .int (hh_i h m 138), .ref (m + 105)] h Q))) : gm_G 147 75 [some (.ref m), some (.int x1), some (.int x2), some (.int x3)] [] h Q := by
  refine g_aload (r := some _) rfl rfl rfl (pc' := 76) ?_
  refine t_getI rfl hT rfl rfl (pc' := 79) rfl ?_
  refine g_istore rfl rfl rfl (pc' := 81) ?_
  refine g_aload (r := some _) rfl rfl rfl (pc' := 82) ?_
  refine t_get (o := 105) rfl hT rfl rfl rfl (pc' := 85) rfl ?_
  refine g_iload rfl rfl rfl (pc' := 87) ?_
  refine g_iload rfl rfl rfl (pc' := 88) ?_
  refine g_iconst rfl rfl rfl (pc' := 90) ?_
  refine g_ic_ne rfl (pc' := 93) (pt := 97) rfl rfl ⟨fun hc => ?_, fun hc => ?_⟩
  · have H := H.1 hc
    refine g_iload rfl rfl rfl (pc' := 98) ?_
    refine g_iconst rfl rfl rfl (pc' := 100) ?_
    refine g_ic_ne rfl (pc' := 103) (pt := 107) rfl rfl ⟨fun hc => ?_, fun hc => ?_⟩
    · have H := H.1 hc
      refine g_iconst rfl rfl rfl (pc' := 108) ?_
      exact g_weak (show gm_Lle [some _, some _, some _, some _, some _] _ from ⟨rfl, ⟨rfl, ⟨rfl, ⟨rfl, ⟨rfl, trivial⟩⟩⟩⟩⟩) H
    · have H := H.2 hc
      refine g_iconst rfl rfl rfl (pc' := 104) ?_
      refine g_goto rfl (pc' := 108) rfl ?_
      exact g_weak (show gm_Lle [some _, some _, some _, some _, some _] _ from ⟨rfl, ⟨rfl, ⟨rfl, ⟨rfl, ⟨rfl, trivial⟩⟩⟩⟩⟩) H
  · have H := H.2 hc
    refine g_iconst rfl rfl rfl (pc' := 94) ?_
    refine g_goto rfl (pc' := 108) rfl ?_
    exact g_weak (show gm_Lle [some _, some _, some _, some _, some _] _ from ⟨rfl, ⟨rfl, ⟨rfl, ⟨rfl, ⟨rfl, trivial⟩⟩⟩⟩⟩) H
theorem w_147_108 {m : Nat} {x1 : Int32} {x2 : Int32} {x3 : Int32} {x4 : Int32} {y0 : Int32} {y1 : Int32} {h : hh_T} {Q : Option Value ⊕ Nat → hh_T → Prop} (hT : tw_ok h m) (H : ∃ n1, gm_ix y1 n1 3 ∧ (∀ h2, h2 = hh_wi h (m + 105) n1 y0 → ((x3 < (Int32.ofNat 120) → (gm_G 147 129 [some (.ref m), some (.int x1), some (.int x2), some (.int x3), some (.int x4)] [.int (Int32.ofNat 0), .int x4, .ref (m + 106)] h2 Q)) ∧ (¬ x3 < (Int32.ofNat 120) → (gm_G 147 129 [some (.ref m), some (.int x1), some (.int x2), some (.int x3), some (.int x4)] [.int (x3 - (Int32.ofNat 119)), .int x4, .ref (m + 106)] h2 Q))))) : gm_G 147 108 [some (.ref m), some (.int x1), some (.int x2), some (.int x3), some (.int x4)] [.int y0, .int y1, .ref (m + 105)] h Q := by
  obtain ⟨n1, hn1, H⟩ := H
  refine t_iastore hT (o := 105) (l := 3) rfl rfl rfl hn1  (pc' := 109) rfl (fun hT => ?_)
  have H := H _ rfl
  refine g_aload (r := some _) rfl rfl rfl (pc' := 110) ?_
  refine t_get (o := 106) rfl hT rfl rfl rfl (pc' := 113) rfl ?_
  refine g_iload rfl rfl rfl (pc' := 115) ?_
  refine g_iload rfl rfl rfl (pc' := 116) ?_
  refine g_iconst rfl rfl rfl (pc' := 118) ?_
  refine g_ic_lt rfl (pc' := 121) (pt := 128) rfl rfl ⟨fun hc => ?_, fun hc => ?_⟩
  · have H := H.1 hc
    refine g_iconst rfl rfl rfl (pc' := 129) ?_
    exact g_weak (show gm_Lle [some _, some _, some _, some _, some _] _ from ⟨rfl, ⟨rfl, ⟨rfl, ⟨rfl, ⟨rfl, trivial⟩⟩⟩⟩⟩) H
  · have H := H.2 hc
    refine g_iload rfl rfl rfl (pc' := 122) ?_
    refine g_iconst rfl rfl rfl (pc' := 124) ?_
    refine g_isub rfl rfl (pc' := 125) ?_
    refine g_goto rfl (pc' := 129) rfl ?_
    exact g_weak (show gm_Lle [some _, some _, some _, some _, some _] _ from ⟨rfl, ⟨rfl, ⟨rfl, ⟨rfl, ⟨rfl, trivial⟩⟩⟩⟩⟩) H
theorem w_147_129 {m : Nat} {x1 : Int32} {x2 : Int32} {x3 : Int32} {x4 : Int32} {y0 : Int32} {y1 : Int32} {h : hh_T} {Q : Option Value ⊕ Nat → hh_T → Prop} (hT : tw_ok h m) (H : ∃ n1, gm_ix y1 n1 3 ∧ (∀ h2, h2 = hh_wi h (m + 106) n1 y0 → (∃ n3, gm_ix x4 n3 3 ∧ (∀ h4, h4 = hh_wi h2 (m + 107) n3 (Int32.ofNat 0) → ((¬ x3 = (Int32.ofNat 112) → ((¬ x3 = (Int32.ofNat 109) → (∃ n5, gm_ix x4 n5 3 ∧ (gm_G 147 167 [some (.ref m), some (.int x1), some (.int x2), some (.int x3), some (.int x4)] [.int ((hh_i h4 (m + 106) n5) + (Int32.ofNat 1))] h4 Q))) ∧ (x3 = (Int32.ofNat 109) → (gm_G 147 167 [some (.ref m), some (.int x1), some (.int x2), some (.int x3), some (.int x4)] [.int (Int32.ofNat 2)] h4 Q)))) ∧ (x3 = (Int32.ofNat 112) → (gm_G 147 167 [some (.ref m), some (.int x1), some (.int x2), some (.int x3), some (.int x4)] [.int (Int32.ofNat 1)] h4 Q))))))) : gm_G 147 129 [some (.ref m), some (.int x1), some (.int x2), some (.int x3), some (.int x4)] [.int y0, .int y1, .ref (m + 106)] h Q := by
  obtain ⟨n1, hn1, H⟩ := H
  refine t_iastore hT (o := 106) (l := 3) rfl rfl rfl hn1  (pc' := 130) rfl (fun hT => ?_)
  have H := H _ rfl
  refine g_aload (r := some _) rfl rfl rfl (pc' := 131) ?_
  refine t_get (o := 107) rfl hT rfl rfl rfl (pc' := 134) rfl ?_
  refine g_iload rfl rfl rfl (pc' := 136) ?_
  refine g_iconst rfl rfl rfl (pc' := 137) ?_
  obtain ⟨n3, hn3, H⟩ := H
  refine t_iastore hT (o := 107) (l := 3) rfl rfl rfl hn3  (pc' := 138) rfl (fun hT => ?_)
  have H := H _ rfl
  refine g_iload rfl rfl rfl (pc' := 139) ?_
  refine g_iconst rfl rfl rfl (pc' := 141) ?_
  refine g_ic_ne rfl (pc' := 144) (pt := 148) rfl rfl ⟨fun hc => ?_, fun hc => ?_⟩
  · have H := H.1 hc
    refine g_iload rfl rfl rfl (pc' := 149) ?_
    refine g_iconst rfl rfl rfl (pc' := 151) ?_
    refine g_ic_ne rfl (pc' := 154) (pt := 158) rfl rfl ⟨fun hc => ?_, fun hc => ?_⟩
    · have H := H.1 hc
      refine g_aload (r := some _) rfl rfl rfl (pc' := 159) ?_
      refine t_get (o := 106) rfl hT rfl rfl rfl (pc' := 162) rfl ?_
      refine g_iload rfl rfl rfl (pc' := 164) ?_
      obtain ⟨n5, hn5, H⟩ := H
      refine t_iaload hT (o := 106) (l := 3) rfl rfl rfl hn5 (pc' := 165) rfl ?_
      refine g_iconst rfl rfl rfl (pc' := 166) ?_
      refine g_iadd rfl rfl (pc' := 167) ?_
      exact g_weak (show gm_Lle [some _, some _, some _, some _, some _] _ from ⟨rfl, ⟨rfl, ⟨rfl, ⟨rfl, ⟨rfl, trivial⟩⟩⟩⟩⟩) H
    · have H := H.2 hc
      refine g_iconst rfl rfl rfl (pc' := 155) ?_
      refine g_goto rfl (pc' := 167) rfl ?_
      exact g_weak (show gm_Lle [some _, some _, some _, some _, some _] _ from ⟨rfl, ⟨rfl, ⟨rfl, ⟨rfl, ⟨rfl, trivial⟩⟩⟩⟩⟩) H
  · have H := H.2 hc
    refine g_iconst rfl rfl rfl (pc' := 145) ?_
    refine g_goto rfl (pc' := 167) rfl ?_
    exact g_weak (show gm_Lle [some _, some _, some _, some _, some _] _ from ⟨rfl, ⟨rfl, ⟨rfl, ⟨rfl, ⟨rfl, trivial⟩⟩⟩⟩⟩) H
theorem w_147_167 {m : Nat} {x1 : Int32} {x2 : Int32} {x3 : Int32} {x4 : Int32} {y0 : Int32} {h : hh_T} {Q : Option Value ⊕ Nat → hh_T → Prop} (hT : tw_ok h m) (H : (¬ x3 = (Int32.ofNat 112) → ((¬ x3 = (Int32.ofNat 109) → (gm_G 147 191 [some (.ref m), some (.int x1), some (.int x2), none, some (.int x4), some (.int y0)] [.int (Int32.ofNat 6)] h Q)) ∧ (x3 = (Int32.ofNat 109) → (gm_G 147 191 [some (.ref m), some (.int x1), some (.int x2), none, some (.int x4), some (.int y0)] [.int (Int32.ofNat 3)] h Q)))) ∧ (x3 = (Int32.ofNat 112) → (gm_G 147 191 [some (.ref m), some (.int x1), some (.int x2), none, some (.int x4), some (.int y0)] [.int (Int32.ofNat 1)] h Q))) : gm_G 147 167 [some (.ref m), some (.int x1), some (.int x2), some (.int x3), some (.int x4)] [.int y0] h Q := by
  refine g_istore rfl rfl rfl (pc' := 169) ?_
  refine g_iload rfl rfl rfl (pc' := 170) ?_
  refine g_iconst rfl rfl rfl (pc' := 172) ?_
  refine g_ic_ne rfl (pc' := 175) (pt := 179) rfl rfl ⟨fun hc => ?_, fun hc => ?_⟩
  · have H := H.1 hc
    refine g_iload rfl rfl rfl (pc' := 180) ?_
    refine g_iconst rfl rfl rfl (pc' := 182) ?_
    refine g_ic_ne rfl (pc' := 185) (pt := 189) rfl rfl ⟨fun hc => ?_, fun hc => ?_⟩
    · have H := H.1 hc
      refine g_iconst rfl rfl rfl (pc' := 191) ?_
      exact g_weak (show gm_Lle [some _, some _, some _, none, some _, some _] _ from ⟨rfl, ⟨rfl, ⟨rfl, ⟨rfl, ⟨rfl, trivial⟩⟩⟩⟩⟩) H
    · have H := H.2 hc
      refine g_iconst rfl rfl rfl (pc' := 186) ?_
      refine g_goto rfl (pc' := 191) rfl ?_
      exact g_weak (show gm_Lle [some _, some _, some _, none, some _, some _] _ from ⟨rfl, ⟨rfl, ⟨rfl, ⟨rfl, ⟨rfl, trivial⟩⟩⟩⟩⟩) H
  · have H := H.2 hc
    refine g_iconst rfl rfl rfl (pc' := 176) ?_
    refine g_goto rfl (pc' := 191) rfl ?_
    exact g_weak (show gm_Lle [some _, some _, some _, none, some _, some _] _ from ⟨rfl, ⟨rfl, ⟨rfl, ⟨rfl, ⟨rfl, trivial⟩⟩⟩⟩⟩) H
theorem w_147_191 {m : Nat} {x1 : Int32} {x2 : Int32} {x4 : Int32} {x5 : Int32} {y0 : Int32} {h : hh_T} {Q : Option Value ⊕ Nat → hh_T → Prop} (hT : tw_ok h m) (H : gm_G 147 196 [some (.ref m), some (.int x1), some (.int (x2 + (Int32.ofNat 1))), none, some (.int x4), some (.int x5), some (.int y0)] [] h Q) : gm_G 147 191 [some (.ref m), some (.int x1), some (.int x2), none, some (.int x4), some (.int x5)] [.int y0] h Q := by
  refine g_istore rfl rfl rfl (pc' := 193) ?_
  refine g_iinc (c := (Int32.ofNat 1)) rfl rfl rfl rfl rfl (pc' := 196) ?_
  exact g_weak (show gm_Lle [some _, some _, some _, none, some _, some _, some _] _ from ⟨rfl, ⟨rfl, ⟨rfl, ⟨rfl, ⟨rfl, ⟨rfl, trivial⟩⟩⟩⟩⟩⟩) H
theorem w_147_196 {m : Nat} {x1 : Int32} {x2 : Int32} {x4 : Int32} {x5 : Int32} {x6 : Int32} {h : hh_T} {Q : Option Value ⊕ Nat → hh_T → Prop} (hT : tw_ok h m) (H : (¬ x2 < x1 → (gm_G 147 322 [some (.ref m), some (.int x1), some (.int x2), none, some (.int x4), some (.int x5)] [] h Q)) ∧ (x2 < x1 → (∃ n1, gm_ix x4 n1 3 ∧ ((¬ (hh_i h (m + 107) n1) < x6 → (gm_G 147 322 [some (.ref m), some (.int x1), some (.int x2), none, some (.int x4), some (.int x5)] [] h Q)) ∧ ((hh_i h (m + 107) n1) < x6 → (∃ n2, gm_ix x2 n2 320 ∧ (((hh_i h (m + 1) n2) < (Int32.ofNat 48) → (gm_G 147 322 [some (.ref m), some (.int x1), some (.int x2), none, some (.int x4), some (.int x5)] [] h Q)) ∧ (¬ (hh_i h (m + 1) n2) < (Int32.ofNat 48) → (∃ n3, gm_ix x2 n3 320 ∧ (((Int32.ofNat 55) < (hh_i h (m + 1) n3) → (gm_G 147 322 [some (.ref m), some (.int x1), some (.int x2), none, some (.int x4), some (.int x5)] [] h Q)) ∧ (¬ (Int32.ofNat 55) < (hh_i h (m + 1) n3) → (∃ n4, gm_ix x2 n4 320 ∧ ((¬ ((hh_i h (m + 1) n4) - (Int32.ofNat 48)) < (hh_i h m 7) → (gm_G 147 275 [none, none, some (.int x2)] [] h Q)) ∧ (((hh_i h (m + 1) n4) - (Int32.ofNat 48)) < (hh_i h m 7) → (∃ n5, gm_ix ((hh_i h (m + 1) n4) - (Int32.ofNat 48)) n5 8 ∧ ((¬ (hh_i h (m + 7) n5) = Int32.ofNat 0 → (gm_G 147 275 [none, none, some (.int x2)] [] h Q)) ∧ ((hh_i h (m + 7) n5) = Int32.ofNat 0 → (∃ n6, gm_ix ((hh_i h (m + 1) n4) - (Int32.ofNat 48)) n6 8 ∧ (((hh_i h (m + 109) n6) = Int32.ofNat 0 → (∃ n7, gm_ix ((hh_i h (m + 1) n4) - (Int32.ofNat 48)) n7 8 ∧ (∀ h8, h8 = hh_wi h (m + 109) n7 (Int32.ofNat 1) → (∃ n9, gm_ix x4 n9 3 ∧ (∃ n10, gm_ix (((Int32.ofNat 6) * x4) + (hh_i h8 (m + 107) n9)) n10 18 ∧ (∀ h11, h11 = hh_wi h8 (m + 108) n10 ((hh_i h (m + 1) n4) - (Int32.ofNat 48)) → (∃ n12, gm_ix x4 n12 3 ∧ (∃ n13, gm_ix x4 n13 3 ∧ (∀ h14, h14 = hh_wi h11 (m + 107) n13 ((hh_i h11 (m + 107) n12) + (Int32.ofNat 1)) → (gm_G 147 196 [some (.ref m), some (.int x1), some (.int (x2 + (Int32.ofNat 1))), none, some (.int x4), some (.int x5), some (.int x6)] [] h14 Q)))))))))) ∧ (¬ (hh_i h (m + 109) n6) = Int32.ofNat 0 → (gm_G 147 275 [none, none, some (.int x2)] [] h Q))))))))))))))))))))) : gm_G 147 196 [some (.ref m), some (.int x1), some (.int x2), none, some (.int x4), some (.int x5), some (.int x6)] [] h Q := by
  refine g_iload rfl rfl rfl (pc' := 197) ?_
  refine g_iload rfl rfl rfl (pc' := 198) ?_
  refine g_ic_ge rfl (pc' := 201) (pt := 322) rfl rfl ⟨fun hc => ?_, fun hc => ?_⟩
  · have H := H.1 hc
    exact g_weak (show gm_Lle [some _, some _, some _, none, some _, some _] _ from ⟨rfl, ⟨rfl, ⟨rfl, ⟨rfl, ⟨rfl, trivial⟩⟩⟩⟩⟩) H
  · have H := H.2 hc
    refine g_aload (r := some _) rfl rfl rfl (pc' := 202) ?_
    refine t_get (o := 107) rfl hT rfl rfl rfl (pc' := 205) rfl ?_
    refine g_iload rfl rfl rfl (pc' := 207) ?_
    obtain ⟨n1, hn1, H⟩ := H
    refine t_iaload hT (o := 107) (l := 3) rfl rfl rfl hn1 (pc' := 208) rfl ?_
    refine g_iload rfl rfl rfl (pc' := 210) ?_
    refine g_ic_ge rfl (pc' := 213) (pt := 322) rfl rfl ⟨fun hc => ?_, fun hc => ?_⟩
    · have H := H.1 hc
      exact g_weak (show gm_Lle [some _, some _, some _, none, some _, some _] _ from ⟨rfl, ⟨rfl, ⟨rfl, ⟨rfl, ⟨rfl, trivial⟩⟩⟩⟩⟩) H
    · have H := H.2 hc
      refine g_aload (r := some _) rfl rfl rfl (pc' := 214) ?_
      refine t_get (o := 1) rfl hT rfl rfl rfl (pc' := 217) rfl ?_
      refine g_iload rfl rfl rfl (pc' := 218) ?_
      obtain ⟨n2, hn2, H⟩ := H
      refine t_baload hT (o := 1) (l := 320) rfl rfl rfl hn2 (pc' := 219) rfl ?_
      refine g_iconst rfl rfl rfl (pc' := 221) ?_
      refine g_ic_lt rfl (pc' := 224) (pt := 322) rfl rfl ⟨fun hc => ?_, fun hc => ?_⟩
      · have H := H.1 hc
        exact g_weak (show gm_Lle [some _, some _, some _, none, some _, some _] _ from ⟨rfl, ⟨rfl, ⟨rfl, ⟨rfl, ⟨rfl, trivial⟩⟩⟩⟩⟩) H
      · have H := H.2 hc
        refine g_aload (r := some _) rfl rfl rfl (pc' := 225) ?_
        refine t_get (o := 1) rfl hT rfl rfl rfl (pc' := 228) rfl ?_
        refine g_iload rfl rfl rfl (pc' := 229) ?_
        obtain ⟨n3, hn3, H⟩ := H
        refine t_baload hT (o := 1) (l := 320) rfl rfl rfl hn3 (pc' := 230) rfl ?_
        refine g_iconst rfl rfl rfl (pc' := 232) ?_
        refine g_ic_gt rfl (pc' := 235) (pt := 322) rfl rfl ⟨fun hc => ?_, fun hc => ?_⟩
        · have H := H.1 hc
          exact g_weak (show gm_Lle [some _, some _, some _, none, some _, some _] _ from ⟨rfl, ⟨rfl, ⟨rfl, ⟨rfl, ⟨rfl, trivial⟩⟩⟩⟩⟩) H
        · have H := H.2 hc
          refine g_aload (r := some _) rfl rfl rfl (pc' := 236) ?_
          refine t_get (o := 1) rfl hT rfl rfl rfl (pc' := 239) rfl ?_
          refine g_iload rfl rfl rfl (pc' := 240) ?_
          obtain ⟨n4, hn4, H⟩ := H
          refine t_baload hT (o := 1) (l := 320) rfl rfl rfl hn4 (pc' := 241) rfl ?_
          refine g_iconst rfl rfl rfl (pc' := 243) ?_
          refine g_isub rfl rfl (pc' := 244) ?_
          refine g_istore rfl rfl rfl (pc' := 246) ?_
          refine g_iload rfl rfl rfl (pc' := 248) ?_
          refine g_aload (r := some _) rfl rfl rfl (pc' := 249) ?_
          refine t_getI rfl hT rfl rfl (pc' := 252) rfl ?_
          refine g_ic_ge rfl (pc' := 255) (pt := 275) rfl rfl ⟨fun hc => ?_, fun hc => ?_⟩
          · have H := H.1 hc
            exact g_weak (show gm_Lle [none, none, some _] _ from ⟨rfl, trivial⟩) H
          · have H := H.2 hc
            refine g_aload (r := some _) rfl rfl rfl (pc' := 256) ?_
            refine t_get (o := 7) rfl hT rfl rfl rfl (pc' := 259) rfl ?_
            refine g_iload rfl rfl rfl (pc' := 261) ?_
            obtain ⟨n5, hn5, H⟩ := H
            refine t_zaload hT (o := 7) (l := 8) rfl rfl rfl hn5 (pc' := 262) rfl ?_
            refine g_if_ne rfl (pc' := 265) (pt := 275) rfl rfl ⟨fun hc => ?_, fun hc => ?_⟩
            · have H := H.1 hc
              exact g_weak (show gm_Lle [none, none, some _] _ from ⟨rfl, trivial⟩) H
            · have H := H.2 hc
              refine g_aload (r := some _) rfl rfl rfl (pc' := 266) ?_
              refine t_get (o := 109) rfl hT rfl rfl rfl (pc' := 269) rfl ?_
              refine g_iload rfl rfl rfl (pc' := 271) ?_
              obtain ⟨n6, hn6, H⟩ := H
              refine t_zaload hT (o := 109) (l := 8) rfl rfl rfl hn6 (pc' := 272) rfl ?_
              refine g_if_eq rfl (pc' := 275) (pt := 277) rfl rfl ⟨fun hc => ?_, fun hc => ?_⟩
              · have H := H.1 hc
                refine g_aload (r := some _) rfl rfl rfl (pc' := 278) ?_
                refine t_get (o := 109) rfl hT rfl rfl rfl (pc' := 281) rfl ?_
                refine g_iload rfl rfl rfl (pc' := 283) ?_
                refine g_iconst rfl rfl rfl (pc' := 284) ?_
                obtain ⟨n7, hn7, H⟩ := H
                refine t_zastore hT (o := 109) (l := 8) rfl rfl rfl hn7 (by decide) (pc' := 285) rfl (fun hT => ?_)
                have H := H _ rfl
                refine g_aload (r := some _) rfl rfl rfl (pc' := 286) ?_
                refine t_get (o := 108) rfl hT rfl rfl rfl (pc' := 289) rfl ?_
                refine g_iconst rfl rfl rfl (pc' := 291) ?_
                refine g_iload rfl rfl rfl (pc' := 293) ?_
                refine g_imul rfl rfl (pc' := 294) ?_
                refine g_aload (r := some _) rfl rfl rfl (pc' := 295) ?_
                refine t_get (o := 107) rfl hT rfl rfl rfl (pc' := 298) rfl ?_
                refine g_iload rfl rfl rfl (pc' := 300) ?_
                obtain ⟨n9, hn9, H⟩ := H
                refine t_iaload hT (o := 107) (l := 3) rfl rfl rfl hn9 (pc' := 301) rfl ?_
                refine g_iadd rfl rfl (pc' := 302) ?_
                refine g_iload rfl rfl rfl (pc' := 304) ?_
                obtain ⟨n10, hn10, H⟩ := H
                refine t_iastore hT (o := 108) (l := 18) rfl rfl rfl hn10  (pc' := 305) rfl (fun hT => ?_)
                have H := H _ rfl
                refine g_aload (r := some _) rfl rfl rfl (pc' := 306) ?_
                refine t_get (o := 107) rfl hT rfl rfl rfl (pc' := 309) rfl ?_
                refine g_iload rfl rfl rfl (pc' := 311) ?_
                refine g_dup2_a rfl (pc' := 312) rfl ?_
                obtain ⟨n12, hn12, H⟩ := H
                refine t_iaload hT (o := 107) (l := 3) rfl rfl rfl hn12 (pc' := 313) rfl ?_
                refine g_iconst rfl rfl rfl (pc' := 314) ?_
                refine g_iadd rfl rfl (pc' := 315) ?_
                obtain ⟨n13, hn13, H⟩ := H
                refine t_iastore hT (o := 107) (l := 3) rfl rfl rfl hn13  (pc' := 316) rfl (fun hT => ?_)
                have H := H _ rfl
                refine g_iinc (c := (Int32.ofNat 1)) rfl rfl rfl rfl rfl (pc' := 319) ?_
                refine g_goto rfl (pc' := 196) rfl ?_
                exact g_weak (show gm_Lle [some _, some _, some _, none, some _, some _, some _] _ from ⟨rfl, ⟨rfl, ⟨rfl, ⟨rfl, ⟨rfl, ⟨rfl, trivial⟩⟩⟩⟩⟩⟩) H
              · have H := H.2 hc
                exact g_weak (show gm_Lle [none, none, some _] _ from ⟨rfl, trivial⟩) H
theorem w_147_275 {m : Nat} {x2 : Int32} {h : hh_T} {Q : Option Value ⊕ Nat → hh_T → Prop} (hT : tw_ok h m) (H : Q (.inl (some (.int x2))) h) : gm_G 147 275 [none, none, some (.int x2)] [] h Q := by
  refine g_iload rfl rfl rfl (pc' := 276) ?_
  exact g_ireturn rfl (Or.inl rfl) H
theorem w_147_322 {m : Nat} {x1 : Int32} {x2 : Int32} {x4 : Int32} {x5 : Int32} {h : hh_T} {Q : Option Value ⊕ Nat → hh_T → Prop} (hT : tw_ok h m) (H : ∃ n1, gm_ix x4 n1 3 ∧ ((¬ (hh_i h (m + 107) n1) < x5 → (∀ h2, h2 = hh_wi h m 138 ((hh_i h m 138) + (Int32.ofNat 1)) → ((¬ x2 = x1 → (∃ n3, gm_ix x2 n3 320 ∧ ((¬ (hh_i h2 (m + 1) n3) = (Int32.ofNat 32) → (gm_G 147 372 [none, none, some (.int x2)] [] h2 Q)) ∧ ((hh_i h2 (m + 1) n3) = (Int32.ofNat 32) → ((¬ (hh_i h2 m 138) = (Int32.ofNat 3) → (gm_G 147 28 [some (.ref m), some (.int x1), some (.int (x2 + (Int32.ofNat 1)))] [] h2 Q)) ∧ ((hh_i h2 m 138) = (Int32.ofNat 3) → (gm_G 147 372 [none, none, some (.int x2)] [] h2 Q))))))) ∧ (x2 = x1 → (Q (.inl (some (.int (Int32.ofInt (-1))))) h2))))) ∧ ((hh_i h (m + 107) n1) < x5 → (Q (.inl (some (.int x2))) h)))) : gm_G 147 322 [some (.ref m), some (.int x1), some (.int x2), none, some (.int x4), some (.int x5)] [] h Q := by
  refine g_aload (r := some _) rfl rfl rfl (pc' := 323) ?_
  refine t_get (o := 107) rfl hT rfl rfl rfl (pc' := 326) rfl ?_
  refine g_iload rfl rfl rfl (pc' := 328) ?_
  obtain ⟨n1, hn1, H⟩ := H
  refine t_iaload hT (o := 107) (l := 3) rfl rfl rfl hn1 (pc' := 329) rfl ?_
  refine g_iload rfl rfl rfl (pc' := 331) ?_
  refine g_ic_ge rfl (pc' := 334) (pt := 336) rfl rfl ⟨fun hc => ?_, fun hc => ?_⟩
  · have H := H.1 hc
    refine g_aload (r := some _) rfl rfl rfl (pc' := 337) ?_
    refine g_dup_a (r := some _) rfl rfl (pc' := 338) ?_
    refine t_getI rfl hT rfl rfl (pc' := 341) rfl ?_
    refine g_iconst rfl rfl rfl (pc' := 342) ?_
    refine g_iadd rfl rfl (pc' := 343) ?_
    refine t_putI rfl hT rfl rfl  (pc' := 346) rfl (fun hT => ?_)
    have H := H _ rfl
    refine g_iload rfl rfl rfl (pc' := 347) ?_
    refine g_iload rfl rfl rfl (pc' := 348) ?_
    refine g_ic_ne rfl (pc' := 351) (pt := 353) rfl rfl ⟨fun hc => ?_, fun hc => ?_⟩
    · have H := H.1 hc
      refine g_aload (r := some _) rfl rfl rfl (pc' := 354) ?_
      refine t_get (o := 1) rfl hT rfl rfl rfl (pc' := 357) rfl ?_
      refine g_iload rfl rfl rfl (pc' := 358) ?_
      obtain ⟨n3, hn3, H⟩ := H
      refine t_baload hT (o := 1) (l := 320) rfl rfl rfl hn3 (pc' := 359) rfl ?_
      refine g_iconst rfl rfl rfl (pc' := 361) ?_
      refine g_ic_ne rfl (pc' := 364) (pt := 372) rfl rfl ⟨fun hc => ?_, fun hc => ?_⟩
      · have H := H.1 hc
        exact g_weak (show gm_Lle [none, none, some _] _ from ⟨rfl, trivial⟩) H
      · have H := H.2 hc
        refine g_aload (r := some _) rfl rfl rfl (pc' := 365) ?_
        refine t_getI rfl hT rfl rfl (pc' := 368) rfl ?_
        refine g_iconst rfl rfl rfl (pc' := 369) ?_
        refine g_ic_ne rfl (pc' := 372) (pt := 374) rfl rfl ⟨fun hc => ?_, fun hc => ?_⟩
        · have H := H.1 hc
          refine g_iinc (c := (Int32.ofNat 1)) rfl rfl rfl rfl rfl (pc' := 377) ?_
          refine g_goto rfl (pc' := 28) rfl ?_
          exact g_weak (show gm_Lle [some _, some _, some _] _ from ⟨rfl, ⟨rfl, ⟨rfl, trivial⟩⟩⟩) H
        · have H := H.2 hc
          exact g_weak (show gm_Lle [none, none, some _] _ from ⟨rfl, trivial⟩) H
    · have H := H.2 hc
      refine g_iconst rfl rfl rfl (pc' := 352) ?_
      exact g_ireturn rfl (Or.inl rfl) H
  · have H := H.2 hc
    refine g_iload rfl rfl rfl (pc' := 335) ?_
    exact g_ireturn rfl (Or.inl rfl) H
theorem w_147_372 {m : Nat} {x2 : Int32} {h : hh_T} {Q : Option Value ⊕ Nat → hh_T → Prop} (hT : tw_ok h m) (H : Q (.inl (some (.int x2))) h) : gm_G 147 372 [none, none, some (.int x2)] [] h Q := by
  refine g_iload rfl rfl rfl (pc' := 373) ?_
  exact g_ireturn rfl (Or.inl rfl) H
theorem w_148_0 {m : Nat} {x1 : Int32} {x2 : Int32} {h : hh_T} {Q : Option Value ⊕ Nat → hh_T → Prop} (hT : tw_ok h m) (H : gm_G 148 8 [some (.ref m), some (.int x1), some (.int x2), some (.int (Int32.ofNat 0)), some (.int ((Int32.ofNat 8) * x1))] [] h Q) : gm_G 148 0 [some (.ref m), some (.int x1), some (.int x2)] [] h Q := by
  refine g_iconst rfl rfl rfl (pc' := 1) ?_
  refine g_istore rfl rfl rfl (pc' := 2) ?_
  refine g_iconst rfl rfl rfl (pc' := 4) ?_
  refine g_iload rfl rfl rfl (pc' := 5) ?_
  refine g_imul rfl rfl (pc' := 6) ?_
  refine g_istore rfl rfl rfl (pc' := 8) ?_
  exact g_weak (show gm_Lle [some _, some _, some _, some _, some _] _ from ⟨rfl, ⟨rfl, ⟨rfl, ⟨rfl, ⟨rfl, trivial⟩⟩⟩⟩⟩) H
theorem w_148_8 {m : Nat} {x1 : Int32} {x2 : Int32} {x3 : Int32} {x4 : Int32} {h : hh_T} {Q : Option Value ⊕ Nat → hh_T → Prop} (hT : tw_ok h m) (H : (¬ x4 < (((Int32.ofNat 8) * x1) + (Int32.ofNat 8)) → (gm_G 148 61 [some (.ref m), some (.int x1), some (.int x2), some (.int x3), some (.int ((Int32.ofNat 12) * x1))] [] h Q)) ∧ (x4 < (((Int32.ofNat 8) * x1) + (Int32.ofNat 8)) → (∃ n1, gm_ix x4 n1 32 ∧ (((hh_i h (m + 59) n1) < Int32.ofNat 0 → (gm_G 148 46 [some (.ref m), some (.int x1), some (.int x2), none, some (.int x4)] [.int x3] h Q)) ∧ (¬ (hh_i h (m + 59) n1) < Int32.ofNat 0 → (∃ n2, gm_ix x4 n2 32 ∧ ((¬ (hh_i h (m + 63) n2) = x2 → (gm_G 148 46 [some (.ref m), some (.int x1), some (.int x2), none, some (.int x4)] [.int x3] h Q)) ∧ ((hh_i h (m + 63) n2) = x2 → (gm_G 148 47 [some (.ref m), some (.int x1), some (.int x2), none, some (.int x4)] [.int (Int32.ofNat 1), .int x3] h Q))))))))) : gm_G 148 8 [some (.ref m), some (.int x1), some (.int x2), some (.int x3), some (.int x4)] [] h Q := by
  refine g_iload rfl rfl rfl (pc' := 10) ?_
  refine g_iconst rfl rfl rfl (pc' := 12) ?_
  refine g_iload rfl rfl rfl (pc' := 13) ?_
  refine g_imul rfl rfl (pc' := 14) ?_
  refine g_iconst rfl rfl rfl (pc' := 16) ?_
  refine g_iadd rfl rfl (pc' := 17) ?_
  refine g_ic_ge rfl (pc' := 20) (pt := 55) rfl rfl ⟨fun hc => ?_, fun hc => ?_⟩
  · have H := H.1 hc
    refine g_iconst rfl rfl rfl (pc' := 57) ?_
    refine g_iload rfl rfl rfl (pc' := 58) ?_
    refine g_imul rfl rfl (pc' := 59) ?_
    refine g_istore rfl rfl rfl (pc' := 61) ?_
    exact g_weak (show gm_Lle [some _, some _, some _, some _, some _] _ from ⟨rfl, ⟨rfl, ⟨rfl, ⟨rfl, ⟨rfl, trivial⟩⟩⟩⟩⟩) H
  · have H := H.2 hc
    refine g_iload rfl rfl rfl (pc' := 21) ?_
    refine g_aload (r := some _) rfl rfl rfl (pc' := 22) ?_
    refine t_get (o := 59) rfl hT rfl rfl rfl (pc' := 25) rfl ?_
    refine g_iload rfl rfl rfl (pc' := 27) ?_
    obtain ⟨n1, hn1, H⟩ := H
    refine t_iaload hT (o := 59) (l := 32) rfl rfl rfl hn1 (pc' := 28) rfl ?_
    refine g_if_lt rfl (pc' := 31) (pt := 46) rfl rfl ⟨fun hc => ?_, fun hc => ?_⟩
    · have H := H.1 hc
      exact g_weak (show gm_Lle [some _, some _, some _, none, some _] _ from ⟨rfl, ⟨rfl, ⟨rfl, ⟨rfl, trivial⟩⟩⟩⟩) H
    · have H := H.2 hc
      refine g_aload (r := some _) rfl rfl rfl (pc' := 32) ?_
      refine t_get (o := 63) rfl hT rfl rfl rfl (pc' := 35) rfl ?_
      refine g_iload rfl rfl rfl (pc' := 37) ?_
      obtain ⟨n2, hn2, H⟩ := H
      refine t_iaload hT (o := 63) (l := 32) rfl rfl rfl hn2 (pc' := 38) rfl ?_
      refine g_iload rfl rfl rfl (pc' := 39) ?_
      refine g_ic_ne rfl (pc' := 42) (pt := 46) rfl rfl ⟨fun hc => ?_, fun hc => ?_⟩
      · have H := H.1 hc
        exact g_weak (show gm_Lle [some _, some _, some _, none, some _] _ from ⟨rfl, ⟨rfl, ⟨rfl, ⟨rfl, trivial⟩⟩⟩⟩) H
      · have H := H.2 hc
        refine g_iconst rfl rfl rfl (pc' := 43) ?_
        refine g_goto rfl (pc' := 47) rfl ?_
        exact g_weak (show gm_Lle [some _, some _, some _, none, some _] _ from ⟨rfl, ⟨rfl, ⟨rfl, ⟨rfl, trivial⟩⟩⟩⟩) H
theorem w_148_46 {m : Nat} {x1 : Int32} {x2 : Int32} {x4 : Int32} {y0 : Int32} {h : hh_T} {Q : Option Value ⊕ Nat → hh_T → Prop} (hT : tw_ok h m) (H : gm_G 148 47 [some (.ref m), some (.int x1), some (.int x2), none, some (.int x4)] [.int (Int32.ofNat 0), .int y0] h Q) : gm_G 148 46 [some (.ref m), some (.int x1), some (.int x2), none, some (.int x4)] [.int y0] h Q := by
  refine g_iconst rfl rfl rfl (pc' := 47) ?_
  exact g_weak (show gm_Lle [some _, some _, some _, none, some _] _ from ⟨rfl, ⟨rfl, ⟨rfl, ⟨rfl, trivial⟩⟩⟩⟩) H
theorem w_148_47 {m : Nat} {x1 : Int32} {x2 : Int32} {x4 : Int32} {y0 : Int32} {y1 : Int32} {h : hh_T} {Q : Option Value ⊕ Nat → hh_T → Prop} (hT : tw_ok h m) (H : gm_G 148 8 [some (.ref m), some (.int x1), some (.int x2), some (.int (y1 + y0)), some (.int (x4 + (Int32.ofNat 1)))] [] h Q) : gm_G 148 47 [some (.ref m), some (.int x1), some (.int x2), none, some (.int x4)] [.int y0, .int y1] h Q := by
  refine g_iadd rfl rfl (pc' := 48) ?_
  refine g_istore rfl rfl rfl (pc' := 49) ?_
  refine g_iinc (c := (Int32.ofNat 1)) rfl rfl rfl rfl rfl (pc' := 52) ?_
  refine g_goto rfl (pc' := 8) rfl ?_
  exact g_weak (show gm_Lle [some _, some _, some _, some _, some _] _ from ⟨rfl, ⟨rfl, ⟨rfl, ⟨rfl, ⟨rfl, trivial⟩⟩⟩⟩⟩) H
theorem w_148_61 {m : Nat} {x1 : Int32} {x2 : Int32} {x3 : Int32} {x4 : Int32} {h : hh_T} {Q : Option Value ⊕ Nat → hh_T → Prop} (hT : tw_ok h m) (H : (¬ x4 < (((Int32.ofNat 12) * x1) + (Int32.ofNat 12)) → (Q (.inl (some (.int x3))) h)) ∧ (x4 < (((Int32.ofNat 12) * x1) + (Int32.ofNat 12)) → (∃ n1, gm_ix x4 n1 48 ∧ (((hh_i h (m + 69) n1) < Int32.ofNat 0 → (gm_G 148 99 [some (.ref m), some (.int x1), some (.int x2), none, some (.int x4)] [.int x3] h Q)) ∧ (¬ (hh_i h (m + 69) n1) < Int32.ofNat 0 → (∃ n2, gm_ix x4 n2 48 ∧ ((¬ (hh_i h (m + 74) n2) = x2 → (gm_G 148 99 [some (.ref m), some (.int x1), some (.int x2), none, some (.int x4)] [.int x3] h Q)) ∧ ((hh_i h (m + 74) n2) = x2 → (gm_G 148 100 [some (.ref m), some (.int x1), some (.int x2), none, some (.int x4)] [.int (Int32.ofNat 1), .int x3] h Q))))))))) : gm_G 148 61 [some (.ref m), some (.int x1), some (.int x2), some (.int x3), some (.int x4)] [] h Q := by
  refine g_iload rfl rfl rfl (pc' := 63) ?_
  refine g_iconst rfl rfl rfl (pc' := 65) ?_
  refine g_iload rfl rfl rfl (pc' := 66) ?_
  refine g_imul rfl rfl (pc' := 67) ?_
  refine g_iconst rfl rfl rfl (pc' := 69) ?_
  refine g_iadd rfl rfl (pc' := 70) ?_
  refine g_ic_ge rfl (pc' := 73) (pt := 108) rfl rfl ⟨fun hc => ?_, fun hc => ?_⟩
  · have H := H.1 hc
    refine g_iload rfl rfl rfl (pc' := 109) ?_
    exact g_ireturn rfl (Or.inl rfl) H
  · have H := H.2 hc
    refine g_iload rfl rfl rfl (pc' := 74) ?_
    refine g_aload (r := some _) rfl rfl rfl (pc' := 75) ?_
    refine t_get (o := 69) rfl hT rfl rfl rfl (pc' := 78) rfl ?_
    refine g_iload rfl rfl rfl (pc' := 80) ?_
    obtain ⟨n1, hn1, H⟩ := H
    refine t_iaload hT (o := 69) (l := 48) rfl rfl rfl hn1 (pc' := 81) rfl ?_
    refine g_if_lt rfl (pc' := 84) (pt := 99) rfl rfl ⟨fun hc => ?_, fun hc => ?_⟩
    · have H := H.1 hc
      exact g_weak (show gm_Lle [some _, some _, some _, none, some _] _ from ⟨rfl, ⟨rfl, ⟨rfl, ⟨rfl, trivial⟩⟩⟩⟩) H
    · have H := H.2 hc
      refine g_aload (r := some _) rfl rfl rfl (pc' := 85) ?_
      refine t_get (o := 74) rfl hT rfl rfl rfl (pc' := 88) rfl ?_
      refine g_iload rfl rfl rfl (pc' := 90) ?_
      obtain ⟨n2, hn2, H⟩ := H
      refine t_iaload hT (o := 74) (l := 48) rfl rfl rfl hn2 (pc' := 91) rfl ?_
      refine g_iload rfl rfl rfl (pc' := 92) ?_
      refine g_ic_ne rfl (pc' := 95) (pt := 99) rfl rfl ⟨fun hc => ?_, fun hc => ?_⟩
      · have H := H.1 hc
        exact g_weak (show gm_Lle [some _, some _, some _, none, some _] _ from ⟨rfl, ⟨rfl, ⟨rfl, ⟨rfl, trivial⟩⟩⟩⟩) H
      · have H := H.2 hc
        refine g_iconst rfl rfl rfl (pc' := 96) ?_
        refine g_goto rfl (pc' := 100) rfl ?_
        exact g_weak (show gm_Lle [some _, some _, some _, none, some _] _ from ⟨rfl, ⟨rfl, ⟨rfl, ⟨rfl, trivial⟩⟩⟩⟩) H
theorem w_148_99 {m : Nat} {x1 : Int32} {x2 : Int32} {x4 : Int32} {y0 : Int32} {h : hh_T} {Q : Option Value ⊕ Nat → hh_T → Prop} (hT : tw_ok h m) (H : gm_G 148 100 [some (.ref m), some (.int x1), some (.int x2), none, some (.int x4)] [.int (Int32.ofNat 0), .int y0] h Q) : gm_G 148 99 [some (.ref m), some (.int x1), some (.int x2), none, some (.int x4)] [.int y0] h Q := by
  refine g_iconst rfl rfl rfl (pc' := 100) ?_
  exact g_weak (show gm_Lle [some _, some _, some _, none, some _] _ from ⟨rfl, ⟨rfl, ⟨rfl, ⟨rfl, trivial⟩⟩⟩⟩) H
theorem w_148_100 {m : Nat} {x1 : Int32} {x2 : Int32} {x4 : Int32} {y0 : Int32} {y1 : Int32} {h : hh_T} {Q : Option Value ⊕ Nat → hh_T → Prop} (hT : tw_ok h m) (H : gm_G 148 61 [some (.ref m), some (.int x1), some (.int x2), some (.int (y1 + y0)), some (.int (x4 + (Int32.ofNat 1)))] [] h Q) : gm_G 148 100 [some (.ref m), some (.int x1), some (.int x2), none, some (.int x4)] [.int y0, .int y1] h Q := by
  refine g_iadd rfl rfl (pc' := 101) ?_
  refine g_istore rfl rfl rfl (pc' := 102) ?_
  refine g_iinc (c := (Int32.ofNat 1)) rfl rfl rfl rfl rfl (pc' := 105) ?_
  refine g_goto rfl (pc' := 61) rfl ?_
  exact g_weak (show gm_Lle [some _, some _, some _, some _, some _] _ from ⟨rfl, ⟨rfl, ⟨rfl, ⟨rfl, ⟨rfl, trivial⟩⟩⟩⟩⟩) H
theorem w_149_0 {m : Nat} {x1 : Int32} {x2 : Int32} {h : hh_T} {Q : Option Value ⊕ Nat → hh_T → Prop} (hT : tw_ok h m) (H : ∃ n1, gm_ix x1 n1 3 ∧ ((¬ (hh_i h (m + 11) n1) < (Int32.ofNat 2) → (∃ n2, gm_ix x1 n2 3 ∧ (∃ n3, gm_ix x1 n3 3 ∧ (∃ n4, gm_ix x1 n4 3 ∧ (((hh_i h (m + 13) n2) - (hh_i h (m + 12) n3)) ≠ 0 ∧ (Q (.inl (some (.int (x2 + ((hh_i h (m + 12) n4) * (((x2 + ((hh_i h (m + 13) n2) - (hh_i h (m + 12) n3))) - (Int32.ofNat 1)) / ((hh_i h (m + 13) n2) - (hh_i h (m + 12) n3)))))))) h)))))) ∧ ((hh_i h (m + 11) n1) < (Int32.ofNat 2) → (Q (.inl (some (.int x2))) h)))) : gm_G 149 0 [some (.ref m), some (.int x1), some (.int x2)] [] h Q := by
  refine g_aload (r := some _) rfl rfl rfl (pc' := 1) ?_
  refine t_get (o := 11) rfl hT rfl rfl rfl (pc' := 4) rfl ?_
  refine g_iload rfl rfl rfl (pc' := 5) ?_
  obtain ⟨n1, hn1, H⟩ := H
  refine t_iaload hT (o := 11) (l := 3) rfl rfl rfl hn1 (pc' := 6) rfl ?_
  refine g_iconst rfl rfl rfl (pc' := 7) ?_
  refine g_ic_ge rfl (pc' := 10) (pt := 12) rfl rfl ⟨fun hc => ?_, fun hc => ?_⟩
  · have H := H.1 hc
    refine g_aload (r := some _) rfl rfl rfl (pc' := 13) ?_
    refine t_get (o := 13) rfl hT rfl rfl rfl (pc' := 16) rfl ?_
    refine g_iload rfl rfl rfl (pc' := 17) ?_
    obtain ⟨n2, hn2, H⟩ := H
    refine t_iaload hT (o := 13) (l := 3) rfl rfl rfl hn2 (pc' := 18) rfl ?_
    refine g_aload (r := some _) rfl rfl rfl (pc' := 19) ?_
    refine t_get (o := 12) rfl hT rfl rfl rfl (pc' := 22) rfl ?_
    refine g_iload rfl rfl rfl (pc' := 23) ?_
    obtain ⟨n3, hn3, H⟩ := H
    refine t_iaload hT (o := 12) (l := 3) rfl rfl rfl hn3 (pc' := 24) rfl ?_
    refine g_isub rfl rfl (pc' := 25) ?_
    refine g_istore rfl rfl rfl (pc' := 26) ?_
    refine g_iload rfl rfl rfl (pc' := 27) ?_
    refine g_aload (r := some _) rfl rfl rfl (pc' := 28) ?_
    refine t_get (o := 12) rfl hT rfl rfl rfl (pc' := 31) rfl ?_
    refine g_iload rfl rfl rfl (pc' := 32) ?_
    obtain ⟨n4, hn4, H⟩ := H
    refine t_iaload hT (o := 12) (l := 3) rfl rfl rfl hn4 (pc' := 33) rfl ?_
    refine g_iload rfl rfl rfl (pc' := 34) ?_
    refine g_iload rfl rfl rfl (pc' := 35) ?_
    refine g_iadd rfl rfl (pc' := 36) ?_
    refine g_iconst rfl rfl rfl (pc' := 37) ?_
    refine g_isub rfl rfl (pc' := 38) ?_
    refine g_iload rfl rfl rfl (pc' := 39) ?_
    obtain ⟨Hp, H⟩ := H
    refine g_idiv rfl Hp (pc' := 40) rfl ?_
    refine g_imul rfl rfl (pc' := 41) ?_
    refine g_iadd rfl rfl (pc' := 42) ?_
    exact g_ireturn rfl (Or.inl rfl) H
  · have H := H.2 hc
    refine g_iload rfl rfl rfl (pc' := 11) ?_
    exact g_ireturn rfl (Or.inl rfl) H
theorem w_150_0 {m : Nat} {x1 : Int32} {x2 : Int32} {h : hh_T} {Q : Option Value ⊕ Nat → hh_T → Prop} (hT : tw_ok h m) (H : gm_G 150 2 [some (.ref m), some (.int x1), some (.int x2), some (.int (Int32.ofNat 0))] [] h Q) : gm_G 150 0 [some (.ref m), some (.int x1), some (.int x2)] [] h Q := by
  refine g_iconst rfl rfl rfl (pc' := 1) ?_
  refine g_istore rfl rfl rfl (pc' := 2) ?_
  exact g_weak (show gm_Lle [some _, some _, some _, some _] _ from ⟨rfl, ⟨rfl, ⟨rfl, ⟨rfl, trivial⟩⟩⟩⟩) H
theorem w_150_2 {m : Nat} {x1 : Int32} {x2 : Int32} {x3 : Int32} {h : hh_T} {Q : Option Value ⊕ Nat → hh_T → Prop} (hT : tw_ok h m) (H : (¬ x3 < (Int32.ofNat 8) → (Q (.inl (some (.int (Int32.ofNat 1)))) h)) ∧ (x3 < (Int32.ofNat 8) → (∃ n1, gm_ix (((Int32.ofNat 8) * x1) + x3) n1 12288 ∧ (∃ n2, gm_ix (((Int32.ofNat 8) * x2) + x3) n2 12288 ∧ (((hh_i h (m + 55) n1) = (hh_i h (m + 55) n2) → (gm_G 150 2 [some (.ref m), some (.int x1), some (.int x2), some (.int (x3 + (Int32.ofNat 1)))] [] h Q)) ∧ (¬ (hh_i h (m + 55) n1) = (hh_i h (m + 55) n2) → (Q (.inl (some (.int (Int32.ofNat 0)))) h))))))) : gm_G 150 2 [some (.ref m), some (.int x1), some (.int x2), some (.int x3)] [] h Q := by
  refine g_iload rfl rfl rfl (pc' := 3) ?_
  refine g_iconst rfl rfl rfl (pc' := 5) ?_
  refine g_ic_ge rfl (pc' := 8) (pt := 41) rfl rfl ⟨fun hc => ?_, fun hc => ?_⟩
  · have H := H.1 hc
    refine g_iconst rfl rfl rfl (pc' := 42) ?_
    exact g_ireturn rfl (Or.inr (by decide)) H
  · have H := H.2 hc
    refine g_aload (r := some _) rfl rfl rfl (pc' := 9) ?_
    refine t_get (o := 55) rfl hT rfl rfl rfl (pc' := 12) rfl ?_
    refine g_iconst rfl rfl rfl (pc' := 14) ?_
    refine g_iload rfl rfl rfl (pc' := 15) ?_
    refine g_imul rfl rfl (pc' := 16) ?_
    refine g_iload rfl rfl rfl (pc' := 17) ?_
    refine g_iadd rfl rfl (pc' := 18) ?_
    obtain ⟨n1, hn1, H⟩ := H
    refine t_iaload hT (o := 55) (l := 12288) rfl rfl rfl hn1 (pc' := 19) rfl ?_
    refine g_aload (r := some _) rfl rfl rfl (pc' := 20) ?_
    refine t_get (o := 55) rfl hT rfl rfl rfl (pc' := 23) rfl ?_
    refine g_iconst rfl rfl rfl (pc' := 25) ?_
    refine g_iload rfl rfl rfl (pc' := 26) ?_
    refine g_imul rfl rfl (pc' := 27) ?_
    refine g_iload rfl rfl rfl (pc' := 28) ?_
    refine g_iadd rfl rfl (pc' := 29) ?_
    obtain ⟨n2, hn2, H⟩ := H
    refine t_iaload hT (o := 55) (l := 12288) rfl rfl rfl hn2 (pc' := 30) rfl ?_
    refine g_ic_eq rfl (pc' := 33) (pt := 35) rfl rfl ⟨fun hc => ?_, fun hc => ?_⟩
    · have H := H.1 hc
      refine g_iinc (c := (Int32.ofNat 1)) rfl rfl rfl rfl rfl (pc' := 38) ?_
      refine g_goto rfl (pc' := 2) rfl ?_
      exact g_weak (show gm_Lle [some _, some _, some _, some _] _ from ⟨rfl, ⟨rfl, ⟨rfl, ⟨rfl, trivial⟩⟩⟩⟩) H
    · have H := H.2 hc
      refine g_iconst rfl rfl rfl (pc' := 34) ?_
      exact g_ireturn rfl (Or.inr (by decide)) H
theorem w_151_0 {m : Nat} {x1 : Int32} {h : hh_T} {Q : Option Value ⊕ Nat → hh_T → Prop} (hT : tw_ok h m) (H : (¬ (hh_i h m 77) = Int32.ofNat 0 → ((x1 < Int32.ofNat 0 → (Q (.inl (some (.int (Int32.ofInt (-1))))) h)) ∧ (¬ x1 < Int32.ofNat 0 → ((¬ (Int32.ofNat 3) < x1 → (∃ n1, gm_ix x1 n1 4 ∧ ((¬ (hh_i h (m + 97) n1) = Int32.ofNat 0 → (∃ n2, gm_ix x1 n2 4 ∧ ((¬ (hh_i h (m + 101) n2) = Int32.ofNat 0 → (∃ n3, gm_ix ((Int32.ofNat 6) * x1) n3 24 ∧ (gm_G 151 82 [some (.ref m), some (.int x1), some (.int (hh_i h (m + 102) n3)), some (.int ((Int32.ofNat 6) * x1))] [] h Q))) ∧ ((hh_i h (m + 101) n2) = Int32.ofNat 0 → (∃ n4, gm_ix x1 n4 4 ∧ (∃ n5, gm_ix x1 n5 4 ∧ (∀ h6, h6 = hh_wi h (m + 98) n5 (Int32.ofNat 0) → (((hh_i h (m + 98) n4) = Int32.ofNat 0 → (Q (.inl (some (.int (Int32.ofInt (-2))))) h6)) ∧ (¬ (hh_i h (m + 98) n4) = Int32.ofNat 0 → (Q (.inl (some (.int (Int32.ofNat 0)))) h6)))))))))) ∧ ((hh_i h (m + 97) n1) = Int32.ofNat 0 → (Q (.inl (some (.int (Int32.ofInt (-2))))) h))))) ∧ ((Int32.ofNat 3) < x1 → (Q (.inl (some (.int (Int32.ofInt (-1))))) h)))))) ∧ ((hh_i h m 77) = Int32.ofNat 0 → (Q (.inl (some (.int (Int32.ofInt (-9))))) h))) : gm_G 151 0 [some (.ref m), some (.int x1)] [] h Q := by
  refine g_aload (r := some _) rfl rfl rfl (pc' := 1) ?_
  refine t_getZ rfl hT rfl rfl (pc' := 4) rfl ?_
  refine g_if_ne rfl (pc' := 7) (pt := 10) rfl rfl ⟨fun hc => ?_, fun hc => ?_⟩
  · have H := H.1 hc
    refine g_iload rfl rfl rfl (pc' := 11) ?_
    refine g_if_lt rfl (pc' := 14) (pt := 19) rfl rfl ⟨fun hc => ?_, fun hc => ?_⟩
    · have H := H.1 hc
      refine g_iconst rfl rfl rfl (pc' := 20) ?_
      exact g_ireturn rfl (Or.inl rfl) H
    · have H := H.2 hc
      refine g_iload rfl rfl rfl (pc' := 15) ?_
      refine g_iconst rfl rfl rfl (pc' := 16) ?_
      refine g_ic_le rfl (pc' := 19) (pt := 21) rfl rfl ⟨fun hc => ?_, fun hc => ?_⟩
      · have H := H.1 hc
        refine g_aload (r := some _) rfl rfl rfl (pc' := 22) ?_
        refine t_get (o := 97) rfl hT rfl rfl rfl (pc' := 25) rfl ?_
        refine g_iload rfl rfl rfl (pc' := 26) ?_
        obtain ⟨n1, hn1, H⟩ := H
        refine t_zaload hT (o := 97) (l := 4) rfl rfl rfl hn1 (pc' := 27) rfl ?_
        refine g_if_ne rfl (pc' := 30) (pt := 33) rfl rfl ⟨fun hc => ?_, fun hc => ?_⟩
        · have H := H.1 hc
          refine g_aload (r := some _) rfl rfl rfl (pc' := 34) ?_
          refine t_get (o := 101) rfl hT rfl rfl rfl (pc' := 37) rfl ?_
          refine g_iload rfl rfl rfl (pc' := 38) ?_
          obtain ⟨n2, hn2, H⟩ := H
          refine t_iaload hT (o := 101) (l := 4) rfl rfl rfl hn2 (pc' := 39) rfl ?_
          refine g_if_ne rfl (pc' := 42) (pt := 67) rfl rfl ⟨fun hc => ?_, fun hc => ?_⟩
          · have H := H.1 hc
            refine g_aload (r := some _) rfl rfl rfl (pc' := 68) ?_
            refine t_get (o := 102) rfl hT rfl rfl rfl (pc' := 71) rfl ?_
            refine g_iconst rfl rfl rfl (pc' := 73) ?_
            refine g_iload rfl rfl rfl (pc' := 74) ?_
            refine g_imul rfl rfl (pc' := 75) ?_
            obtain ⟨n3, hn3, H⟩ := H
            refine t_iaload hT (o := 102) (l := 24) rfl rfl rfl hn3 (pc' := 76) rfl ?_
            refine g_istore rfl rfl rfl (pc' := 77) ?_
            refine g_iconst rfl rfl rfl (pc' := 79) ?_
            refine g_iload rfl rfl rfl (pc' := 80) ?_
            refine g_imul rfl rfl (pc' := 81) ?_
            refine g_istore rfl rfl rfl (pc' := 82) ?_
            exact g_weak (show gm_Lle [some _, some _, some _, some _] _ from ⟨rfl, ⟨rfl, ⟨rfl, ⟨rfl, trivial⟩⟩⟩⟩) H
          · have H := H.2 hc
            refine g_aload (r := some _) rfl rfl rfl (pc' := 43) ?_
            refine t_get (o := 98) rfl hT rfl rfl rfl (pc' := 46) rfl ?_
            refine g_iload rfl rfl rfl (pc' := 47) ?_
            obtain ⟨n4, hn4, H⟩ := H
            refine t_zaload hT (o := 98) (l := 4) rfl rfl rfl hn4 (pc' := 48) rfl ?_
            refine g_istore rfl rfl rfl (pc' := 49) ?_
            refine g_aload (r := some _) rfl rfl rfl (pc' := 50) ?_
            refine t_get (o := 98) rfl hT rfl rfl rfl (pc' := 53) rfl ?_
            refine g_iload rfl rfl rfl (pc' := 54) ?_
            refine g_iconst rfl rfl rfl (pc' := 55) ?_
            obtain ⟨n5, hn5, H⟩ := H
            refine t_zastore hT (o := 98) (l := 4) rfl rfl rfl hn5 (by decide) (pc' := 56) rfl (fun hT => ?_)
            have H := H _ rfl
            refine g_iload rfl rfl rfl (pc' := 57) ?_
            refine g_if_eq rfl (pc' := 60) (pt := 64) rfl rfl ⟨fun hc => ?_, fun hc => ?_⟩
            · have H := H.1 hc
              refine g_iconst rfl rfl rfl (pc' := 66) ?_
              exact g_ireturn rfl (Or.inl rfl) H
            · have H := H.2 hc
              refine g_iconst rfl rfl rfl (pc' := 61) ?_
              refine g_goto rfl (pc' := 66) rfl ?_
              exact g_ireturn rfl (Or.inl rfl) H
        · have H := H.2 hc
          refine g_iconst rfl rfl rfl (pc' := 32) ?_
          exact g_ireturn rfl (Or.inl rfl) H
      · have H := H.2 hc
        refine g_iconst rfl rfl rfl (pc' := 20) ?_
        exact g_ireturn rfl (Or.inl rfl) H
  · have H := H.2 hc
    refine g_iconst rfl rfl rfl (pc' := 9) ?_
    exact g_ireturn rfl (Or.inl rfl) H
theorem w_151_82 {m : Nat} {x1 : Int32} {x2 : Int32} {x3 : Int32} {h : hh_T} {Q : Option Value ⊕ Nat → hh_T → Prop} (hT : tw_ok h m) (H : ∃ n1, gm_ix x1 n1 4 ∧ ((¬ x3 < ((((Int32.ofNat 6) * x1) + (hh_i h (m + 101) n1)) - (Int32.ofNat 1)) → (∃ n2, gm_ix x1 n2 4 ∧ (∃ n3, gm_ix x1 n3 4 ∧ (∀ h4, h4 = hh_wi h (m + 101) n3 ((hh_i h (m + 101) n2) - (Int32.ofNat 1)) → (Q (.inl (some (.int x2))) h4))))) ∧ (x3 < ((((Int32.ofNat 6) * x1) + (hh_i h (m + 101) n1)) - (Int32.ofNat 1)) → (∃ n5, gm_ix (x3 + (Int32.ofNat 1)) n5 24 ∧ (∃ n6, gm_ix x3 n6 24 ∧ (∀ h7, h7 = hh_wi h (m + 102) n6 (hh_i h (m + 102) n5) → (gm_G 151 82 [some (.ref m), some (.int x1), some (.int x2), some (.int (x3 + (Int32.ofNat 1)))] [] h7 Q))))))) : gm_G 151 82 [some (.ref m), some (.int x1), some (.int x2), some (.int x3)] [] h Q := by
  refine g_iload rfl rfl rfl (pc' := 83) ?_
  refine g_iconst rfl rfl rfl (pc' := 85) ?_
  refine g_iload rfl rfl rfl (pc' := 86) ?_
  refine g_imul rfl rfl (pc' := 87) ?_
  refine g_aload (r := some _) rfl rfl rfl (pc' := 88) ?_
  refine t_get (o := 101) rfl hT rfl rfl rfl (pc' := 91) rfl ?_
  refine g_iload rfl rfl rfl (pc' := 92) ?_
  obtain ⟨n1, hn1, H⟩ := H
  refine t_iaload hT (o := 101) (l := 4) rfl rfl rfl hn1 (pc' := 93) rfl ?_
  refine g_iadd rfl rfl (pc' := 94) ?_
  refine g_iconst rfl rfl rfl (pc' := 95) ?_
  refine g_isub rfl rfl (pc' := 96) ?_
  refine g_ic_ge rfl (pc' := 99) (pt := 119) rfl rfl ⟨fun hc => ?_, fun hc => ?_⟩
  · have H := H.1 hc
    refine g_aload (r := some _) rfl rfl rfl (pc' := 120) ?_
    refine t_get (o := 101) rfl hT rfl rfl rfl (pc' := 123) rfl ?_
    refine g_iload rfl rfl rfl (pc' := 124) ?_
    refine g_dup2_a rfl (pc' := 125) rfl ?_
    obtain ⟨n2, hn2, H⟩ := H
    refine t_iaload hT (o := 101) (l := 4) rfl rfl rfl hn2 (pc' := 126) rfl ?_
    refine g_iconst rfl rfl rfl (pc' := 127) ?_
    refine g_isub rfl rfl (pc' := 128) ?_
    obtain ⟨n3, hn3, H⟩ := H
    refine t_iastore hT (o := 101) (l := 4) rfl rfl rfl hn3  (pc' := 129) rfl (fun hT => ?_)
    have H := H _ rfl
    refine g_iload rfl rfl rfl (pc' := 130) ?_
    exact g_ireturn rfl (Or.inl rfl) H
  · have H := H.2 hc
    refine g_aload (r := some _) rfl rfl rfl (pc' := 100) ?_
    refine t_get (o := 102) rfl hT rfl rfl rfl (pc' := 103) rfl ?_
    refine g_iload rfl rfl rfl (pc' := 104) ?_
    refine g_aload (r := some _) rfl rfl rfl (pc' := 105) ?_
    refine t_get (o := 102) rfl hT rfl rfl rfl (pc' := 108) rfl ?_
    refine g_iload rfl rfl rfl (pc' := 109) ?_
    refine g_iconst rfl rfl rfl (pc' := 110) ?_
    refine g_iadd rfl rfl (pc' := 111) ?_
    obtain ⟨n5, hn5, H⟩ := H
    refine t_iaload hT (o := 102) (l := 24) rfl rfl rfl hn5 (pc' := 112) rfl ?_
    obtain ⟨n6, hn6, H⟩ := H
    refine t_iastore hT (o := 102) (l := 24) rfl rfl rfl hn6  (pc' := 113) rfl (fun hT => ?_)
    have H := H _ rfl
    refine g_iinc (c := (Int32.ofNat 1)) rfl rfl rfl rfl rfl (pc' := 116) ?_
    refine g_goto rfl (pc' := 82) rfl ?_
    exact g_weak (show gm_Lle [some _, some _, some _, some _] _ from ⟨rfl, ⟨rfl, ⟨rfl, ⟨rfl, trivial⟩⟩⟩⟩) H
theorem w_152_0 {m : Nat} {x1 : Int32} {h : hh_T} {Q : Option Value ⊕ Nat → hh_T → Prop} (hT : tw_ok h m) (H : gm_G 152 2 [some (.ref m), some (.int x1), some (.int (Int32.ofNat 0))] [] h Q) : gm_G 152 0 [some (.ref m), some (.int x1)] [] h Q := by
  refine g_iconst rfl rfl rfl (pc' := 1) ?_
  refine g_istore rfl rfl rfl (pc' := 2) ?_
  exact g_weak (show gm_Lle [some _, some _, some _] _ from ⟨rfl, ⟨rfl, ⟨rfl, trivial⟩⟩⟩) H
theorem w_152_2 {m : Nat} {x1 : Int32} {x2 : Int32} {h : hh_T} {Q : Option Value ⊕ Nat → hh_T → Prop} (hT : tw_ok h m) (H : ((hh_i h m 77) = Int32.ofNat 0 → (Q (.inl (some (.int (Int32.ofInt (-1))))) h)) ∧ (¬ (hh_i h m 77) = Int32.ofNat 0 → ((x1 < Int32.ofNat 0 → (Q (.inl (some (.int (Int32.ofInt (-1))))) h)) ∧ (¬ x1 < Int32.ofNat 0 → ((¬ x2 < (Int32.ofNat 8) → (Q (.inl (some (.int (Int32.ofInt (-1))))) h)) ∧ (x2 < (Int32.ofNat 8) → (∃ n1, gm_ix x2 n1 32 ∧ ((¬ (hh_i h (m + 59) n1) = x1 → (gm_G 152 2 [some (.ref m), some (.int x1), some (.int (x2 + (Int32.ofNat 1)))] [] h Q)) ∧ ((hh_i h (m + 59) n1) = x1 → (Q (.inl (some (.int x2))) h)))))))))) : gm_G 152 2 [some (.ref m), some (.int x1), some (.int x2)] [] h Q := by
  refine g_aload (r := some _) rfl rfl rfl (pc' := 3) ?_
  refine t_getZ rfl hT rfl rfl (pc' := 6) rfl ?_
  refine g_if_eq rfl (pc' := 9) (pt := 37) rfl rfl ⟨fun hc => ?_, fun hc => ?_⟩
  · have H := H.1 hc
    refine g_iconst rfl rfl rfl (pc' := 38) ?_
    exact g_ireturn rfl (Or.inl rfl) H
  · have H := H.2 hc
    refine g_iload rfl rfl rfl (pc' := 10) ?_
    refine g_if_lt rfl (pc' := 13) (pt := 37) rfl rfl ⟨fun hc => ?_, fun hc => ?_⟩
    · have H := H.1 hc
      refine g_iconst rfl rfl rfl (pc' := 38) ?_
      exact g_ireturn rfl (Or.inl rfl) H
    · have H := H.2 hc
      refine g_iload rfl rfl rfl (pc' := 14) ?_
      refine g_iconst rfl rfl rfl (pc' := 16) ?_
      refine g_ic_ge rfl (pc' := 19) (pt := 37) rfl rfl ⟨fun hc => ?_, fun hc => ?_⟩
      · have H := H.1 hc
        refine g_iconst rfl rfl rfl (pc' := 38) ?_
        exact g_ireturn rfl (Or.inl rfl) H
      · have H := H.2 hc
        refine g_aload (r := some _) rfl rfl rfl (pc' := 20) ?_
        refine t_get (o := 59) rfl hT rfl rfl rfl (pc' := 23) rfl ?_
        refine g_iload rfl rfl rfl (pc' := 24) ?_
        obtain ⟨n1, hn1, H⟩ := H
        refine t_iaload hT (o := 59) (l := 32) rfl rfl rfl hn1 (pc' := 25) rfl ?_
        refine g_iload rfl rfl rfl (pc' := 26) ?_
        refine g_ic_ne rfl (pc' := 29) (pt := 31) rfl rfl ⟨fun hc => ?_, fun hc => ?_⟩
        · have H := H.1 hc
          refine g_iinc (c := (Int32.ofNat 1)) rfl rfl rfl rfl rfl (pc' := 34) ?_
          refine g_goto rfl (pc' := 2) rfl ?_
          exact g_weak (show gm_Lle [some _, some _, some _] _ from ⟨rfl, ⟨rfl, ⟨rfl, trivial⟩⟩⟩) H
        · have H := H.2 hc
          refine g_iload rfl rfl rfl (pc' := 30) ?_
          exact g_ireturn rfl (Or.inl rfl) H
theorem w_153_0 {m : Nat} {x1 : Int32} {h : hh_T} {Q : Option Value ⊕ Nat → hh_T → Prop} (hT : tw_ok h m) (H : gm_G 153 2 [some (.ref m), some (.int x1), some (.int (Int32.ofNat 0))] [] h Q) : gm_G 153 0 [some (.ref m), some (.int x1)] [] h Q := by
  refine g_iconst rfl rfl rfl (pc' := 1) ?_
  refine g_istore rfl rfl rfl (pc' := 2) ?_
  exact g_weak (show gm_Lle [some _, some _, some _] _ from ⟨rfl, ⟨rfl, ⟨rfl, trivial⟩⟩⟩) H
theorem w_153_2 {m : Nat} {x1 : Int32} {x2 : Int32} {h : hh_T} {Q : Option Value ⊕ Nat → hh_T → Prop} (hT : tw_ok h m) (H : ((hh_i h m 77) = Int32.ofNat 0 → (Q (.inl (some (.int (Int32.ofInt (-1))))) h)) ∧ (¬ (hh_i h m 77) = Int32.ofNat 0 → ((x1 < Int32.ofNat 0 → (Q (.inl (some (.int (Int32.ofInt (-1))))) h)) ∧ (¬ x1 < Int32.ofNat 0 → ((¬ x2 < (Int32.ofNat 12) → (Q (.inl (some (.int (Int32.ofInt (-1))))) h)) ∧ (x2 < (Int32.ofNat 12) → (∃ n1, gm_ix x2 n1 48 ∧ ((¬ (hh_i h (m + 69) n1) = x1 → (gm_G 153 2 [some (.ref m), some (.int x1), some (.int (x2 + (Int32.ofNat 1)))] [] h Q)) ∧ ((hh_i h (m + 69) n1) = x1 → (Q (.inl (some (.int x2))) h)))))))))) : gm_G 153 2 [some (.ref m), some (.int x1), some (.int x2)] [] h Q := by
  refine g_aload (r := some _) rfl rfl rfl (pc' := 3) ?_
  refine t_getZ rfl hT rfl rfl (pc' := 6) rfl ?_
  refine g_if_eq rfl (pc' := 9) (pt := 37) rfl rfl ⟨fun hc => ?_, fun hc => ?_⟩
  · have H := H.1 hc
    refine g_iconst rfl rfl rfl (pc' := 38) ?_
    exact g_ireturn rfl (Or.inl rfl) H
  · have H := H.2 hc
    refine g_iload rfl rfl rfl (pc' := 10) ?_
    refine g_if_lt rfl (pc' := 13) (pt := 37) rfl rfl ⟨fun hc => ?_, fun hc => ?_⟩
    · have H := H.1 hc
      refine g_iconst rfl rfl rfl (pc' := 38) ?_
      exact g_ireturn rfl (Or.inl rfl) H
    · have H := H.2 hc
      refine g_iload rfl rfl rfl (pc' := 14) ?_
      refine g_iconst rfl rfl rfl (pc' := 16) ?_
      refine g_ic_ge rfl (pc' := 19) (pt := 37) rfl rfl ⟨fun hc => ?_, fun hc => ?_⟩
      · have H := H.1 hc
        refine g_iconst rfl rfl rfl (pc' := 38) ?_
        exact g_ireturn rfl (Or.inl rfl) H
      · have H := H.2 hc
        refine g_aload (r := some _) rfl rfl rfl (pc' := 20) ?_
        refine t_get (o := 69) rfl hT rfl rfl rfl (pc' := 23) rfl ?_
        refine g_iload rfl rfl rfl (pc' := 24) ?_
        obtain ⟨n1, hn1, H⟩ := H
        refine t_iaload hT (o := 69) (l := 48) rfl rfl rfl hn1 (pc' := 25) rfl ?_
        refine g_iload rfl rfl rfl (pc' := 26) ?_
        refine g_ic_ne rfl (pc' := 29) (pt := 31) rfl rfl ⟨fun hc => ?_, fun hc => ?_⟩
        · have H := H.1 hc
          refine g_iinc (c := (Int32.ofNat 1)) rfl rfl rfl rfl rfl (pc' := 34) ?_
          refine g_goto rfl (pc' := 2) rfl ?_
          exact g_weak (show gm_Lle [some _, some _, some _] _ from ⟨rfl, ⟨rfl, ⟨rfl, trivial⟩⟩⟩) H
        · have H := H.2 hc
          refine g_iload rfl rfl rfl (pc' := 30) ?_
          exact g_ireturn rfl (Or.inl rfl) H
theorem w_154_0 {m : Nat} {x1 : Int32} {x2 : Int32} {h : hh_T} {Q : Option Value ⊕ Nat → hh_T → Prop} (hT : tw_ok h m) (H : gm_G 154 2 [some (.ref m), some (.int x1), some (.int x2), some (.int (Int32.ofNat 0))] [] h Q) : gm_G 154 0 [some (.ref m), some (.int x1), some (.int x2)] [] h Q := by
  refine g_iconst rfl rfl rfl (pc' := 1) ?_
  refine g_istore rfl rfl rfl (pc' := 2) ?_
  exact g_weak (show gm_Lle [some _, some _, some _, some _] _ from ⟨rfl, ⟨rfl, ⟨rfl, ⟨rfl, trivial⟩⟩⟩⟩) H
theorem w_154_2 {m : Nat} {x1 : Int32} {x2 : Int32} {x3 : Int32} {h : hh_T} {Q : Option Value ⊕ Nat → hh_T → Prop} (hT : tw_ok h m) (H : (¬ x3 < (Int32.ofNat 12) → (Q (.inl (some (.int (Int32.ofInt (-1))))) h)) ∧ (x3 < (Int32.ofNat 12) → (∃ n1, gm_ix x3 n1 48 ∧ (((hh_i h (m + 69) n1) < Int32.ofNat 0 → (gm_G 154 39 [some (.ref m), some (.int x1), some (.int x2), some (.int x3)] [] h Q)) ∧ (¬ (hh_i h (m + 69) n1) < Int32.ofNat 0 → (∃ n2, gm_ix x3 n2 48 ∧ ((¬ (hh_i h (m + 70) n2) = x1 → (gm_G 154 39 [some (.ref m), some (.int x1), some (.int x2), some (.int x3)] [] h Q)) ∧ ((hh_i h (m + 70) n2) = x1 → (∃ n3, gm_ix x3 n3 48 ∧ ((¬ (hh_i h (m + 71) n3) = x2 → (gm_G 154 39 [some (.ref m), some (.int x1), some (.int x2), some (.int x3)] [] h Q)) ∧ ((hh_i h (m + 71) n3) = x2 → (Q (.inl (some (.int x3))) h)))))))))))) : gm_G 154 2 [some (.ref m), some (.int x1), some (.int x2), some (.int x3)] [] h Q := by
  refine g_iload rfl rfl rfl (pc' := 3) ?_
  refine g_iconst rfl rfl rfl (pc' := 5) ?_
  refine g_ic_ge rfl (pc' := 8) (pt := 45) rfl rfl ⟨fun hc => ?_, fun hc => ?_⟩
  · have H := H.1 hc
    refine g_iconst rfl rfl rfl (pc' := 46) ?_
    exact g_ireturn rfl (Or.inl rfl) H
  · have H := H.2 hc
    refine g_aload (r := some _) rfl rfl rfl (pc' := 9) ?_
    refine t_get (o := 69) rfl hT rfl rfl rfl (pc' := 12) rfl ?_
    refine g_iload rfl rfl rfl (pc' := 13) ?_
    obtain ⟨n1, hn1, H⟩ := H
    refine t_iaload hT (o := 69) (l := 48) rfl rfl rfl hn1 (pc' := 14) rfl ?_
    refine g_if_lt rfl (pc' := 17) (pt := 39) rfl rfl ⟨fun hc => ?_, fun hc => ?_⟩
    · have H := H.1 hc
      exact g_weak (show gm_Lle [some _, some _, some _, some _] _ from ⟨rfl, ⟨rfl, ⟨rfl, ⟨rfl, trivial⟩⟩⟩⟩) H
    · have H := H.2 hc
      refine g_aload (r := some _) rfl rfl rfl (pc' := 18) ?_
      refine t_get (o := 70) rfl hT rfl rfl rfl (pc' := 21) rfl ?_
      refine g_iload rfl rfl rfl (pc' := 22) ?_
      obtain ⟨n2, hn2, H⟩ := H
      refine t_iaload hT (o := 70) (l := 48) rfl rfl rfl hn2 (pc' := 23) rfl ?_
      refine g_iload rfl rfl rfl (pc' := 24) ?_
      refine g_ic_ne rfl (pc' := 27) (pt := 39) rfl rfl ⟨fun hc => ?_, fun hc => ?_⟩
      · have H := H.1 hc
        exact g_weak (show gm_Lle [some _, some _, some _, some _] _ from ⟨rfl, ⟨rfl, ⟨rfl, ⟨rfl, trivial⟩⟩⟩⟩) H
      · have H := H.2 hc
        refine g_aload (r := some _) rfl rfl rfl (pc' := 28) ?_
        refine t_get (o := 71) rfl hT rfl rfl rfl (pc' := 31) rfl ?_
        refine g_iload rfl rfl rfl (pc' := 32) ?_
        obtain ⟨n3, hn3, H⟩ := H
        refine t_iaload hT (o := 71) (l := 48) rfl rfl rfl hn3 (pc' := 33) rfl ?_
        refine g_iload rfl rfl rfl (pc' := 34) ?_
        refine g_ic_ne rfl (pc' := 37) (pt := 39) rfl rfl ⟨fun hc => ?_, fun hc => ?_⟩
        · have H := H.1 hc
          exact g_weak (show gm_Lle [some _, some _, some _, some _] _ from ⟨rfl, ⟨rfl, ⟨rfl, ⟨rfl, trivial⟩⟩⟩⟩) H
        · have H := H.2 hc
          refine g_iload rfl rfl rfl (pc' := 38) ?_
          exact g_ireturn rfl (Or.inl rfl) H
theorem w_154_39 {m : Nat} {x1 : Int32} {x2 : Int32} {x3 : Int32} {h : hh_T} {Q : Option Value ⊕ Nat → hh_T → Prop} (hT : tw_ok h m) (H : gm_G 154 2 [some (.ref m), some (.int x1), some (.int x2), some (.int (x3 + (Int32.ofNat 1)))] [] h Q) : gm_G 154 39 [some (.ref m), some (.int x1), some (.int x2), some (.int x3)] [] h Q := by
  refine g_iinc (c := (Int32.ofNat 1)) rfl rfl rfl rfl rfl (pc' := 42) ?_
  refine g_goto rfl (pc' := 2) rfl ?_
  exact g_weak (show gm_Lle [some _, some _, some _, some _] _ from ⟨rfl, ⟨rfl, ⟨rfl, ⟨rfl, trivial⟩⟩⟩⟩) H
theorem w_155_0 {m : Nat} {x1 : Int32} {b2 : Nat} {x3 : Int32} {x4 : Int32} {h : hh_T} {Q : Option Value ⊕ Nat → hh_T → Prop} (hT : tw_ok h m) (H : gm_G 155 3 [some (.ref m), some (.int x1), some (.ref b2), some (.int x3), some (.int x4), some (.int (Int32.ofNat 0))] [] h Q) : gm_G 155 0 [some (.ref m), some (.int x1), some (.ref b2), some (.int x3), some (.int x4)] [] h Q := by
  refine g_iconst rfl rfl rfl (pc' := 1) ?_
  refine g_istore rfl rfl rfl (pc' := 3) ?_
  exact g_weak (show gm_Lle [some _, some _, some _, some _, some _, some _] _ from ⟨rfl, ⟨rfl, ⟨rfl, ⟨rfl, ⟨rfl, ⟨rfl, trivial⟩⟩⟩⟩⟩⟩) H
theorem w_155_3 {m : Nat} {x1 : Int32} {b2 : Nat} {x3 : Int32} {x4 : Int32} {x5 : Int32} {h : hh_T} {Q : Option Value ⊕ Nat → hh_T → Prop} (hT : tw_ok h m) (H : (¬ x5 < (Int32.ofNat 12) → (Q (.inl (some (.int (Int32.ofInt (-1))))) h)) ∧ (x5 < (Int32.ofNat 12) → (∃ n1, gm_ix x5 n1 48 ∧ (((hh_i h (m + 69) n1) < Int32.ofNat 0 → (gm_G 155 47 [some (.ref m), some (.int x1), some (.ref b2), some (.int x3), some (.int x4), some (.int x5)] [] h Q)) ∧ (¬ (hh_i h (m + 69) n1) < Int32.ofNat 0 → (∃ n2, gm_ix x5 n2 48 ∧ ((¬ (hh_i h (m + 70) n2) = x1 → (gm_G 155 47 [some (.ref m), some (.int x1), some (.ref b2), some (.int x3), some (.int x4), some (.int x5)] [] h Q)) ∧ ((hh_i h (m + 70) n2) = x1 → (∃ n3, gm_ix x5 n3 48 ∧ ((¬ (hh_i h (m + 75) n3) = x4 → (gm_G 155 47 [some (.ref m), some (.int x1), some (.ref b2), some (.int x3), some (.int x4), some (.int x5)] [] h Q)) ∧ ((hh_i h (m + 75) n3) = x4 → (gm_G 155 48 [some (.ref m), some (.int x1), some (.ref b2), some (.int x3), some (.int x4), some (.int x5)] [.int (Int32.ofNat 1)] h Q)))))))))))) : gm_G 155 3 [some (.ref m), some (.int x1), some (.ref b2), some (.int x3), some (.int x4), some (.int x5)] [] h Q := by
  refine g_iload rfl rfl rfl (pc' := 5) ?_
  refine g_iconst rfl rfl rfl (pc' := 7) ?_
  refine g_ic_ge rfl (pc' := 10) (pt := 114) rfl rfl ⟨fun hc => ?_, fun hc => ?_⟩
  · have H := H.1 hc
    refine g_iconst rfl rfl rfl (pc' := 115) ?_
    exact g_ireturn rfl (Or.inl rfl) H
  · have H := H.2 hc
    refine g_aload (r := some _) rfl rfl rfl (pc' := 11) ?_
    refine t_get (o := 69) rfl hT rfl rfl rfl (pc' := 14) rfl ?_
    refine g_iload rfl rfl rfl (pc' := 16) ?_
    obtain ⟨n1, hn1, H⟩ := H
    refine t_iaload hT (o := 69) (l := 48) rfl rfl rfl hn1 (pc' := 17) rfl ?_
    refine g_if_lt rfl (pc' := 20) (pt := 47) rfl rfl ⟨fun hc => ?_, fun hc => ?_⟩
    · have H := H.1 hc
      exact g_weak (show gm_Lle [some _, some _, some _, some _, some _, some _] _ from ⟨rfl, ⟨rfl, ⟨rfl, ⟨rfl, ⟨rfl, ⟨rfl, trivial⟩⟩⟩⟩⟩⟩) H
    · have H := H.2 hc
      refine g_aload (r := some _) rfl rfl rfl (pc' := 21) ?_
      refine t_get (o := 70) rfl hT rfl rfl rfl (pc' := 24) rfl ?_
      refine g_iload rfl rfl rfl (pc' := 26) ?_
      obtain ⟨n2, hn2, H⟩ := H
      refine t_iaload hT (o := 70) (l := 48) rfl rfl rfl hn2 (pc' := 27) rfl ?_
      refine g_iload rfl rfl rfl (pc' := 28) ?_
      refine g_ic_ne rfl (pc' := 31) (pt := 47) rfl rfl ⟨fun hc => ?_, fun hc => ?_⟩
      · have H := H.1 hc
        exact g_weak (show gm_Lle [some _, some _, some _, some _, some _, some _] _ from ⟨rfl, ⟨rfl, ⟨rfl, ⟨rfl, ⟨rfl, ⟨rfl, trivial⟩⟩⟩⟩⟩⟩) H
      · have H := H.2 hc
        refine g_aload (r := some _) rfl rfl rfl (pc' := 32) ?_
        refine t_get (o := 75) rfl hT rfl rfl rfl (pc' := 35) rfl ?_
        refine g_iload rfl rfl rfl (pc' := 37) ?_
        obtain ⟨n3, hn3, H⟩ := H
        refine t_iaload hT (o := 75) (l := 48) rfl rfl rfl hn3 (pc' := 38) rfl ?_
        refine g_iload rfl rfl rfl (pc' := 40) ?_
        refine g_ic_ne rfl (pc' := 43) (pt := 47) rfl rfl ⟨fun hc => ?_, fun hc => ?_⟩
        · have H := H.1 hc
          exact g_weak (show gm_Lle [some _, some _, some _, some _, some _, some _] _ from ⟨rfl, ⟨rfl, ⟨rfl, ⟨rfl, ⟨rfl, ⟨rfl, trivial⟩⟩⟩⟩⟩⟩) H
        · have H := H.2 hc
          refine g_iconst rfl rfl rfl (pc' := 44) ?_
          refine g_goto rfl (pc' := 48) rfl ?_
          exact g_weak (show gm_Lle [some _, some _, some _, some _, some _, some _] _ from ⟨rfl, ⟨rfl, ⟨rfl, ⟨rfl, ⟨rfl, ⟨rfl, trivial⟩⟩⟩⟩⟩⟩) H
theorem w_155_47 {m : Nat} {x1 : Int32} {b2 : Nat} {x3 : Int32} {x4 : Int32} {x5 : Int32} {h : hh_T} {Q : Option Value ⊕ Nat → hh_T → Prop} (hT : tw_ok h m) (H : gm_G 155 48 [some (.ref m), some (.int x1), some (.ref b2), some (.int x3), some (.int x4), some (.int x5)] [.int (Int32.ofNat 0)] h Q) : gm_G 155 47 [some (.ref m), some (.int x1), some (.ref b2), some (.int x3), some (.int x4), some (.int x5)] [] h Q := by
  refine g_iconst rfl rfl rfl (pc' := 48) ?_
  exact g_weak (show gm_Lle [some _, some _, some _, some _, some _, some _] _ from ⟨rfl, ⟨rfl, ⟨rfl, ⟨rfl, ⟨rfl, ⟨rfl, trivial⟩⟩⟩⟩⟩⟩) H
theorem w_155_48 {m : Nat} {x1 : Int32} {b2 : Nat} {x3 : Int32} {x4 : Int32} {x5 : Int32} {y0 : Int32} {h : hh_T} {Q : Option Value ⊕ Nat → hh_T → Prop} (hT : tw_ok h m) (H : gm_G 155 53 [some (.ref m), some (.int x1), some (.ref b2), some (.int x3), some (.int x4), some (.int x5), some (.int y0), some (.int (Int32.ofNat 0))] [] h Q) : gm_G 155 48 [some (.ref m), some (.int x1), some (.ref b2), some (.int x3), some (.int x4), some (.int x5)] [.int y0] h Q := by
  refine g_istore rfl rfl rfl (pc' := 50) ?_
  refine g_iconst rfl rfl rfl (pc' := 51) ?_
  refine g_istore rfl rfl rfl (pc' := 53) ?_
  exact g_weak (show gm_Lle [some _, some _, some _, some _, some _, some _, some _, some _] _ from ⟨rfl, ⟨rfl, ⟨rfl, ⟨rfl, ⟨rfl, ⟨rfl, ⟨rfl, ⟨rfl, trivial⟩⟩⟩⟩⟩⟩⟩⟩) H
theorem w_155_53 {m : Nat} {x1 : Int32} {b2 : Nat} {x3 : Int32} {x4 : Int32} {x5 : Int32} {x6 : Int32} {x7 : Int32} {h : hh_T} {Q : Option Value ⊕ Nat → hh_T → Prop} (hT : tw_ok h m) (H : (x6 = Int32.ofNat 0 → (gm_G 155 100 [some (.ref m), some (.int x1), some (.ref b2), some (.int x3), some (.int x4), some (.int x5), some (.int x6)] [] h Q)) ∧ (¬ x6 = Int32.ofNat 0 → ((¬ x7 < x4 → (gm_G 155 100 [some (.ref m), some (.int x1), some (.ref b2), some (.int x3), some (.int x4), some (.int x5), some (.int x6)] [] h Q)) ∧ (x7 < x4 → (∃ n1, gm_ix (((Int32.ofNat 8) * x5) + x7) n1 384 ∧ ((hh_tg h b2 = 101 ∨ hh_tg h b2 = 102) ∧ (∃ n2, gm_ix (x3 + x7) n2 (hh_ln h b2) ∧ ((¬ (hh_i h (m + 68) n1) = (hh_i h b2 n2) → (gm_G 155 92 [some (.ref m), some (.int x1), some (.ref b2), some (.int x3), some (.int x4), some (.int x5), none, some (.int x7)] [.int (Int32.ofNat 0)] h Q)) ∧ ((hh_i h (m + 68) n1) = (hh_i h b2 n2) → (gm_G 155 92 [some (.ref m), some (.int x1), some (.ref b2), some (.int x3), some (.int x4), some (.int x5), none, some (.int x7)] [.int (Int32.ofNat 1)] h Q)))))))))) : gm_G 155 53 [some (.ref m), some (.int x1), some (.ref b2), some (.int x3), some (.int x4), some (.int x5), some (.int x6), some (.int x7)] [] h Q := by
  refine g_iload rfl rfl rfl (pc' := 55) ?_
  refine g_if_eq rfl (pc' := 58) (pt := 100) rfl rfl ⟨fun hc => ?_, fun hc => ?_⟩
  · have H := H.1 hc
    exact g_weak (show gm_Lle [some _, some _, some _, some _, some _, some _, some _] _ from ⟨rfl, ⟨rfl, ⟨rfl, ⟨rfl, ⟨rfl, ⟨rfl, ⟨rfl, trivial⟩⟩⟩⟩⟩⟩⟩) H
  · have H := H.2 hc
    refine g_iload rfl rfl rfl (pc' := 60) ?_
    refine g_iload rfl rfl rfl (pc' := 62) ?_
    refine g_ic_ge rfl (pc' := 65) (pt := 100) rfl rfl ⟨fun hc => ?_, fun hc => ?_⟩
    · have H := H.1 hc
      exact g_weak (show gm_Lle [some _, some _, some _, some _, some _, some _, some _] _ from ⟨rfl, ⟨rfl, ⟨rfl, ⟨rfl, ⟨rfl, ⟨rfl, ⟨rfl, trivial⟩⟩⟩⟩⟩⟩⟩) H
    · have H := H.2 hc
      refine g_aload (r := some _) rfl rfl rfl (pc' := 66) ?_
      refine t_get (o := 68) rfl hT rfl rfl rfl (pc' := 69) rfl ?_
      refine g_iconst rfl rfl rfl (pc' := 71) ?_
      refine g_iload rfl rfl rfl (pc' := 73) ?_
      refine g_imul rfl rfl (pc' := 74) ?_
      refine g_iload rfl rfl rfl (pc' := 76) ?_
      refine g_iadd rfl rfl (pc' := 77) ?_
      obtain ⟨n1, hn1, H⟩ := H
      refine t_baload hT (o := 68) (l := 384) rfl rfl rfl hn1 (pc' := 78) rfl ?_
      refine g_aload (r := some _) rfl rfl rfl (pc' := 79) ?_
      refine g_iload rfl rfl rfl (pc' := 80) ?_
      refine g_iload rfl rfl rfl (pc' := 82) ?_
      refine g_iadd rfl rfl (pc' := 83) ?_
      obtain ⟨ht3, H⟩ := H
      obtain ⟨n2, hn2, H⟩ := H
      refine g_baload rfl ht3 hn2 (pc' := 84) rfl ?_
      refine g_ic_ne rfl (pc' := 87) (pt := 91) rfl rfl ⟨fun hc => ?_, fun hc => ?_⟩
      · have H := H.1 hc
        refine g_iconst rfl rfl rfl (pc' := 92) ?_
        exact g_weak (show gm_Lle [some _, some _, some _, some _, some _, some _, none, some _] _ from ⟨rfl, ⟨rfl, ⟨rfl, ⟨rfl, ⟨rfl, ⟨rfl, ⟨rfl, trivial⟩⟩⟩⟩⟩⟩⟩) H
      · have H := H.2 hc
        refine g_iconst rfl rfl rfl (pc' := 88) ?_
        refine g_goto rfl (pc' := 92) rfl ?_
        exact g_weak (show gm_Lle [some _, some _, some _, some _, some _, some _, none, some _] _ from ⟨rfl, ⟨rfl, ⟨rfl, ⟨rfl, ⟨rfl, ⟨rfl, ⟨rfl, trivial⟩⟩⟩⟩⟩⟩⟩) H
theorem w_155_92 {m : Nat} {x1 : Int32} {b2 : Nat} {x3 : Int32} {x4 : Int32} {x5 : Int32} {x7 : Int32} {y0 : Int32} {h : hh_T} {Q : Option Value ⊕ Nat → hh_T → Prop} (hT : tw_ok h m) (H : gm_G 155 53 [some (.ref m), some (.int x1), some (.ref b2), some (.int x3), some (.int x4), some (.int x5), some (.int y0), some (.int (x7 + (Int32.ofNat 1)))] [] h Q) : gm_G 155 92 [some (.ref m), some (.int x1), some (.ref b2), some (.int x3), some (.int x4), some (.int x5), none, some (.int x7)] [.int y0] h Q := by
  refine g_istore rfl rfl rfl (pc' := 94) ?_
  refine g_iinc (c := (Int32.ofNat 1)) rfl rfl rfl rfl rfl (pc' := 97) ?_
  refine g_goto rfl (pc' := 53) rfl ?_
  exact g_weak (show gm_Lle [some _, some _, some _, some _, some _, some _, some _, some _] _ from ⟨rfl, ⟨rfl, ⟨rfl, ⟨rfl, ⟨rfl, ⟨rfl, ⟨rfl, ⟨rfl, trivial⟩⟩⟩⟩⟩⟩⟩⟩) H
theorem w_155_100 {m : Nat} {x1 : Int32} {b2 : Nat} {x3 : Int32} {x4 : Int32} {x5 : Int32} {x6 : Int32} {h : hh_T} {Q : Option Value ⊕ Nat → hh_T → Prop} (hT : tw_ok h m) (H : (x6 = Int32.ofNat 0 → (gm_G 155 3 [some (.ref m), some (.int x1), some (.ref b2), some (.int x3), some (.int x4), some (.int (x5 + (Int32.ofNat 1)))] [] h Q)) ∧ (¬ x6 = Int32.ofNat 0 → (Q (.inl (some (.int x5))) h))) : gm_G 155 100 [some (.ref m), some (.int x1), some (.ref b2), some (.int x3), some (.int x4), some (.int x5), some (.int x6)] [] h Q := by
  refine g_iload rfl rfl rfl (pc' := 102) ?_
  refine g_if_eq rfl (pc' := 105) (pt := 108) rfl rfl ⟨fun hc => ?_, fun hc => ?_⟩
  · have H := H.1 hc
    refine g_iinc (c := (Int32.ofNat 1)) rfl rfl rfl rfl rfl (pc' := 111) ?_
    refine g_goto rfl (pc' := 3) rfl ?_
    exact g_weak (show gm_Lle [some _, some _, some _, some _, some _, some _] _ from ⟨rfl, ⟨rfl, ⟨rfl, ⟨rfl, ⟨rfl, ⟨rfl, trivial⟩⟩⟩⟩⟩⟩) H
  · have H := H.2 hc
    refine g_iload rfl rfl rfl (pc' := 107) ?_
    exact g_ireturn rfl (Or.inl rfl) H
theorem w_156_0 {m : Nat} {x1 : Int32} {h : hh_T} {Q : Option Value ⊕ Nat → hh_T → Prop} (hT : tw_ok h m) (H : gm_G 156 4 [some (.ref m), some (.int x1), some (.int (Int32.ofNat 0)), some (.int (Int32.ofNat 0))] [] h Q) : gm_G 156 0 [some (.ref m), some (.int x1)] [] h Q := by
  refine g_iconst rfl rfl rfl (pc' := 1) ?_
  refine g_istore rfl rfl rfl (pc' := 2) ?_
  refine g_iconst rfl rfl rfl (pc' := 3) ?_
  refine g_istore rfl rfl rfl (pc' := 4) ?_
  exact g_weak (show gm_Lle [some _, some _, some _, some _] _ from ⟨rfl, ⟨rfl, ⟨rfl, ⟨rfl, trivial⟩⟩⟩⟩) H
theorem w_156_4 {m : Nat} {x1 : Int32} {x2 : Int32} {x3 : Int32} {h : hh_T} {Q : Option Value ⊕ Nat → hh_T → Prop} (hT : tw_ok h m) (H : (¬ x3 < (Int32.ofNat 12) → (Q (.inl (some (.int x2))) h)) ∧ (x3 < (Int32.ofNat 12) → (∃ n1, gm_ix x3 n1 48 ∧ (((hh_i h (m + 69) n1) < Int32.ofNat 0 → (gm_G 156 34 [some (.ref m), some (.int x1), none, some (.int x3)] [.int x2] h Q)) ∧ (¬ (hh_i h (m + 69) n1) < Int32.ofNat 0 → (∃ n2, gm_ix x3 n2 48 ∧ ((¬ (hh_i h (m + 70) n2) = x1 → (gm_G 156 34 [some (.ref m), some (.int x1), none, some (.int x3)] [.int x2] h Q)) ∧ ((hh_i h (m + 70) n2) = x1 → (gm_G 156 35 [some (.ref m), some (.int x1), none, some (.int x3)] [.int (Int32.ofNat 1), .int x2] h Q))))))))) : gm_G 156 4 [some (.ref m), some (.int x1), some (.int x2), some (.int x3)] [] h Q := by
  refine g_iload rfl rfl rfl (pc' := 5) ?_
  refine g_iconst rfl rfl rfl (pc' := 7) ?_
  refine g_ic_ge rfl (pc' := 10) (pt := 43) rfl rfl ⟨fun hc => ?_, fun hc => ?_⟩
  · have H := H.1 hc
    refine g_iload rfl rfl rfl (pc' := 44) ?_
    exact g_ireturn rfl (Or.inl rfl) H
  · have H := H.2 hc
    refine g_iload rfl rfl rfl (pc' := 11) ?_
    refine g_aload (r := some _) rfl rfl rfl (pc' := 12) ?_
    refine t_get (o := 69) rfl hT rfl rfl rfl (pc' := 15) rfl ?_
    refine g_iload rfl rfl rfl (pc' := 16) ?_
    obtain ⟨n1, hn1, H⟩ := H
    refine t_iaload hT (o := 69) (l := 48) rfl rfl rfl hn1 (pc' := 17) rfl ?_
    refine g_if_lt rfl (pc' := 20) (pt := 34) rfl rfl ⟨fun hc => ?_, fun hc => ?_⟩
    · have H := H.1 hc
      exact g_weak (show gm_Lle [some _, some _, none, some _] _ from ⟨rfl, ⟨rfl, ⟨rfl, trivial⟩⟩⟩) H
    · have H := H.2 hc
      refine g_aload (r := some _) rfl rfl rfl (pc' := 21) ?_
      refine t_get (o := 70) rfl hT rfl rfl rfl (pc' := 24) rfl ?_
      refine g_iload rfl rfl rfl (pc' := 25) ?_
      obtain ⟨n2, hn2, H⟩ := H
      refine t_iaload hT (o := 70) (l := 48) rfl rfl rfl hn2 (pc' := 26) rfl ?_
      refine g_iload rfl rfl rfl (pc' := 27) ?_
      refine g_ic_ne rfl (pc' := 30) (pt := 34) rfl rfl ⟨fun hc => ?_, fun hc => ?_⟩
      · have H := H.1 hc
        exact g_weak (show gm_Lle [some _, some _, none, some _] _ from ⟨rfl, ⟨rfl, ⟨rfl, trivial⟩⟩⟩) H
      · have H := H.2 hc
        refine g_iconst rfl rfl rfl (pc' := 31) ?_
        refine g_goto rfl (pc' := 35) rfl ?_
        exact g_weak (show gm_Lle [some _, some _, none, some _] _ from ⟨rfl, ⟨rfl, ⟨rfl, trivial⟩⟩⟩) H
theorem w_156_34 {m : Nat} {x1 : Int32} {x3 : Int32} {y0 : Int32} {h : hh_T} {Q : Option Value ⊕ Nat → hh_T → Prop} (hT : tw_ok h m) (H : gm_G 156 35 [some (.ref m), some (.int x1), none, some (.int x3)] [.int (Int32.ofNat 0), .int y0] h Q) : gm_G 156 34 [some (.ref m), some (.int x1), none, some (.int x3)] [.int y0] h Q := by
  refine g_iconst rfl rfl rfl (pc' := 35) ?_
  exact g_weak (show gm_Lle [some _, some _, none, some _] _ from ⟨rfl, ⟨rfl, ⟨rfl, trivial⟩⟩⟩) H
theorem w_156_35 {m : Nat} {x1 : Int32} {x3 : Int32} {y0 : Int32} {y1 : Int32} {h : hh_T} {Q : Option Value ⊕ Nat → hh_T → Prop} (hT : tw_ok h m) (H : gm_G 156 4 [some (.ref m), some (.int x1), some (.int (y1 + y0)), some (.int (x3 + (Int32.ofNat 1)))] [] h Q) : gm_G 156 35 [some (.ref m), some (.int x1), none, some (.int x3)] [.int y0, .int y1] h Q := by
  refine g_iadd rfl rfl (pc' := 36) ?_
  refine g_istore rfl rfl rfl (pc' := 37) ?_
  refine g_iinc (c := (Int32.ofNat 1)) rfl rfl rfl rfl rfl (pc' := 40) ?_
  refine g_goto rfl (pc' := 4) rfl ?_
  exact g_weak (show gm_Lle [some _, some _, some _, some _] _ from ⟨rfl, ⟨rfl, ⟨rfl, ⟨rfl, trivial⟩⟩⟩⟩) H
theorem w_157_0 {m : Nat} {x1 : Int32} {x2 : Int32} {x3 : Int32} {h : hh_T} {Q : Option Value ⊕ Nat → hh_T → Prop} (hT : tw_ok h m) (H : (x1 < Int32.ofNat 0 → (Q (.inl (some (.int (Int32.ofInt (-1))))) h)) ∧ (¬ x1 < Int32.ofNat 0 → (((Int32.ofNat 1) < x1 → (Q (.inl (some (.int (Int32.ofInt (-1))))) h)) ∧ (¬ (Int32.ofNat 1) < x1 → ((x3 < Int32.ofNat 0 → (Q (.inl (some (.int (Int32.ofInt (-1))))) h)) ∧ (¬ x3 < Int32.ofNat 0 → ((¬ (Int32.ofNat 255) < x3 → ((x2 < Int32.ofNat 0 → (Q (.inl (some (.int (Int32.ofInt (-2))))) h)) ∧ (¬ x2 < Int32.ofNat 0 → (∃ n1, gm_ix x1 n1 2 ∧ ((x2 < (hh_i h (m + 115) n1) → (∃ n2, gm_ix (((Int32.ofNat 6100) * x1) + x2) n2 12200 ∧ (∃ n3, gm_ix (((Int32.ofNat 6100) * x1) + x2) n3 12200 ∧ (∀ h4, h4 = hh_wi h (m + 112) n3 ((((hh_i h (m + 112) n2) ^^^ (x3.toInt8.toInt32)).toInt8.toInt32).toInt8.toInt32) → (∃ n5, gm_ix (((Int32.ofNat 6100) * x1) + x2) n5 12200 ∧ (Q (.inl (some (.int ((hh_i h4 (m + 112) n5) &&& (Int32.ofNat 255))))) h4)))))) ∧ (¬ x2 < (hh_i h (m + 115) n1) → (Q (.inl (some (.int (Int32.ofInt (-2))))) h))))))) ∧ ((Int32.ofNat 255) < x3 → (Q (.inl (some (.int (Int32.ofInt (-1))))) h))))))))) : gm_G 157 0 [some (.ref m), some (.int x1), some (.int x2), some (.int x3)] [] h Q := by
  refine g_iload rfl rfl rfl (pc' := 1) ?_
  refine g_if_lt rfl (pc' := 4) (pt := 20) rfl rfl ⟨fun hc => ?_, fun hc => ?_⟩
  · have H := H.1 hc
    refine g_iconst rfl rfl rfl (pc' := 21) ?_
    exact g_ireturn rfl (Or.inl rfl) H
  · have H := H.2 hc
    refine g_iload rfl rfl rfl (pc' := 5) ?_
    refine g_iconst rfl rfl rfl (pc' := 6) ?_
    refine g_ic_gt rfl (pc' := 9) (pt := 20) rfl rfl ⟨fun hc => ?_, fun hc => ?_⟩
    · have H := H.1 hc
      refine g_iconst rfl rfl rfl (pc' := 21) ?_
      exact g_ireturn rfl (Or.inl rfl) H
    · have H := H.2 hc
      refine g_iload rfl rfl rfl (pc' := 10) ?_
      refine g_if_lt rfl (pc' := 13) (pt := 20) rfl rfl ⟨fun hc => ?_, fun hc => ?_⟩
      · have H := H.1 hc
        refine g_iconst rfl rfl rfl (pc' := 21) ?_
        exact g_ireturn rfl (Or.inl rfl) H
      · have H := H.2 hc
        refine g_iload rfl rfl rfl (pc' := 14) ?_
        refine g_iconst rfl rfl rfl (pc' := 17) ?_
        refine g_ic_le rfl (pc' := 20) (pt := 22) rfl rfl ⟨fun hc => ?_, fun hc => ?_⟩
        · have H := H.1 hc
          refine g_iload rfl rfl rfl (pc' := 23) ?_
          refine g_if_lt rfl (pc' := 26) (pt := 36) rfl rfl ⟨fun hc => ?_, fun hc => ?_⟩
          · have H := H.1 hc
            refine g_iconst rfl rfl rfl (pc' := 38) ?_
            exact g_ireturn rfl (Or.inl rfl) H
          · have H := H.2 hc
            refine g_iload rfl rfl rfl (pc' := 27) ?_
            refine g_aload (r := some _) rfl rfl rfl (pc' := 28) ?_
            refine t_get (o := 115) rfl hT rfl rfl rfl (pc' := 31) rfl ?_
            refine g_iload rfl rfl rfl (pc' := 32) ?_
            obtain ⟨n1, hn1, H⟩ := H
            refine t_iaload hT (o := 115) (l := 2) rfl rfl rfl hn1 (pc' := 33) rfl ?_
            refine g_ic_lt rfl (pc' := 36) (pt := 39) rfl rfl ⟨fun hc => ?_, fun hc => ?_⟩
            · have H := H.1 hc
              refine g_aload (r := some _) rfl rfl rfl (pc' := 40) ?_
              refine t_get (o := 112) rfl hT rfl rfl rfl (pc' := 43) rfl ?_
              refine g_iconst rfl rfl rfl (pc' := 46) ?_
              refine g_iload rfl rfl rfl (pc' := 47) ?_
              refine g_imul rfl rfl (pc' := 48) ?_
              refine g_iload rfl rfl rfl (pc' := 49) ?_
              refine g_iadd rfl rfl (pc' := 50) ?_
              refine g_dup2_a rfl (pc' := 51) rfl ?_
              obtain ⟨n2, hn2, H⟩ := H
              refine t_baload hT (o := 112) (l := 12200) rfl rfl rfl hn2 (pc' := 52) rfl ?_
              refine g_iload rfl rfl rfl (pc' := 53) ?_
              refine g_i2b rfl rfl (pc' := 54) ?_
              refine g_ixor rfl rfl (pc' := 55) ?_
              refine g_i2b rfl rfl (pc' := 56) ?_
              obtain ⟨n3, hn3, H⟩ := H
              refine t_bastore hT (o := 112) (l := 12200) rfl rfl rfl hn3  (pc' := 57) rfl (fun hT => ?_)
              have H := H _ rfl
              refine g_aload (r := some _) rfl rfl rfl (pc' := 58) ?_
              refine t_get (o := 112) rfl hT rfl rfl rfl (pc' := 61) rfl ?_
              refine g_iconst rfl rfl rfl (pc' := 64) ?_
              refine g_iload rfl rfl rfl (pc' := 65) ?_
              refine g_imul rfl rfl (pc' := 66) ?_
              refine g_iload rfl rfl rfl (pc' := 67) ?_
              refine g_iadd rfl rfl (pc' := 68) ?_
              obtain ⟨n5, hn5, H⟩ := H
              refine t_baload hT (o := 112) (l := 12200) rfl rfl rfl hn5 (pc' := 69) rfl ?_
              refine g_iconst rfl rfl rfl (pc' := 72) ?_
              refine g_iand rfl rfl (pc' := 73) ?_
              exact g_ireturn rfl (Or.inl rfl) H
            · have H := H.2 hc
              refine g_iconst rfl rfl rfl (pc' := 38) ?_
              exact g_ireturn rfl (Or.inl rfl) H
        · have H := H.2 hc
          refine g_iconst rfl rfl rfl (pc' := 21) ?_
          exact g_ireturn rfl (Or.inl rfl) H
theorem w_158_0 {m : Nat} {x1 : Int32} {x2 : Int32} {h : hh_T} {Q : Option Value ⊕ Nat → hh_T → Prop} (hT : tw_ok h m) (H : (x1 < Int32.ofNat 0 → (Q (.inl (some (.int (Int32.ofInt (-1))))) h)) ∧ (¬ x1 < Int32.ofNat 0 → ((¬ (Int32.ofNat 1) < x1 → ((x2 < Int32.ofNat 0 → (gm_G 158 25 [] [] h Q)) ∧ (¬ x2 < Int32.ofNat 0 → (∃ n1, gm_ix x1 n1 2 ∧ ((x2 < (hh_i h (m + 115) n1) → (∃ n2, gm_ix (((Int32.ofNat 6100) * x1) + x2) n2 12200 ∧ (Q (.inl (some (.int ((hh_i h (m + 112) n2) &&& (Int32.ofNat 255))))) h))) ∧ (¬ x2 < (hh_i h (m + 115) n1) → (gm_G 158 25 [] [] h Q))))))) ∧ ((Int32.ofNat 1) < x1 → (Q (.inl (some (.int (Int32.ofInt (-1))))) h))))) : gm_G 158 0 [some (.ref m), some (.int x1), some (.int x2)] [] h Q := by
  refine g_iload rfl rfl rfl (pc' := 1) ?_
  refine g_if_lt rfl (pc' := 4) (pt := 9) rfl rfl ⟨fun hc => ?_, fun hc => ?_⟩
  · have H := H.1 hc
    refine g_iconst rfl rfl rfl (pc' := 10) ?_
    exact g_ireturn rfl (Or.inl rfl) H
  · have H := H.2 hc
    refine g_iload rfl rfl rfl (pc' := 5) ?_
    refine g_iconst rfl rfl rfl (pc' := 6) ?_
    refine g_ic_le rfl (pc' := 9) (pt := 11) rfl rfl ⟨fun hc => ?_, fun hc => ?_⟩
    · have H := H.1 hc
      refine g_iload rfl rfl rfl (pc' := 12) ?_
      refine g_if_lt rfl (pc' := 15) (pt := 25) rfl rfl ⟨fun hc => ?_, fun hc => ?_⟩
      · have H := H.1 hc
        exact g_weak (show gm_Lle [] _ from trivial) H
      · have H := H.2 hc
        refine g_iload rfl rfl rfl (pc' := 16) ?_
        refine g_aload (r := some _) rfl rfl rfl (pc' := 17) ?_
        refine t_get (o := 115) rfl hT rfl rfl rfl (pc' := 20) rfl ?_
        refine g_iload rfl rfl rfl (pc' := 21) ?_
        obtain ⟨n1, hn1, H⟩ := H
        refine t_iaload hT (o := 115) (l := 2) rfl rfl rfl hn1 (pc' := 22) rfl ?_
        refine g_ic_lt rfl (pc' := 25) (pt := 30) rfl rfl ⟨fun hc => ?_, fun hc => ?_⟩
        · have H := H.1 hc
          refine g_aload (r := some _) rfl rfl rfl (pc' := 31) ?_
          refine t_get (o := 112) rfl hT rfl rfl rfl (pc' := 34) rfl ?_
          refine g_iconst rfl rfl rfl (pc' := 37) ?_
          refine g_iload rfl rfl rfl (pc' := 38) ?_
          refine g_imul rfl rfl (pc' := 39) ?_
          refine g_iload rfl rfl rfl (pc' := 40) ?_
          refine g_iadd rfl rfl (pc' := 41) ?_
          obtain ⟨n2, hn2, H⟩ := H
          refine t_baload hT (o := 112) (l := 12200) rfl rfl rfl hn2 (pc' := 42) rfl ?_
          refine g_iconst rfl rfl rfl (pc' := 45) ?_
          refine g_iand rfl rfl (pc' := 46) ?_
          exact g_ireturn rfl (Or.inl rfl) H
        · have H := H.2 hc
          exact g_weak (show gm_Lle [] _ from trivial) H
    · have H := H.2 hc
      refine g_iconst rfl rfl rfl (pc' := 10) ?_
      exact g_ireturn rfl (Or.inl rfl) H
theorem w_158_25 {m : Nat}  {h : hh_T} {Q : Option Value ⊕ Nat → hh_T → Prop} (hT : tw_ok h m) (H : Q (.inl (some (.int (Int32.ofInt (-2))))) h) : gm_G 158 25 [] [] h Q := by
  refine g_iconst rfl rfl rfl (pc' := 27) ?_
  refine g_goto rfl (pc' := 46) rfl ?_
  exact g_ireturn rfl (Or.inl rfl) H
theorem w_159_0 {m : Nat} {b0 : Nat} {x1 : Int32} {x2 : Int32} {h : hh_T} {Q : Option Value ⊕ Nat → hh_T → Prop} (hT : tw_ok h m) (H : gm_G 159 7 [some (.ref b0), some (.int x1), some (.int x2), some (.long (Int64.ofNat 7)), none, some (.int (Int32.ofNat 0))] [] h Q) : gm_G 159 0 [some (.ref b0), some (.int x1), some (.int x2)] [] h Q := by
  refine g_lconst rfl rfl rfl (pc' := 3) ?_
  refine g_lstore rfl rfl rfl (pc' := 4) ?_
  refine g_iconst rfl rfl rfl (pc' := 5) ?_
  refine g_istore rfl rfl rfl (pc' := 7) ?_
  exact g_weak (show gm_Lle [some _, some _, some _, some _, none, some _] _ from ⟨rfl, ⟨rfl, ⟨rfl, ⟨rfl, ⟨rfl, trivial⟩⟩⟩⟩⟩) H
theorem w_159_7 {m : Nat} {b0 : Nat} {x1 : Int32} {x2 : Int32} {j3 : Int64} {x5 : Int32} {h : hh_T} {Q : Option Value ⊕ Nat → hh_T → Prop} (hT : tw_ok h m) (H : (¬ x5 < ((Int32.ofNat 2) * x2) → (Q (.inl (some (.long j3))) h)) ∧ (x5 < ((Int32.ofNat 2) * x2) → ((¬ x5 < x2 → (gm_G 159 34 [some (.ref b0), some (.int x1), some (.int x2), some (.long j3), none, some (.int x5)] [.int ((((Int32.ofNat 2) * x2) - (Int32.ofNat 1)) - x5)] h Q)) ∧ (x5 < x2 → (gm_G 159 34 [some (.ref b0), some (.int x1), some (.int x2), some (.long j3), none, some (.int x5)] [.int x5] h Q))))) : gm_G 159 7 [some (.ref b0), some (.int x1), some (.int x2), some (.long j3), none, some (.int x5)] [] h Q := by
  refine g_iload rfl rfl rfl (pc' := 9) ?_
  refine g_iconst rfl rfl rfl (pc' := 10) ?_
  refine g_iload rfl rfl rfl (pc' := 11) ?_
  refine g_imul rfl rfl (pc' := 12) ?_
  refine g_ic_ge rfl (pc' := 15) (pt := 70) rfl rfl ⟨fun hc => ?_, fun hc => ?_⟩
  · have H := H.1 hc
    refine g_lload rfl rfl rfl (pc' := 71) ?_
    exact g_lreturn rfl H
  · have H := H.2 hc
    refine g_iload rfl rfl rfl (pc' := 17) ?_
    refine g_iload rfl rfl rfl (pc' := 18) ?_
    refine g_ic_ge rfl (pc' := 21) (pt := 26) rfl rfl ⟨fun hc => ?_, fun hc => ?_⟩
    · have H := H.1 hc
      refine g_iconst rfl rfl rfl (pc' := 27) ?_
      refine g_iload rfl rfl rfl (pc' := 28) ?_
      refine g_imul rfl rfl (pc' := 29) ?_
      refine g_iconst rfl rfl rfl (pc' := 30) ?_
      refine g_isub rfl rfl (pc' := 31) ?_
      refine g_iload rfl rfl rfl (pc' := 33) ?_
      refine g_isub rfl rfl (pc' := 34) ?_
      exact g_weak (show gm_Lle [some _, some _, some _, some _, none, some _] _ from ⟨rfl, ⟨rfl, ⟨rfl, ⟨rfl, ⟨rfl, trivial⟩⟩⟩⟩⟩) H
    · have H := H.2 hc
      refine g_iload rfl rfl rfl (pc' := 23) ?_
      refine g_goto rfl (pc' := 34) rfl ?_
      exact g_weak (show gm_Lle [some _, some _, some _, some _, none, some _] _ from ⟨rfl, ⟨rfl, ⟨rfl, ⟨rfl, ⟨rfl, trivial⟩⟩⟩⟩⟩) H
theorem w_159_34 {m : Nat} {b0 : Nat} {x1 : Int32} {x2 : Int32} {j3 : Int64} {x5 : Int32} {y0 : Int32} {h : hh_T} {Q : Option Value ⊕ Nat → hh_T → Prop} (hT : tw_ok h m) (H : (hh_tg h b0 = 101 ∨ hh_tg h b0 = 102) ∧ (∃ n1, gm_ix (x1 + y0) n1 (hh_ln h b0) ∧ (gm_G 159 7 [some (.ref b0), some (.int x1), some (.int x2), some (.long ((((j3 ^^^ (((hh_i h b0 n1) &&& (Int32.ofNat 255)).toInt64)) <<< ((Int32.ofNat 11).toInt64 &&& 63)) ||| (((j3 ^^^ (((hh_i h b0 n1) &&& (Int32.ofNat 255)).toInt64)).toUInt64 >>> ((Int32.ofNat 53).toInt64.toUInt64 &&& Int64.toUInt64 63)).toInt64)) * (Int64.ofNat 2654435761))), none, some (.int (x5 + (Int32.ofNat 1)))] [] h Q))) : gm_G 159 34 [some (.ref b0), some (.int x1), some (.int x2), some (.long j3), none, some (.int x5)] [.int y0] h Q := by
  refine g_istore rfl rfl rfl (pc' := 36) ?_
  refine g_lload rfl rfl rfl (pc' := 37) ?_
  refine g_aload (r := some _) rfl rfl rfl (pc' := 38) ?_
  refine g_iload rfl rfl rfl (pc' := 39) ?_
  refine g_iload rfl rfl rfl (pc' := 41) ?_
  refine g_iadd rfl rfl (pc' := 42) ?_
  obtain ⟨ht2, H⟩ := H
  obtain ⟨n1, hn1, H⟩ := H
  refine g_baload rfl ht2 hn1 (pc' := 43) rfl ?_
  refine g_iconst rfl rfl rfl (pc' := 46) ?_
  refine g_iand rfl rfl (pc' := 47) ?_
  refine g_i2l rfl rfl (pc' := 48) ?_
  refine g_lxor rfl rfl (pc' := 49) ?_
  refine g_lstore rfl rfl rfl (pc' := 50) ?_
  refine g_lload rfl rfl rfl (pc' := 51) ?_
  refine g_iconst rfl rfl rfl (pc' := 53) ?_
  refine g_lshl rfl rfl (pc' := 54) ?_
  refine g_lload rfl rfl rfl (pc' := 55) ?_
  refine g_iconst rfl rfl rfl (pc' := 57) ?_
  refine g_lushr rfl rfl (pc' := 58) ?_
  refine g_lor rfl rfl (pc' := 59) ?_
  refine g_lconst rfl rfl rfl (pc' := 62) ?_
  refine g_lmul rfl rfl (pc' := 63) ?_
  refine g_lstore rfl rfl rfl (pc' := 64) ?_
  refine g_iinc (c := (Int32.ofNat 1)) rfl rfl rfl rfl rfl (pc' := 67) ?_
  refine g_goto rfl (pc' := 7) rfl ?_
  exact g_weak (show gm_Lle [some _, some _, some _, some _, none, some _] _ from ⟨rfl, ⟨rfl, ⟨rfl, ⟨rfl, ⟨rfl, trivial⟩⟩⟩⟩⟩) H
theorem w_160_0 {m : Nat} {x1 : Int32} {x2 : Int32} {x3 : Int32} {x4 : Int32} {h : hh_T} {Q : Option Value ⊕ Nat → hh_T → Prop} (hT : tw_ok h m) (H : gm_G 160 3 [some (.ref m), some (.int x1), some (.int x2), some (.int x3), some (.int x4), some (.int (Int32.ofNat 0))] [] h Q) : gm_G 160 0 [some (.ref m), some (.int x1), some (.int x2), some (.int x3), some (.int x4)] [] h Q := by
  refine g_iconst rfl rfl rfl (pc' := 1) ?_
  refine g_istore rfl rfl rfl (pc' := 3) ?_
  exact g_weak (show gm_Lle [some _, some _, some _, some _, some _, some _] _ from ⟨rfl, ⟨rfl, ⟨rfl, ⟨rfl, ⟨rfl, ⟨rfl, trivial⟩⟩⟩⟩⟩⟩) H
theorem w_160_3 {m : Nat} {x1 : Int32} {x2 : Int32} {x3 : Int32} {x4 : Int32} {x5 : Int32} {h : hh_T} {Q : Option Value ⊕ Nat → hh_T → Prop} (hT : tw_ok h m) (H : (¬ x5 < (Int32.ofNat 4) → (Q (.inl none) h)) ∧ (x5 < (Int32.ofNat 4) → ((¬ (hh_i h m 111) = Int32.ofNat 0 → (Q (.inl none) h)) ∧ ((hh_i h m 111) = Int32.ofNat 0 → (∃ n1, gm_ix x5 n1 4 ∧ (((hh_i h (m + 97) n1) = Int32.ofNat 0 → (gm_G 160 109 [some (.ref m), some (.int x1), some (.int x2), some (.int x3), some (.int x4), some (.int x5)] [] h Q)) ∧ (¬ (hh_i h (m + 97) n1) = Int32.ofNat 0 → (∃ n2, gm_ix x5 n2 4 ∧ (∃ n3, gm_ix x1 n3 32 ∧ ((¬ (hh_i h (m + 99) n2) = (hh_i h (m + 59) n3) → (gm_G 160 109 [some (.ref m), some (.int x1), some (.int x2), some (.int x3), some (.int x4), some (.int x5)] [] h Q)) ∧ ((hh_i h (m + 99) n2) = (hh_i h (m + 59) n3) → (∃ n4, gm_ix x5 n4 4 ∧ (((hh_i h (m + 100) n4) = x2 → (∃ n5, gm_ix x5 n5 4 ∧ ((¬ (hh_i h (m + 101) n5) = (Int32.ofNat 6) → (∃ n6, gm_ix x5 n6 4 ∧ (∃ n7, gm_ix x5 n7 4 ∧ (∀ h8, h8 = hh_wi h (m + 101) n7 ((hh_i h (m + 101) n6) + (Int32.ofNat 1)) → (∃ n9, gm_ix (((Int32.ofNat 6) * x5) + (hh_i h (m + 101) n6)) n9 24 ∧ (∀ h10, h10 = hh_wi h8 (m + 102) n9 (((Int32.ofNat 16) * x3) + x4) → (gm_G 160 109 [some (.ref m), some (.int x1), some (.int x2), some (.int x3), some (.int x4), some (.int x5)] [] h10 Q))))))) ∧ ((hh_i h (m + 101) n5) = (Int32.ofNat 6) → (∃ n11, gm_ix x5 n11 4 ∧ (∀ h12, h12 = hh_wi h (m + 98) n11 (Int32.ofNat 1) → (gm_G 160 109 [some (.ref m), some (.int x1), some (.int x2), some (.int x3), some (.int x4), some (.int x5)] [] h12 Q))))))) ∧ (¬ (hh_i h (m + 100) n4) = x2 → (gm_G 160 109 [some (.ref m), some (.int x1), some (.int x2), some (.int x3), some (.int x4), some (.int x5)] [] h Q))))))))))))))) : gm_G 160 3 [some (.ref m), some (.int x1), some (.int x2), some (.int x3), some (.int x4), some (.int x5)] [] h Q := by
  refine g_iload rfl rfl rfl (pc' := 5) ?_
  refine g_iconst rfl rfl rfl (pc' := 6) ?_
  refine g_ic_ge rfl (pc' := 9) (pt := 115) rfl rfl ⟨fun hc => ?_, fun hc => ?_⟩
  · have H := H.1 hc
    exact g_return rfl H
  · have H := H.2 hc
    refine g_aload (r := some _) rfl rfl rfl (pc' := 10) ?_
    refine t_getZ rfl hT rfl rfl (pc' := 13) rfl ?_
    refine g_if_ne rfl (pc' := 16) (pt := 115) rfl rfl ⟨fun hc => ?_, fun hc => ?_⟩
    · have H := H.1 hc
      exact g_return rfl H
    · have H := H.2 hc
      refine g_aload (r := some _) rfl rfl rfl (pc' := 17) ?_
      refine t_get (o := 97) rfl hT rfl rfl rfl (pc' := 20) rfl ?_
      refine g_iload rfl rfl rfl (pc' := 22) ?_
      obtain ⟨n1, hn1, H⟩ := H
      refine t_zaload hT (o := 97) (l := 4) rfl rfl rfl hn1 (pc' := 23) rfl ?_
      refine g_if_eq rfl (pc' := 26) (pt := 109) rfl rfl ⟨fun hc => ?_, fun hc => ?_⟩
      · have H := H.1 hc
        exact g_weak (show gm_Lle [some _, some _, some _, some _, some _, some _] _ from ⟨rfl, ⟨rfl, ⟨rfl, ⟨rfl, ⟨rfl, ⟨rfl, trivial⟩⟩⟩⟩⟩⟩) H
      · have H := H.2 hc
        refine g_aload (r := some _) rfl rfl rfl (pc' := 27) ?_
        refine t_get (o := 99) rfl hT rfl rfl rfl (pc' := 30) rfl ?_
        refine g_iload rfl rfl rfl (pc' := 32) ?_
        obtain ⟨n2, hn2, H⟩ := H
        refine t_iaload hT (o := 99) (l := 4) rfl rfl rfl hn2 (pc' := 33) rfl ?_
        refine g_aload (r := some _) rfl rfl rfl (pc' := 34) ?_
        refine t_get (o := 59) rfl hT rfl rfl rfl (pc' := 37) rfl ?_
        refine g_iload rfl rfl rfl (pc' := 38) ?_
        obtain ⟨n3, hn3, H⟩ := H
        refine t_iaload hT (o := 59) (l := 32) rfl rfl rfl hn3 (pc' := 39) rfl ?_
        refine g_ic_ne rfl (pc' := 42) (pt := 109) rfl rfl ⟨fun hc => ?_, fun hc => ?_⟩
        · have H := H.1 hc
          exact g_weak (show gm_Lle [some _, some _, some _, some _, some _, some _] _ from ⟨rfl, ⟨rfl, ⟨rfl, ⟨rfl, ⟨rfl, ⟨rfl, trivial⟩⟩⟩⟩⟩⟩) H
        · have H := H.2 hc
          refine g_aload (r := some _) rfl rfl rfl (pc' := 43) ?_
          refine t_get (o := 100) rfl hT rfl rfl rfl (pc' := 46) rfl ?_
          refine g_iload rfl rfl rfl (pc' := 48) ?_
          obtain ⟨n4, hn4, H⟩ := H
          refine t_iaload hT (o := 100) (l := 4) rfl rfl rfl hn4 (pc' := 49) rfl ?_
          refine g_iload rfl rfl rfl (pc' := 50) ?_
          refine g_ic_eq rfl (pc' := 53) (pt := 56) rfl rfl ⟨fun hc => ?_, fun hc => ?_⟩
          · have H := H.1 hc
            refine g_aload (r := some _) rfl rfl rfl (pc' := 57) ?_
            refine t_get (o := 101) rfl hT rfl rfl rfl (pc' := 60) rfl ?_
            refine g_iload rfl rfl rfl (pc' := 62) ?_
            obtain ⟨n5, hn5, H⟩ := H
            refine t_iaload hT (o := 101) (l := 4) rfl rfl rfl hn5 (pc' := 63) rfl ?_
            refine g_iconst rfl rfl rfl (pc' := 65) ?_
            refine g_ic_ne rfl (pc' := 68) (pt := 79) rfl rfl ⟨fun hc => ?_, fun hc => ?_⟩
            · have H := H.1 hc
              refine g_aload (r := some _) rfl rfl rfl (pc' := 80) ?_
              refine t_get (o := 102) rfl hT rfl rfl rfl (pc' := 83) rfl ?_
              refine g_iconst rfl rfl rfl (pc' := 85) ?_
              refine g_iload rfl rfl rfl (pc' := 87) ?_
              refine g_imul rfl rfl (pc' := 88) ?_
              refine g_aload (r := some _) rfl rfl rfl (pc' := 89) ?_
              refine t_get (o := 101) rfl hT rfl rfl rfl (pc' := 92) rfl ?_
              refine g_iload rfl rfl rfl (pc' := 94) ?_
              refine g_dup2_a rfl (pc' := 95) rfl ?_
              obtain ⟨n6, hn6, H⟩ := H
              refine t_iaload hT (o := 101) (l := 4) rfl rfl rfl hn6 (pc' := 96) rfl ?_
              refine g_dup_x2 rfl (pc' := 97) rfl ?_
              refine g_iconst rfl rfl rfl (pc' := 98) ?_
              refine g_iadd rfl rfl (pc' := 99) ?_
              obtain ⟨n7, hn7, H⟩ := H
              refine t_iastore hT (o := 101) (l := 4) rfl rfl rfl hn7  (pc' := 100) rfl (fun hT => ?_)
              have H := H _ rfl
              refine g_iadd rfl rfl (pc' := 101) ?_
              refine g_iconst rfl rfl rfl (pc' := 103) ?_
              refine g_iload rfl rfl rfl (pc' := 104) ?_
              refine g_imul rfl rfl (pc' := 105) ?_
              refine g_iload rfl rfl rfl (pc' := 107) ?_
              refine g_iadd rfl rfl (pc' := 108) ?_
              obtain ⟨n9, hn9, H⟩ := H
              refine t_iastore hT (o := 102) (l := 24) rfl rfl rfl hn9  (pc' := 109) rfl (fun hT => ?_)
              have H := H _ rfl
              exact g_weak (show gm_Lle [some _, some _, some _, some _, some _, some _] _ from ⟨rfl, ⟨rfl, ⟨rfl, ⟨rfl, ⟨rfl, ⟨rfl, trivial⟩⟩⟩⟩⟩⟩) H
            · have H := H.2 hc
              refine g_aload (r := some _) rfl rfl rfl (pc' := 69) ?_
              refine t_get (o := 98) rfl hT rfl rfl rfl (pc' := 72) rfl ?_
              refine g_iload rfl rfl rfl (pc' := 74) ?_
              refine g_iconst rfl rfl rfl (pc' := 75) ?_
              obtain ⟨n11, hn11, H⟩ := H
              refine t_zastore hT (o := 98) (l := 4) rfl rfl rfl hn11 (by decide) (pc' := 76) rfl (fun hT => ?_)
              have H := H _ rfl
              refine g_goto rfl (pc' := 109) rfl ?_
              exact g_weak (show gm_Lle [some _, some _, some _, some _, some _, some _] _ from ⟨rfl, ⟨rfl, ⟨rfl, ⟨rfl, ⟨rfl, ⟨rfl, trivial⟩⟩⟩⟩⟩⟩) H
          · have H := H.2 hc
            refine g_goto rfl (pc' := 109) rfl ?_
            exact g_weak (show gm_Lle [some _, some _, some _, some _, some _, some _] _ from ⟨rfl, ⟨rfl, ⟨rfl, ⟨rfl, ⟨rfl, ⟨rfl, trivial⟩⟩⟩⟩⟩⟩) H
theorem w_160_109 {m : Nat} {x1 : Int32} {x2 : Int32} {x3 : Int32} {x4 : Int32} {x5 : Int32} {h : hh_T} {Q : Option Value ⊕ Nat → hh_T → Prop} (hT : tw_ok h m) (H : gm_G 160 3 [some (.ref m), some (.int x1), some (.int x2), some (.int x3), some (.int x4), some (.int (x5 + (Int32.ofNat 1)))] [] h Q) : gm_G 160 109 [some (.ref m), some (.int x1), some (.int x2), some (.int x3), some (.int x4), some (.int x5)] [] h Q := by
  refine g_iinc (c := (Int32.ofNat 1)) rfl rfl rfl rfl rfl (pc' := 112) ?_
  refine g_goto rfl (pc' := 3) rfl ?_
  exact g_weak (show gm_Lle [some _, some _, some _, some _, some _, some _] _ from ⟨rfl, ⟨rfl, ⟨rfl, ⟨rfl, ⟨rfl, ⟨rfl, trivial⟩⟩⟩⟩⟩⟩) H
theorem w_161_0 {m : Nat} {x0 : Int32} {x1 : Int32} {h : hh_T} {Q : Option Value ⊕ Nat → hh_T → Prop} (hT : tw_ok h m) (H : gm_G 161 7 [none, some (.int x1), some (.int (Int32.ofNat 0)), some (.int x0), some (.int (Int32.ofNat 0))] [] h Q) : gm_G 161 0 [some (.int x0), some (.int x1)] [] h Q := by
  refine g_iconst rfl rfl rfl (pc' := 1) ?_
  refine g_istore rfl rfl rfl (pc' := 2) ?_
  refine g_iload rfl rfl rfl (pc' := 3) ?_
  refine g_istore rfl rfl rfl (pc' := 4) ?_
  refine g_iconst rfl rfl rfl (pc' := 5) ?_
  refine g_istore rfl rfl rfl (pc' := 7) ?_
  exact g_weak (show gm_Lle [none, some _, some _, some _, some _] _ from ⟨rfl, ⟨rfl, ⟨rfl, ⟨rfl, trivial⟩⟩⟩⟩) H
theorem w_161_7 {m : Nat} {x1 : Int32} {x2 : Int32} {x3 : Int32} {x4 : Int32} {h : hh_T} {Q : Option Value ⊕ Nat → hh_T → Prop} (hT : tw_ok h m) (H : (¬ x4 < (Int32.ofNat 8) → (Q (.inl (some (.int x2))) h)) ∧ (x4 < (Int32.ofNat 8) → ((¬ ((x1 >>> (x4 &&& 31)) &&& (Int32.ofNat 1)) = (Int32.ofNat 1) → (gm_G 161 28 [none, some (.int x1), some (.int x2), some (.int x3), some (.int x4)] [] h Q)) ∧ (((x1 >>> (x4 &&& 31)) &&& (Int32.ofNat 1)) = (Int32.ofNat 1) → (gm_G 161 28 [none, some (.int x1), some (.int (x2 ^^^ x3)), some (.int x3), some (.int x4)] [] h Q))))) : gm_G 161 7 [none, some (.int x1), some (.int x2), some (.int x3), some (.int x4)] [] h Q := by
  refine g_iload rfl rfl rfl (pc' := 9) ?_
  refine g_iconst rfl rfl rfl (pc' := 11) ?_
  refine g_ic_ge rfl (pc' := 14) (pt := 60) rfl rfl ⟨fun hc => ?_, fun hc => ?_⟩
  · have H := H.1 hc
    refine g_iload rfl rfl rfl (pc' := 61) ?_
    exact g_ireturn rfl (Or.inl rfl) H
  · have H := H.2 hc
    refine g_iload rfl rfl rfl (pc' := 15) ?_
    refine g_iload rfl rfl rfl (pc' := 17) ?_
    refine g_ishr rfl rfl (pc' := 18) ?_
    refine g_iconst rfl rfl rfl (pc' := 19) ?_
    refine g_iand rfl rfl (pc' := 20) ?_
    refine g_iconst rfl rfl rfl (pc' := 21) ?_
    refine g_ic_ne rfl (pc' := 24) (pt := 28) rfl rfl ⟨fun hc => ?_, fun hc => ?_⟩
    · have H := H.1 hc
      exact g_weak (show gm_Lle [none, some _, some _, some _, some _] _ from ⟨rfl, ⟨rfl, ⟨rfl, ⟨rfl, trivial⟩⟩⟩⟩) H
    · have H := H.2 hc
      refine g_iload rfl rfl rfl (pc' := 25) ?_
      refine g_iload rfl rfl rfl (pc' := 26) ?_
      refine g_ixor rfl rfl (pc' := 27) ?_
      refine g_istore rfl rfl rfl (pc' := 28) ?_
      exact g_weak (show gm_Lle [none, some _, some _, some _, some _] _ from ⟨rfl, ⟨rfl, ⟨rfl, ⟨rfl, trivial⟩⟩⟩⟩) H
theorem w_161_28 {m : Nat} {x1 : Int32} {x2 : Int32} {x3 : Int32} {x4 : Int32} {h : hh_T} {Q : Option Value ⊕ Nat → hh_T → Prop} (hT : tw_ok h m) (H : ((x3 &&& (Int32.ofNat 128)) = Int32.ofNat 0 → (gm_G 161 53 [none, some (.int x1), some (.int x2), none, some (.int x4)] [.int (x3 <<< ((Int32.ofNat 1) &&& 31))] h Q)) ∧ (¬ (x3 &&& (Int32.ofNat 128)) = Int32.ofNat 0 → (gm_G 161 53 [none, some (.int x1), some (.int x2), none, some (.int x4)] [.int (((x3 <<< ((Int32.ofNat 1) &&& 31)) ^^^ (Int32.ofNat 285)) &&& (Int32.ofNat 255))] h Q))) : gm_G 161 28 [none, some (.int x1), some (.int x2), some (.int x3), some (.int x4)] [] h Q := by
  refine g_iload rfl rfl rfl (pc' := 29) ?_
  refine g_iconst rfl rfl rfl (pc' := 32) ?_
  refine g_iand rfl rfl (pc' := 33) ?_
  refine g_if_eq rfl (pc' := 36) (pt := 50) rfl rfl ⟨fun hc => ?_, fun hc => ?_⟩
  · have H := H.1 hc
    refine g_iload rfl rfl rfl (pc' := 51) ?_
    refine g_iconst rfl rfl rfl (pc' := 52) ?_
    refine g_ishl rfl rfl (pc' := 53) ?_
    exact g_weak (show gm_Lle [none, some _, some _, none, some _] _ from ⟨rfl, ⟨rfl, ⟨rfl, trivial⟩⟩⟩) H
  · have H := H.2 hc
    refine g_iload rfl rfl rfl (pc' := 37) ?_
    refine g_iconst rfl rfl rfl (pc' := 38) ?_
    refine g_ishl rfl rfl (pc' := 39) ?_
    refine g_iconst rfl rfl rfl (pc' := 42) ?_
    refine g_ixor rfl rfl (pc' := 43) ?_
    refine g_iconst rfl rfl rfl (pc' := 46) ?_
    refine g_iand rfl rfl (pc' := 47) ?_
    refine g_goto rfl (pc' := 53) rfl ?_
    exact g_weak (show gm_Lle [none, some _, some _, none, some _] _ from ⟨rfl, ⟨rfl, ⟨rfl, trivial⟩⟩⟩) H
theorem w_161_53 {m : Nat} {x1 : Int32} {x2 : Int32} {x4 : Int32} {y0 : Int32} {h : hh_T} {Q : Option Value ⊕ Nat → hh_T → Prop} (hT : tw_ok h m) (H : gm_G 161 7 [none, some (.int x1), some (.int x2), some (.int y0), some (.int (x4 + (Int32.ofNat 1)))] [] h Q) : gm_G 161 53 [none, some (.int x1), some (.int x2), none, some (.int x4)] [.int y0] h Q := by
  refine g_istore rfl rfl rfl (pc' := 54) ?_
  refine g_iinc (c := (Int32.ofNat 1)) rfl rfl rfl rfl rfl (pc' := 57) ?_
  refine g_goto rfl (pc' := 7) rfl ?_
  exact g_weak (show gm_Lle [none, some _, some _, some _, some _] _ from ⟨rfl, ⟨rfl, ⟨rfl, ⟨rfl, trivial⟩⟩⟩⟩) H
theorem w_162_0 {m : Nat} {x1 : Int32} {h : hh_T} {Q : Option Value ⊕ Nat → hh_T → Prop} (hT : tw_ok h m) (H : ∃ n1, gm_ix x1 n1 320 ∧ (∃ n2, gm_ix (x1 + (Int32.ofNat 1)) n2 320 ∧ (Q (.inl (some (.int ((((hh_i h (m + 1) n1) &&& (Int32.ofNat 255)) <<< ((Int32.ofNat 8) &&& 31)) ||| ((hh_i h (m + 1) n2) &&& (Int32.ofNat 255)))))) h))) : gm_G 162 0 [some (.ref m), some (.int x1)] [] h Q := by
  refine g_aload (r := some _) rfl rfl rfl (pc' := 1) ?_
  refine t_get (o := 1) rfl hT rfl rfl rfl (pc' := 4) rfl ?_
  refine g_iload rfl rfl rfl (pc' := 5) ?_
  obtain ⟨n1, hn1, H⟩ := H
  refine t_baload hT (o := 1) (l := 320) rfl rfl rfl hn1 (pc' := 6) rfl ?_
  refine g_iconst rfl rfl rfl (pc' := 9) ?_
  refine g_iand rfl rfl (pc' := 10) ?_
  refine g_iconst rfl rfl rfl (pc' := 12) ?_
  refine g_ishl rfl rfl (pc' := 13) ?_
  refine g_aload (r := some _) rfl rfl rfl (pc' := 14) ?_
  refine t_get (o := 1) rfl hT rfl rfl rfl (pc' := 17) rfl ?_
  refine g_iload rfl rfl rfl (pc' := 18) ?_
  refine g_iconst rfl rfl rfl (pc' := 19) ?_
  refine g_iadd rfl rfl (pc' := 20) ?_
  obtain ⟨n2, hn2, H⟩ := H
  refine t_baload hT (o := 1) (l := 320) rfl rfl rfl hn2 (pc' := 21) rfl ?_
  refine g_iconst rfl rfl rfl (pc' := 24) ?_
  refine g_iand rfl rfl (pc' := 25) ?_
  refine g_ior rfl rfl (pc' := 26) ?_
  exact g_ireturn rfl (Or.inl rfl) H
theorem w_163_0 {m : Nat} {x1 : Int32} {h : hh_T} {Q : Option Value ⊕ Nat → hh_T → Prop} (hT : tw_ok h m) (H : (¬ (hh_i h m 77) = Int32.ofNat 0 → ((x1 < Int32.ofNat 0 → (Q (.inl (some (.int (Int32.ofInt (-1))))) h)) ∧ (¬ x1 < Int32.ofNat 0 → ((¬ (Int32.ofNat 3) < x1 → (∃ n1, gm_ix x1 n1 4 ∧ ((¬ (hh_i h (m + 97) n1) = Int32.ofNat 0 → (∃ n2, gm_ix x1 n2 4 ∧ (∀ h3, h3 = hh_wi h (m + 97) n2 (Int32.ofNat 0) → (Q (.inl (some (.int (Int32.ofNat 0)))) h3)))) ∧ ((hh_i h (m + 97) n1) = Int32.ofNat 0 → (Q (.inl (some (.int (Int32.ofInt (-2))))) h))))) ∧ ((Int32.ofNat 3) < x1 → (Q (.inl (some (.int (Int32.ofInt (-1))))) h)))))) ∧ ((hh_i h m 77) = Int32.ofNat 0 → (Q (.inl (some (.int (Int32.ofInt (-9))))) h))) : gm_G 163 0 [some (.ref m), some (.int x1)] [] h Q := by
  refine g_aload (r := some _) rfl rfl rfl (pc' := 1) ?_
  refine t_getZ rfl hT rfl rfl (pc' := 4) rfl ?_
  refine g_if_ne rfl (pc' := 7) (pt := 10) rfl rfl ⟨fun hc => ?_, fun hc => ?_⟩
  · have H := H.1 hc
    refine g_iload rfl rfl rfl (pc' := 11) ?_
    refine g_if_lt rfl (pc' := 14) (pt := 19) rfl rfl ⟨fun hc => ?_, fun hc => ?_⟩
    · have H := H.1 hc
      refine g_iconst rfl rfl rfl (pc' := 20) ?_
      exact g_ireturn rfl (Or.inl rfl) H
    · have H := H.2 hc
      refine g_iload rfl rfl rfl (pc' := 15) ?_
      refine g_iconst rfl rfl rfl (pc' := 16) ?_
      refine g_ic_le rfl (pc' := 19) (pt := 21) rfl rfl ⟨fun hc => ?_, fun hc => ?_⟩
      · have H := H.1 hc
        refine g_aload (r := some _) rfl rfl rfl (pc' := 22) ?_
        refine t_get (o := 97) rfl hT rfl rfl rfl (pc' := 25) rfl ?_
        refine g_iload rfl rfl rfl (pc' := 26) ?_
        obtain ⟨n1, hn1, H⟩ := H
        refine t_zaload hT (o := 97) (l := 4) rfl rfl rfl hn1 (pc' := 27) rfl ?_
        refine g_if_ne rfl (pc' := 30) (pt := 33) rfl rfl ⟨fun hc => ?_, fun hc => ?_⟩
        · have H := H.1 hc
          refine g_aload (r := some _) rfl rfl rfl (pc' := 34) ?_
          refine t_get (o := 97) rfl hT rfl rfl rfl (pc' := 37) rfl ?_
          refine g_iload rfl rfl rfl (pc' := 38) ?_
          refine g_iconst rfl rfl rfl (pc' := 39) ?_
          obtain ⟨n2, hn2, H⟩ := H
          refine t_zastore hT (o := 97) (l := 4) rfl rfl rfl hn2 (by decide) (pc' := 40) rfl (fun hT => ?_)
          have H := H _ rfl
          refine g_iconst rfl rfl rfl (pc' := 41) ?_
          exact g_ireturn rfl (Or.inl rfl) H
        · have H := H.2 hc
          refine g_iconst rfl rfl rfl (pc' := 32) ?_
          exact g_ireturn rfl (Or.inl rfl) H
      · have H := H.2 hc
        refine g_iconst rfl rfl rfl (pc' := 20) ?_
        exact g_ireturn rfl (Or.inl rfl) H
  · have H := H.2 hc
    refine g_iconst rfl rfl rfl (pc' := 9) ?_
    exact g_ireturn rfl (Or.inl rfl) H
theorem w_164_0 {m : Nat} {x1 : Int32} {h : hh_T} {Q : Option Value ⊕ Nat → hh_T → Prop} (hT : tw_ok h m) (H : (x1 < Int32.ofNat 0 → (Q (.inl (some (.int (Int32.ofInt (-1))))) h)) ∧ (¬ x1 < Int32.ofNat 0 → ((¬ (Int32.ofNat 7) < x1 → (∀ h1, h1 = hh_wi h m 5 x1 → (Q (.inl (some (.int (hh_i h m 5)))) h1))) ∧ ((Int32.ofNat 7) < x1 → (Q (.inl (some (.int (Int32.ofInt (-1))))) h))))) : gm_G 164 0 [some (.ref m), some (.int x1)] [] h Q := by
  refine g_iload rfl rfl rfl (pc' := 1) ?_
  refine g_if_lt rfl (pc' := 4) (pt := 10) rfl rfl ⟨fun hc => ?_, fun hc => ?_⟩
  · have H := H.1 hc
    refine g_iconst rfl rfl rfl (pc' := 11) ?_
    exact g_ireturn rfl (Or.inl rfl) H
  · have H := H.2 hc
    refine g_iload rfl rfl rfl (pc' := 5) ?_
    refine g_iconst rfl rfl rfl (pc' := 7) ?_
    refine g_ic_le rfl (pc' := 10) (pt := 12) rfl rfl ⟨fun hc => ?_, fun hc => ?_⟩
    · have H := H.1 hc
      refine g_aload (r := some _) rfl rfl rfl (pc' := 13) ?_
      refine t_getI rfl hT rfl rfl (pc' := 16) rfl ?_
      refine g_istore rfl rfl rfl (pc' := 17) ?_
      refine g_aload (r := some _) rfl rfl rfl (pc' := 18) ?_
      refine g_iload rfl rfl rfl (pc' := 19) ?_
      refine t_putI rfl hT rfl rfl  (pc' := 22) rfl (fun hT => ?_)
      have H := H _ rfl
      refine g_iload rfl rfl rfl (pc' := 23) ?_
      exact g_ireturn rfl (Or.inl rfl) H
    · have H := H.2 hc
      refine g_iconst rfl rfl rfl (pc' := 11) ?_
      exact g_ireturn rfl (Or.inl rfl) H
theorem w_165_0 {m : Nat}  {h : hh_T} {Q : Option Value ⊕ Nat → hh_T → Prop} (hT : tw_ok h m) (H : (¬ Int32.ofNat 0 < (hh_i h m 15) → (gm_G 165 17 [some (.ref m)] [] h Q)) ∧ (Int32.ofNat 0 < (hh_i h m 15) → (∀ h1, h1 = hh_wi h m 15 ((hh_i h m 15) - (Int32.ofNat 1)) → (gm_G 165 17 [some (.ref m)] [] h1 Q)))) : gm_G 165 0 [some (.ref m)] [] h Q := by
  refine g_aload (r := some _) rfl rfl rfl (pc' := 1) ?_
  refine t_getI rfl hT rfl rfl (pc' := 4) rfl ?_
  refine g_if_le rfl (pc' := 7) (pt := 17) rfl rfl ⟨fun hc => ?_, fun hc => ?_⟩
  · have H := H.1 hc
    exact g_weak (show gm_Lle [some _] _ from ⟨rfl, trivial⟩) H
  · have H := H.2 hc
    refine g_aload (r := some _) rfl rfl rfl (pc' := 8) ?_
    refine g_dup_a (r := some _) rfl rfl (pc' := 9) ?_
    refine t_getI rfl hT rfl rfl (pc' := 12) rfl ?_
    refine g_iconst rfl rfl rfl (pc' := 13) ?_
    refine g_isub rfl rfl (pc' := 14) ?_
    refine t_putI rfl hT rfl rfl  (pc' := 17) rfl (fun hT => ?_)
    have H := H _ rfl
    exact g_weak (show gm_Lle [some _] _ from ⟨rfl, trivial⟩) H
theorem w_165_17 {m : Nat}  {h : hh_T} {Q : Option Value ⊕ Nat → hh_T → Prop} (hT : tw_ok h m) (H : ∀ h1, h1 = hh_wi h m 17 ((hh_i h m 17) + (Int32.ofNat 1)) → (Q (.inl none) h1)) : gm_G 165 17 [some (.ref m)] [] h Q := by
  refine g_aload (r := some _) rfl rfl rfl (pc' := 18) ?_
  refine g_dup_a (r := some _) rfl rfl (pc' := 19) ?_
  refine t_getI rfl hT rfl rfl (pc' := 22) rfl ?_
  refine g_iconst rfl rfl rfl (pc' := 23) ?_
  refine g_iadd rfl rfl (pc' := 24) ?_
  refine t_putI rfl hT rfl rfl  (pc' := 27) rfl (fun hT => ?_)
  have H := H _ rfl
  exact g_return rfl H
theorem w_269_0 {m : Nat} {x1 : Int32} {x2 : Int32} {x3 : Int32} {h : hh_T} {Q : Option Value ⊕ Nat → hh_T → Prop} (hT : tw_ok h m) (H : ∃ n1, gm_ix (((Int32.ofNat 16) * x2) + x3) n1 1536 ∧ (gm_G 89 0 [some (.ref m), some (.int x1)] [] h (pV (fun h2 => gm_G 89 0 [some (.ref m), some (.int x3)] [] h2 (pV (fun h3 => gm_G 89 0 [some (.ref m), some (.int (hh_i h (m + 47) n1))] [] h3 (pV (fun h4 => gm_G 89 0 [some (.ref m), some (.int (((((Int32.ofNat 7) * x1) + ((Int32.ofNat 13) * x3)) + ((Int32.ofNat 29) * (hh_i h (m + 47) n1))) + (Int32.ofNat 5)))] [] h4 (pV (fun h5 => Q (.inl none) h5) (fun _ _ => False))) (fun _ _ => False))) (fun _ _ => False))) (fun _ _ => False)))) : gm_G 269 0 [some (.ref m), some (.int x1), some (.int x2), some (.int x3)] [] h Q := by
  refine g_aload (r := some _) rfl rfl rfl (pc' := 1) ?_
  refine t_get (o := 47) rfl hT rfl rfl rfl (pc' := 4) rfl ?_
  refine g_iconst rfl rfl rfl (pc' := 6) ?_
  refine g_iload rfl rfl rfl (pc' := 7) ?_
  refine g_imul rfl rfl (pc' := 8) ?_
  refine g_iload rfl rfl rfl (pc' := 9) ?_
  refine g_iadd rfl rfl (pc' := 10) ?_
  obtain ⟨n1, hn1, H⟩ := H
  refine t_iaload hT (o := 47) (l := 1536) rfl rfl rfl hn1 (pc' := 11) rfl ?_
  refine g_istore rfl rfl rfl (pc' := 13) ?_
  refine g_aload (r := some _) rfl rfl rfl (pc' := 14) ?_
  refine g_iload rfl rfl rfl (pc' := 15) ?_
  refine t_call hT (y := 89) (n := 2) (pc' := 18) rfl rfl (t_vt hT rfl rfl) rfl rfl ⟨(Nat.le_of_ble_eq_true rfl), (Nat.le_of_ble_eq_true rfl), (Nat.le_of_ble_eq_true rfl)⟩ rfl H (tV_elim (fun h2 H hT => ?_))
  show gm_G _ 18 _ _ _ _
  refine g_aload (r := some _) rfl rfl rfl (pc' := 19) ?_
  refine g_iload rfl rfl rfl (pc' := 20) ?_
  refine t_call hT (y := 89) (n := 2) (pc' := 23) rfl rfl (t_vt hT rfl rfl) rfl rfl ⟨(Nat.le_of_ble_eq_true rfl), (Nat.le_of_ble_eq_true rfl), (Nat.le_of_ble_eq_true rfl)⟩ rfl H (tV_elim (fun h3 H hT => ?_))
  show gm_G _ 23 _ _ _ _
  refine g_aload (r := some _) rfl rfl rfl (pc' := 24) ?_
  refine g_iload rfl rfl rfl (pc' := 26) ?_
  refine t_call hT (y := 89) (n := 2) (pc' := 29) rfl rfl (t_vt hT rfl rfl) rfl rfl ⟨(Nat.le_of_ble_eq_true rfl), (Nat.le_of_ble_eq_true rfl), (Nat.le_of_ble_eq_true rfl)⟩ rfl H (tV_elim (fun h4 H hT => ?_))
  show gm_G _ 29 _ _ _ _
  refine g_aload (r := some _) rfl rfl rfl (pc' := 30) ?_
  refine g_iconst rfl rfl rfl (pc' := 32) ?_
  refine g_iload rfl rfl rfl (pc' := 33) ?_
  refine g_imul rfl rfl (pc' := 34) ?_
  refine g_iconst rfl rfl rfl (pc' := 36) ?_
  refine g_iload rfl rfl rfl (pc' := 37) ?_
  refine g_imul rfl rfl (pc' := 38) ?_
  refine g_iadd rfl rfl (pc' := 39) ?_
  refine g_iconst rfl rfl rfl (pc' := 41) ?_
  refine g_iload rfl rfl rfl (pc' := 43) ?_
  refine g_imul rfl rfl (pc' := 44) ?_
  refine g_iadd rfl rfl (pc' := 45) ?_
  refine g_iconst rfl rfl rfl (pc' := 46) ?_
  refine g_iadd rfl rfl (pc' := 47) ?_
  refine t_call hT (y := 89) (n := 2) (pc' := 50) rfl rfl (t_vt hT rfl rfl) rfl rfl ⟨(Nat.le_of_ble_eq_true rfl), (Nat.le_of_ble_eq_true rfl), (Nat.le_of_ble_eq_true rfl)⟩ rfl H (tV_elim (fun h5 H hT => ?_))
  show gm_G _ 50 _ _ _ _
  exact g_return rfl H
theorem w_270_0 {m : Nat} {x1 : Int32} {x2 : Int32} {h : hh_T} {Q : Option Value ⊕ Nat → hh_T → Prop} (hT : tw_ok h m) (H : (¬ (hh_i h m 77) = Int32.ofNat 0 → (gm_G 136 0 [some (.ref m), some (.int x1)] [] h (pI (fun v2 h1 => (¬ v2 = Int32.ofNat 0 → (Q (.inl (some (.int (Int32.ofInt (-1))))) h1)) ∧ (v2 = Int32.ofNat 0 → (gm_G 135 0 [some (.ref m), some (.int x2)] [] h1 (pI (fun v4 h3 => (v4 = Int32.ofNat 0 → (∃ n5, gm_ix x1 n5 3 ∧ ((¬ (hh_i h3 (m + 11) n5) = (Int32.ofNat 2) → (∃ n6, gm_ix x1 n6 3 ∧ ((¬ (hh_i h3 (m + 13) n6) = (Int32.ofNat 3) → (∃ n7, gm_ix x2 n7 8 ∧ ((¬ (hh_i h3 (m + 7) n7) = Int32.ofNat 0 → (Q (.inl (some (.int (Int32.ofInt (-5))))) h3)) ∧ ((hh_i h3 (m + 7) n7) = Int32.ofNat 0 → (∃ n8, gm_ix x2 n8 8 ∧ ((¬ (hh_i h3 (m + 5) n8) < Int32.ofNat 0 → (Q (.inl (some (.int (Int32.ofInt (-5))))) h3)) ∧ ((hh_i h3 (m + 5) n8) < Int32.ofNat 0 → (∃ n9, gm_ix x2 n9 8 ∧ (∃ n10, gm_ix x1 n10 3 ∧ ((¬ (hh_i h3 (m + 4) n9) < (hh_i h3 (m + 14) n10) → (∃ n11, gm_ix x1 n11 3 ∧ (∃ n12, gm_ix (((Int32.ofNat 6) * x1) + (hh_i h3 (m + 13) n11)) n12 18 ∧ (∀ h13, h13 = hh_wi h3 (m + 15) n12 x2 → (∃ n14, gm_ix x1 n14 3 ∧ (∃ n15, gm_ix x1 n15 3 ∧ (∀ h16, h16 = hh_wi h13 (m + 13) n15 ((hh_i h13 (m + 13) n14) + (Int32.ofNat 1)) → (∃ n17, gm_ix x1 n17 3 ∧ (∀ h18, h18 = hh_wi h16 (m + 11) n17 (Int32.ofNat 1) → (∃ n19, gm_ix x2 n19 8 ∧ (∀ h20, h20 = hh_wi h18 (m + 5) n19 x1 → (gm_G 131 0 [some (.ref m), some (.int x1), some (.int x2)] [] h20 (pV (fun h21 => ∃ n22, gm_ix x1 n22 3 ∧ (Q (.inl (some (.int (hh_i h21 (m + 13) n22)))) h21)) (fun _ _ => False)))))))))))))) ∧ ((hh_i h3 (m + 4) n9) < (hh_i h3 (m + 14) n10) → (Q (.inl (some (.int (Int32.ofInt (-5))))) h3)))))))))))) ∧ ((hh_i h3 (m + 13) n6) = (Int32.ofNat 3) → (Q (.inl (some (.int (Int32.ofInt (-3))))) h3))))) ∧ ((hh_i h3 (m + 11) n5) = (Int32.ofNat 2) → (Q (.inl (some (.int (Int32.ofInt (-10))))) h3))))) ∧ (¬ v4 = Int32.ofNat 0 → (Q (.inl (some (.int (Int32.ofInt (-1))))) h3))) (fun _ _ => False))))) (fun _ _ => False)))) ∧ ((hh_i h m 77) = Int32.ofNat 0 → (Q (.inl (some (.int (Int32.ofInt (-9))))) h))) : gm_G 270 0 [some (.ref m), some (.int x1), some (.int x2)] [] h Q := by
  refine g_aload (r := some _) rfl rfl rfl (pc' := 1) ?_
  refine t_getZ rfl hT rfl rfl (pc' := 4) rfl ?_
  refine g_if_ne rfl (pc' := 7) (pt := 10) rfl rfl ⟨fun hc => ?_, fun hc => ?_⟩
  · have H := H.1 hc
    refine g_aload (r := some _) rfl rfl rfl (pc' := 11) ?_
    refine g_iload rfl rfl rfl (pc' := 12) ?_
    refine t_call hT (y := 136) (n := 2) (pc' := 15) rfl rfl (t_vt hT rfl rfl) rfl rfl ⟨(Nat.le_of_ble_eq_true rfl), (Nat.le_of_ble_eq_true rfl), (Nat.le_of_ble_eq_true rfl)⟩ rfl H (tI_elim (fun v2 h1 H hT => ?_))
    show gm_G _ 15 _ _ _ _
    refine g_if_ne rfl (pc' := 18) (pt := 26) rfl rfl ⟨fun hc => ?_, fun hc => ?_⟩
    · have H := H.1 hc
      refine g_iconst rfl rfl rfl (pc' := 27) ?_
      exact g_ireturn rfl (Or.inl rfl) H
    · have H := H.2 hc
      refine g_aload (r := some _) rfl rfl rfl (pc' := 19) ?_
      refine g_iload rfl rfl rfl (pc' := 20) ?_
      refine t_call hT (y := 135) (n := 2) (pc' := 23) rfl rfl (t_vt hT rfl rfl) rfl rfl ⟨(Nat.le_of_ble_eq_true rfl), (Nat.le_of_ble_eq_true rfl), (Nat.le_of_ble_eq_true rfl)⟩ rfl H (tI_elim (fun v4 h3 H hT => ?_))
      show gm_G _ 23 _ _ _ _
      refine g_if_eq rfl (pc' := 26) (pt := 28) rfl rfl ⟨fun hc => ?_, fun hc => ?_⟩
      · have H := H.1 hc
        refine g_aload (r := some _) rfl rfl rfl (pc' := 29) ?_
        refine t_get (o := 11) rfl hT rfl rfl rfl (pc' := 32) rfl ?_
        refine g_iload rfl rfl rfl (pc' := 33) ?_
        obtain ⟨n5, hn5, H⟩ := H
        refine t_iaload hT (o := 11) (l := 3) rfl rfl rfl hn5 (pc' := 34) rfl ?_
        refine g_iconst rfl rfl rfl (pc' := 35) ?_
        refine g_ic_ne rfl (pc' := 38) (pt := 41) rfl rfl ⟨fun hc => ?_, fun hc => ?_⟩
        · have H := H.1 hc
          refine g_aload (r := some _) rfl rfl rfl (pc' := 42) ?_
          refine t_get (o := 13) rfl hT rfl rfl rfl (pc' := 45) rfl ?_
          refine g_iload rfl rfl rfl (pc' := 46) ?_
          obtain ⟨n6, hn6, H⟩ := H
          refine t_iaload hT (o := 13) (l := 3) rfl rfl rfl hn6 (pc' := 47) rfl ?_
          refine g_iconst rfl rfl rfl (pc' := 48) ?_
          refine g_ic_ne rfl (pc' := 51) (pt := 54) rfl rfl ⟨fun hc => ?_, fun hc => ?_⟩
          · have H := H.1 hc
            refine g_aload (r := some _) rfl rfl rfl (pc' := 55) ?_
            refine t_get (o := 7) rfl hT rfl rfl rfl (pc' := 58) rfl ?_
            refine g_iload rfl rfl rfl (pc' := 59) ?_
            obtain ⟨n7, hn7, H⟩ := H
            refine t_zaload hT (o := 7) (l := 8) rfl rfl rfl hn7 (pc' := 60) rfl ?_
            refine g_if_ne rfl (pc' := 63) (pt := 87) rfl rfl ⟨fun hc => ?_, fun hc => ?_⟩
            · have H := H.1 hc
              refine g_iconst rfl rfl rfl (pc' := 89) ?_
              exact g_ireturn rfl (Or.inl rfl) H
            · have H := H.2 hc
              refine g_aload (r := some _) rfl rfl rfl (pc' := 64) ?_
              refine t_get (o := 5) rfl hT rfl rfl rfl (pc' := 67) rfl ?_
              refine g_iload rfl rfl rfl (pc' := 68) ?_
              obtain ⟨n8, hn8, H⟩ := H
              refine t_iaload hT (o := 5) (l := 8) rfl rfl rfl hn8 (pc' := 69) rfl ?_
              refine g_if_ge rfl (pc' := 72) (pt := 87) rfl rfl ⟨fun hc => ?_, fun hc => ?_⟩
              · have H := H.1 hc
                refine g_iconst rfl rfl rfl (pc' := 89) ?_
                exact g_ireturn rfl (Or.inl rfl) H
              · have H := H.2 hc
                refine g_aload (r := some _) rfl rfl rfl (pc' := 73) ?_
                refine t_get (o := 4) rfl hT rfl rfl rfl (pc' := 76) rfl ?_
                refine g_iload rfl rfl rfl (pc' := 77) ?_
                obtain ⟨n9, hn9, H⟩ := H
                refine t_iaload hT (o := 4) (l := 8) rfl rfl rfl hn9 (pc' := 78) rfl ?_
                refine g_aload (r := some _) rfl rfl rfl (pc' := 79) ?_
                refine t_get (o := 14) rfl hT rfl rfl rfl (pc' := 82) rfl ?_
                refine g_iload rfl rfl rfl (pc' := 83) ?_
                obtain ⟨n10, hn10, H⟩ := H
                refine t_iaload hT (o := 14) (l := 3) rfl rfl rfl hn10 (pc' := 84) rfl ?_
                refine g_ic_ge rfl (pc' := 87) (pt := 90) rfl rfl ⟨fun hc => ?_, fun hc => ?_⟩
                · have H := H.1 hc
                  refine g_aload (r := some _) rfl rfl rfl (pc' := 91) ?_
                  refine t_get (o := 15) rfl hT rfl rfl rfl (pc' := 94) rfl ?_
                  refine g_iconst rfl rfl rfl (pc' := 96) ?_
                  refine g_iload rfl rfl rfl (pc' := 97) ?_
                  refine g_imul rfl rfl (pc' := 98) ?_
                  refine g_aload (r := some _) rfl rfl rfl (pc' := 99) ?_
                  refine t_get (o := 13) rfl hT rfl rfl rfl (pc' := 102) rfl ?_
                  refine g_iload rfl rfl rfl (pc' := 103) ?_
                  obtain ⟨n11, hn11, H⟩ := H
                  refine t_iaload hT (o := 13) (l := 3) rfl rfl rfl hn11 (pc' := 104) rfl ?_
                  refine g_iadd rfl rfl (pc' := 105) ?_
                  refine g_iload rfl rfl rfl (pc' := 106) ?_
                  obtain ⟨n12, hn12, H⟩ := H
                  refine t_iastore hT (o := 15) (l := 18) rfl rfl rfl hn12  (pc' := 107) rfl (fun hT => ?_)
                  have H := H _ rfl
                  refine g_aload (r := some _) rfl rfl rfl (pc' := 108) ?_
                  refine t_get (o := 13) rfl hT rfl rfl rfl (pc' := 111) rfl ?_
                  refine g_iload rfl rfl rfl (pc' := 112) ?_
                  refine g_dup2_a rfl (pc' := 113) rfl ?_
                  obtain ⟨n14, hn14, H⟩ := H
                  refine t_iaload hT (o := 13) (l := 3) rfl rfl rfl hn14 (pc' := 114) rfl ?_
                  refine g_iconst rfl rfl rfl (pc' := 115) ?_
                  refine g_iadd rfl rfl (pc' := 116) ?_
                  obtain ⟨n15, hn15, H⟩ := H
                  refine t_iastore hT (o := 13) (l := 3) rfl rfl rfl hn15  (pc' := 117) rfl (fun hT => ?_)
                  have H := H _ rfl
                  refine g_aload (r := some _) rfl rfl rfl (pc' := 118) ?_
                  refine t_get (o := 11) rfl hT rfl rfl rfl (pc' := 121) rfl ?_
                  refine g_iload rfl rfl rfl (pc' := 122) ?_
                  refine g_iconst rfl rfl rfl (pc' := 123) ?_
                  obtain ⟨n17, hn17, H⟩ := H
                  refine t_iastore hT (o := 11) (l := 3) rfl rfl rfl hn17  (pc' := 124) rfl (fun hT => ?_)
                  have H := H _ rfl
                  refine g_aload (r := some _) rfl rfl rfl (pc' := 125) ?_
                  refine t_get (o := 5) rfl hT rfl rfl rfl (pc' := 128) rfl ?_
                  refine g_iload rfl rfl rfl (pc' := 129) ?_
                  refine g_iload rfl rfl rfl (pc' := 130) ?_
                  obtain ⟨n19, hn19, H⟩ := H
                  refine t_iastore hT (o := 5) (l := 8) rfl rfl rfl hn19  (pc' := 131) rfl (fun hT => ?_)
                  have H := H _ rfl
                  refine g_aload (r := some _) rfl rfl rfl (pc' := 132) ?_
                  refine g_iload rfl rfl rfl (pc' := 133) ?_
                  refine g_iload rfl rfl rfl (pc' := 134) ?_
                  refine t_call hT (y := 131) (n := 3) (pc' := 137) rfl rfl (t_vt hT rfl rfl) rfl rfl ⟨(Nat.le_of_ble_eq_true rfl), (Nat.le_of_ble_eq_true rfl), (Nat.le_of_ble_eq_true rfl)⟩ rfl H (tV_elim (fun h21 H hT => ?_))
                  show gm_G _ 137 _ _ _ _
                  refine g_aload (r := some _) rfl rfl rfl (pc' := 138) ?_
                  refine t_get (o := 13) rfl hT rfl rfl rfl (pc' := 141) rfl ?_
                  refine g_iload rfl rfl rfl (pc' := 142) ?_
                  obtain ⟨n22, hn22, H⟩ := H
                  refine t_iaload hT (o := 13) (l := 3) rfl rfl rfl hn22 (pc' := 143) rfl ?_
                  exact g_ireturn rfl (Or.inl rfl) H
                · have H := H.2 hc
                  refine g_iconst rfl rfl rfl (pc' := 89) ?_
                  exact g_ireturn rfl (Or.inl rfl) H
          · have H := H.2 hc
            refine g_iconst rfl rfl rfl (pc' := 53) ?_
            exact g_ireturn rfl (Or.inl rfl) H
        · have H := H.2 hc
          refine g_iconst rfl rfl rfl (pc' := 40) ?_
          exact g_ireturn rfl (Or.inl rfl) H
      · have H := H.2 hc
        refine g_iconst rfl rfl rfl (pc' := 27) ?_
        exact g_ireturn rfl (Or.inl rfl) H
  · have H := H.2 hc
    refine g_iconst rfl rfl rfl (pc' := 9) ?_
    exact g_ireturn rfl (Or.inl rfl) H
theorem w_271_0 {m : Nat} {x1 : Int32} {x2 : Int32} {h : hh_T} {Q : Option Value ⊕ Nat → hh_T → Prop} (hT : tw_ok h m) (H : gm_G 135 0 [some (.ref m), some (.int x1)] [] h (pI (fun v2 h1 => (v2 = Int32.ofNat 0 → (∃ n3, gm_ix x1 n3 8 ∧ (∃ n4, gm_ix x1 n4 8 ∧ ((x2 = 0 ∨ x2 = 1) ∧ (∀ h5, h5 = hh_wi h1 (m + 7) n4 x2 → ((¬ (hh_i h1 (m + 7) n3) = x2 → (Q (.inl (some (.int (Int32.ofNat 1)))) h5)) ∧ ((hh_i h1 (m + 7) n3) = x2 → (Q (.inl (some (.int (Int32.ofNat 0)))) h5)))))))) ∧ (¬ v2 = Int32.ofNat 0 → (Q (.inl (some (.int (Int32.ofInt (-1))))) h1))) (fun _ _ => False))) : gm_G 271 0 [some (.ref m), some (.int x1), some (.int x2)] [] h Q := by
  refine g_aload (r := some _) rfl rfl rfl (pc' := 1) ?_
  refine g_iload rfl rfl rfl (pc' := 2) ?_
  refine t_call hT (y := 135) (n := 2) (pc' := 5) rfl rfl (t_vt hT rfl rfl) rfl rfl ⟨(Nat.le_of_ble_eq_true rfl), (Nat.le_of_ble_eq_true rfl), (Nat.le_of_ble_eq_true rfl)⟩ rfl H (tI_elim (fun v2 h1 H hT => ?_))
  show gm_G _ 5 _ _ _ _
  refine g_if_eq rfl (pc' := 8) (pt := 10) rfl rfl ⟨fun hc => ?_, fun hc => ?_⟩
  · have H := H.1 hc
    refine g_aload (r := some _) rfl rfl rfl (pc' := 11) ?_
    refine t_get (o := 7) rfl hT rfl rfl rfl (pc' := 14) rfl ?_
    refine g_iload rfl rfl rfl (pc' := 15) ?_
    obtain ⟨n3, hn3, H⟩ := H
    refine t_zaload hT (o := 7) (l := 8) rfl rfl rfl hn3 (pc' := 16) rfl ?_
    refine g_istore rfl rfl rfl (pc' := 17) ?_
    refine g_aload (r := some _) rfl rfl rfl (pc' := 18) ?_
    refine t_get (o := 7) rfl hT rfl rfl rfl (pc' := 21) rfl ?_
    refine g_iload rfl rfl rfl (pc' := 22) ?_
    refine g_iload rfl rfl rfl (pc' := 23) ?_
    obtain ⟨n4, hn4, H⟩ := H
    obtain ⟨Hz, H⟩ := H
    refine t_zastore hT (o := 7) (l := 8) rfl rfl rfl hn4 Hz (pc' := 24) rfl (fun hT => ?_)
    have H := H _ rfl
    refine g_iload rfl rfl rfl (pc' := 25) ?_
    refine g_iload rfl rfl rfl (pc' := 26) ?_
    refine g_ic_ne rfl (pc' := 29) (pt := 33) rfl rfl ⟨fun hc => ?_, fun hc => ?_⟩
    · have H := H.1 hc
      refine g_iconst rfl rfl rfl (pc' := 34) ?_
      exact g_ireturn rfl (Or.inl rfl) H
    · have H := H.2 hc
      refine g_iconst rfl rfl rfl (pc' := 30) ?_
      refine g_goto rfl (pc' := 34) rfl ?_
      exact g_ireturn rfl (Or.inl rfl) H
  · have H := H.2 hc
    refine g_iconst rfl rfl rfl (pc' := 9) ?_
    exact g_ireturn rfl (Or.inl rfl) H
theorem w_272_0 {m : Nat} {x1 : Int32} {x2 : Int32} {h : hh_T} {Q : Option Value ⊕ Nat → hh_T → Prop} (hT : tw_ok h m) (H : ∃ n1, gm_ix x1 n1 32 ∧ (∃ n2, gm_ix (((Int32.ofNat 16) * (hh_i h (m + 63) n1)) + x2) n2 1536 ∧ ((¬ (hh_i h (m + 40) n2) = (Int32.ofNat 2) → (gm_G 272 31 [some (.ref m), some (.int x1), some (.int x2), some (.int (((Int32.ofNat 16) * (hh_i h (m + 63) n1)) + x2))] [] h Q)) ∧ ((hh_i h (m + 40) n2) = (Int32.ofNat 2) → (∃ n3, gm_ix (((Int32.ofNat 16) * (hh_i h (m + 63) n1)) + x2) n3 1536 ∧ ((Int32.ofNat 0 < (hh_i h (m + 45) n3) → (gm_G 272 68 [] [] h Q)) ∧ (¬ Int32.ofNat 0 < (hh_i h (m + 45) n3) → (gm_G 272 31 [some (.ref m), some (.int x1), some (.int x2), some (.int (((Int32.ofNat 16) * (hh_i h (m + 63) n1)) + x2))] [] h Q)))))))) : gm_G 272 0 [some (.ref m), some (.int x1), some (.int x2)] [] h Q := by
  refine g_iconst rfl rfl rfl (pc' := 2) ?_
  refine g_aload (r := some _) rfl rfl rfl (pc' := 3) ?_
  refine t_get (o := 63) rfl hT rfl rfl rfl (pc' := 6) rfl ?_
  refine g_iload rfl rfl rfl (pc' := 7) ?_
  obtain ⟨n1, hn1, H⟩ := H
  refine t_iaload hT (o := 63) (l := 32) rfl rfl rfl hn1 (pc' := 8) rfl ?_
  refine g_imul rfl rfl (pc' := 9) ?_
  refine g_iload rfl rfl rfl (pc' := 10) ?_
  refine g_iadd rfl rfl (pc' := 11) ?_
  refine g_istore rfl rfl rfl (pc' := 12) ?_
  refine g_aload (r := some _) rfl rfl rfl (pc' := 13) ?_
  refine t_get (o := 40) rfl hT rfl rfl rfl (pc' := 16) rfl ?_
  refine g_iload rfl rfl rfl (pc' := 17) ?_
  obtain ⟨n2, hn2, H⟩ := H
  refine t_iaload hT (o := 40) (l := 1536) rfl rfl rfl hn2 (pc' := 18) rfl ?_
  refine g_iconst rfl rfl rfl (pc' := 19) ?_
  refine g_ic_ne rfl (pc' := 22) (pt := 31) rfl rfl ⟨fun hc => ?_, fun hc => ?_⟩
  · have H := H.1 hc
    exact g_weak (show gm_Lle [some _, some _, some _, some _] _ from ⟨rfl, ⟨rfl, ⟨rfl, ⟨rfl, trivial⟩⟩⟩⟩) H
  · have H := H.2 hc
    refine g_aload (r := some _) rfl rfl rfl (pc' := 23) ?_
    refine t_get (o := 45) rfl hT rfl rfl rfl (pc' := 26) rfl ?_
    refine g_iload rfl rfl rfl (pc' := 27) ?_
    obtain ⟨n3, hn3, H⟩ := H
    refine t_iaload hT (o := 45) (l := 1536) rfl rfl rfl hn3 (pc' := 28) rfl ?_
    refine g_if_gt rfl (pc' := 31) (pt := 68) rfl rfl ⟨fun hc => ?_, fun hc => ?_⟩
    · have H := H.1 hc
      exact g_weak (show gm_Lle [] _ from trivial) H
    · have H := H.2 hc
      exact g_weak (show gm_Lle [some _, some _, some _, some _] _ from ⟨rfl, ⟨rfl, ⟨rfl, ⟨rfl, trivial⟩⟩⟩⟩) H
theorem w_272_31 {m : Nat} {x1 : Int32} {x2 : Int32} {x3 : Int32} {h : hh_T} {Q : Option Value ⊕ Nat → hh_T → Prop} (hT : tw_ok h m) (H : ∃ n1, gm_ix x3 n1 1536 ∧ ((¬ (hh_i h (m + 40) n1) = (Int32.ofNat 1) → (Q (.inl (some (.int (Int32.ofNat 0)))) h)) ∧ ((hh_i h (m + 40) n1) = (Int32.ofNat 1) → (∃ n2, gm_ix x3 n2 1536 ∧ ((¬ (hh_i h (m + 44) n2) = (Int32.ofNat 1) → (Q (.inl (some (.int (Int32.ofNat 0)))) h)) ∧ ((hh_i h (m + 44) n2) = (Int32.ofNat 1) → (∃ n3, gm_ix x1 n3 32 ∧ (gm_G 124 0 [some (.ref m), some (.int ((Int32.ofNat 2) * (hh_i h (m + 59) n3))), some (.int x2), some (.int (Int32.ofInt (-1)))] [] h (pI (fun v5 h4 => (v5 = Int32.ofNat 0 → (Q (.inl (some (.int (Int32.ofNat 0)))) h4)) ∧ (¬ v5 = Int32.ofNat 0 → (gm_G 272 68 [] [] h4 Q))) (fun _ _ => False)))))))))) : gm_G 272 31 [some (.ref m), some (.int x1), some (.int x2), some (.int x3)] [] h Q := by
  refine g_aload (r := some _) rfl rfl rfl (pc' := 32) ?_
  refine t_get (o := 40) rfl hT rfl rfl rfl (pc' := 35) rfl ?_
  refine g_iload rfl rfl rfl (pc' := 36) ?_
  obtain ⟨n1, hn1, H⟩ := H
  refine t_iaload hT (o := 40) (l := 1536) rfl rfl rfl hn1 (pc' := 37) rfl ?_
  refine g_iconst rfl rfl rfl (pc' := 38) ?_
  refine g_ic_ne rfl (pc' := 41) (pt := 73) rfl rfl ⟨fun hc => ?_, fun hc => ?_⟩
  · have H := H.1 hc
    refine g_iconst rfl rfl rfl (pc' := 74) ?_
    exact g_ireturn rfl (Or.inl rfl) H
  · have H := H.2 hc
    refine g_aload (r := some _) rfl rfl rfl (pc' := 42) ?_
    refine t_get (o := 44) rfl hT rfl rfl rfl (pc' := 45) rfl ?_
    refine g_iload rfl rfl rfl (pc' := 46) ?_
    obtain ⟨n2, hn2, H⟩ := H
    refine t_iaload hT (o := 44) (l := 1536) rfl rfl rfl hn2 (pc' := 47) rfl ?_
    refine g_iconst rfl rfl rfl (pc' := 48) ?_
    refine g_ic_ne rfl (pc' := 51) (pt := 73) rfl rfl ⟨fun hc => ?_, fun hc => ?_⟩
    · have H := H.1 hc
      refine g_iconst rfl rfl rfl (pc' := 74) ?_
      exact g_ireturn rfl (Or.inl rfl) H
    · have H := H.2 hc
      refine g_aload (r := some _) rfl rfl rfl (pc' := 52) ?_
      refine g_iconst rfl rfl rfl (pc' := 53) ?_
      refine g_aload (r := some _) rfl rfl rfl (pc' := 54) ?_
      refine t_get (o := 59) rfl hT rfl rfl rfl (pc' := 57) rfl ?_
      refine g_iload rfl rfl rfl (pc' := 58) ?_
      obtain ⟨n3, hn3, H⟩ := H
      refine t_iaload hT (o := 59) (l := 32) rfl rfl rfl hn3 (pc' := 59) rfl ?_
      refine g_imul rfl rfl (pc' := 60) ?_
      refine g_iload rfl rfl rfl (pc' := 61) ?_
      refine g_iconst rfl rfl rfl (pc' := 62) ?_
      refine t_call hT (y := 124) (n := 4) (pc' := 65) rfl rfl (t_vt hT rfl rfl) rfl rfl ⟨(Nat.le_of_ble_eq_true rfl), (Nat.le_of_ble_eq_true rfl), (Nat.le_of_ble_eq_true rfl)⟩ rfl H (tI_elim (fun v5 h4 H hT => ?_))
      show gm_G _ 65 _ _ _ _
      refine g_if_eq rfl (pc' := 68) (pt := 73) rfl rfl ⟨fun hc => ?_, fun hc => ?_⟩
      · have H := H.1 hc
        refine g_iconst rfl rfl rfl (pc' := 74) ?_
        exact g_ireturn rfl (Or.inl rfl) H
      · have H := H.2 hc
        exact g_weak (show gm_Lle [] _ from trivial) H
theorem w_272_68 {m : Nat}  {h : hh_T} {Q : Option Value ⊕ Nat → hh_T → Prop} (hT : tw_ok h m) (H : Q (.inl (some (.int (Int32.ofInt (-5))))) h) : gm_G 272 68 [] [] h Q := by
  refine g_iconst rfl rfl rfl (pc' := 70) ?_
  refine g_goto rfl (pc' := 74) rfl ?_
  exact g_ireturn rfl (Or.inl rfl) H
theorem w_273_0 {m : Nat} {x1 : Int32} {h : hh_T} {Q : Option Value ⊕ Nat → hh_T → Prop} (hT : tw_ok h m) (H : (x1 < Int32.ofNat 0 → (Q (.inl (some (.int (Int32.ofInt (-1))))) h)) ∧ (¬ x1 < Int32.ofNat 0 → ((¬ (Int32.ofNat 1000) < x1 → ((¬ (Int32.ofNat 2000000000) < ((hh_i h m 4) + x1) → (gm_G 273 38 [some (.ref m)] [.int ((hh_i h m 4) + x1), .ref m] h Q)) ∧ ((Int32.ofNat 2000000000) < ((hh_i h m 4) + x1) → (gm_G 273 38 [some (.ref m)] [.int (Int32.ofNat 2000000000), .ref m] h Q)))) ∧ ((Int32.ofNat 1000) < x1 → (Q (.inl (some (.int (Int32.ofInt (-1))))) h))))) : gm_G 273 0 [some (.ref m), some (.int x1)] [] h Q := by
  refine g_iload rfl rfl rfl (pc' := 1) ?_
  refine g_if_lt rfl (pc' := 4) (pt := 11) rfl rfl ⟨fun hc => ?_, fun hc => ?_⟩
  · have H := H.1 hc
    refine g_iconst rfl rfl rfl (pc' := 12) ?_
    exact g_ireturn rfl (Or.inl rfl) H
  · have H := H.2 hc
    refine g_iload rfl rfl rfl (pc' := 5) ?_
    refine g_iconst rfl rfl rfl (pc' := 8) ?_
    refine g_ic_le rfl (pc' := 11) (pt := 13) rfl rfl ⟨fun hc => ?_, fun hc => ?_⟩
    · have H := H.1 hc
      refine g_aload (r := some _) rfl rfl rfl (pc' := 14) ?_
      refine g_aload (r := some _) rfl rfl rfl (pc' := 15) ?_
      refine t_getI rfl hT rfl rfl (pc' := 18) rfl ?_
      refine g_iload rfl rfl rfl (pc' := 19) ?_
      refine g_iadd rfl rfl (pc' := 20) ?_
      refine g_iconst rfl rfl rfl (pc' := 23) ?_
      refine g_ic_le rfl (pc' := 26) (pt := 32) rfl rfl ⟨fun hc => ?_, fun hc => ?_⟩
      · have H := H.1 hc
        refine g_aload (r := some _) rfl rfl rfl (pc' := 33) ?_
        refine t_getI rfl hT rfl rfl (pc' := 36) rfl ?_
        refine g_iload rfl rfl rfl (pc' := 37) ?_
        refine g_iadd rfl rfl (pc' := 38) ?_
        exact g_weak (show gm_Lle [some _] _ from ⟨rfl, trivial⟩) H
      · have H := H.2 hc
        refine g_iconst rfl rfl rfl (pc' := 29) ?_
        refine g_goto rfl (pc' := 38) rfl ?_
        exact g_weak (show gm_Lle [some _] _ from ⟨rfl, trivial⟩) H
    · have H := H.2 hc
      refine g_iconst rfl rfl rfl (pc' := 12) ?_
      exact g_ireturn rfl (Or.inl rfl) H
theorem w_273_38 {m : Nat} {y0 : Int32} {h : hh_T} {Q : Option Value ⊕ Nat → hh_T → Prop} (hT : tw_ok h m) (H : ∀ h1, h1 = hh_wi h m 4 y0 → (gm_G 273 43 [some (.ref m), none, some (.int (Int32.ofNat 0))] [] h1 Q)) : gm_G 273 38 [some (.ref m)] [.int y0, .ref m] h Q := by
  refine t_putI rfl hT rfl rfl  (pc' := 41) rfl (fun hT => ?_)
  have H := H _ rfl
  refine g_iconst rfl rfl rfl (pc' := 42) ?_
  refine g_istore rfl rfl rfl (pc' := 43) ?_
  exact g_weak (show gm_Lle [some _, none, some _] _ from ⟨rfl, ⟨rfl, trivial⟩⟩) H
theorem w_273_43 {m : Nat} {x2 : Int32} {h : hh_T} {Q : Option Value ⊕ Nat → hh_T → Prop} (hT : tw_ok h m) (H : (¬ x2 < (Int32.ofNat 8) → (Q (.inl (some (.int (hh_i h m 4)))) h)) ∧ (x2 < (Int32.ofNat 8) → (∃ n1, gm_ix x2 n1 8 ∧ (((hh_i h (m + 88) n1) = Int32.ofNat 0 → (gm_G 273 97 [some (.ref m), none, some (.int x2)] [] h Q)) ∧ (¬ (hh_i h (m + 88) n1) = Int32.ofNat 0 → (∃ n2, gm_ix x2 n2 8 ∧ ((¬ Int32.ofNat 0 < (hh_i h (m + 94) n2) → (gm_G 273 97 [some (.ref m), none, some (.int x2)] [] h Q)) ∧ (Int32.ofNat 0 < (hh_i h (m + 94) n2) → (∃ n3, gm_ix x2 n3 8 ∧ (((hh_i h (m + 89) n3) = Int32.ofNat 0 → (gm_G 273 97 [some (.ref m), none, some (.int x2)] [] h Q)) ∧ (¬ (hh_i h (m + 89) n3) = Int32.ofNat 0 → (∃ n4, gm_ix x2 n4 8 ∧ ((((hh_i h m 4) - (hh_i h (m + 95) n4)) < (Int32.ofNat 10) → (gm_G 273 97 [some (.ref m), none, some (.int x2)] [] h Q)) ∧ (¬ ((hh_i h m 4) - (hh_i h (m + 95) n4)) < (Int32.ofNat 10) → (gm_G 105 0 [some (.ref m), some (.int x2)] [] h (pV (fun h5 => gm_G 273 97 [some (.ref m), none, some (.int x2)] [] h5 Q) (fun _ _ => False))))))))))))))))) : gm_G 273 43 [some (.ref m), none, some (.int x2)] [] h Q := by
  refine g_iload rfl rfl rfl (pc' := 44) ?_
  refine g_iconst rfl rfl rfl (pc' := 46) ?_
  refine g_ic_ge rfl (pc' := 49) (pt := 103) rfl rfl ⟨fun hc => ?_, fun hc => ?_⟩
  · have H := H.1 hc
    refine g_aload (r := some _) rfl rfl rfl (pc' := 104) ?_
    refine t_getI rfl hT rfl rfl (pc' := 107) rfl ?_
    exact g_ireturn rfl (Or.inl rfl) H
  · have H := H.2 hc
    refine g_aload (r := some _) rfl rfl rfl (pc' := 50) ?_
    refine t_get (o := 88) rfl hT rfl rfl rfl (pc' := 53) rfl ?_
    refine g_iload rfl rfl rfl (pc' := 54) ?_
    obtain ⟨n1, hn1, H⟩ := H
    refine t_zaload hT (o := 88) (l := 8) rfl rfl rfl hn1 (pc' := 55) rfl ?_
    refine g_if_eq rfl (pc' := 58) (pt := 97) rfl rfl ⟨fun hc => ?_, fun hc => ?_⟩
    · have H := H.1 hc
      exact g_weak (show gm_Lle [some _, none, some _] _ from ⟨rfl, ⟨rfl, trivial⟩⟩) H
    · have H := H.2 hc
      refine g_aload (r := some _) rfl rfl rfl (pc' := 59) ?_
      refine t_get (o := 94) rfl hT rfl rfl rfl (pc' := 62) rfl ?_
      refine g_iload rfl rfl rfl (pc' := 63) ?_
      obtain ⟨n2, hn2, H⟩ := H
      refine t_iaload hT (o := 94) (l := 8) rfl rfl rfl hn2 (pc' := 64) rfl ?_
      refine g_if_le rfl (pc' := 67) (pt := 97) rfl rfl ⟨fun hc => ?_, fun hc => ?_⟩
      · have H := H.1 hc
        exact g_weak (show gm_Lle [some _, none, some _] _ from ⟨rfl, ⟨rfl, trivial⟩⟩) H
      · have H := H.2 hc
        refine g_aload (r := some _) rfl rfl rfl (pc' := 68) ?_
        refine t_get (o := 89) rfl hT rfl rfl rfl (pc' := 71) rfl ?_
        refine g_iload rfl rfl rfl (pc' := 72) ?_
        obtain ⟨n3, hn3, H⟩ := H
        refine t_zaload hT (o := 89) (l := 8) rfl rfl rfl hn3 (pc' := 73) rfl ?_
        refine g_if_eq rfl (pc' := 76) (pt := 97) rfl rfl ⟨fun hc => ?_, fun hc => ?_⟩
        · have H := H.1 hc
          exact g_weak (show gm_Lle [some _, none, some _] _ from ⟨rfl, ⟨rfl, trivial⟩⟩) H
        · have H := H.2 hc
          refine g_aload (r := some _) rfl rfl rfl (pc' := 77) ?_
          refine t_getI rfl hT rfl rfl (pc' := 80) rfl ?_
          refine g_aload (r := some _) rfl rfl rfl (pc' := 81) ?_
          refine t_get (o := 95) rfl hT rfl rfl rfl (pc' := 84) rfl ?_
          refine g_iload rfl rfl rfl (pc' := 85) ?_
          obtain ⟨n4, hn4, H⟩ := H
          refine t_iaload hT (o := 95) (l := 8) rfl rfl rfl hn4 (pc' := 86) rfl ?_
          refine g_isub rfl rfl (pc' := 87) ?_
          refine g_iconst rfl rfl rfl (pc' := 89) ?_
          refine g_ic_lt rfl (pc' := 92) (pt := 97) rfl rfl ⟨fun hc => ?_, fun hc => ?_⟩
          · have H := H.1 hc
            exact g_weak (show gm_Lle [some _, none, some _] _ from ⟨rfl, ⟨rfl, trivial⟩⟩) H
          · have H := H.2 hc
            refine g_aload (r := some _) rfl rfl rfl (pc' := 93) ?_
            refine g_iload rfl rfl rfl (pc' := 94) ?_
            refine t_call hT (y := 105) (n := 2) (pc' := 97) rfl rfl (t_vt hT rfl rfl) rfl rfl ⟨(Nat.le_of_ble_eq_true rfl), (Nat.le_of_ble_eq_true rfl), (Nat.le_of_ble_eq_true rfl)⟩ rfl H (tV_elim (fun h5 H hT => ?_))
            show gm_G _ 97 _ _ _ _
            exact g_weak (show gm_Lle [some _, none, some _] _ from ⟨rfl, ⟨rfl, trivial⟩⟩) H
theorem w_273_97 {m : Nat} {x2 : Int32} {h : hh_T} {Q : Option Value ⊕ Nat → hh_T → Prop} (hT : tw_ok h m) (H : gm_G 273 43 [some (.ref m), none, some (.int (x2 + (Int32.ofNat 1)))] [] h Q) : gm_G 273 97 [some (.ref m), none, some (.int x2)] [] h Q := by
  refine g_iinc (c := (Int32.ofNat 1)) rfl rfl rfl rfl rfl (pc' := 100) ?_
  refine g_goto rfl (pc' := 43) rfl ?_
  exact g_weak (show gm_Lle [some _, none, some _] _ from ⟨rfl, ⟨rfl, trivial⟩⟩) H
theorem w_274_0 {m : Nat} {x1 : Int32} {h : hh_T} {Q : Option Value ⊕ Nat → hh_T → Prop} (hT : tw_ok h m) (H : (¬ (hh_i h m 77) = Int32.ofNat 0 → (gm_G 138 0 [some (.int x1)] [] h (pI (fun v2 h1 => (v2 = Int32.ofNat 0 → (∃ n3, gm_ix x1 n3 8 ∧ ((¬ (hh_i h1 (m + 88) n3) = Int32.ofNat 0 → (∃ n4, gm_ix x1 n4 8 ∧ (∀ h5, h5 = hh_wi h1 (m + 88) n4 (Int32.ofNat 0) → (gm_G 105 0 [some (.ref m), some (.int x1)] [] h5 (pV (fun h6 => Q (.inl (some (.int (Int32.ofNat 0)))) h6) (fun _ _ => False)))))) ∧ ((hh_i h1 (m + 88) n3) = Int32.ofNat 0 → (Q (.inl (some (.int (Int32.ofInt (-2))))) h1))))) ∧ (¬ v2 = Int32.ofNat 0 → (Q (.inl (some (.int (Int32.ofInt (-1))))) h1))) (fun _ _ => False)))) ∧ ((hh_i h m 77) = Int32.ofNat 0 → (Q (.inl (some (.int (Int32.ofInt (-9))))) h))) : gm_G 274 0 [some (.ref m), some (.int x1)] [] h Q := by
  refine g_aload (r := some _) rfl rfl rfl (pc' := 1) ?_
  refine t_getZ rfl hT rfl rfl (pc' := 4) rfl ?_
  refine g_if_ne rfl (pc' := 7) (pt := 10) rfl rfl ⟨fun hc => ?_, fun hc => ?_⟩
  · have H := H.1 hc
    refine g_iload rfl rfl rfl (pc' := 11) ?_
    refine t_call hT (y := 138) (n := 1) (pc' := 14) rfl rfl (fun _ => rfl) rfl rfl ⟨(Nat.le_of_ble_eq_true rfl), (Nat.le_of_ble_eq_true rfl), (Nat.le_of_ble_eq_true rfl)⟩ rfl H (tI_elim (fun v2 h1 H hT => ?_))
    show gm_G _ 14 _ _ _ _
    refine g_if_eq rfl (pc' := 17) (pt := 19) rfl rfl ⟨fun hc => ?_, fun hc => ?_⟩
    · have H := H.1 hc
      refine g_aload (r := some _) rfl rfl rfl (pc' := 20) ?_
      refine t_get (o := 88) rfl hT rfl rfl rfl (pc' := 23) rfl ?_
      refine g_iload rfl rfl rfl (pc' := 24) ?_
      obtain ⟨n3, hn3, H⟩ := H
      refine t_zaload hT (o := 88) (l := 8) rfl rfl rfl hn3 (pc' := 25) rfl ?_
      refine g_if_ne rfl (pc' := 28) (pt := 31) rfl rfl ⟨fun hc => ?_, fun hc => ?_⟩
      · have H := H.1 hc
        refine g_aload (r := some _) rfl rfl rfl (pc' := 32) ?_
        refine t_get (o := 88) rfl hT rfl rfl rfl (pc' := 35) rfl ?_
        refine g_iload rfl rfl rfl (pc' := 36) ?_
        refine g_iconst rfl rfl rfl (pc' := 37) ?_
        obtain ⟨n4, hn4, H⟩ := H
        refine t_zastore hT (o := 88) (l := 8) rfl rfl rfl hn4 (by decide) (pc' := 38) rfl (fun hT => ?_)
        have H := H _ rfl
        refine g_aload (r := some _) rfl rfl rfl (pc' := 39) ?_
        refine g_iload rfl rfl rfl (pc' := 40) ?_
        refine t_call hT (y := 105) (n := 2) (pc' := 43) rfl rfl (t_vt hT rfl rfl) rfl rfl ⟨(Nat.le_of_ble_eq_true rfl), (Nat.le_of_ble_eq_true rfl), (Nat.le_of_ble_eq_true rfl)⟩ rfl H (tV_elim (fun h6 H hT => ?_))
        show gm_G _ 43 _ _ _ _
        refine g_iconst rfl rfl rfl (pc' := 44) ?_
        exact g_ireturn rfl (Or.inl rfl) H
      · have H := H.2 hc
        refine g_iconst rfl rfl rfl (pc' := 30) ?_
        exact g_ireturn rfl (Or.inl rfl) H
    · have H := H.2 hc
      refine g_iconst rfl rfl rfl (pc' := 18) ?_
      exact g_ireturn rfl (Or.inl rfl) H
  · have H := H.2 hc
    refine g_iconst rfl rfl rfl (pc' := 9) ?_
    exact g_ireturn rfl (Or.inl rfl) H
theorem w_275_0 {m : Nat} {b1 : Nat} {x2 : Int32} {x3 : Int32} {h : hh_T} {Q : Option Value ⊕ Nat → hh_T → Prop} (hT : tw_ok h m) (H : (¬ x3 = (Int32.ofNat 1) → (gm_G 275 113 [some (.ref m), some (.ref b1), some (.int x2), none, some (.int (Int32.ofNat 0)), some (.int (Int32.ofNat 0)), some (.int (Int32.ofNat 0))] [] h Q)) ∧ (x3 = (Int32.ofNat 1) → (gm_G 275 11 [some (.ref m), some (.ref b1), some (.int x2), none, some (.int (Int32.ofNat 0)), some (.int (Int32.ofNat 0))] [] h Q))) : gm_G 275 0 [some (.ref m), some (.ref b1), some (.int x2), some (.int x3)] [] h Q := by
  refine g_iconst rfl rfl rfl (pc' := 1) ?_
  refine g_istore rfl rfl rfl (pc' := 3) ?_
  refine g_iload rfl rfl rfl (pc' := 4) ?_
  refine g_iconst rfl rfl rfl (pc' := 5) ?_
  refine g_ic_ne rfl (pc' := 8) (pt := 107) rfl rfl ⟨fun hc => ?_, fun hc => ?_⟩
  · have H := H.1 hc
    refine g_iconst rfl rfl rfl (pc' := 108) ?_
    refine g_istore rfl rfl rfl (pc' := 110) ?_
    refine g_iconst rfl rfl rfl (pc' := 111) ?_
    refine g_istore rfl rfl rfl (pc' := 113) ?_
    exact g_weak (show gm_Lle [some _, some _, some _, none, some _, some _, some _] _ from ⟨rfl, ⟨rfl, ⟨rfl, ⟨rfl, ⟨rfl, ⟨rfl, trivial⟩⟩⟩⟩⟩⟩) H
  · have H := H.2 hc
    refine g_iconst rfl rfl rfl (pc' := 9) ?_
    refine g_istore rfl rfl rfl (pc' := 11) ?_
    exact g_weak (show gm_Lle [some _, some _, some _, none, some _, some _] _ from ⟨rfl, ⟨rfl, ⟨rfl, ⟨rfl, ⟨rfl, trivial⟩⟩⟩⟩⟩) H
theorem w_275_11 {m : Nat} {b1 : Nat} {x2 : Int32} {x4 : Int32} {x5 : Int32} {h : hh_T} {Q : Option Value ⊕ Nat → hh_T → Prop} (hT : tw_ok h m) (H : (¬ x5 < (Int32.ofNat 32) → (Q (.inl (some (.int x4))) h)) ∧ (x5 < (Int32.ofNat 32) → ((hh_tg h b1 = 101 ∨ hh_tg h b1 = 102) ∧ (∃ n1, gm_ix (x2 + x5) n1 (hh_ln h b1) ∧ (((hh_i h b1 n1) = Int32.ofNat 0 → (gm_G 275 52 [some (.ref m), some (.ref b1), some (.int x2), none, some (.int x4), some (.int x5), some (.int (Int32.ofNat 0))] [] h Q)) ∧ (¬ (hh_i h b1 n1) = Int32.ofNat 0 → (∃ n3, gm_ix (x2 + x5) n3 (hh_ln h b1) ∧ (∃ n4, gm_ix x4 n4 80 ∧ (∀ h5, h5 = hh_wi h (m + 28) n4 ((hh_i h b1 n3).toInt8.toInt32) → (gm_G 275 11 [some (.ref m), some (.ref b1), some (.int x2), none, some (.int (x4 + (Int32.ofNat 1))), some (.int (x5 + (Int32.ofNat 1)))] [] h5 Q)))))))))) : gm_G 275 11 [some (.ref m), some (.ref b1), some (.int x2), none, some (.int x4), some (.int x5)] [] h Q := by
  refine g_iload rfl rfl rfl (pc' := 13) ?_
  refine g_iconst rfl rfl rfl (pc' := 15) ?_
  refine g_ic_ge rfl (pc' := 18) (pt := 104) rfl rfl ⟨fun hc => ?_, fun hc => ?_⟩
  · have H := H.1 hc
    refine g_iload rfl rfl rfl (pc' := 106) ?_
    exact g_ireturn rfl (Or.inl rfl) H
  · have H := H.2 hc
    refine g_aload (r := some _) rfl rfl rfl (pc' := 19) ?_
    refine g_iload rfl rfl rfl (pc' := 20) ?_
    refine g_iload rfl rfl rfl (pc' := 22) ?_
    refine g_iadd rfl rfl (pc' := 23) ?_
    obtain ⟨ht2, H⟩ := H
    obtain ⟨n1, hn1, H⟩ := H
    refine g_baload rfl ht2 hn1 (pc' := 24) rfl ?_
    refine g_if_eq rfl (pc' := 27) (pt := 49) rfl rfl ⟨fun hc => ?_, fun hc => ?_⟩
    · have H := H.1 hc
      refine g_iconst rfl rfl rfl (pc' := 50) ?_
      refine g_istore rfl rfl rfl (pc' := 52) ?_
      exact g_weak (show gm_Lle [some _, some _, some _, none, some _, some _, some _] _ from ⟨rfl, ⟨rfl, ⟨rfl, ⟨rfl, ⟨rfl, ⟨rfl, trivial⟩⟩⟩⟩⟩⟩) H
    · have H := H.2 hc
      refine g_aload (r := some _) rfl rfl rfl (pc' := 28) ?_
      refine t_get (o := 28) rfl hT rfl rfl rfl (pc' := 31) rfl ?_
      refine g_iload rfl rfl rfl (pc' := 33) ?_
      refine g_iinc (c := (Int32.ofNat 1)) rfl rfl rfl rfl rfl (pc' := 36) ?_
      refine g_aload (r := some _) rfl rfl rfl (pc' := 37) ?_
      refine g_iload rfl rfl rfl (pc' := 38) ?_
      refine g_iload rfl rfl rfl (pc' := 40) ?_
      refine g_iinc (c := (Int32.ofNat 1)) rfl rfl rfl rfl rfl (pc' := 43) ?_
      refine g_iadd rfl rfl (pc' := 44) ?_
      obtain ⟨n3, hn3, H⟩ := H
      refine g_baload rfl ht2 hn3 (pc' := 45) rfl ?_
      obtain ⟨n4, hn4, H⟩ := H
      refine t_bastore hT (o := 28) (l := 80) rfl rfl rfl hn4  (pc' := 46) rfl (fun hT => ?_)
      have H := H _ rfl
      refine g_goto rfl (pc' := 11) rfl ?_
      exact g_weak (show gm_Lle [some _, some _, some _, none, some _, some _] _ from ⟨rfl, ⟨rfl, ⟨rfl, ⟨rfl, ⟨rfl, trivial⟩⟩⟩⟩⟩) H
theorem w_275_52 {m : Nat} {b1 : Nat} {x2 : Int32} {x4 : Int32} {x5 : Int32} {x6 : Int32} {h : hh_T} {Q : Option Value ⊕ Nat → hh_T → Prop} (hT : tw_ok h m) (H : (¬ x5 < (Int32.ofNat 32) → (gm_G 275 77 [some (.ref m), some (.ref b1), some (.int x2), none, some (.int x4), some (.int x5), some (.int x6)] [] h Q)) ∧ (x5 < (Int32.ofNat 32) → ((hh_tg h b1 = 101 ∨ hh_tg h b1 = 102) ∧ (∃ n1, gm_ix (x2 + x5) n1 (hh_ln h b1) ∧ ((¬ (hh_i h b1 n1) = Int32.ofNat 0 → (gm_G 275 77 [some (.ref m), some (.ref b1), some (.int x2), none, some (.int x4), some (.int x5), some (.int x6)] [] h Q)) ∧ ((hh_i h b1 n1) = Int32.ofNat 0 → (gm_G 275 52 [some (.ref m), some (.ref b1), some (.int x2), none, some (.int x4), some (.int (x5 + (Int32.ofNat 1))), some (.int (x6 + (Int32.ofNat 1)))] [] h Q))))))) : gm_G 275 52 [some (.ref m), some (.ref b1), some (.int x2), none, some (.int x4), some (.int x5), some (.int x6)] [] h Q := by
  refine g_iload rfl rfl rfl (pc' := 54) ?_
  refine g_iconst rfl rfl rfl (pc' := 56) ?_
  refine g_ic_ge rfl (pc' := 59) (pt := 77) rfl rfl ⟨fun hc => ?_, fun hc => ?_⟩
  · have H := H.1 hc
    exact g_weak (show gm_Lle [some _, some _, some _, none, some _, some _, some _] _ from ⟨rfl, ⟨rfl, ⟨rfl, ⟨rfl, ⟨rfl, ⟨rfl, trivial⟩⟩⟩⟩⟩⟩) H
  · have H := H.2 hc
    refine g_aload (r := some _) rfl rfl rfl (pc' := 60) ?_
    refine g_iload rfl rfl rfl (pc' := 61) ?_
    refine g_iload rfl rfl rfl (pc' := 63) ?_
    refine g_iadd rfl rfl (pc' := 64) ?_
    obtain ⟨ht2, H⟩ := H
    obtain ⟨n1, hn1, H⟩ := H
    refine g_baload rfl ht2 hn1 (pc' := 65) rfl ?_
    refine g_if_ne rfl (pc' := 68) (pt := 77) rfl rfl ⟨fun hc => ?_, fun hc => ?_⟩
    · have H := H.1 hc
      exact g_weak (show gm_Lle [some _, some _, some _, none, some _, some _, some _] _ from ⟨rfl, ⟨rfl, ⟨rfl, ⟨rfl, ⟨rfl, ⟨rfl, trivial⟩⟩⟩⟩⟩⟩) H
    · have H := H.2 hc
      refine g_iinc (c := (Int32.ofNat 1)) rfl rfl rfl rfl rfl (pc' := 71) ?_
      refine g_iinc (c := (Int32.ofNat 1)) rfl rfl rfl rfl rfl (pc' := 74) ?_
      refine g_goto rfl (pc' := 52) rfl ?_
      exact g_weak (show gm_Lle [some _, some _, some _, none, some _, some _, some _] _ from ⟨rfl, ⟨rfl, ⟨rfl, ⟨rfl, ⟨rfl, ⟨rfl, trivial⟩⟩⟩⟩⟩⟩) H
theorem w_275_77 {m : Nat} {b1 : Nat} {x2 : Int32} {x4 : Int32} {x5 : Int32} {x6 : Int32} {h : hh_T} {Q : Option Value ⊕ Nat → hh_T → Prop} (hT : tw_ok h m) (H : ∃ n1, gm_ix x4 n1 80 ∧ (∀ h2, h2 = hh_wi h (m + 28) n1 ((Int32.ofNat 0).toInt8.toInt32) → (∃ n3, gm_ix (x4 + (Int32.ofNat 1)) n3 80 ∧ (∀ h4, h4 = hh_wi h2 (m + 28) n3 ((x6.toInt8.toInt32).toInt8.toInt32) → (gm_G 275 11 [some (.ref m), some (.ref b1), some (.int x2), none, some (.int ((x4 + (Int32.ofNat 1)) + (Int32.ofNat 1))), some (.int x5)] [] h4 Q))))) : gm_G 275 77 [some (.ref m), some (.ref b1), some (.int x2), none, some (.int x4), some (.int x5), some (.int x6)] [] h Q := by
  refine g_aload (r := some _) rfl rfl rfl (pc' := 78) ?_
  refine t_get (o := 28) rfl hT rfl rfl rfl (pc' := 81) rfl ?_
  refine g_iload rfl rfl rfl (pc' := 83) ?_
  refine g_iinc (c := (Int32.ofNat 1)) rfl rfl rfl rfl rfl (pc' := 86) ?_
  refine g_iconst rfl rfl rfl (pc' := 87) ?_
  obtain ⟨n1, hn1, H⟩ := H
  refine t_bastore hT (o := 28) (l := 80) rfl rfl rfl hn1  (pc' := 88) rfl (fun hT => ?_)
  have H := H _ rfl
  refine g_aload (r := some _) rfl rfl rfl (pc' := 89) ?_
  refine t_get (o := 28) rfl hT rfl rfl rfl (pc' := 92) rfl ?_
  refine g_iload rfl rfl rfl (pc' := 94) ?_
  refine g_iinc (c := (Int32.ofNat 1)) rfl rfl rfl rfl rfl (pc' := 97) ?_
  refine g_iload rfl rfl rfl (pc' := 99) ?_
  refine g_i2b rfl rfl (pc' := 100) ?_
  obtain ⟨n3, hn3, H⟩ := H
  refine t_bastore hT (o := 28) (l := 80) rfl rfl rfl hn3  (pc' := 101) rfl (fun hT => ?_)
  have H := H _ rfl
  refine g_goto rfl (pc' := 11) rfl ?_
  exact g_weak (show gm_Lle [some _, some _, some _, none, some _, some _] _ from ⟨rfl, ⟨rfl, ⟨rfl, ⟨rfl, ⟨rfl, trivial⟩⟩⟩⟩⟩) H
theorem w_275_113 {m : Nat} {b1 : Nat} {x2 : Int32} {x4 : Int32} {x5 : Int32} {x6 : Int32} {h : hh_T} {Q : Option Value ⊕ Nat → hh_T → Prop} (hT : tw_ok h m) (H : (¬ x6 < (Int32.ofNat 32) → (gm_G 130 0 [some (.ref m), some (.ref b1), some (.int ((x2 + (Int32.ofNat 32)) - x5)), some (.int x5), some (.int x4)] [] h (pI (fun v2 h1 => Q (.inl (some (.int v2))) h1) (fun _ _ => False)))) ∧ (x6 < (Int32.ofNat 32) → (gm_G 275 132 [some (.ref m), some (.ref b1), some (.int x2), none, some (.int x4), some (.int x5), some (.int x6), some (.int (Int32.ofNat 0)), some (.int (Int32.ofNat 0)), some (.int (x6 - (Int32.ofNat 1)))] [] h Q))) : gm_G 275 113 [some (.ref m), some (.ref b1), some (.int x2), none, some (.int x4), some (.int x5), some (.int x6)] [] h Q := by
  refine g_iload rfl rfl rfl (pc' := 115) ?_
  refine g_iconst rfl rfl rfl (pc' := 117) ?_
  refine g_ic_ge rfl (pc' := 120) (pt := 276) rfl rfl ⟨fun hc => ?_, fun hc => ?_⟩
  · have H := H.1 hc
    refine g_aload (r := some _) rfl rfl rfl (pc' := 277) ?_
    refine g_aload (r := some _) rfl rfl rfl (pc' := 278) ?_
    refine g_iload rfl rfl rfl (pc' := 279) ?_
    refine g_iconst rfl rfl rfl (pc' := 281) ?_
    refine g_iadd rfl rfl (pc' := 282) ?_
    refine g_iload rfl rfl rfl (pc' := 284) ?_
    refine g_isub rfl rfl (pc' := 285) ?_
    refine g_iload rfl rfl rfl (pc' := 287) ?_
    refine g_iload rfl rfl rfl (pc' := 289) ?_
    refine t_call hT (y := 130) (n := 5) (pc' := 292) rfl rfl (t_vt hT rfl rfl) rfl rfl ⟨(Nat.le_of_ble_eq_true rfl), (Nat.le_of_ble_eq_true rfl), (Nat.le_of_ble_eq_true rfl)⟩ rfl H (tI_elim (fun v2 h1 H hT => ?_))
    show gm_G _ 292 _ _ _ _
    exact g_ireturn rfl (Or.inl rfl) H
  · have H := H.2 hc
    refine g_iconst rfl rfl rfl (pc' := 121) ?_
    refine g_istore rfl rfl rfl (pc' := 123) ?_
    refine g_iconst rfl rfl rfl (pc' := 124) ?_
    refine g_istore rfl rfl rfl (pc' := 126) ?_
    refine g_iload rfl rfl rfl (pc' := 128) ?_
    refine g_iconst rfl rfl rfl (pc' := 129) ?_
    refine g_isub rfl rfl (pc' := 130) ?_
    refine g_istore rfl rfl rfl (pc' := 132) ?_
    exact g_weak (show gm_Lle [some _, some _, some _, none, some _, some _, some _, some _, some _, some _] _ from ⟨rfl, ⟨rfl, ⟨rfl, ⟨rfl, ⟨rfl, ⟨rfl, ⟨rfl, ⟨rfl, ⟨rfl, trivial⟩⟩⟩⟩⟩⟩⟩⟩⟩) H
theorem w_275_132 {m : Nat} {b1 : Nat} {x2 : Int32} {x4 : Int32} {x5 : Int32} {x6 : Int32} {x7 : Int32} {x8 : Int32} {x9 : Int32} {h : hh_T} {Q : Option Value ⊕ Nat → hh_T → Prop} (hT : tw_ok h m) (H : (x9 < Int32.ofNat 0 → ((x7 < (Int32.ofNat 3) → (gm_G 275 273 [some (.ref m), some (.ref b1), some (.int x2), none, some (.int x4), some (.int (x5 + (Int32.ofNat 1))), some (.int (x6 + (Int32.ofNat 1)))] [] h Q)) ∧ (¬ x7 < (Int32.ofNat 3) → (gm_G 130 0 [some (.ref m), some (.ref b1), some (.int ((x2 + x6) - x5)), some (.int x5), some (.int x4)] [] h (pI (fun v2 h1 => ∃ n3, gm_ix v2 n3 80 ∧ (∀ h4, h4 = hh_wi h1 (m + 28) n3 ((((Int32.ofNat 125) + x7).toInt8.toInt32).toInt8.toInt32) → (∃ n5, gm_ix (v2 + (Int32.ofNat 1)) n5 80 ∧ (∀ h6, h6 = hh_wi h4 (m + 28) n5 ((x8.toInt8.toInt32).toInt8.toInt32) → (gm_G 275 273 [some (.ref m), some (.ref b1), some (.int x2), none, some (.int ((v2 + (Int32.ofNat 1)) + (Int32.ofNat 1))), some (.int (Int32.ofNat 0)), some (.int (x6 + x7))] [] h6 Q))))) (fun _ _ => False)))))) ∧ (¬ x9 < Int32.ofNat 0 → (gm_G 275 140 [some (.ref m), some (.ref b1), some (.int x2), none, some (.int x4), some (.int x5), some (.int x6), some (.int x7), some (.int x8), some (.int x9), some (.int (Int32.ofNat 0))] [] h Q))) : gm_G 275 132 [some (.ref m), some (.ref b1), some (.int x2), none, some (.int x4), some (.int x5), some (.int x6), some (.int x7), some (.int x8), some (.int x9)] [] h Q := by
  refine g_iload rfl rfl rfl (pc' := 134) ?_
  refine g_if_lt rfl (pc' := 137) (pt := 201) rfl rfl ⟨fun hc => ?_, fun hc => ?_⟩
  · have H := H.1 hc
    refine g_iload rfl rfl rfl (pc' := 203) ?_
    refine g_iconst rfl rfl rfl (pc' := 204) ?_
    refine g_ic_lt rfl (pc' := 207) (pt := 267) rfl rfl ⟨fun hc => ?_, fun hc => ?_⟩
    · have H := H.1 hc
      refine g_iinc (c := (Int32.ofNat 1)) rfl rfl rfl rfl rfl (pc' := 270) ?_
      refine g_iinc (c := (Int32.ofNat 1)) rfl rfl rfl rfl rfl (pc' := 273) ?_
      exact g_weak (show gm_Lle [some _, some _, some _, none, some _, some _, some _] _ from ⟨rfl, ⟨rfl, ⟨rfl, ⟨rfl, ⟨rfl, ⟨rfl, trivial⟩⟩⟩⟩⟩⟩) H
    · have H := H.2 hc
      refine g_aload (r := some _) rfl rfl rfl (pc' := 208) ?_
      refine g_aload (r := some _) rfl rfl rfl (pc' := 209) ?_
      refine g_iload rfl rfl rfl (pc' := 210) ?_
      refine g_iload rfl rfl rfl (pc' := 212) ?_
      refine g_iadd rfl rfl (pc' := 213) ?_
      refine g_iload rfl rfl rfl (pc' := 215) ?_
      refine g_isub rfl rfl (pc' := 216) ?_
      refine g_iload rfl rfl rfl (pc' := 218) ?_
      refine g_iload rfl rfl rfl (pc' := 220) ?_
      refine t_call hT (y := 130) (n := 5) (pc' := 223) rfl rfl (t_vt hT rfl rfl) rfl rfl ⟨(Nat.le_of_ble_eq_true rfl), (Nat.le_of_ble_eq_true rfl), (Nat.le_of_ble_eq_true rfl)⟩ rfl H (tI_elim (fun v2 h1 H hT => ?_))
      show gm_G _ 223 _ _ _ _
      refine g_istore rfl rfl rfl (pc' := 225) ?_
      refine g_iconst rfl rfl rfl (pc' := 226) ?_
      refine g_istore rfl rfl rfl (pc' := 228) ?_
      refine g_aload (r := some _) rfl rfl rfl (pc' := 229) ?_
      refine t_get (o := 28) rfl hT rfl rfl rfl (pc' := 232) rfl ?_
      refine g_iload rfl rfl rfl (pc' := 234) ?_
      refine g_iinc (c := (Int32.ofNat 1)) rfl rfl rfl rfl rfl (pc' := 237) ?_
      refine g_iconst rfl rfl rfl (pc' := 239) ?_
      refine g_iload rfl rfl rfl (pc' := 241) ?_
      refine g_iadd rfl rfl (pc' := 242) ?_
      refine g_i2b rfl rfl (pc' := 243) ?_
      obtain ⟨n3, hn3, H⟩ := H
      refine t_bastore hT (o := 28) (l := 80) rfl rfl rfl hn3  (pc' := 244) rfl (fun hT => ?_)
      have H := H _ rfl
      refine g_aload (r := some _) rfl rfl rfl (pc' := 245) ?_
      refine t_get (o := 28) rfl hT rfl rfl rfl (pc' := 248) rfl ?_
      refine g_iload rfl rfl rfl (pc' := 250) ?_
      refine g_iinc (c := (Int32.ofNat 1)) rfl rfl rfl rfl rfl (pc' := 253) ?_
      refine g_iload rfl rfl rfl (pc' := 255) ?_
      refine g_i2b rfl rfl (pc' := 256) ?_
      obtain ⟨n5, hn5, H⟩ := H
      refine t_bastore hT (o := 28) (l := 80) rfl rfl rfl hn5  (pc' := 257) rfl (fun hT => ?_)
      have H := H _ rfl
      refine g_iload rfl rfl rfl (pc' := 259) ?_
      refine g_iload rfl rfl rfl (pc' := 261) ?_
      refine g_iadd rfl rfl (pc' := 262) ?_
      refine g_istore rfl rfl rfl (pc' := 264) ?_
      refine g_goto rfl (pc' := 273) rfl ?_
      exact g_weak (show gm_Lle [some _, some _, some _, none, some _, some _, some _] _ from ⟨rfl, ⟨rfl, ⟨rfl, ⟨rfl, ⟨rfl, ⟨rfl, trivial⟩⟩⟩⟩⟩⟩) H
  · have H := H.2 hc
    refine g_iconst rfl rfl rfl (pc' := 138) ?_
    refine g_istore rfl rfl rfl (pc' := 140) ?_
    exact g_weak (show gm_Lle [some _, some _, some _, none, some _, some _, some _, some _, some _, some _, some _] _ from ⟨rfl, ⟨rfl, ⟨rfl, ⟨rfl, ⟨rfl, ⟨rfl, ⟨rfl, ⟨rfl, ⟨rfl, ⟨rfl, trivial⟩⟩⟩⟩⟩⟩⟩⟩⟩⟩) H
theorem w_275_140 {m : Nat} {b1 : Nat} {x2 : Int32} {x4 : Int32} {x5 : Int32} {x6 : Int32} {x7 : Int32} {x8 : Int32} {x9 : Int32} {x10 : Int32} {h : hh_T} {Q : Option Value ⊕ Nat → hh_T → Prop} (hT : tw_ok h m) (H : (¬ (x6 + x10) < (Int32.ofNat 32) → (gm_G 275 177 [some (.ref m), some (.ref b1), some (.int x2), none, some (.int x4), some (.int x5), some (.int x6), some (.int x7), some (.int x8), some (.int x9), some (.int x10)] [] h Q)) ∧ ((x6 + x10) < (Int32.ofNat 32) → ((hh_tg h b1 = 101 ∨ hh_tg h b1 = 102) ∧ (∃ n1, gm_ix ((x2 + x9) + x10) n1 (hh_ln h b1) ∧ (∃ n3, gm_ix ((x2 + x6) + x10) n3 (hh_ln h b1) ∧ ((¬ (hh_i h b1 n1) = (hh_i h b1 n3) → (gm_G 275 177 [some (.ref m), some (.ref b1), some (.int x2), none, some (.int x4), some (.int x5), some (.int x6), some (.int x7), some (.int x8), some (.int x9), some (.int x10)] [] h Q)) ∧ ((hh_i h b1 n1) = (hh_i h b1 n3) → (gm_G 275 140 [some (.ref m), some (.ref b1), some (.int x2), none, some (.int x4), some (.int x5), some (.int x6), some (.int x7), some (.int x8), some (.int x9), some (.int (x10 + (Int32.ofNat 1)))] [] h Q)))))))) : gm_G 275 140 [some (.ref m), some (.ref b1), some (.int x2), none, some (.int x4), some (.int x5), some (.int x6), some (.int x7), some (.int x8), some (.int x9), some (.int x10)] [] h Q := by
  refine g_iload rfl rfl rfl (pc' := 142) ?_
  refine g_iload rfl rfl rfl (pc' := 144) ?_
  refine g_iadd rfl rfl (pc' := 145) ?_
  refine g_iconst rfl rfl rfl (pc' := 147) ?_
  refine g_ic_ge rfl (pc' := 150) (pt := 177) rfl rfl ⟨fun hc => ?_, fun hc => ?_⟩
  · have H := H.1 hc
    exact g_weak (show gm_Lle [some _, some _, some _, none, some _, some _, some _, some _, some _, some _, some _] _ from ⟨rfl, ⟨rfl, ⟨rfl, ⟨rfl, ⟨rfl, ⟨rfl, ⟨rfl, ⟨rfl, ⟨rfl, ⟨rfl, trivial⟩⟩⟩⟩⟩⟩⟩⟩⟩⟩) H
  · have H := H.2 hc
    refine g_aload (r := some _) rfl rfl rfl (pc' := 151) ?_
    refine g_iload rfl rfl rfl (pc' := 152) ?_
    refine g_iload rfl rfl rfl (pc' := 154) ?_
    refine g_iadd rfl rfl (pc' := 155) ?_
    refine g_iload rfl rfl rfl (pc' := 157) ?_
    refine g_iadd rfl rfl (pc' := 158) ?_
    obtain ⟨ht2, H⟩ := H
    obtain ⟨n1, hn1, H⟩ := H
    refine g_baload rfl ht2 hn1 (pc' := 159) rfl ?_
    refine g_aload (r := some _) rfl rfl rfl (pc' := 160) ?_
    refine g_iload rfl rfl rfl (pc' := 161) ?_
    refine g_iload rfl rfl rfl (pc' := 163) ?_
    refine g_iadd rfl rfl (pc' := 164) ?_
    refine g_iload rfl rfl rfl (pc' := 166) ?_
    refine g_iadd rfl rfl (pc' := 167) ?_
    obtain ⟨n3, hn3, H⟩ := H
    refine g_baload rfl ht2 hn3 (pc' := 168) rfl ?_
    refine g_ic_ne rfl (pc' := 171) (pt := 177) rfl rfl ⟨fun hc => ?_, fun hc => ?_⟩
    · have H := H.1 hc
      exact g_weak (show gm_Lle [some _, some _, some _, none, some _, some _, some _, some _, some _, some _, some _] _ from ⟨rfl, ⟨rfl, ⟨rfl, ⟨rfl, ⟨rfl, ⟨rfl, ⟨rfl, ⟨rfl, ⟨rfl, ⟨rfl, trivial⟩⟩⟩⟩⟩⟩⟩⟩⟩⟩) H
    · have H := H.2 hc
      refine g_iinc (c := (Int32.ofNat 1)) rfl rfl rfl rfl rfl (pc' := 174) ?_
      refine g_goto rfl (pc' := 140) rfl ?_
      exact g_weak (show gm_Lle [some _, some _, some _, none, some _, some _, some _, some _, some _, some _, some _] _ from ⟨rfl, ⟨rfl, ⟨rfl, ⟨rfl, ⟨rfl, ⟨rfl, ⟨rfl, ⟨rfl, ⟨rfl, ⟨rfl, trivial⟩⟩⟩⟩⟩⟩⟩⟩⟩⟩) H
theorem w_275_177 {m : Nat} {b1 : Nat} {x2 : Int32} {x4 : Int32} {x5 : Int32} {x6 : Int32} {x7 : Int32} {x8 : Int32} {x9 : Int32} {x10 : Int32} {h : hh_T} {Q : Option Value ⊕ Nat → hh_T → Prop} (hT : tw_ok h m) (H : (¬ x7 < x10 → (gm_G 275 195 [some (.ref m), some (.ref b1), some (.int x2), none, some (.int x4), some (.int x5), some (.int x6), some (.int x7), some (.int x8), some (.int x9)] [] h Q)) ∧ (x7 < x10 → (gm_G 275 195 [some (.ref m), some (.ref b1), some (.int x2), none, some (.int x4), some (.int x5), some (.int x6), some (.int x10), some (.int (x6 - x9)), some (.int x9)] [] h Q))) : gm_G 275 177 [some (.ref m), some (.ref b1), some (.int x2), none, some (.int x4), some (.int x5), some (.int x6), some (.int x7), some (.int x8), some (.int x9), some (.int x10)] [] h Q := by
  refine g_iload rfl rfl rfl (pc' := 179) ?_
  refine g_iload rfl rfl rfl (pc' := 181) ?_
  refine g_ic_le rfl (pc' := 184) (pt := 195) rfl rfl ⟨fun hc => ?_, fun hc => ?_⟩
  · have H := H.1 hc
    exact g_weak (show gm_Lle [some _, some _, some _, none, some _, some _, some _, some _, some _, some _] _ from ⟨rfl, ⟨rfl, ⟨rfl, ⟨rfl, ⟨rfl, ⟨rfl, ⟨rfl, ⟨rfl, ⟨rfl, trivial⟩⟩⟩⟩⟩⟩⟩⟩⟩) H
  · have H := H.2 hc
    refine g_iload rfl rfl rfl (pc' := 186) ?_
    refine g_istore rfl rfl rfl (pc' := 188) ?_
    refine g_iload rfl rfl rfl (pc' := 190) ?_
    refine g_iload rfl rfl rfl (pc' := 192) ?_
    refine g_isub rfl rfl (pc' := 193) ?_
    refine g_istore rfl rfl rfl (pc' := 195) ?_
    exact g_weak (show gm_Lle [some _, some _, some _, none, some _, some _, some _, some _, some _, some _] _ from ⟨rfl, ⟨rfl, ⟨rfl, ⟨rfl, ⟨rfl, ⟨rfl, ⟨rfl, ⟨rfl, ⟨rfl, trivial⟩⟩⟩⟩⟩⟩⟩⟩⟩) H
theorem w_275_195 {m : Nat} {b1 : Nat} {x2 : Int32} {x4 : Int32} {x5 : Int32} {x6 : Int32} {x7 : Int32} {x8 : Int32} {x9 : Int32} {h : hh_T} {Q : Option Value ⊕ Nat → hh_T → Prop} (hT : tw_ok h m) (H : gm_G 275 132 [some (.ref m), some (.ref b1), some (.int x2), none, some (.int x4), some (.int x5), some (.int x6), some (.int x7), some (.int x8), some (.int (x9 + (Int32.ofInt (-1))))] [] h Q) : gm_G 275 195 [some (.ref m), some (.ref b1), some (.int x2), none, some (.int x4), some (.int x5), some (.int x6), some (.int x7), some (.int x8), some (.int x9)] [] h Q := by
  refine g_iinc (c := (Int32.ofInt (-1))) rfl rfl rfl rfl rfl (pc' := 198) ?_
  refine g_goto rfl (pc' := 132) rfl ?_
  exact g_weak (show gm_Lle [some _, some _, some _, none, some _, some _, some _, some _, some _, some _] _ from ⟨rfl, ⟨rfl, ⟨rfl, ⟨rfl, ⟨rfl, ⟨rfl, ⟨rfl, ⟨rfl, ⟨rfl, trivial⟩⟩⟩⟩⟩⟩⟩⟩⟩) H
theorem w_275_273 {m : Nat} {b1 : Nat} {x2 : Int32} {x4 : Int32} {x5 : Int32} {x6 : Int32} {h : hh_T} {Q : Option Value ⊕ Nat → hh_T → Prop} (hT : tw_ok h m) (H : gm_G 275 113 [some (.ref m), some (.ref b1), some (.int x2), none, some (.int x4), some (.int x5), some (.int x6)] [] h Q) : gm_G 275 273 [some (.ref m), some (.ref b1), some (.int x2), none, some (.int x4), some (.int x5), some (.int x6)] [] h Q := by
  refine g_goto rfl (pc' := 113) rfl ?_
  exact g_weak (show gm_Lle [some _, some _, some _, none, some _, some _, some _] _ from ⟨rfl, ⟨rfl, ⟨rfl, ⟨rfl, ⟨rfl, ⟨rfl, trivial⟩⟩⟩⟩⟩⟩) H
theorem w_276_0 {m : Nat} {x1 : Int32} {x2 : Int32} {h : hh_T} {Q : Option Value ⊕ Nat → hh_T → Prop} (hT : tw_ok h m) (H : gm_G 276 2 [some (.ref m), some (.int x1), some (.int x2), some (.int (Int32.ofNat 0))] [] h Q) : gm_G 276 0 [some (.ref m), some (.int x1), some (.int x2)] [] h Q := by
  refine g_iconst rfl rfl rfl (pc' := 1) ?_
  refine g_istore rfl rfl rfl (pc' := 2) ?_
  exact g_weak (show gm_Lle [some _, some _, some _, some _] _ from ⟨rfl, ⟨rfl, ⟨rfl, ⟨rfl, trivial⟩⟩⟩⟩) H
theorem w_276_2 {m : Nat} {x1 : Int32} {x2 : Int32} {x3 : Int32} {h : hh_T} {Q : Option Value ⊕ Nat → hh_T → Prop} (hT : tw_ok h m) (H : (¬ x3 < (Int32.ofNat 16) → (∃ n1, gm_ix x1 n1 96 ∧ (∃ n2, gm_ix x2 n2 96 ∧ (∀ h3, h3 = hh_wi h (m + 58) n2 (hh_i h (m + 58) n1) → (Q (.inl none) h3))))) ∧ (x3 < (Int32.ofNat 16) → (gm_G 98 0 [some (.ref m), some (.int (((Int32.ofNat 16) * x1) + x3)), some (.int (((Int32.ofNat 16) * x2) + x3))] [] h (pV (fun h4 => gm_G 276 2 [some (.ref m), some (.int x1), some (.int x2), some (.int (x3 + (Int32.ofNat 1)))] [] h4 Q) (fun _ _ => False))))) : gm_G 276 2 [some (.ref m), some (.int x1), some (.int x2), some (.int x3)] [] h Q := by
  refine g_iload rfl rfl rfl (pc' := 3) ?_
  refine g_iconst rfl rfl rfl (pc' := 5) ?_
  refine g_ic_ge rfl (pc' := 8) (pt := 30) rfl rfl ⟨fun hc => ?_, fun hc => ?_⟩
  · have H := H.1 hc
    refine g_aload (r := some _) rfl rfl rfl (pc' := 31) ?_
    refine t_get (o := 58) rfl hT rfl rfl rfl (pc' := 34) rfl ?_
    refine g_iload rfl rfl rfl (pc' := 35) ?_
    refine g_aload (r := some _) rfl rfl rfl (pc' := 36) ?_
    refine t_get (o := 58) rfl hT rfl rfl rfl (pc' := 39) rfl ?_
    refine g_iload rfl rfl rfl (pc' := 40) ?_
    obtain ⟨n1, hn1, H⟩ := H
    refine t_iaload hT (o := 58) (l := 96) rfl rfl rfl hn1 (pc' := 41) rfl ?_
    obtain ⟨n2, hn2, H⟩ := H
    refine t_iastore hT (o := 58) (l := 96) rfl rfl rfl hn2  (pc' := 42) rfl (fun hT => ?_)
    have H := H _ rfl
    exact g_return rfl H
  · have H := H.2 hc
    refine g_aload (r := some _) rfl rfl rfl (pc' := 9) ?_
    refine g_iconst rfl rfl rfl (pc' := 11) ?_
    refine g_iload rfl rfl rfl (pc' := 12) ?_
    refine g_imul rfl rfl (pc' := 13) ?_
    refine g_iload rfl rfl rfl (pc' := 14) ?_
    refine g_iadd rfl rfl (pc' := 15) ?_
    refine g_iconst rfl rfl rfl (pc' := 17) ?_
    refine g_iload rfl rfl rfl (pc' := 18) ?_
    refine g_imul rfl rfl (pc' := 19) ?_
    refine g_iload rfl rfl rfl (pc' := 20) ?_
    refine g_iadd rfl rfl (pc' := 21) ?_
    refine t_call hT (y := 98) (n := 3) (pc' := 24) rfl rfl (t_vt hT rfl rfl) rfl rfl ⟨(Nat.le_of_ble_eq_true rfl), (Nat.le_of_ble_eq_true rfl), (Nat.le_of_ble_eq_true rfl)⟩ rfl H (tV_elim (fun h4 H hT => ?_))
    show gm_G _ 24 _ _ _ _
    refine g_iinc (c := (Int32.ofNat 1)) rfl rfl rfl rfl rfl (pc' := 27) ?_
    refine g_goto rfl (pc' := 2) rfl ?_
    exact g_weak (show gm_Lle [some _, some _, some _, some _] _ from ⟨rfl, ⟨rfl, ⟨rfl, ⟨rfl, trivial⟩⟩⟩⟩) H
theorem w_277_0 {m : Nat} {x1 : Int32} {x2 : Int32} {h : hh_T} {Q : Option Value ⊕ Nat → hh_T → Prop} (hT : tw_ok h m) (H : gm_G 135 0 [some (.ref m), some (.int x1)] [] h (pI (fun v2 h1 => (¬ v2 = Int32.ofNat 0 → (Q (.inl (some (.int (Int32.ofInt (-1))))) h1)) ∧ (v2 = Int32.ofNat 0 → ((x2 < Int32.ofNat 0 → (Q (.inl (some (.int (Int32.ofInt (-1))))) h1)) ∧ (¬ x2 < Int32.ofNat 0 → (∃ n3, gm_ix x1 n3 8 ∧ ((x2 < (hh_i h1 (m + 4) n3) → (∃ n4, gm_ix (((Int32.ofNat 64) * x1) + x2) n4 512 ∧ (∃ n5, gm_ix (((Int32.ofNat 64) * x1) + x2) n5 512 ∧ (∀ h6, h6 = hh_wi h1 (m + 8) n5 (Int32.ofNat 1) → (((hh_i h1 (m + 8) n4) = Int32.ofNat 0 → (Q (.inl (some (.int (Int32.ofNat 1)))) h6)) ∧ (¬ (hh_i h1 (m + 8) n4) = Int32.ofNat 0 → (Q (.inl (some (.int (Int32.ofNat 0)))) h6))))))) ∧ (¬ x2 < (hh_i h1 (m + 4) n3) → (Q (.inl (some (.int (Int32.ofInt (-1))))) h1)))))))) (fun _ _ => False))) : gm_G 277 0 [some (.ref m), some (.int x1), some (.int x2)] [] h Q := by
  refine g_aload (r := some _) rfl rfl rfl (pc' := 1) ?_
  refine g_iload rfl rfl rfl (pc' := 2) ?_
  refine t_call hT (y := 135) (n := 2) (pc' := 5) rfl rfl (t_vt hT rfl rfl) rfl rfl ⟨(Nat.le_of_ble_eq_true rfl), (Nat.le_of_ble_eq_true rfl), (Nat.le_of_ble_eq_true rfl)⟩ rfl H (tI_elim (fun v2 h1 H hT => ?_))
  show gm_G _ 5 _ _ _ _
  refine g_if_ne rfl (pc' := 8) (pt := 22) rfl rfl ⟨fun hc => ?_, fun hc => ?_⟩
  · have H := H.1 hc
    refine g_iconst rfl rfl rfl (pc' := 23) ?_
    exact g_ireturn rfl (Or.inl rfl) H
  · have H := H.2 hc
    refine g_iload rfl rfl rfl (pc' := 9) ?_
    refine g_if_lt rfl (pc' := 12) (pt := 22) rfl rfl ⟨fun hc => ?_, fun hc => ?_⟩
    · have H := H.1 hc
      refine g_iconst rfl rfl rfl (pc' := 23) ?_
      exact g_ireturn rfl (Or.inl rfl) H
    · have H := H.2 hc
      refine g_iload rfl rfl rfl (pc' := 13) ?_
      refine g_aload (r := some _) rfl rfl rfl (pc' := 14) ?_
      refine t_get (o := 4) rfl hT rfl rfl rfl (pc' := 17) rfl ?_
      refine g_iload rfl rfl rfl (pc' := 18) ?_
      obtain ⟨n3, hn3, H⟩ := H
      refine t_iaload hT (o := 4) (l := 8) rfl rfl rfl hn3 (pc' := 19) rfl ?_
      refine g_ic_lt rfl (pc' := 22) (pt := 24) rfl rfl ⟨fun hc => ?_, fun hc => ?_⟩
      · have H := H.1 hc
        refine g_aload (r := some _) rfl rfl rfl (pc' := 25) ?_
        refine t_get (o := 8) rfl hT rfl rfl rfl (pc' := 28) rfl ?_
        refine g_iconst rfl rfl rfl (pc' := 30) ?_
        refine g_iload rfl rfl rfl (pc' := 31) ?_
        refine g_imul rfl rfl (pc' := 32) ?_
        refine g_iload rfl rfl rfl (pc' := 33) ?_
        refine g_iadd rfl rfl (pc' := 34) ?_
        obtain ⟨n4, hn4, H⟩ := H
        refine t_zaload hT (o := 8) (l := 512) rfl rfl rfl hn4 (pc' := 35) rfl ?_
        refine g_istore rfl rfl rfl (pc' := 36) ?_
        refine g_aload (r := some _) rfl rfl rfl (pc' := 37) ?_
        refine t_get (o := 8) rfl hT rfl rfl rfl (pc' := 40) rfl ?_
        refine g_iconst rfl rfl rfl (pc' := 42) ?_
        refine g_iload rfl rfl rfl (pc' := 43) ?_
        refine g_imul rfl rfl (pc' := 44) ?_
        refine g_iload rfl rfl rfl (pc' := 45) ?_
        refine g_iadd rfl rfl (pc' := 46) ?_
        refine g_iconst rfl rfl rfl (pc' := 47) ?_
        obtain ⟨n5, hn5, H⟩ := H
        refine t_zastore hT (o := 8) (l := 512) rfl rfl rfl hn5 (by decide) (pc' := 48) rfl (fun hT => ?_)
        have H := H _ rfl
        refine g_iload rfl rfl rfl (pc' := 49) ?_
        refine g_if_eq rfl (pc' := 52) (pt := 56) rfl rfl ⟨fun hc => ?_, fun hc => ?_⟩
        · have H := H.1 hc
          refine g_iconst rfl rfl rfl (pc' := 57) ?_
          exact g_ireturn rfl (Or.inl rfl) H
        · have H := H.2 hc
          refine g_iconst rfl rfl rfl (pc' := 53) ?_
          refine g_goto rfl (pc' := 57) rfl ?_
          exact g_ireturn rfl (Or.inl rfl) H
      · have H := H.2 hc
        refine g_iconst rfl rfl rfl (pc' := 23) ?_
        exact g_ireturn rfl (Or.inl rfl) H
theorem w_278_0 {m : Nat} {x1 : Int32} {h : hh_T} {Q : Option Value ⊕ Nat → hh_T → Prop} (hT : tw_ok h m) (H : ∃ n1, gm_ix x1 n1 640 ∧ (gm_G 159 0 [some (.ref (m + 35)), some (.int (Int32.ofNat 0)), some (.int ((Int32.ofNat 8) * (hh_i h (m + 21) n1)))] [] h (pL (fun v3 h2 => ∃ n4, gm_ix x1 n4 640 ∧ ((¬ (lg_cmp v3 (hh_j h2 (m + 25) n4)) = Int32.ofNat 0 → (Q (.inl (some (.int (Int32.ofNat 0)))) h2)) ∧ ((lg_cmp v3 (hh_j h2 (m + 25) n4)) = Int32.ofNat 0 → (∃ n5, gm_ix x1 n5 640 ∧ (∃ n6, gm_ix x1 n6 640 ∧ (gm_G 100 0 [some (.ref m), some (.ref (m + 35)), some (.int (Int32.ofNat 0)), some (.int ((Int32.ofNat 8) * (hh_i h2 (m + 21) n5))), some (.int (hh_i h2 (m + 20) n6))] [] h2 (pI (fun v8 h7 => (v8 = Int32.ofNat 0 → (Q (.inl (some (.int (Int32.ofNat 0)))) h7)) ∧ (¬ v8 = Int32.ofNat 0 → (Q (.inl (some (.int (Int32.ofNat 1)))) h7))) (fun _ _ => False)))))))) (fun _ _ => False)))) : gm_G 278 0 [some (.ref m), some (.int x1)] [] h Q := by
  refine g_aload (r := some _) rfl rfl rfl (pc' := 1) ?_
  refine t_get (o := 35) rfl hT rfl rfl rfl (pc' := 4) rfl ?_
  refine g_iconst rfl rfl rfl (pc' := 5) ?_
  refine g_iconst rfl rfl rfl (pc' := 7) ?_
  refine g_aload (r := some _) rfl rfl rfl (pc' := 8) ?_
  refine t_get (o := 21) rfl hT rfl rfl rfl (pc' := 11) rfl ?_
  refine g_iload rfl rfl rfl (pc' := 12) ?_
  obtain ⟨n1, hn1, H⟩ := H
  refine t_iaload hT (o := 21) (l := 640) rfl rfl rfl hn1 (pc' := 13) rfl ?_
  refine g_imul rfl rfl (pc' := 14) ?_
  refine t_call hT (y := 159) (n := 3) (pc' := 17) rfl rfl (fun _ => rfl) rfl rfl ⟨(Nat.le_of_ble_eq_true rfl), (Nat.le_of_ble_eq_true rfl), (Nat.le_of_ble_eq_true rfl)⟩ rfl H (tL_elim (fun v3 h2 H hT => ?_))
  show gm_G _ 17 _ _ _ _
  refine g_aload (r := some _) rfl rfl rfl (pc' := 18) ?_
  refine t_get (o := 25) rfl hT rfl rfl rfl (pc' := 21) rfl ?_
  refine g_iload rfl rfl rfl (pc' := 22) ?_
  obtain ⟨n4, hn4, H⟩ := H
  refine t_laload hT (o := 25) (l := 640) rfl rfl rfl hn4 (pc' := 23) rfl ?_
  refine g_lcmp rfl rfl (pc' := 24) ?_
  refine g_if_ne rfl (pc' := 27) (pt := 58) rfl rfl ⟨fun hc => ?_, fun hc => ?_⟩
  · have H := H.1 hc
    refine g_iconst rfl rfl rfl (pc' := 59) ?_
    exact g_ireturn rfl (Or.inr (by decide)) H
  · have H := H.2 hc
    refine g_aload (r := some _) rfl rfl rfl (pc' := 28) ?_
    refine g_aload (r := some _) rfl rfl rfl (pc' := 29) ?_
    refine t_get (o := 35) rfl hT rfl rfl rfl (pc' := 32) rfl ?_
    refine g_iconst rfl rfl rfl (pc' := 33) ?_
    refine g_iconst rfl rfl rfl (pc' := 35) ?_
    refine g_aload (r := some _) rfl rfl rfl (pc' := 36) ?_
    refine t_get (o := 21) rfl hT rfl rfl rfl (pc' := 39) rfl ?_
    refine g_iload rfl rfl rfl (pc' := 40) ?_
    obtain ⟨n5, hn5, H⟩ := H
    refine t_iaload hT (o := 21) (l := 640) rfl rfl rfl hn5 (pc' := 41) rfl ?_
    refine g_imul rfl rfl (pc' := 42) ?_
    refine g_aload (r := some _) rfl rfl rfl (pc' := 43) ?_
    refine t_get (o := 20) rfl hT rfl rfl rfl (pc' := 46) rfl ?_
    refine g_iload rfl rfl rfl (pc' := 47) ?_
    obtain ⟨n6, hn6, H⟩ := H
    refine t_iaload hT (o := 20) (l := 640) rfl rfl rfl hn6 (pc' := 48) rfl ?_
    refine t_call hT (y := 100) (n := 5) (pc' := 51) rfl rfl (t_vt hT rfl rfl) rfl rfl ⟨(Nat.le_of_ble_eq_true rfl), (Nat.le_of_ble_eq_true rfl), (Nat.le_of_ble_eq_true rfl)⟩ rfl H (tI_elim (fun v8 h7 H hT => ?_))
    show gm_G _ 51 _ _ _ _
    refine g_if_eq rfl (pc' := 54) (pt := 58) rfl rfl ⟨fun hc => ?_, fun hc => ?_⟩
    · have H := H.1 hc
      refine g_iconst rfl rfl rfl (pc' := 59) ?_
      exact g_ireturn rfl (Or.inr (by decide)) H
    · have H := H.2 hc
      refine g_iconst rfl rfl rfl (pc' := 55) ?_
      refine g_goto rfl (pc' := 59) rfl ?_
      exact g_ireturn rfl (Or.inr (by decide)) H
theorem w_279_0 {m : Nat} {x1 : Int32} {h : hh_T} {Q : Option Value ⊕ Nat → hh_T → Prop} (hT : tw_ok h m) (H : gm_G 279 4 [some (.ref m), some (.int x1), some (.int (Int32.ofNat 0)), some (.int (Int32.ofNat 0))] [] h Q) : gm_G 279 0 [some (.ref m), some (.int x1)] [] h Q := by
  refine g_iconst rfl rfl rfl (pc' := 1) ?_
  refine g_istore rfl rfl rfl (pc' := 2) ?_
  refine g_iconst rfl rfl rfl (pc' := 3) ?_
  refine g_istore rfl rfl rfl (pc' := 4) ?_
  exact g_weak (show gm_Lle [some _, some _, some _, some _] _ from ⟨rfl, ⟨rfl, ⟨rfl, ⟨rfl, trivial⟩⟩⟩⟩) H
theorem w_279_4 {m : Nat} {x1 : Int32} {x2 : Int32} {x3 : Int32} {h : hh_T} {Q : Option Value ⊕ Nat → hh_T → Prop} (hT : tw_ok h m) (H : gm_G 143 0 [some (.ref m), some (.int x1)] [] h (pI (fun v2 h1 => (¬ x3 < v2 → (Q (.inl (some (.int x2))) h1)) ∧ (x3 < v2 → (∃ n3, gm_ix (((Int32.ofNat 384) * x1) + x3) n3 1152 ∧ (((hh_i h1 (m + 27) n3) = Int32.ofNat 0 → (gm_G 279 34 [some (.ref m), some (.int x1), none, some (.int x3)] [.int (Int32.ofNat 1), .int x2] h1 Q)) ∧ (¬ (hh_i h1 (m + 27) n3) = Int32.ofNat 0 → (gm_G 279 34 [some (.ref m), some (.int x1), none, some (.int x3)] [.int (Int32.ofNat 0), .int x2] h1 Q)))))) (fun _ _ => False))) : gm_G 279 4 [some (.ref m), some (.int x1), some (.int x2), some (.int x3)] [] h Q := by
  refine g_iload rfl rfl rfl (pc' := 5) ?_
  refine g_aload (r := some _) rfl rfl rfl (pc' := 6) ?_
  refine g_iload rfl rfl rfl (pc' := 7) ?_
  refine t_call hT (y := 143) (n := 2) (pc' := 10) rfl rfl (t_vt hT rfl rfl) rfl rfl ⟨(Nat.le_of_ble_eq_true rfl), (Nat.le_of_ble_eq_true rfl), (Nat.le_of_ble_eq_true rfl)⟩ rfl H (tI_elim (fun v2 h1 H hT => ?_))
  show gm_G _ 10 _ _ _ _
  refine g_ic_ge rfl (pc' := 13) (pt := 42) rfl rfl ⟨fun hc => ?_, fun hc => ?_⟩
  · have H := H.1 hc
    refine g_iload rfl rfl rfl (pc' := 43) ?_
    exact g_ireturn rfl (Or.inl rfl) H
  · have H := H.2 hc
    refine g_iload rfl rfl rfl (pc' := 14) ?_
    refine g_aload (r := some _) rfl rfl rfl (pc' := 15) ?_
    refine t_get (o := 27) rfl hT rfl rfl rfl (pc' := 18) rfl ?_
    refine g_iconst rfl rfl rfl (pc' := 21) ?_
    refine g_iload rfl rfl rfl (pc' := 22) ?_
    refine g_imul rfl rfl (pc' := 23) ?_
    refine g_iload rfl rfl rfl (pc' := 24) ?_
    refine g_iadd rfl rfl (pc' := 25) ?_
    obtain ⟨n3, hn3, H⟩ := H
    refine t_zaload hT (o := 27) (l := 1152) rfl rfl rfl hn3 (pc' := 26) rfl ?_
    refine g_if_eq rfl (pc' := 29) (pt := 33) rfl rfl ⟨fun hc => ?_, fun hc => ?_⟩
    · have H := H.1 hc
      refine g_iconst rfl rfl rfl (pc' := 34) ?_
      exact g_weak (show gm_Lle [some _, some _, none, some _] _ from ⟨rfl, ⟨rfl, ⟨rfl, trivial⟩⟩⟩) H
    · have H := H.2 hc
      refine g_iconst rfl rfl rfl (pc' := 30) ?_
      refine g_goto rfl (pc' := 34) rfl ?_
      exact g_weak (show gm_Lle [some _, some _, none, some _] _ from ⟨rfl, ⟨rfl, ⟨rfl, trivial⟩⟩⟩) H
theorem w_279_34 {m : Nat} {x1 : Int32} {x3 : Int32} {y0 : Int32} {y1 : Int32} {h : hh_T} {Q : Option Value ⊕ Nat → hh_T → Prop} (hT : tw_ok h m) (H : gm_G 279 4 [some (.ref m), some (.int x1), some (.int (y1 + y0)), some (.int (x3 + (Int32.ofNat 1)))] [] h Q) : gm_G 279 34 [some (.ref m), some (.int x1), none, some (.int x3)] [.int y0, .int y1] h Q := by
  refine g_iadd rfl rfl (pc' := 35) ?_
  refine g_istore rfl rfl rfl (pc' := 36) ?_
  refine g_iinc (c := (Int32.ofNat 1)) rfl rfl rfl rfl rfl (pc' := 39) ?_
  refine g_goto rfl (pc' := 4) rfl ?_
  exact g_weak (show gm_Lle [some _, some _, some _, some _] _ from ⟨rfl, ⟨rfl, ⟨rfl, ⟨rfl, trivial⟩⟩⟩⟩) H
theorem w_280_0 {m : Nat} {x1 : Int32} {x2 : Int32} {h : hh_T} {Q : Option Value ⊕ Nat → hh_T → Prop} (hT : tw_ok h m) (H : gm_G 280 2 [some (.ref m), some (.int x1), some (.int x2), some (.int (Int32.ofNat 0))] [] h Q) : gm_G 280 0 [some (.ref m), some (.int x1), some (.int x2)] [] h Q := by
  refine g_iconst rfl rfl rfl (pc' := 1) ?_
  refine g_istore rfl rfl rfl (pc' := 2) ?_
  exact g_weak (show gm_Lle [some _, some _, some _, some _] _ from ⟨rfl, ⟨rfl, ⟨rfl, ⟨rfl, trivial⟩⟩⟩⟩) H
theorem w_280_2 {m : Nat} {x1 : Int32} {x2 : Int32} {x3 : Int32} {h : hh_T} {Q : Option Value ⊕ Nat → hh_T → Prop} (hT : tw_ok h m) (H : gm_G 143 0 [some (.ref m), some (.int x1)] [] h (pI (fun v2 h1 => (v2 < (x3 + x2) → (Q (.inl (some (.int (Int32.ofInt (-1))))) h1)) ∧ (¬ v2 < (x3 + x2) → (gm_G 280 16 [some (.ref m), some (.int x1), some (.int x2), some (.int x3), some (.int (Int32.ofNat 0))] [] h1 Q))) (fun _ _ => False))) : gm_G 280 2 [some (.ref m), some (.int x1), some (.int x2), some (.int x3)] [] h Q := by
  refine g_iload rfl rfl rfl (pc' := 3) ?_
  refine g_iload rfl rfl rfl (pc' := 4) ?_
  refine g_iadd rfl rfl (pc' := 5) ?_
  refine g_aload (r := some _) rfl rfl rfl (pc' := 6) ?_
  refine g_iload rfl rfl rfl (pc' := 7) ?_
  refine t_call hT (y := 143) (n := 2) (pc' := 10) rfl rfl (t_vt hT rfl rfl) rfl rfl ⟨(Nat.le_of_ble_eq_true rfl), (Nat.le_of_ble_eq_true rfl), (Nat.le_of_ble_eq_true rfl)⟩ rfl H (tI_elim (fun v2 h1 H hT => ?_))
  show gm_G _ 10 _ _ _ _
  refine g_ic_gt rfl (pc' := 13) (pt := 60) rfl rfl ⟨fun hc => ?_, fun hc => ?_⟩
  · have H := H.1 hc
    refine g_iconst rfl rfl rfl (pc' := 61) ?_
    exact g_ireturn rfl (Or.inl rfl) H
  · have H := H.2 hc
    refine g_iconst rfl rfl rfl (pc' := 14) ?_
    refine g_istore rfl rfl rfl (pc' := 16) ?_
    exact g_weak (show gm_Lle [some _, some _, some _, some _, some _] _ from ⟨rfl, ⟨rfl, ⟨rfl, ⟨rfl, ⟨rfl, trivial⟩⟩⟩⟩⟩) H
theorem w_280_16 {m : Nat} {x1 : Int32} {x2 : Int32} {x3 : Int32} {x4 : Int32} {h : hh_T} {Q : Option Value ⊕ Nat → hh_T → Prop} (hT : tw_ok h m) (H : (¬ x4 < x2 → (gm_G 280 46 [some (.ref m), some (.int x1), some (.int x2), some (.int x3), some (.int x4)] [] h Q)) ∧ (x4 < x2 → (∃ n1, gm_ix ((((Int32.ofNat 384) * x1) + x3) + x4) n1 1152 ∧ ((¬ (hh_i h (m + 27) n1) = Int32.ofNat 0 → (gm_G 280 46 [some (.ref m), some (.int x1), some (.int x2), some (.int x3), some (.int x4)] [] h Q)) ∧ ((hh_i h (m + 27) n1) = Int32.ofNat 0 → (gm_G 280 16 [some (.ref m), some (.int x1), some (.int x2), some (.int x3), some (.int (x4 + (Int32.ofNat 1)))] [] h Q)))))) : gm_G 280 16 [some (.ref m), some (.int x1), some (.int x2), some (.int x3), some (.int x4)] [] h Q := by
  refine g_iload rfl rfl rfl (pc' := 18) ?_
  refine g_iload rfl rfl rfl (pc' := 19) ?_
  refine g_ic_ge rfl (pc' := 22) (pt := 46) rfl rfl ⟨fun hc => ?_, fun hc => ?_⟩
  · have H := H.1 hc
    exact g_weak (show gm_Lle [some _, some _, some _, some _, some _] _ from ⟨rfl, ⟨rfl, ⟨rfl, ⟨rfl, ⟨rfl, trivial⟩⟩⟩⟩⟩) H
  · have H := H.2 hc
    refine g_aload (r := some _) rfl rfl rfl (pc' := 23) ?_
    refine t_get (o := 27) rfl hT rfl rfl rfl (pc' := 26) rfl ?_
    refine g_iconst rfl rfl rfl (pc' := 29) ?_
    refine g_iload rfl rfl rfl (pc' := 30) ?_
    refine g_imul rfl rfl (pc' := 31) ?_
    refine g_iload rfl rfl rfl (pc' := 32) ?_
    refine g_iadd rfl rfl (pc' := 33) ?_
    refine g_iload rfl rfl rfl (pc' := 35) ?_
    refine g_iadd rfl rfl (pc' := 36) ?_
    obtain ⟨n1, hn1, H⟩ := H
    refine t_zaload hT (o := 27) (l := 1152) rfl rfl rfl hn1 (pc' := 37) rfl ?_
    refine g_if_ne rfl (pc' := 40) (pt := 46) rfl rfl ⟨fun hc => ?_, fun hc => ?_⟩
    · have H := H.1 hc
      exact g_weak (show gm_Lle [some _, some _, some _, some _, some _] _ from ⟨rfl, ⟨rfl, ⟨rfl, ⟨rfl, ⟨rfl, trivial⟩⟩⟩⟩⟩) H
    · have H := H.2 hc
      refine g_iinc (c := (Int32.ofNat 1)) rfl rfl rfl rfl rfl (pc' := 43) ?_
      refine g_goto rfl (pc' := 16) rfl ?_
      exact g_weak (show gm_Lle [some _, some _, some _, some _, some _] _ from ⟨rfl, ⟨rfl, ⟨rfl, ⟨rfl, ⟨rfl, trivial⟩⟩⟩⟩⟩) H
theorem w_280_46 {m : Nat} {x1 : Int32} {x2 : Int32} {x3 : Int32} {x4 : Int32} {h : hh_T} {Q : Option Value ⊕ Nat → hh_T → Prop} (hT : tw_ok h m) (H : (¬ x4 = x2 → (gm_G 280 2 [some (.ref m), some (.int x1), some (.int x2), some (.int (x3 + (Int32.ofNat 1)))] [] h Q)) ∧ (x4 = x2 → (Q (.inl (some (.int x3))) h))) : gm_G 280 46 [some (.ref m), some (.int x1), some (.int x2), some (.int x3), some (.int x4)] [] h Q := by
  refine g_iload rfl rfl rfl (pc' := 48) ?_
  refine g_iload rfl rfl rfl (pc' := 49) ?_
  refine g_ic_ne rfl (pc' := 52) (pt := 54) rfl rfl ⟨fun hc => ?_, fun hc => ?_⟩
  · have H := H.1 hc
    refine g_iinc (c := (Int32.ofNat 1)) rfl rfl rfl rfl rfl (pc' := 57) ?_
    refine g_goto rfl (pc' := 2) rfl ?_
    exact g_weak (show gm_Lle [some _, some _, some _, some _] _ from ⟨rfl, ⟨rfl, ⟨rfl, ⟨rfl, trivial⟩⟩⟩⟩) H
  · have H := H.2 hc
    refine g_iload rfl rfl rfl (pc' := 53) ?_
    exact g_ireturn rfl (Or.inl rfl) H
theorem w_281_0 {m : Nat} {x1 : Int32} {h : hh_T} {Q : Option Value ⊕ Nat → hh_T → Prop} (hT : tw_ok h m) (H : gm_G 281 4 [some (.ref m), some (.int x1), some (.int (Int32.ofNat 0)), some (.int (Int32.ofNat 0))] [] h Q) : gm_G 281 0 [some (.ref m), some (.int x1)] [] h Q := by
  refine g_iconst rfl rfl rfl (pc' := 1) ?_
  refine g_istore rfl rfl rfl (pc' := 2) ?_
  refine g_iconst rfl rfl rfl (pc' := 3) ?_
  refine g_istore rfl rfl rfl (pc' := 4) ?_
  exact g_weak (show gm_Lle [some _, some _, some _, some _] _ from ⟨rfl, ⟨rfl, ⟨rfl, ⟨rfl, trivial⟩⟩⟩⟩) H
theorem w_281_4 {m : Nat} {x1 : Int32} {x2 : Int32} {x3 : Int32} {h : hh_T} {Q : Option Value ⊕ Nat → hh_T → Prop} (hT : tw_ok h m) (H : (¬ x3 < x1 → (Q (.inl (some (.int x2))) h)) ∧ (x3 < x1 → (gm_G 114 0 [some (.ref m)] [] h (pI (fun v2 h1 => gm_G 281 4 [some (.ref m), some (.int x1), some (.int ((x2 <<< ((Int32.ofNat 8) &&& 31)) ||| v2)), some (.int (x3 + (Int32.ofNat 1)))] [] h1 Q) (fun _ _ => False))))) : gm_G 281 4 [some (.ref m), some (.int x1), some (.int x2), some (.int x3)] [] h Q := by
  refine g_iload rfl rfl rfl (pc' := 5) ?_
  refine g_iload rfl rfl rfl (pc' := 6) ?_
  refine g_ic_ge rfl (pc' := 9) (pt := 25) rfl rfl ⟨fun hc => ?_, fun hc => ?_⟩
  · have H := H.1 hc
    refine g_iload rfl rfl rfl (pc' := 26) ?_
    exact g_ireturn rfl (Or.inl rfl) H
  · have H := H.2 hc
    refine g_iload rfl rfl rfl (pc' := 10) ?_
    refine g_iconst rfl rfl rfl (pc' := 12) ?_
    refine g_ishl rfl rfl (pc' := 13) ?_
    refine g_aload (r := some _) rfl rfl rfl (pc' := 14) ?_
    refine t_call hT (y := 114) (n := 1) (pc' := 17) rfl rfl (t_vt hT rfl rfl) rfl rfl ⟨(Nat.le_of_ble_eq_true rfl), (Nat.le_of_ble_eq_true rfl), (Nat.le_of_ble_eq_true rfl)⟩ rfl H (tI_elim (fun v2 h1 H hT => ?_))
    show gm_G _ 17 _ _ _ _
    refine g_ior rfl rfl (pc' := 18) ?_
    refine g_istore rfl rfl rfl (pc' := 19) ?_
    refine g_iinc (c := (Int32.ofNat 1)) rfl rfl rfl rfl rfl (pc' := 22) ?_
    refine g_goto rfl (pc' := 4) rfl ?_
    exact g_weak (show gm_Lle [some _, some _, some _, some _] _ from ⟨rfl, ⟨rfl, ⟨rfl, ⟨rfl, trivial⟩⟩⟩⟩) H
theorem w_282_0 {m : Nat} {x1 : Int32} {x2 : Int32} {x3 : Int32} {h : hh_T} {Q : Option Value ⊕ Nat → hh_T → Prop} (hT : tw_ok h m) (H : gm_G 282 3 [some (.ref m), some (.int x1), some (.int x2), some (.int x3), some (.int (Int32.ofNat 1))] [] h Q) : gm_G 282 0 [some (.ref m), some (.int x1), some (.int x2), some (.int x3)] [] h Q := by
  refine g_iconst rfl rfl rfl (pc' := 1) ?_
  refine g_istore rfl rfl rfl (pc' := 3) ?_
  exact g_weak (show gm_Lle [some _, some _, some _, some _, some _] _ from ⟨rfl, ⟨rfl, ⟨rfl, ⟨rfl, ⟨rfl, trivial⟩⟩⟩⟩⟩) H
theorem w_282_3 {m : Nat} {x1 : Int32} {x2 : Int32} {x3 : Int32} {x4 : Int32} {h : hh_T} {Q : Option Value ⊕ Nat → hh_T → Prop} (hT : tw_ok h m) (H : (¬ x4 < (Int32.ofNat 8) → (Q (.inl (some (.int (Int32.ofNat 1)))) h)) ∧ (x4 < (Int32.ofNat 8) → (((x3 &&& x4) = Int32.ofNat 0 → (gm_G 282 30 [some (.ref m), some (.int x1), some (.int x2), some (.int x3), some (.int x4)] [] h Q)) ∧ (¬ (x3 &&& x4) = Int32.ofNat 0 → (gm_G 115 0 [some (.ref m), some (.int x1), some (.int x2), some (.int x4)] [] h (pI (fun v2 h1 => (¬ v2 = Int32.ofNat 0 → (gm_G 282 30 [some (.ref m), some (.int x1), some (.int x2), some (.int x3), some (.int x4)] [] h1 Q)) ∧ (v2 = Int32.ofNat 0 → (Q (.inl (some (.int (Int32.ofNat 0)))) h1))) (fun _ _ => False))))))) : gm_G 282 3 [some (.ref m), some (.int x1), some (.int x2), some (.int x3), some (.int x4)] [] h Q := by
  refine g_iload rfl rfl rfl (pc' := 5) ?_
  refine g_iconst rfl rfl rfl (pc' := 7) ?_
  refine g_ic_ge rfl (pc' := 10) (pt := 39) rfl rfl ⟨fun hc => ?_, fun hc => ?_⟩
  · have H := H.1 hc
    refine g_iconst rfl rfl rfl (pc' := 40) ?_
    exact g_ireturn rfl (Or.inr (by decide)) H
  · have H := H.2 hc
    refine g_iload rfl rfl rfl (pc' := 11) ?_
    refine g_iload rfl rfl rfl (pc' := 13) ?_
    refine g_iand rfl rfl (pc' := 14) ?_
    refine g_if_eq rfl (pc' := 17) (pt := 30) rfl rfl ⟨fun hc => ?_, fun hc => ?_⟩
    · have H := H.1 hc
      exact g_weak (show gm_Lle [some _, some _, some _, some _, some _] _ from ⟨rfl, ⟨rfl, ⟨rfl, ⟨rfl, ⟨rfl, trivial⟩⟩⟩⟩⟩) H
    · have H := H.2 hc
      refine g_aload (r := some _) rfl rfl rfl (pc' := 18) ?_
      refine g_iload rfl rfl rfl (pc' := 19) ?_
      refine g_iload rfl rfl rfl (pc' := 20) ?_
      refine g_iload rfl rfl rfl (pc' := 22) ?_
      refine t_call hT (y := 115) (n := 4) (pc' := 25) rfl rfl (t_vt hT rfl rfl) rfl rfl ⟨(Nat.le_of_ble_eq_true rfl), (Nat.le_of_ble_eq_true rfl), (Nat.le_of_ble_eq_true rfl)⟩ rfl H (tI_elim (fun v2 h1 H hT => ?_))
      show gm_G _ 25 _ _ _ _
      refine g_if_ne rfl (pc' := 28) (pt := 30) rfl rfl ⟨fun hc => ?_, fun hc => ?_⟩
      · have H := H.1 hc
        exact g_weak (show gm_Lle [some _, some _, some _, some _, some _] _ from ⟨rfl, ⟨rfl, ⟨rfl, ⟨rfl, ⟨rfl, trivial⟩⟩⟩⟩⟩) H
      · have H := H.2 hc
        refine g_iconst rfl rfl rfl (pc' := 29) ?_
        exact g_ireturn rfl (Or.inr (by decide)) H
theorem w_282_30 {m : Nat} {x1 : Int32} {x2 : Int32} {x3 : Int32} {x4 : Int32} {h : hh_T} {Q : Option Value ⊕ Nat → hh_T → Prop} (hT : tw_ok h m) (H : gm_G 282 3 [some (.ref m), some (.int x1), some (.int x2), some (.int x3), some (.int ((Int32.ofNat 2) * x4))] [] h Q) : gm_G 282 30 [some (.ref m), some (.int x1), some (.int x2), some (.int x3), some (.int x4)] [] h Q := by
  refine g_iconst rfl rfl rfl (pc' := 31) ?_
  refine g_iload rfl rfl rfl (pc' := 33) ?_
  refine g_imul rfl rfl (pc' := 34) ?_
  refine g_istore rfl rfl rfl (pc' := 36) ?_
  refine g_goto rfl (pc' := 3) rfl ?_
  exact g_weak (show gm_Lle [some _, some _, some _, some _, some _] _ from ⟨rfl, ⟨rfl, ⟨rfl, ⟨rfl, ⟨rfl, trivial⟩⟩⟩⟩⟩) H
theorem w_283_0 {m : Nat} {x0 : Int32} {h : hh_T} {Q : Option Value ⊕ Nat → hh_T → Prop} (hT : tw_ok h m) (H : gm_G 283 4 [some (.int x0), some (.int (Int32.ofNat 1)), some (.int (Int32.ofNat 0))] [] h Q) : gm_G 283 0 [some (.int x0)] [] h Q := by
  refine g_iconst rfl rfl rfl (pc' := 1) ?_
  refine g_istore rfl rfl rfl (pc' := 2) ?_
  refine g_iconst rfl rfl rfl (pc' := 3) ?_
  refine g_istore rfl rfl rfl (pc' := 4) ?_
  exact g_weak (show gm_Lle [some _, some _, some _] _ from ⟨rfl, ⟨rfl, ⟨rfl, trivial⟩⟩⟩) H
theorem w_283_4 {m : Nat} {x0 : Int32} {x1 : Int32} {x2 : Int32} {h : hh_T} {Q : Option Value ⊕ Nat → hh_T → Prop} (hT : tw_ok h m) (H : (¬ x2 < (Int32.ofNat 254) → (Q (.inl (some (.int x1))) h)) ∧ (x2 < (Int32.ofNat 254) → (gm_G 161 0 [some (.int x1), some (.int x0)] [] h (pI (fun v2 h1 => gm_G 283 4 [some (.int x0), some (.int v2), some (.int (x2 + (Int32.ofNat 1)))] [] h1 Q) (fun _ _ => False))))) : gm_G 283 4 [some (.int x0), some (.int x1), some (.int x2)] [] h Q := by
  refine g_iload rfl rfl rfl (pc' := 5) ?_
  refine g_iconst rfl rfl rfl (pc' := 8) ?_
  refine g_ic_ge rfl (pc' := 11) (pt := 23) rfl rfl ⟨fun hc => ?_, fun hc => ?_⟩
  · have H := H.1 hc
    refine g_iload rfl rfl rfl (pc' := 24) ?_
    exact g_ireturn rfl (Or.inl rfl) H
  · have H := H.2 hc
    refine g_iload rfl rfl rfl (pc' := 12) ?_
    refine g_iload rfl rfl rfl (pc' := 13) ?_
    refine t_call hT (y := 161) (n := 2) (pc' := 16) rfl rfl (fun _ => rfl) rfl rfl ⟨(Nat.le_of_ble_eq_true rfl), (Nat.le_of_ble_eq_true rfl), (Nat.le_of_ble_eq_true rfl)⟩ rfl H (tI_elim (fun v2 h1 H hT => ?_))
    show gm_G _ 16 _ _ _ _
    refine g_istore rfl rfl rfl (pc' := 17) ?_
    refine g_iinc (c := (Int32.ofNat 1)) rfl rfl rfl rfl rfl (pc' := 20) ?_
    refine g_goto rfl (pc' := 4) rfl ?_
    exact g_weak (show gm_Lle [some _, some _, some _] _ from ⟨rfl, ⟨rfl, ⟨rfl, trivial⟩⟩⟩) H
theorem w_284_0 {m : Nat} {x1 : Int32} {x2 : Int32} {x3 : Int32} {x4 : Int32} {h : hh_T} {Q : Option Value ⊕ Nat → hh_T → Prop} (hT : tw_ok h m) (H : gm_G 284 3 [some (.ref m), some (.int x1), some (.int x2), some (.int x3), some (.int x4), some (.int (Int32.ofNat 0))] [] h Q) : gm_G 284 0 [some (.ref m), some (.int x1), some (.int x2), some (.int x3), some (.int x4)] [] h Q := by
  refine g_iconst rfl rfl rfl (pc' := 1) ?_
  refine g_istore rfl rfl rfl (pc' := 3) ?_
  exact g_weak (show gm_Lle [some _, some _, some _, some _, some _, some _] _ from ⟨rfl, ⟨rfl, ⟨rfl, ⟨rfl, ⟨rfl, ⟨rfl, trivial⟩⟩⟩⟩⟩⟩) H
theorem w_284_3 {m : Nat} {x1 : Int32} {x2 : Int32} {x3 : Int32} {x4 : Int32} {x5 : Int32} {h : hh_T} {Q : Option Value ⊕ Nat → hh_T → Prop} (hT : tw_ok h m) (H : (¬ x5 < (Int32.ofNat 8) → (Q (.inl (some (.int (Int32.ofNat 0)))) h)) ∧ (x5 < (Int32.ofNat 8) → ((x5 = x1 → (gm_G 284 79 [some (.ref m), some (.int x1), some (.int x2), some (.int x3), some (.int x4), some (.int x5)] [] h Q)) ∧ (¬ x5 = x1 → (gm_G 127 0 [some (.ref m), some (.int x1), some (.int x5)] [] h (pI (fun v2 h1 => (¬ v2 = Int32.ofNat 0 → (gm_G 284 32 [some (.ref m), some (.int x1), some (.int x2), some (.int x3), some (.int x4), some (.int x5), some (.int x2)] [] h1 Q)) ∧ (v2 = Int32.ofNat 0 → (gm_G 284 79 [some (.ref m), some (.int x1), some (.int x2), some (.int x3), some (.int x4), some (.int x5)] [] h1 Q))) (fun _ _ => False))))))) : gm_G 284 3 [some (.ref m), some (.int x1), some (.int x2), some (.int x3), some (.int x4), some (.int x5)] [] h Q := by
  refine g_iload rfl rfl rfl (pc' := 5) ?_
  refine g_iconst rfl rfl rfl (pc' := 7) ?_
  refine g_ic_ge rfl (pc' := 10) (pt := 85) rfl rfl ⟨fun hc => ?_, fun hc => ?_⟩
  · have H := H.1 hc
    refine g_iconst rfl rfl rfl (pc' := 86) ?_
    exact g_ireturn rfl (Or.inr (by decide)) H
  · have H := H.2 hc
    refine g_iload rfl rfl rfl (pc' := 12) ?_
    refine g_iload rfl rfl rfl (pc' := 13) ?_
    refine g_ic_eq rfl (pc' := 16) (pt := 79) rfl rfl ⟨fun hc => ?_, fun hc => ?_⟩
    · have H := H.1 hc
      exact g_weak (show gm_Lle [some _, some _, some _, some _, some _, some _] _ from ⟨rfl, ⟨rfl, ⟨rfl, ⟨rfl, ⟨rfl, ⟨rfl, trivial⟩⟩⟩⟩⟩⟩) H
    · have H := H.2 hc
      refine g_aload (r := some _) rfl rfl rfl (pc' := 17) ?_
      refine g_iload rfl rfl rfl (pc' := 18) ?_
      refine g_iload rfl rfl rfl (pc' := 20) ?_
      refine t_call hT (y := 127) (n := 3) (pc' := 23) rfl rfl (t_vt hT rfl rfl) rfl rfl ⟨(Nat.le_of_ble_eq_true rfl), (Nat.le_of_ble_eq_true rfl), (Nat.le_of_ble_eq_true rfl)⟩ rfl H (tI_elim (fun v2 h1 H hT => ?_))
      show gm_G _ 23 _ _ _ _
      refine g_if_ne rfl (pc' := 26) (pt := 29) rfl rfl ⟨fun hc => ?_, fun hc => ?_⟩
      · have H := H.1 hc
        refine g_iload rfl rfl rfl (pc' := 30) ?_
        refine g_istore rfl rfl rfl (pc' := 32) ?_
        exact g_weak (show gm_Lle [some _, some _, some _, some _, some _, some _, some _] _ from ⟨rfl, ⟨rfl, ⟨rfl, ⟨rfl, ⟨rfl, ⟨rfl, ⟨rfl, trivial⟩⟩⟩⟩⟩⟩⟩) H
      · have H := H.2 hc
        refine g_goto rfl (pc' := 79) rfl ?_
        exact g_weak (show gm_Lle [some _, some _, some _, some _, some _, some _] _ from ⟨rfl, ⟨rfl, ⟨rfl, ⟨rfl, ⟨rfl, ⟨rfl, trivial⟩⟩⟩⟩⟩⟩) H
theorem w_284_32 {m : Nat} {x1 : Int32} {x2 : Int32} {x3 : Int32} {x4 : Int32} {x5 : Int32} {x6 : Int32} {h : hh_T} {Q : Option Value ⊕ Nat → hh_T → Prop} (hT : tw_ok h m) (H : (¬ x6 < x3 → (gm_G 284 79 [some (.ref m), some (.int x1), some (.int x2), some (.int x3), some (.int x4), some (.int x5)] [] h Q)) ∧ (x6 < x3 → ((¬ (Int32.ofNat 1000) < x6 → (gm_G 284 64 [some (.ref m), some (.int x1), some (.int x2), some (.int x3), some (.int x4), some (.int x5), some (.int x6)] [.int x6, .int ((Int32.ofNat 1001) * x5), .ref (m + 96)] h Q)) ∧ ((Int32.ofNat 1000) < x6 → (gm_G 284 64 [some (.ref m), some (.int x1), some (.int x2), some (.int x3), some (.int x4), some (.int x5), some (.int x6)] [.int (Int32.ofNat 1000), .int ((Int32.ofNat 1001) * x5), .ref (m + 96)] h Q))))) : gm_G 284 32 [some (.ref m), some (.int x1), some (.int x2), some (.int x3), some (.int x4), some (.int x5), some (.int x6)] [] h Q := by
  refine g_iload rfl rfl rfl (pc' := 34) ?_
  refine g_iload rfl rfl rfl (pc' := 35) ?_
  refine g_ic_ge rfl (pc' := 38) (pt := 79) rfl rfl ⟨fun hc => ?_, fun hc => ?_⟩
  · have H := H.1 hc
    exact g_weak (show gm_Lle [some _, some _, some _, some _, some _, some _] _ from ⟨rfl, ⟨rfl, ⟨rfl, ⟨rfl, ⟨rfl, ⟨rfl, trivial⟩⟩⟩⟩⟩⟩) H
  · have H := H.2 hc
    refine g_aload (r := some _) rfl rfl rfl (pc' := 39) ?_
    refine t_get (o := 96) rfl hT rfl rfl rfl (pc' := 42) rfl ?_
    refine g_iconst rfl rfl rfl (pc' := 45) ?_
    refine g_iload rfl rfl rfl (pc' := 47) ?_
    refine g_imul rfl rfl (pc' := 48) ?_
    refine g_iload rfl rfl rfl (pc' := 50) ?_
    refine g_iconst rfl rfl rfl (pc' := 53) ?_
    refine g_ic_le rfl (pc' := 56) (pt := 62) rfl rfl ⟨fun hc => ?_, fun hc => ?_⟩
    · have H := H.1 hc
      refine g_iload rfl rfl rfl (pc' := 64) ?_
      exact g_weak (show gm_Lle [some _, some _, some _, some _, some _, some _, some _] _ from ⟨rfl, ⟨rfl, ⟨rfl, ⟨rfl, ⟨rfl, ⟨rfl, ⟨rfl, trivial⟩⟩⟩⟩⟩⟩⟩) H
    · have H := H.2 hc
      refine g_iconst rfl rfl rfl (pc' := 59) ?_
      refine g_goto rfl (pc' := 64) rfl ?_
      exact g_weak (show gm_Lle [some _, some _, some _, some _, some _, some _, some _] _ from ⟨rfl, ⟨rfl, ⟨rfl, ⟨rfl, ⟨rfl, ⟨rfl, ⟨rfl, trivial⟩⟩⟩⟩⟩⟩⟩) H
theorem w_284_64 {m : Nat} {x1 : Int32} {x2 : Int32} {x3 : Int32} {x4 : Int32} {x5 : Int32} {x6 : Int32} {y0 : Int32} {y1 : Int32} {h : hh_T} {Q : Option Value ⊕ Nat → hh_T → Prop} (hT : tw_ok h m) (H : ∃ n1, gm_ix (y1 + y0) n1 8008 ∧ (((hh_i h (m + 96) n1) < x4 → (gm_G 284 32 [some (.ref m), some (.int x1), some (.int x2), some (.int x3), some (.int x4), some (.int x5), some (.int (x6 + (Int32.ofNat 1)))] [] h Q)) ∧ (¬ (hh_i h (m + 96) n1) < x4 → (Q (.inl (some (.int (Int32.ofNat 1)))) h)))) : gm_G 284 64 [some (.ref m), some (.int x1), some (.int x2), some (.int x3), some (.int x4), some (.int x5), some (.int x6)] [.int y0, .int y1, .ref (m + 96)] h Q := by
  refine g_iadd rfl rfl (pc' := 65) ?_
  obtain ⟨n1, hn1, H⟩ := H
  refine t_baload hT (o := 96) (l := 8008) rfl rfl rfl hn1 (pc' := 66) rfl ?_
  refine g_iload rfl rfl rfl (pc' := 68) ?_
  refine g_ic_lt rfl (pc' := 71) (pt := 73) rfl rfl ⟨fun hc => ?_, fun hc => ?_⟩
  · have H := H.1 hc
    refine g_iinc (c := (Int32.ofNat 1)) rfl rfl rfl rfl rfl (pc' := 76) ?_
    refine g_goto rfl (pc' := 32) rfl ?_
    exact g_weak (show gm_Lle [some _, some _, some _, some _, some _, some _, some _] _ from ⟨rfl, ⟨rfl, ⟨rfl, ⟨rfl, ⟨rfl, ⟨rfl, ⟨rfl, trivial⟩⟩⟩⟩⟩⟩⟩) H
  · have H := H.2 hc
    refine g_iconst rfl rfl rfl (pc' := 72) ?_
    exact g_ireturn rfl (Or.inr (by decide)) H
theorem w_284_79 {m : Nat} {x1 : Int32} {x2 : Int32} {x3 : Int32} {x4 : Int32} {x5 : Int32} {h : hh_T} {Q : Option Value ⊕ Nat → hh_T → Prop} (hT : tw_ok h m) (H : gm_G 284 3 [some (.ref m), some (.int x1), some (.int x2), some (.int x3), some (.int x4), some (.int (x5 + (Int32.ofNat 1)))] [] h Q) : gm_G 284 79 [some (.ref m), some (.int x1), some (.int x2), some (.int x3), some (.int x4), some (.int x5)] [] h Q := by
  refine g_iinc (c := (Int32.ofNat 1)) rfl rfl rfl rfl rfl (pc' := 82) ?_
  refine g_goto rfl (pc' := 3) rfl ?_
  exact g_weak (show gm_Lle [some _, some _, some _, some _, some _, some _] _ from ⟨rfl, ⟨rfl, ⟨rfl, ⟨rfl, ⟨rfl, ⟨rfl, trivial⟩⟩⟩⟩⟩⟩) H
theorem w_285_0 {m : Nat} {b1 : Nat} {x2 : Int32} {x3 : Int32} {h : hh_T} {Q : Option Value ⊕ Nat → hh_T → Prop} (hT : tw_ok h m) (H : (x3 < (Int32.ofNat 1) → (Q (.inl (some (.int (Int32.ofNat 0)))) h)) ∧ (¬ x3 < (Int32.ofNat 1) → (((Int32.ofNat 8) < x3 → (Q (.inl (some (.int (Int32.ofNat 0)))) h)) ∧ (¬ (Int32.ofNat 8) < x3 → (gm_G 119 0 [some (.ref b1), some (.int x2), some (.int x3)] [] h (pI (fun v2 h1 => (v2 = Int32.ofNat 0 → (gm_G 285 25 [some (.ref m), some (.ref b1), some (.int x2), some (.int x3), some (.int x2)] [] h1 Q)) ∧ (¬ v2 = Int32.ofNat 0 → (Q (.inl (some (.int (Int32.ofNat 0)))) h1))) (fun _ _ => False))))))) : gm_G 285 0 [some (.ref m), some (.ref b1), some (.int x2), some (.int x3)] [] h Q := by
  refine g_iload rfl rfl rfl (pc' := 1) ?_
  refine g_iconst rfl rfl rfl (pc' := 2) ?_
  refine g_ic_lt rfl (pc' := 5) (pt := 20) rfl rfl ⟨fun hc => ?_, fun hc => ?_⟩
  · have H := H.1 hc
    refine g_iconst rfl rfl rfl (pc' := 21) ?_
    exact g_ireturn rfl (Or.inr (by decide)) H
  · have H := H.2 hc
    refine g_iload rfl rfl rfl (pc' := 6) ?_
    refine g_iconst rfl rfl rfl (pc' := 8) ?_
    refine g_ic_gt rfl (pc' := 11) (pt := 20) rfl rfl ⟨fun hc => ?_, fun hc => ?_⟩
    · have H := H.1 hc
      refine g_iconst rfl rfl rfl (pc' := 21) ?_
      exact g_ireturn rfl (Or.inr (by decide)) H
    · have H := H.2 hc
      refine g_aload (r := some _) rfl rfl rfl (pc' := 12) ?_
      refine g_iload rfl rfl rfl (pc' := 13) ?_
      refine g_iload rfl rfl rfl (pc' := 14) ?_
      refine t_call hT (y := 119) (n := 3) (pc' := 17) rfl rfl (fun _ => rfl) rfl rfl ⟨(Nat.le_of_ble_eq_true rfl), (Nat.le_of_ble_eq_true rfl), (Nat.le_of_ble_eq_true rfl)⟩ rfl H (tI_elim (fun v2 h1 H hT => ?_))
      show gm_G _ 17 _ _ _ _
      refine g_if_eq rfl (pc' := 20) (pt := 22) rfl rfl ⟨fun hc => ?_, fun hc => ?_⟩
      · have H := H.1 hc
        refine g_iload rfl rfl rfl (pc' := 23) ?_
        refine g_istore rfl rfl rfl (pc' := 25) ?_
        exact g_weak (show gm_Lle [some _, some _, some _, some _, some _] _ from ⟨rfl, ⟨rfl, ⟨rfl, ⟨rfl, ⟨rfl, trivial⟩⟩⟩⟩⟩) H
      · have H := H.2 hc
        refine g_iconst rfl rfl rfl (pc' := 21) ?_
        exact g_ireturn rfl (Or.inr (by decide)) H
theorem w_285_25 {m : Nat} {b1 : Nat} {x2 : Int32} {x3 : Int32} {x4 : Int32} {h : hh_T} {Q : Option Value ⊕ Nat → hh_T → Prop} (hT : tw_ok h m) (H : (¬ x4 < (x2 + x3) → (Q (.inl (some (.int (Int32.ofNat 1)))) h)) ∧ (x4 < (x2 + x3) → ((hh_tg h b1 = 101 ∨ hh_tg h b1 = 102) ∧ (∃ n1, gm_ix x4 n1 (hh_ln h b1) ∧ (gm_G 121 0 [some (.ref m), some (.int (hh_i h b1 n1))] [] h (pI (fun v4 h3 => (¬ v4 = Int32.ofNat 0 → (gm_G 285 25 [some (.ref m), some (.ref b1), some (.int x2), some (.int x3), some (.int (x4 + (Int32.ofNat 1)))] [] h3 Q)) ∧ (v4 = Int32.ofNat 0 → (Q (.inl (some (.int (Int32.ofNat 0)))) h3))) (fun _ _ => False))))))) : gm_G 285 25 [some (.ref m), some (.ref b1), some (.int x2), some (.int x3), some (.int x4)] [] h Q := by
  refine g_iload rfl rfl rfl (pc' := 27) ?_
  refine g_iload rfl rfl rfl (pc' := 28) ?_
  refine g_iload rfl rfl rfl (pc' := 29) ?_
  refine g_iadd rfl rfl (pc' := 30) ?_
  refine g_ic_ge rfl (pc' := 33) (pt := 52) rfl rfl ⟨fun hc => ?_, fun hc => ?_⟩
  · have H := H.1 hc
    refine g_iconst rfl rfl rfl (pc' := 53) ?_
    exact g_ireturn rfl (Or.inr (by decide)) H
  · have H := H.2 hc
    refine g_aload (r := some _) rfl rfl rfl (pc' := 34) ?_
    refine g_aload (r := some _) rfl rfl rfl (pc' := 35) ?_
    refine g_iload rfl rfl rfl (pc' := 37) ?_
    obtain ⟨ht2, H⟩ := H
    obtain ⟨n1, hn1, H⟩ := H
    refine g_baload rfl ht2 hn1 (pc' := 38) rfl ?_
    refine t_call hT (y := 121) (n := 2) (pc' := 41) rfl rfl (t_vt hT rfl rfl) rfl rfl ⟨(Nat.le_of_ble_eq_true rfl), (Nat.le_of_ble_eq_true rfl), (Nat.le_of_ble_eq_true rfl)⟩ rfl H (tI_elim (fun v4 h3 H hT => ?_))
    show gm_G _ 41 _ _ _ _
    refine g_if_ne rfl (pc' := 44) (pt := 46) rfl rfl ⟨fun hc => ?_, fun hc => ?_⟩
    · have H := H.1 hc
      refine g_iinc (c := (Int32.ofNat 1)) rfl rfl rfl rfl rfl (pc' := 49) ?_
      refine g_goto rfl (pc' := 25) rfl ?_
      exact g_weak (show gm_Lle [some _, some _, some _, some _, some _] _ from ⟨rfl, ⟨rfl, ⟨rfl, ⟨rfl, ⟨rfl, trivial⟩⟩⟩⟩⟩) H
    · have H := H.2 hc
      refine g_iconst rfl rfl rfl (pc' := 45) ?_
      exact g_ireturn rfl (Or.inr (by decide)) H
theorem w_286_0 {m : Nat} {x1 : Int32} {x2 : Int32} {x3 : Int32} {h : hh_T} {Q : Option Value ⊕ Nat → hh_T → Prop} (hT : tw_ok h m) (H : ∃ n1, gm_ix x1 n1 3 ∧ ((hh_i h (m + 13) n1) ≠ 0 ∧ ((((x3 >>> ((x2 - x2 / (hh_i h (m + 13) n1) * (hh_i h (m + 13) n1)) &&& 31)) &&& (Int32.ofNat 1)) = (Int32.ofNat 1) → (gm_G 286 47 [] [] h Q)) ∧ (¬ ((x3 >>> ((x2 - x2 / (hh_i h (m + 13) n1) * (hh_i h (m + 13) n1)) &&& 31)) &&& (Int32.ofNat 1)) = (Int32.ofNat 1) → (∃ n2, gm_ix (((Int32.ofNat 6) * x1) + (x2 - x2 / (hh_i h (m + 13) n1) * (hh_i h (m + 13) n1))) n2 18 ∧ (∃ n3, gm_ix x1 n3 3 ∧ ((hh_i h (m + 13) n3) ≠ 0 ∧ (gm_G 122 0 [some (.ref m), some (.int (hh_i h (m + 15) n2)), some (.int (x2 / (hh_i h (m + 13) n3)))] [] h (pI (fun v5 h4 => (v5 = Int32.ofNat 0 → (Q (.inl (some (.int (Int32.ofNat 0)))) h4)) ∧ (¬ v5 = Int32.ofNat 0 → (gm_G 286 47 [] [] h4 Q))) (fun _ _ => False)))))))))) : gm_G 286 0 [some (.ref m), some (.int x1), some (.int x2), some (.int x3)] [] h Q := by
  refine g_iload rfl rfl rfl (pc' := 1) ?_
  refine g_aload (r := some _) rfl rfl rfl (pc' := 2) ?_
  refine t_get (o := 13) rfl hT rfl rfl rfl (pc' := 5) rfl ?_
  refine g_iload rfl rfl rfl (pc' := 6) ?_
  obtain ⟨n1, hn1, H⟩ := H
  refine t_iaload hT (o := 13) (l := 3) rfl rfl rfl hn1 (pc' := 7) rfl ?_
  obtain ⟨Hp, H⟩ := H
  refine g_irem rfl Hp (pc' := 8) rfl ?_
  refine g_istore rfl rfl rfl (pc' := 10) ?_
  refine g_iload rfl rfl rfl (pc' := 11) ?_
  refine g_iload rfl rfl rfl (pc' := 13) ?_
  refine g_ishr rfl rfl (pc' := 14) ?_
  refine g_iconst rfl rfl rfl (pc' := 15) ?_
  refine g_iand rfl rfl (pc' := 16) ?_
  refine g_iconst rfl rfl rfl (pc' := 17) ?_
  refine g_ic_eq rfl (pc' := 20) (pt := 47) rfl rfl ⟨fun hc => ?_, fun hc => ?_⟩
  · have H := H.1 hc
    exact g_weak (show gm_Lle [] _ from trivial) H
  · have H := H.2 hc
    refine g_aload (r := some _) rfl rfl rfl (pc' := 21) ?_
    refine g_aload (r := some _) rfl rfl rfl (pc' := 22) ?_
    refine t_get (o := 15) rfl hT rfl rfl rfl (pc' := 25) rfl ?_
    refine g_iconst rfl rfl rfl (pc' := 27) ?_
    refine g_iload rfl rfl rfl (pc' := 28) ?_
    refine g_imul rfl rfl (pc' := 29) ?_
    refine g_iload rfl rfl rfl (pc' := 31) ?_
    refine g_iadd rfl rfl (pc' := 32) ?_
    obtain ⟨n2, hn2, H⟩ := H
    refine t_iaload hT (o := 15) (l := 18) rfl rfl rfl hn2 (pc' := 33) rfl ?_
    refine g_iload rfl rfl rfl (pc' := 34) ?_
    refine g_aload (r := some _) rfl rfl rfl (pc' := 35) ?_
    refine t_get (o := 13) rfl hT rfl rfl rfl (pc' := 38) rfl ?_
    refine g_iload rfl rfl rfl (pc' := 39) ?_
    obtain ⟨n3, hn3, H⟩ := H
    refine t_iaload hT (o := 13) (l := 3) rfl rfl rfl hn3 (pc' := 40) rfl ?_
    obtain ⟨Hp, H⟩ := H
    refine g_idiv rfl Hp (pc' := 41) rfl ?_
    refine t_call hT (y := 122) (n := 3) (pc' := 44) rfl rfl (t_vt hT rfl rfl) rfl rfl ⟨(Nat.le_of_ble_eq_true rfl), (Nat.le_of_ble_eq_true rfl), (Nat.le_of_ble_eq_true rfl)⟩ rfl H (tI_elim (fun v5 h4 H hT => ?_))
    show gm_G _ 44 _ _ _ _
    refine g_if_eq rfl (pc' := 47) (pt := 51) rfl rfl ⟨fun hc => ?_, fun hc => ?_⟩
    · have H := H.1 hc
      refine g_iconst rfl rfl rfl (pc' := 52) ?_
      exact g_ireturn rfl (Or.inr (by decide)) H
    · have H := H.2 hc
      exact g_weak (show gm_Lle [] _ from trivial) H
theorem w_286_47 {m : Nat}  {h : hh_T} {Q : Option Value ⊕ Nat → hh_T → Prop} (hT : tw_ok h m) (H : Q (.inl (some (.int (Int32.ofNat 1)))) h) : gm_G 286 47 [] [] h Q := by
  refine g_iconst rfl rfl rfl (pc' := 48) ?_
  refine g_goto rfl (pc' := 52) rfl ?_
  exact g_ireturn rfl (Or.inr (by decide)) H
theorem w_287_0 {m : Nat} {x1 : Int32} {x2 : Int32} {h : hh_T} {Q : Option Value ⊕ Nat → hh_T → Prop} (hT : tw_ok h m) (H : gm_G 287 2 [some (.ref m), none, some (.int x2), some (.int x1)] [] h Q) : gm_G 287 0 [some (.ref m), some (.int x1), some (.int x2)] [] h Q := by
  refine g_iload rfl rfl rfl (pc' := 1) ?_
  refine g_istore rfl rfl rfl (pc' := 2) ?_
  exact g_weak (show gm_Lle [some _, none, some _, some _] _ from ⟨rfl, ⟨rfl, ⟨rfl, trivial⟩⟩⟩) H
theorem w_287_2 {m : Nat} {x2 : Int32} {x3 : Int32} {h : hh_T} {Q : Option Value ⊕ Nat → hh_T → Prop} (hT : tw_ok h m) (H : (x3 = x2 → (gm_G 287 25 [none, none, some (.int x2), some (.int x3)] [] h Q)) ∧ (¬ x3 = x2 → ((x3 = Int32.ofNat 0 → (gm_G 287 25 [none, none, some (.int x2), some (.int x3)] [] h Q)) ∧ (¬ x3 = Int32.ofNat 0 → (gm_G 152 0 [some (.ref m), some (.int x3)] [] h (pI (fun v2 h1 => ∃ n3, gm_ix v2 n3 32 ∧ (gm_G 287 2 [some (.ref m), none, some (.int x2), some (.int (hh_i h1 (m + 60) n3))] [] h1 Q)) (fun _ _ => False))))))) : gm_G 287 2 [some (.ref m), none, some (.int x2), some (.int x3)] [] h Q := by
  refine g_iload rfl rfl rfl (pc' := 3) ?_
  refine g_iload rfl rfl rfl (pc' := 4) ?_
  refine g_ic_eq rfl (pc' := 7) (pt := 25) rfl rfl ⟨fun hc => ?_, fun hc => ?_⟩
  · have H := H.1 hc
    exact g_weak (show gm_Lle [none, none, some _, some _] _ from ⟨rfl, ⟨rfl, trivial⟩⟩) H
  · have H := H.2 hc
    refine g_iload rfl rfl rfl (pc' := 8) ?_
    refine g_if_eq rfl (pc' := 11) (pt := 25) rfl rfl ⟨fun hc => ?_, fun hc => ?_⟩
    · have H := H.1 hc
      exact g_weak (show gm_Lle [none, none, some _, some _] _ from ⟨rfl, ⟨rfl, trivial⟩⟩) H
    · have H := H.2 hc
      refine g_aload (r := some _) rfl rfl rfl (pc' := 12) ?_
      refine t_get (o := 60) rfl hT rfl rfl rfl (pc' := 15) rfl ?_
      refine g_aload (r := some _) rfl rfl rfl (pc' := 16) ?_
      refine g_iload rfl rfl rfl (pc' := 17) ?_
      refine t_call hT (y := 152) (n := 2) (pc' := 20) rfl rfl (t_vt hT rfl rfl) rfl rfl ⟨(Nat.le_of_ble_eq_true rfl), (Nat.le_of_ble_eq_true rfl), (Nat.le_of_ble_eq_true rfl)⟩ rfl H (tI_elim (fun v2 h1 H hT => ?_))
      show gm_G _ 20 _ _ _ _
      obtain ⟨n3, hn3, H⟩ := H
      refine t_iaload hT (o := 60) (l := 32) rfl rfl rfl hn3 (pc' := 21) rfl ?_
      refine g_istore rfl rfl rfl (pc' := 22) ?_
      refine g_goto rfl (pc' := 2) rfl ?_
      exact g_weak (show gm_Lle [some _, none, some _, some _] _ from ⟨rfl, ⟨rfl, ⟨rfl, trivial⟩⟩⟩) H
theorem w_287_25 {m : Nat} {x2 : Int32} {x3 : Int32} {h : hh_T} {Q : Option Value ⊕ Nat → hh_T → Prop} (hT : tw_ok h m) (H : (¬ x3 = x2 → (Q (.inl (some (.int (Int32.ofNat 0)))) h)) ∧ (x3 = x2 → (Q (.inl (some (.int (Int32.ofNat 1)))) h))) : gm_G 287 25 [none, none, some (.int x2), some (.int x3)] [] h Q := by
  refine g_iload rfl rfl rfl (pc' := 26) ?_
  refine g_iload rfl rfl rfl (pc' := 27) ?_
  refine g_ic_ne rfl (pc' := 30) (pt := 34) rfl rfl ⟨fun hc => ?_, fun hc => ?_⟩
  · have H := H.1 hc
    refine g_iconst rfl rfl rfl (pc' := 35) ?_
    exact g_ireturn rfl (Or.inr (by decide)) H
  · have H := H.2 hc
    refine g_iconst rfl rfl rfl (pc' := 31) ?_
    refine g_goto rfl (pc' := 35) rfl ?_
    exact g_ireturn rfl (Or.inr (by decide)) H
theorem w_288_0 {m : Nat} {x1 : Int32} {x2 : Int32} {h : hh_T} {Q : Option Value ⊕ Nat → hh_T → Prop} (hT : tw_ok h m) (H : (¬ (hh_i h m 77) = Int32.ofNat 0 → (gm_G 138 0 [some (.int x1)] [] h (pI (fun v2 h1 => (¬ v2 = Int32.ofNat 0 → (Q (.inl (some (.int (Int32.ofInt (-1))))) h1)) ∧ (v2 = Int32.ofNat 0 → ((x2 < Int32.ofNat 0 → (Q (.inl (some (.int (Int32.ofInt (-1))))) h1)) ∧ (¬ x2 < Int32.ofNat 0 → ((¬ (Int32.ofNat 2) < x2 → (∃ n3, gm_ix x1 n3 8 ∧ ((¬ (hh_i h1 (m + 88) n3) = Int32.ofNat 0 → (gm_G 288 42 [some (.ref m), some (.int x1), some (.int x2), some (.int (Int32.ofNat 0))] [] h1 Q)) ∧ ((hh_i h1 (m + 88) n3) = Int32.ofNat 0 → (Q (.inl (some (.int (Int32.ofInt (-2))))) h1))))) ∧ ((Int32.ofNat 2) < x2 → (Q (.inl (some (.int (Int32.ofInt (-1))))) h1))))))) (fun _ _ => False)))) ∧ ((hh_i h m 77) = Int32.ofNat 0 → (Q (.inl (some (.int (Int32.ofInt (-9))))) h))) : gm_G 288 0 [some (.ref m), some (.int x1), some (.int x2)] [] h Q := by
  refine g_aload (r := some _) rfl rfl rfl (pc' := 1) ?_
  refine t_getZ rfl hT rfl rfl (pc' := 4) rfl ?_
  refine g_if_ne rfl (pc' := 7) (pt := 10) rfl rfl ⟨fun hc => ?_, fun hc => ?_⟩
  · have H := H.1 hc
    refine g_iload rfl rfl rfl (pc' := 11) ?_
    refine t_call hT (y := 138) (n := 1) (pc' := 14) rfl rfl (fun _ => rfl) rfl rfl ⟨(Nat.le_of_ble_eq_true rfl), (Nat.le_of_ble_eq_true rfl), (Nat.le_of_ble_eq_true rfl)⟩ rfl H (tI_elim (fun v2 h1 H hT => ?_))
    show gm_G _ 14 _ _ _ _
    refine g_if_ne rfl (pc' := 17) (pt := 26) rfl rfl ⟨fun hc => ?_, fun hc => ?_⟩
    · have H := H.1 hc
      refine g_iconst rfl rfl rfl (pc' := 27) ?_
      exact g_ireturn rfl (Or.inl rfl) H
    · have H := H.2 hc
      refine g_iload rfl rfl rfl (pc' := 18) ?_
      refine g_if_lt rfl (pc' := 21) (pt := 26) rfl rfl ⟨fun hc => ?_, fun hc => ?_⟩
      · have H := H.1 hc
        refine g_iconst rfl rfl rfl (pc' := 27) ?_
        exact g_ireturn rfl (Or.inl rfl) H
      · have H := H.2 hc
        refine g_iload rfl rfl rfl (pc' := 22) ?_
        refine g_iconst rfl rfl rfl (pc' := 23) ?_
        refine g_ic_le rfl (pc' := 26) (pt := 28) rfl rfl ⟨fun hc => ?_, fun hc => ?_⟩
        · have H := H.1 hc
          refine g_aload (r := some _) rfl rfl rfl (pc' := 29) ?_
          refine t_get (o := 88) rfl hT rfl rfl rfl (pc' := 32) rfl ?_
          refine g_iload rfl rfl rfl (pc' := 33) ?_
          obtain ⟨n3, hn3, H⟩ := H
          refine t_zaload hT (o := 88) (l := 8) rfl rfl rfl hn3 (pc' := 34) rfl ?_
          refine g_if_ne rfl (pc' := 37) (pt := 40) rfl rfl ⟨fun hc => ?_, fun hc => ?_⟩
          · have H := H.1 hc
            refine g_iconst rfl rfl rfl (pc' := 41) ?_
            refine g_istore rfl rfl rfl (pc' := 42) ?_
            exact g_weak (show gm_Lle [some _, some _, some _, some _] _ from ⟨rfl, ⟨rfl, ⟨rfl, ⟨rfl, trivial⟩⟩⟩⟩) H
          · have H := H.2 hc
            refine g_iconst rfl rfl rfl (pc' := 39) ?_
            exact g_ireturn rfl (Or.inl rfl) H
        · have H := H.2 hc
          refine g_iconst rfl rfl rfl (pc' := 27) ?_
          exact g_ireturn rfl (Or.inl rfl) H
  · have H := H.2 hc
    refine g_iconst rfl rfl rfl (pc' := 9) ?_
    exact g_ireturn rfl (Or.inl rfl) H
theorem w_288_42 {m : Nat} {x1 : Int32} {x2 : Int32} {x3 : Int32} {h : hh_T} {Q : Option Value ⊕ Nat → hh_T → Prop} (hT : tw_ok h m) (H : (¬ x3 < (Int32.ofNat 8) → (gm_G 105 0 [some (.ref m), some (.int x1)] [] h (pV (fun h1 => ∃ n2, gm_ix x1 n2 8 ∧ (∀ h3, h3 = hh_wi h1 (m + 94) n2 x2 → (Q (.inl (some (.int (Int32.ofNat 0)))) h3))) (fun _ _ => False)))) ∧ (x3 < (Int32.ofNat 8) → ((x3 = x1 → (gm_G 288 89 [some (.ref m), some (.int x1), some (.int x2), some (.int x3)] [] h Q)) ∧ (¬ x3 = x1 → (gm_G 127 0 [some (.ref m), some (.int x1), some (.int x3)] [] h (pI (fun v5 h4 => (¬ v5 = Int32.ofNat 0 → ((x2 = (Int32.ofNat 2) → (Q (.inl (some (.int (Int32.ofInt (-5))))) h4)) ∧ (¬ x2 = (Int32.ofNat 2) → ((¬ x2 = (Int32.ofNat 1) → (gm_G 288 89 [some (.ref m), some (.int x1), some (.int x2), some (.int x3)] [] h4 Q)) ∧ (x2 = (Int32.ofNat 1) → (∃ n6, gm_ix x3 n6 8 ∧ ((((hh_i h4 (m + 92) n6) &&& (Int32.ofNat 2)) = Int32.ofNat 0 → (gm_G 288 89 [some (.ref m), some (.int x1), some (.int x2), some (.int x3)] [] h4 Q)) ∧ (¬ ((hh_i h4 (m + 92) n6) &&& (Int32.ofNat 2)) = Int32.ofNat 0 → (Q (.inl (some (.int (Int32.ofInt (-5))))) h4))))))))) ∧ (v5 = Int32.ofNat 0 → (gm_G 288 89 [some (.ref m), some (.int x1), some (.int x2), some (.int x3)] [] h4 Q))) (fun _ _ => False))))))) : gm_G 288 42 [some (.ref m), some (.int x1), some (.int x2), some (.int x3)] [] h Q := by
  refine g_iload rfl rfl rfl (pc' := 43) ?_
  refine g_iconst rfl rfl rfl (pc' := 45) ?_
  refine g_ic_ge rfl (pc' := 48) (pt := 95) rfl rfl ⟨fun hc => ?_, fun hc => ?_⟩
  · have H := H.1 hc
    refine g_aload (r := some _) rfl rfl rfl (pc' := 96) ?_
    refine g_iload rfl rfl rfl (pc' := 97) ?_
    refine t_call hT (y := 105) (n := 2) (pc' := 100) rfl rfl (t_vt hT rfl rfl) rfl rfl ⟨(Nat.le_of_ble_eq_true rfl), (Nat.le_of_ble_eq_true rfl), (Nat.le_of_ble_eq_true rfl)⟩ rfl H (tV_elim (fun h1 H hT => ?_))
    show gm_G _ 100 _ _ _ _
    refine g_aload (r := some _) rfl rfl rfl (pc' := 101) ?_
    refine t_get (o := 94) rfl hT rfl rfl rfl (pc' := 104) rfl ?_
    refine g_iload rfl rfl rfl (pc' := 105) ?_
    refine g_iload rfl rfl rfl (pc' := 106) ?_
    obtain ⟨n2, hn2, H⟩ := H
    refine t_iastore hT (o := 94) (l := 8) rfl rfl rfl hn2  (pc' := 107) rfl (fun hT => ?_)
    have H := H _ rfl
    refine g_iconst rfl rfl rfl (pc' := 108) ?_
    exact g_ireturn rfl (Or.inl rfl) H
  · have H := H.2 hc
    refine g_iload rfl rfl rfl (pc' := 49) ?_
    refine g_iload rfl rfl rfl (pc' := 50) ?_
    refine g_ic_eq rfl (pc' := 53) (pt := 89) rfl rfl ⟨fun hc => ?_, fun hc => ?_⟩
    · have H := H.1 hc
      exact g_weak (show gm_Lle [some _, some _, some _, some _] _ from ⟨rfl, ⟨rfl, ⟨rfl, ⟨rfl, trivial⟩⟩⟩⟩) H
    · have H := H.2 hc
      refine g_aload (r := some _) rfl rfl rfl (pc' := 54) ?_
      refine g_iload rfl rfl rfl (pc' := 55) ?_
      refine g_iload rfl rfl rfl (pc' := 56) ?_
      refine t_call hT (y := 127) (n := 3) (pc' := 59) rfl rfl (t_vt hT rfl rfl) rfl rfl ⟨(Nat.le_of_ble_eq_true rfl), (Nat.le_of_ble_eq_true rfl), (Nat.le_of_ble_eq_true rfl)⟩ rfl H (tI_elim (fun v5 h4 H hT => ?_))
      show gm_G _ 59 _ _ _ _
      refine g_if_ne rfl (pc' := 62) (pt := 65) rfl rfl ⟨fun hc => ?_, fun hc => ?_⟩
      · have H := H.1 hc
        refine g_iload rfl rfl rfl (pc' := 66) ?_
        refine g_iconst rfl rfl rfl (pc' := 67) ?_
        refine g_ic_eq rfl (pc' := 70) (pt := 86) rfl rfl ⟨fun hc => ?_, fun hc => ?_⟩
        · have H := H.1 hc
          refine g_iconst rfl rfl rfl (pc' := 88) ?_
          exact g_ireturn rfl (Or.inl rfl) H
        · have H := H.2 hc
          refine g_iload rfl rfl rfl (pc' := 71) ?_
          refine g_iconst rfl rfl rfl (pc' := 72) ?_
          refine g_ic_ne rfl (pc' := 75) (pt := 89) rfl rfl ⟨fun hc => ?_, fun hc => ?_⟩
          · have H := H.1 hc
            exact g_weak (show gm_Lle [some _, some _, some _, some _] _ from ⟨rfl, ⟨rfl, ⟨rfl, ⟨rfl, trivial⟩⟩⟩⟩) H
          · have H := H.2 hc
            refine g_aload (r := some _) rfl rfl rfl (pc' := 76) ?_
            refine t_get (o := 92) rfl hT rfl rfl rfl (pc' := 79) rfl ?_
            refine g_iload rfl rfl rfl (pc' := 80) ?_
            obtain ⟨n6, hn6, H⟩ := H
            refine t_iaload hT (o := 92) (l := 8) rfl rfl rfl hn6 (pc' := 81) rfl ?_
            refine g_iconst rfl rfl rfl (pc' := 82) ?_
            refine g_iand rfl rfl (pc' := 83) ?_
            refine g_if_eq rfl (pc' := 86) (pt := 89) rfl rfl ⟨fun hc => ?_, fun hc => ?_⟩
            · have H := H.1 hc
              exact g_weak (show gm_Lle [some _, some _, some _, some _] _ from ⟨rfl, ⟨rfl, ⟨rfl, ⟨rfl, trivial⟩⟩⟩⟩) H
            · have H := H.2 hc
              refine g_iconst rfl rfl rfl (pc' := 88) ?_
              exact g_ireturn rfl (Or.inl rfl) H
      · have H := H.2 hc
        refine g_goto rfl (pc' := 89) rfl ?_
        exact g_weak (show gm_Lle [some _, some _, some _, some _] _ from ⟨rfl, ⟨rfl, ⟨rfl, ⟨rfl, trivial⟩⟩⟩⟩) H
theorem w_288_89 {m : Nat} {x1 : Int32} {x2 : Int32} {x3 : Int32} {h : hh_T} {Q : Option Value ⊕ Nat → hh_T → Prop} (hT : tw_ok h m) (H : gm_G 288 42 [some (.ref m), some (.int x1), some (.int x2), some (.int (x3 + (Int32.ofNat 1)))] [] h Q) : gm_G 288 89 [some (.ref m), some (.int x1), some (.int x2), some (.int x3)] [] h Q := by
  refine g_iinc (c := (Int32.ofNat 1)) rfl rfl rfl rfl rfl (pc' := 92) ?_
  refine g_goto rfl (pc' := 42) rfl ?_
  exact g_weak (show gm_Lle [some _, some _, some _, some _] _ from ⟨rfl, ⟨rfl, ⟨rfl, ⟨rfl, trivial⟩⟩⟩⟩) H
theorem w_289_0 {m : Nat} {x1 : Int32} {h : hh_T} {Q : Option Value ⊕ Nat → hh_T → Prop} (hT : tw_ok h m) (H : (¬ (hh_i h m 77) = Int32.ofNat 0 → (gm_G 138 0 [some (.int x1)] [] h (pI (fun v2 h1 => (v2 = Int32.ofNat 0 → (∃ n3, gm_ix x1 n3 8 ∧ (((hh_i h1 (m + 88) n3) = Int32.ofNat 0 → (Q (.inl (some (.int (Int32.ofInt (-2))))) h1)) ∧ (¬ (hh_i h1 (m + 88) n3) = Int32.ofNat 0 → (∃ n4, gm_ix x1 n4 8 ∧ (∃ n5, gm_ix x1 n5 8 ∧ ((¬ Int32.ofNat 0 < (hh_i h1 (m + 94) n5) → (gm_G 289 56 [] [.int (hh_i h1 (m + 94) n4)] h1 Q)) ∧ (Int32.ofNat 0 < (hh_i h1 (m + 94) n5) → (∃ n6, gm_ix x1 n6 8 ∧ (((hh_i h1 (m + 89) n6) = Int32.ofNat 0 → (gm_G 289 56 [] [.int (hh_i h1 (m + 94) n4)] h1 Q)) ∧ (¬ (hh_i h1 (m + 89) n6) = Int32.ofNat 0 → (gm_G 289 57 [] [.int (Int32.ofNat 4), .int (hh_i h1 (m + 94) n4)] h1 Q)))))))))))) ∧ (¬ v2 = Int32.ofNat 0 → (Q (.inl (some (.int (Int32.ofInt (-1))))) h1))) (fun _ _ => False)))) ∧ ((hh_i h m 77) = Int32.ofNat 0 → (Q (.inl (some (.int (Int32.ofInt (-9))))) h))) : gm_G 289 0 [some (.ref m), some (.int x1)] [] h Q := by
  refine g_aload (r := some _) rfl rfl rfl (pc' := 1) ?_
  refine t_getZ rfl hT rfl rfl (pc' := 4) rfl ?_
  refine g_if_ne rfl (pc' := 7) (pt := 10) rfl rfl ⟨fun hc => ?_, fun hc => ?_⟩
  · have H := H.1 hc
    refine g_iload rfl rfl rfl (pc' := 11) ?_
    refine t_call hT (y := 138) (n := 1) (pc' := 14) rfl rfl (fun _ => rfl) rfl rfl ⟨(Nat.le_of_ble_eq_true rfl), (Nat.le_of_ble_eq_true rfl), (Nat.le_of_ble_eq_true rfl)⟩ rfl H (tI_elim (fun v2 h1 H hT => ?_))
    show gm_G _ 14 _ _ _ _
    refine g_if_eq rfl (pc' := 17) (pt := 19) rfl rfl ⟨fun hc => ?_, fun hc => ?_⟩
    · have H := H.1 hc
      refine g_aload (r := some _) rfl rfl rfl (pc' := 20) ?_
      refine t_get (o := 88) rfl hT rfl rfl rfl (pc' := 23) rfl ?_
      refine g_iload rfl rfl rfl (pc' := 24) ?_
      obtain ⟨n3, hn3, H⟩ := H
      refine t_zaload hT (o := 88) (l := 8) rfl rfl rfl hn3 (pc' := 25) rfl ?_
      refine g_if_eq rfl (pc' := 28) (pt := 61) rfl rfl ⟨fun hc => ?_, fun hc => ?_⟩
      · have H := H.1 hc
        refine g_iconst rfl rfl rfl (pc' := 63) ?_
        exact g_ireturn rfl (Or.inl rfl) H
      · have H := H.2 hc
        refine g_aload (r := some _) rfl rfl rfl (pc' := 29) ?_
        refine t_get (o := 94) rfl hT rfl rfl rfl (pc' := 32) rfl ?_
        refine g_iload rfl rfl rfl (pc' := 33) ?_
        obtain ⟨n4, hn4, H⟩ := H
        refine t_iaload hT (o := 94) (l := 8) rfl rfl rfl hn4 (pc' := 34) rfl ?_
        refine g_aload (r := some _) rfl rfl rfl (pc' := 35) ?_
        refine t_get (o := 94) rfl hT rfl rfl rfl (pc' := 38) rfl ?_
        refine g_iload rfl rfl rfl (pc' := 39) ?_
        obtain ⟨n5, hn5, H⟩ := H
        refine t_iaload hT (o := 94) (l := 8) rfl rfl rfl hn5 (pc' := 40) rfl ?_
        refine g_if_le rfl (pc' := 43) (pt := 56) rfl rfl ⟨fun hc => ?_, fun hc => ?_⟩
        · have H := H.1 hc
          exact g_weak (show gm_Lle [] _ from trivial) H
        · have H := H.2 hc
          refine g_aload (r := some _) rfl rfl rfl (pc' := 44) ?_
          refine t_get (o := 89) rfl hT rfl rfl rfl (pc' := 47) rfl ?_
          refine g_iload rfl rfl rfl (pc' := 48) ?_
          obtain ⟨n6, hn6, H⟩ := H
          refine t_zaload hT (o := 89) (l := 8) rfl rfl rfl hn6 (pc' := 49) rfl ?_
          refine g_if_eq rfl (pc' := 52) (pt := 56) rfl rfl ⟨fun hc => ?_, fun hc => ?_⟩
          · have H := H.1 hc
            exact g_weak (show gm_Lle [] _ from trivial) H
          · have H := H.2 hc
            refine g_iconst rfl rfl rfl (pc' := 53) ?_
            refine g_goto rfl (pc' := 57) rfl ?_
            exact g_weak (show gm_Lle [] _ from trivial) H
    · have H := H.2 hc
      refine g_iconst rfl rfl rfl (pc' := 18) ?_
      exact g_ireturn rfl (Or.inl rfl) H
  · have H := H.2 hc
    refine g_iconst rfl rfl rfl (pc' := 9) ?_
    exact g_ireturn rfl (Or.inl rfl) H
theorem w_289_56 {m : Nat} {y0 : Int32} {h : hh_T} {Q : Option Value ⊕ Nat → hh_T → Prop} (hT : tw_ok h m) (H : gm_G 289 57 [] [.int (Int32.ofNat 0), .int y0] h Q) : gm_G 289 56 [] [.int y0] h Q := by
  refine g_iconst rfl rfl rfl (pc' := 57) ?_
  exact g_weak (show gm_Lle [] _ from trivial) H
theorem w_289_57 {m : Nat} {y0 : Int32} {y1 : Int32} {h : hh_T} {Q : Option Value ⊕ Nat → hh_T → Prop} (hT : tw_ok h m) (H : Q (.inl (some (.int (y1 + y0)))) h) : gm_G 289 57 [] [.int y0, .int y1] h Q := by
  refine g_iadd rfl rfl (pc' := 58) ?_
  refine g_goto rfl (pc' := 63) rfl ?_
  exact g_ireturn rfl (Or.inl rfl) H
theorem w_290_0 {m : Nat} {x1 : Int32} {x2 : Int32} {h : hh_T} {Q : Option Value ⊕ Nat → hh_T → Prop} (hT : tw_ok h m) (H : (¬ (hh_i h m 77) = Int32.ofNat 0 → (gm_G 138 0 [some (.int x1)] [] h (pI (fun v2 h1 => (¬ v2 = Int32.ofNat 0 → (Q (.inl (some (.int (Int32.ofInt (-1))))) h1)) ∧ (v2 = Int32.ofNat 0 → ((x2 < Int32.ofNat 0 → (Q (.inl (some (.int (Int32.ofInt (-1))))) h1)) ∧ (¬ x2 < Int32.ofNat 0 → ((¬ (Int32.ofNat 1000) < x2 → (∃ n3, gm_ix x1 n3 8 ∧ (((hh_i h1 (m + 88) n3) = Int32.ofNat 0 → (Q (.inl (some (.int (Int32.ofInt (-2))))) h1)) ∧ (¬ (hh_i h1 (m + 88) n3) = Int32.ofNat 0 → (∃ n4, gm_ix (((Int32.ofNat 1001) * x1) + x2) n4 8008 ∧ (Q (.inl (some (.int (hh_i h1 (m + 96) n4)))) h1)))))) ∧ ((Int32.ofNat 1000) < x2 → (Q (.inl (some (.int (Int32.ofInt (-1))))) h1))))))) (fun _ _ => False)))) ∧ ((hh_i h m 77) = Int32.ofNat 0 → (Q (.inl (some (.int (Int32.ofInt (-9))))) h))) : gm_G 290 0 [some (.ref m), some (.int x1), some (.int x2)] [] h Q := by
  refine g_aload (r := some _) rfl rfl rfl (pc' := 1) ?_
  refine t_getZ rfl hT rfl rfl (pc' := 4) rfl ?_
  refine g_if_ne rfl (pc' := 7) (pt := 10) rfl rfl ⟨fun hc => ?_, fun hc => ?_⟩
  · have H := H.1 hc
    refine g_iload rfl rfl rfl (pc' := 11) ?_
    refine t_call hT (y := 138) (n := 1) (pc' := 14) rfl rfl (fun _ => rfl) rfl rfl ⟨(Nat.le_of_ble_eq_true rfl), (Nat.le_of_ble_eq_true rfl), (Nat.le_of_ble_eq_true rfl)⟩ rfl H (tI_elim (fun v2 h1 H hT => ?_))
    show gm_G _ 14 _ _ _ _
    refine g_if_ne rfl (pc' := 17) (pt := 28) rfl rfl ⟨fun hc => ?_, fun hc => ?_⟩
    · have H := H.1 hc
      refine g_iconst rfl rfl rfl (pc' := 29) ?_
      exact g_ireturn rfl (Or.inl rfl) H
    · have H := H.2 hc
      refine g_iload rfl rfl rfl (pc' := 18) ?_
      refine g_if_lt rfl (pc' := 21) (pt := 28) rfl rfl ⟨fun hc => ?_, fun hc => ?_⟩
      · have H := H.1 hc
        refine g_iconst rfl rfl rfl (pc' := 29) ?_
        exact g_ireturn rfl (Or.inl rfl) H
      · have H := H.2 hc
        refine g_iload rfl rfl rfl (pc' := 22) ?_
        refine g_iconst rfl rfl rfl (pc' := 25) ?_
        refine g_ic_le rfl (pc' := 28) (pt := 30) rfl rfl ⟨fun hc => ?_, fun hc => ?_⟩
        · have H := H.1 hc
          refine g_aload (r := some _) rfl rfl rfl (pc' := 31) ?_
          refine t_get (o := 88) rfl hT rfl rfl rfl (pc' := 34) rfl ?_
          refine g_iload rfl rfl rfl (pc' := 35) ?_
          obtain ⟨n3, hn3, H⟩ := H
          refine t_zaload hT (o := 88) (l := 8) rfl rfl rfl hn3 (pc' := 36) rfl ?_
          refine g_if_eq rfl (pc' := 39) (pt := 54) rfl rfl ⟨fun hc => ?_, fun hc => ?_⟩
          · have H := H.1 hc
            refine g_iconst rfl rfl rfl (pc' := 56) ?_
            exact g_ireturn rfl (Or.inl rfl) H
          · have H := H.2 hc
            refine g_aload (r := some _) rfl rfl rfl (pc' := 40) ?_
            refine t_get (o := 96) rfl hT rfl rfl rfl (pc' := 43) rfl ?_
            refine g_iconst rfl rfl rfl (pc' := 46) ?_
            refine g_iload rfl rfl rfl (pc' := 47) ?_
            refine g_imul rfl rfl (pc' := 48) ?_
            refine g_iload rfl rfl rfl (pc' := 49) ?_
            refine g_iadd rfl rfl (pc' := 50) ?_
            obtain ⟨n4, hn4, H⟩ := H
            refine t_baload hT (o := 96) (l := 8008) rfl rfl rfl hn4 (pc' := 51) rfl ?_
            refine g_goto rfl (pc' := 56) rfl ?_
            exact g_ireturn rfl (Or.inl rfl) H
        · have H := H.2 hc
          refine g_iconst rfl rfl rfl (pc' := 29) ?_
          exact g_ireturn rfl (Or.inl rfl) H
  · have H := H.2 hc
    refine g_iconst rfl rfl rfl (pc' := 9) ?_
    exact g_ireturn rfl (Or.inl rfl) H
theorem w_291_0 {m : Nat} {x1 : Int32} {x2 : Int32} {b3 : Nat} {x4 : Int32} {x5 : Int32} {h : hh_T} {Q : Option Value ⊕ Nat → hh_T → Prop} (hT : tw_ok h m) (H : gm_G 113 0 [some (.ref m)] [] h (pI (fun v2 h1 => ∃ n3, gm_ix x1 n3 32 ∧ (gm_G 156 0 [some (.ref m), some (.int (hh_i h1 (m + 59) n3))] [] h1 (pI (fun v5 h4 => ∃ n6, gm_ix v2 n6 48 ∧ (∀ h7, h7 = hh_wi h4 (m + 71) n6 v5 → (∀ h8, h8 = hh_wi h7 (m + 77) 0 ((hh_i h7 (m + 77) 0) + (Int32.ofNat 1)) → (∃ n9, gm_ix v2 n9 48 ∧ (∀ h10, h10 = hh_wi h8 (m + 69) n9 (hh_i h7 (m + 77) 0) → (∃ n11, gm_ix x1 n11 32 ∧ (∃ n12, gm_ix v2 n12 48 ∧ (∀ h13, h13 = hh_wi h10 (m + 70) n12 (hh_i h10 (m + 59) n11) → (∃ n14, gm_ix v2 n14 48 ∧ (∀ h15, h15 = hh_wi h13 (m + 72) n14 (Int32.ofNat 0) → (∃ n16, gm_ix v2 n16 48 ∧ (∀ h17, h17 = hh_wi h15 (m + 73) n16 x2 → (∃ n18, gm_ix x1 n18 32 ∧ (∃ n19, gm_ix v2 n19 48 ∧ (∀ h20, h20 = hh_wi h17 (m + 74) n19 (hh_i h17 (m + 63) n18) → (∃ n21, gm_ix v2 n21 48 ∧ (∀ h22, h22 = hh_wi h20 (m + 75) n21 x5 → (gm_G 291 95 [some (.ref m), none, none, some (.ref b3), some (.int x4), some (.int x5), some (.int v2), some (.int (Int32.ofNat 0))] [] h22 Q)))))))))))))))))) (fun _ _ => False)))) (fun _ _ => False))) : gm_G 291 0 [some (.ref m), some (.int x1), some (.int x2), some (.ref b3), some (.int x4), some (.int x5)] [] h Q := by
  refine g_aload (r := some _) rfl rfl rfl (pc' := 1) ?_
  refine t_call hT (y := 113) (n := 1) (pc' := 4) rfl rfl (t_vt hT rfl rfl) rfl rfl ⟨(Nat.le_of_ble_eq_true rfl), (Nat.le_of_ble_eq_true rfl), (Nat.le_of_ble_eq_true rfl)⟩ rfl H (tI_elim (fun v2 h1 H hT => ?_))
  show gm_G _ 4 _ _ _ _
  refine g_istore rfl rfl rfl (pc' := 6) ?_
  refine g_aload (r := some _) rfl rfl rfl (pc' := 7) ?_
  refine t_get (o := 71) rfl hT rfl rfl rfl (pc' := 10) rfl ?_
  refine g_iload rfl rfl rfl (pc' := 12) ?_
  refine g_aload (r := some _) rfl rfl rfl (pc' := 13) ?_
  refine g_aload (r := some _) rfl rfl rfl (pc' := 14) ?_
  refine t_get (o := 59) rfl hT rfl rfl rfl (pc' := 17) rfl ?_
  refine g_iload rfl rfl rfl (pc' := 18) ?_
  obtain ⟨n3, hn3, H⟩ := H
  refine t_iaload hT (o := 59) (l := 32) rfl rfl rfl hn3 (pc' := 19) rfl ?_
  refine t_call hT (y := 156) (n := 2) (pc' := 22) rfl rfl (t_vt hT rfl rfl) rfl rfl ⟨(Nat.le_of_ble_eq_true rfl), (Nat.le_of_ble_eq_true rfl), (Nat.le_of_ble_eq_true rfl)⟩ rfl H (tI_elim (fun v5 h4 H hT => ?_))
  show gm_G _ 22 _ _ _ _
  obtain ⟨n6, hn6, H⟩ := H
  refine t_iastore hT (o := 71) (l := 48) rfl rfl rfl hn6  (pc' := 23) rfl (fun hT => ?_)
  have H := H _ rfl
  refine g_aload (r := some _) rfl rfl rfl (pc' := 24) ?_
  refine t_get (o := 69) rfl hT rfl rfl rfl (pc' := 27) rfl ?_
  refine g_iload rfl rfl rfl (pc' := 29) ?_
  refine g_aload (r := some _) rfl rfl rfl (pc' := 30) ?_
  refine t_get (o := 77) rfl hT rfl rfl rfl (pc' := 33) rfl ?_
  refine g_iconst rfl rfl rfl (pc' := 34) ?_
  refine g_dup2_a rfl (pc' := 35) rfl ?_
  refine t_iaload hT (o := 77) (l := 4) rfl rfl rfl ⟨rfl, by decide, by decide⟩ (pc' := 36) rfl ?_
  refine g_dup_x2 rfl (pc' := 37) rfl ?_
  refine g_iconst rfl rfl rfl (pc' := 38) ?_
  refine g_iadd rfl rfl (pc' := 39) ?_
  refine t_iastore hT (o := 77) (l := 4) rfl rfl rfl ⟨rfl, by decide, by decide⟩  (pc' := 40) rfl (fun hT => ?_)
  have H := H _ rfl
  obtain ⟨n9, hn9, H⟩ := H
  refine t_iastore hT (o := 69) (l := 48) rfl rfl rfl hn9  (pc' := 41) rfl (fun hT => ?_)
  have H := H _ rfl
  refine g_aload (r := some _) rfl rfl rfl (pc' := 42) ?_
  refine t_get (o := 70) rfl hT rfl rfl rfl (pc' := 45) rfl ?_
  refine g_iload rfl rfl rfl (pc' := 47) ?_
  refine g_aload (r := some _) rfl rfl rfl (pc' := 48) ?_
  refine t_get (o := 59) rfl hT rfl rfl rfl (pc' := 51) rfl ?_
  refine g_iload rfl rfl rfl (pc' := 52) ?_
  obtain ⟨n11, hn11, H⟩ := H
  refine t_iaload hT (o := 59) (l := 32) rfl rfl rfl hn11 (pc' := 53) rfl ?_
  obtain ⟨n12, hn12, H⟩ := H
  refine t_iastore hT (o := 70) (l := 48) rfl rfl rfl hn12  (pc' := 54) rfl (fun hT => ?_)
  have H := H _ rfl
  refine g_aload (r := some _) rfl rfl rfl (pc' := 55) ?_
  refine t_get (o := 72) rfl hT rfl rfl rfl (pc' := 58) rfl ?_
  refine g_iload rfl rfl rfl (pc' := 60) ?_
  refine g_iconst rfl rfl rfl (pc' := 61) ?_
  obtain ⟨n14, hn14, H⟩ := H
  refine t_iastore hT (o := 72) (l := 48) rfl rfl rfl hn14  (pc' := 62) rfl (fun hT => ?_)
  have H := H _ rfl
  refine g_aload (r := some _) rfl rfl rfl (pc' := 63) ?_
  refine t_get (o := 73) rfl hT rfl rfl rfl (pc' := 66) rfl ?_
  refine g_iload rfl rfl rfl (pc' := 68) ?_
  refine g_iload rfl rfl rfl (pc' := 69) ?_
  obtain ⟨n16, hn16, H⟩ := H
  refine t_iastore hT (o := 73) (l := 48) rfl rfl rfl hn16  (pc' := 70) rfl (fun hT => ?_)
  have H := H _ rfl
  refine g_aload (r := some _) rfl rfl rfl (pc' := 71) ?_
  refine t_get (o := 74) rfl hT rfl rfl rfl (pc' := 74) rfl ?_
  refine g_iload rfl rfl rfl (pc' := 76) ?_
  refine g_aload (r := some _) rfl rfl rfl (pc' := 77) ?_
  refine t_get (o := 63) rfl hT rfl rfl rfl (pc' := 80) rfl ?_
  refine g_iload rfl rfl rfl (pc' := 81) ?_
  obtain ⟨n18, hn18, H⟩ := H
  refine t_iaload hT (o := 63) (l := 32) rfl rfl rfl hn18 (pc' := 82) rfl ?_
  obtain ⟨n19, hn19, H⟩ := H
  refine t_iastore hT (o := 74) (l := 48) rfl rfl rfl hn19  (pc' := 83) rfl (fun hT => ?_)
  have H := H _ rfl
  refine g_aload (r := some _) rfl rfl rfl (pc' := 84) ?_
  refine t_get (o := 75) rfl hT rfl rfl rfl (pc' := 87) rfl ?_
  refine g_iload rfl rfl rfl (pc' := 89) ?_
  refine g_iload rfl rfl rfl (pc' := 91) ?_
  obtain ⟨n21, hn21, H⟩ := H
  refine t_iastore hT (o := 75) (l := 48) rfl rfl rfl hn21  (pc' := 92) rfl (fun hT => ?_)
  have H := H _ rfl
  refine g_iconst rfl rfl rfl (pc' := 93) ?_
  refine g_istore rfl rfl rfl (pc' := 95) ?_
  exact g_weak (show gm_Lle [some _, none, none, some _, some _, some _, some _, some _] _ from ⟨rfl, ⟨rfl, ⟨rfl, ⟨rfl, ⟨rfl, ⟨rfl, trivial⟩⟩⟩⟩⟩⟩) H
theorem w_291_95 {m : Nat} {b3 : Nat} {x4 : Int32} {x5 : Int32} {x6 : Int32} {x7 : Int32} {h : hh_T} {Q : Option Value ⊕ Nat → hh_T → Prop} (hT : tw_ok h m) (H : (¬ x7 < x5 → (Q (.inl (some (.int x6))) h)) ∧ (x7 < x5 → ((hh_tg h b3 = 101 ∨ hh_tg h b3 = 102) ∧ (∃ n1, gm_ix (x4 + x7) n1 (hh_ln h b3) ∧ (∃ n3, gm_ix (((Int32.ofNat 8) * x6) + x7) n3 384 ∧ (∀ h4, h4 = hh_wi h (m + 68) n3 ((hh_i h b3 n1).toInt8.toInt32) → (gm_G 291 95 [some (.ref m), none, none, some (.ref b3), some (.int x4), some (.int x5), some (.int x6), some (.int (x7 + (Int32.ofNat 1)))] [] h4 Q))))))) : gm_G 291 95 [some (.ref m), none, none, some (.ref b3), some (.int x4), some (.int x5), some (.int x6), some (.int x7)] [] h Q := by
  refine g_iload rfl rfl rfl (pc' := 97) ?_
  refine g_iload rfl rfl rfl (pc' := 99) ?_
  refine g_ic_ge rfl (pc' := 102) (pt := 128) rfl rfl ⟨fun hc => ?_, fun hc => ?_⟩
  · have H := H.1 hc
    refine g_iload rfl rfl rfl (pc' := 130) ?_
    exact g_ireturn rfl (Or.inl rfl) H
  · have H := H.2 hc
    refine g_aload (r := some _) rfl rfl rfl (pc' := 103) ?_
    refine t_get (o := 68) rfl hT rfl rfl rfl (pc' := 106) rfl ?_
    refine g_iconst rfl rfl rfl (pc' := 108) ?_
    refine g_iload rfl rfl rfl (pc' := 110) ?_
    refine g_imul rfl rfl (pc' := 111) ?_
    refine g_iload rfl rfl rfl (pc' := 113) ?_
    refine g_iadd rfl rfl (pc' := 114) ?_
    refine g_aload (r := some _) rfl rfl rfl (pc' := 115) ?_
    refine g_iload rfl rfl rfl (pc' := 117) ?_
    refine g_iload rfl rfl rfl (pc' := 119) ?_
    refine g_iadd rfl rfl (pc' := 120) ?_
    obtain ⟨ht2, H⟩ := H
    obtain ⟨n1, hn1, H⟩ := H
    refine g_baload rfl ht2 hn1 (pc' := 121) rfl ?_
    obtain ⟨n3, hn3, H⟩ := H
    refine t_bastore hT (o := 68) (l := 384) rfl rfl rfl hn3  (pc' := 122) rfl (fun hT => ?_)
    have H := H _ rfl
    refine g_iinc (c := (Int32.ofNat 1)) rfl rfl rfl rfl rfl (pc' := 125) ?_
    refine g_goto rfl (pc' := 95) rfl ?_
    exact g_weak (show gm_Lle [some _, none, none, some _, some _, some _, some _, some _] _ from ⟨rfl, ⟨rfl, ⟨rfl, ⟨rfl, ⟨rfl, ⟨rfl, trivial⟩⟩⟩⟩⟩⟩) H
theorem w_292_0 {m : Nat} {x1 : Int32} {x2 : Int32} {h : hh_T} {Q : Option Value ⊕ Nat → hh_T → Prop} (hT : tw_ok h m) (H : gm_G 292 5 [some (.ref m), some (.int x1), some (.int x2), some (.int ((Int32.ofNat 16) * x1))] [] h Q) : gm_G 292 0 [some (.ref m), some (.int x1), some (.int x2)] [] h Q := by
  refine g_iconst rfl rfl rfl (pc' := 2) ?_
  refine g_iload rfl rfl rfl (pc' := 3) ?_
  refine g_imul rfl rfl (pc' := 4) ?_
  refine g_istore rfl rfl rfl (pc' := 5) ?_
  exact g_weak (show gm_Lle [some _, some _, some _, some _] _ from ⟨rfl, ⟨rfl, ⟨rfl, ⟨rfl, trivial⟩⟩⟩⟩) H
theorem w_292_5 {m : Nat} {x1 : Int32} {x2 : Int32} {x3 : Int32} {h : hh_T} {Q : Option Value ⊕ Nat → hh_T → Prop} (hT : tw_ok h m) (H : (¬ x3 < (((Int32.ofNat 16) * x1) + (Int32.ofNat 16)) → ((¬ x2 = Int32.ofNat 0 → (gm_G 292 46 [some (.ref m), some (.int x1), some (.int x2), some (.int ((Int32.ofNat 16) * x1))] [.int (Int32.ofNat 4), .int ((Int32.ofNat 16) * x1), .ref (m + 40)] h Q)) ∧ (x2 = Int32.ofNat 0 → (gm_G 292 46 [some (.ref m), some (.int x1), some (.int x2), some (.int ((Int32.ofNat 16) * x1))] [.int (Int32.ofNat 2), .int ((Int32.ofNat 16) * x1), .ref (m + 40)] h Q)))) ∧ (x3 < (((Int32.ofNat 16) * x1) + (Int32.ofNat 16)) → (gm_G 95 0 [some (.ref m), some (.int x3)] [] h (pV (fun h1 => gm_G 292 5 [some (.ref m), some (.int x1), some (.int x2), some (.int (x3 + (Int32.ofNat 1)))] [] h1 Q) (fun _ _ => False))))) : gm_G 292 5 [some (.ref m), some (.int x1), some (.int x2), some (.int x3)] [] h Q := by
  refine g_iload rfl rfl rfl (pc' := 6) ?_
  refine g_iconst rfl rfl rfl (pc' := 8) ?_
  refine g_iload rfl rfl rfl (pc' := 9) ?_
  refine g_imul rfl rfl (pc' := 10) ?_
  refine g_iconst rfl rfl rfl (pc' := 12) ?_
  refine g_iadd rfl rfl (pc' := 13) ?_
  refine g_ic_ge rfl (pc' := 16) (pt := 27) rfl rfl ⟨fun hc => ?_, fun hc => ?_⟩
  · have H := H.1 hc
    refine g_iconst rfl rfl rfl (pc' := 29) ?_
    refine g_iload rfl rfl rfl (pc' := 30) ?_
    refine g_imul rfl rfl (pc' := 31) ?_
    refine g_istore rfl rfl rfl (pc' := 32) ?_
    refine g_aload (r := some _) rfl rfl rfl (pc' := 33) ?_
    refine t_get (o := 40) rfl hT rfl rfl rfl (pc' := 36) rfl ?_
    refine g_iload rfl rfl rfl (pc' := 37) ?_
    refine g_iload rfl rfl rfl (pc' := 38) ?_
    refine g_if_ne rfl (pc' := 41) (pt := 45) rfl rfl ⟨fun hc => ?_, fun hc => ?_⟩
    · have H := H.1 hc
      refine g_iconst rfl rfl rfl (pc' := 46) ?_
      exact g_weak (show gm_Lle [some _, some _, some _, some _] _ from ⟨rfl, ⟨rfl, ⟨rfl, ⟨rfl, trivial⟩⟩⟩⟩) H
    · have H := H.2 hc
      refine g_iconst rfl rfl rfl (pc' := 42) ?_
      refine g_goto rfl (pc' := 46) rfl ?_
      exact g_weak (show gm_Lle [some _, some _, some _, some _] _ from ⟨rfl, ⟨rfl, ⟨rfl, ⟨rfl, trivial⟩⟩⟩⟩) H
  · have H := H.2 hc
    refine g_aload (r := some _) rfl rfl rfl (pc' := 17) ?_
    refine g_iload rfl rfl rfl (pc' := 18) ?_
    refine t_call hT (y := 95) (n := 2) (pc' := 21) rfl rfl (t_vt hT rfl rfl) rfl rfl ⟨(Nat.le_of_ble_eq_true rfl), (Nat.le_of_ble_eq_true rfl), (Nat.le_of_ble_eq_true rfl)⟩ rfl H (tV_elim (fun h1 H hT => ?_))
    show gm_G _ 21 _ _ _ _
    refine g_iinc (c := (Int32.ofNat 1)) rfl rfl rfl rfl rfl (pc' := 24) ?_
    refine g_goto rfl (pc' := 5) rfl ?_
    exact g_weak (show gm_Lle [some _, some _, some _, some _] _ from ⟨rfl, ⟨rfl, ⟨rfl, ⟨rfl, trivial⟩⟩⟩⟩) H
theorem w_292_46 {m : Nat} {x1 : Int32} {x2 : Int32} {x3 : Int32} {y0 : Int32} {y1 : Int32} {h : hh_T} {Q : Option Value ⊕ Nat → hh_T → Prop} (hT : tw_ok h m) (H : ∃ n1, gm_ix y1 n1 1536 ∧ (∀ h2, h2 = hh_wi h (m + 40) n1 y0 → (∃ n3, gm_ix x3 n3 1536 ∧ (∀ h4, h4 = hh_wi h2 (m + 41) n3 (Int32.ofNat 511) → (∃ n5, gm_ix x3 n5 1536 ∧ (∀ h6, h6 = hh_wi h4 (m + 42) n5 (Int32.ofNat 0) → (∃ n7, gm_ix x3 n7 1536 ∧ (∀ h8, h8 = hh_wi h6 (m + 43) n7 (Int32.ofNat 0) → (∃ n9, gm_ix x3 n9 1536 ∧ (∀ h10, h10 = hh_wi h8 (m + 44) n9 (Int32.ofNat 1) → (∃ n11, gm_ix x3 n11 1536 ∧ (∀ h12, h12 = hh_wi h10 (m + 45) n11 ((Int32.ofNat 32) * x2) → (∃ n13, gm_ix x3 n13 1536 ∧ (∀ h14, h14 = hh_wi h12 (m + 46) n13 (hh_i h12 m 4) → (∃ n15, gm_ix x3 n15 1536 ∧ (∀ h16, h16 = hh_wi h14 (m + 47) n15 (Int32.ofNat 0) → (∃ n17, gm_ix x1 n17 96 ∧ (∀ h18, h18 = hh_wi h16 (m + 58) n17 (Int32.ofNat 1) → (Q (.inl none) h18))))))))))))))))))) : gm_G 292 46 [some (.ref m), some (.int x1), some (.int x2), some (.int x3)] [.int y0, .int y1, .ref (m + 40)] h Q := by
  obtain ⟨n1, hn1, H⟩ := H
  refine t_iastore hT (o := 40) (l := 1536) rfl rfl rfl hn1  (pc' := 47) rfl (fun hT => ?_)
  have H := H _ rfl
  refine g_aload (r := some _) rfl rfl rfl (pc' := 48) ?_
  refine t_get (o := 41) rfl hT rfl rfl rfl (pc' := 51) rfl ?_
  refine g_iload rfl rfl rfl (pc' := 52) ?_
  refine g_iconst rfl rfl rfl (pc' := 55) ?_
  obtain ⟨n3, hn3, H⟩ := H
  refine t_iastore hT (o := 41) (l := 1536) rfl rfl rfl hn3  (pc' := 56) rfl (fun hT => ?_)
  have H := H _ rfl
  refine g_aload (r := some _) rfl rfl rfl (pc' := 57) ?_
  refine t_get (o := 42) rfl hT rfl rfl rfl (pc' := 60) rfl ?_
  refine g_iload rfl rfl rfl (pc' := 61) ?_
  refine g_iconst rfl rfl rfl (pc' := 62) ?_
  obtain ⟨n5, hn5, H⟩ := H
  refine t_iastore hT (o := 42) (l := 1536) rfl rfl rfl hn5  (pc' := 63) rfl (fun hT => ?_)
  have H := H _ rfl
  refine g_aload (r := some _) rfl rfl rfl (pc' := 64) ?_
  refine t_get (o := 43) rfl hT rfl rfl rfl (pc' := 67) rfl ?_
  refine g_iload rfl rfl rfl (pc' := 68) ?_
  refine g_iconst rfl rfl rfl (pc' := 69) ?_
  obtain ⟨n7, hn7, H⟩ := H
  refine t_iastore hT (o := 43) (l := 1536) rfl rfl rfl hn7  (pc' := 70) rfl (fun hT => ?_)
  have H := H _ rfl
  refine g_aload (r := some _) rfl rfl rfl (pc' := 71) ?_
  refine t_get (o := 44) rfl hT rfl rfl rfl (pc' := 74) rfl ?_
  refine g_iload rfl rfl rfl (pc' := 75) ?_
  refine g_iconst rfl rfl rfl (pc' := 76) ?_
  obtain ⟨n9, hn9, H⟩ := H
  refine t_iastore hT (o := 44) (l := 1536) rfl rfl rfl hn9  (pc' := 77) rfl (fun hT => ?_)
  have H := H _ rfl
  refine g_aload (r := some _) rfl rfl rfl (pc' := 78) ?_
  refine t_get (o := 45) rfl hT rfl rfl rfl (pc' := 81) rfl ?_
  refine g_iload rfl rfl rfl (pc' := 82) ?_
  refine g_iconst rfl rfl rfl (pc' := 84) ?_
  refine g_iload rfl rfl rfl (pc' := 85) ?_
  refine g_imul rfl rfl (pc' := 86) ?_
  obtain ⟨n11, hn11, H⟩ := H
  refine t_iastore hT (o := 45) (l := 1536) rfl rfl rfl hn11  (pc' := 87) rfl (fun hT => ?_)
  have H := H _ rfl
  refine g_aload (r := some _) rfl rfl rfl (pc' := 88) ?_
  refine t_get (o := 46) rfl hT rfl rfl rfl (pc' := 91) rfl ?_
  refine g_iload rfl rfl rfl (pc' := 92) ?_
  refine g_aload (r := some _) rfl rfl rfl (pc' := 93) ?_
  refine t_getI rfl hT rfl rfl (pc' := 96) rfl ?_
  obtain ⟨n13, hn13, H⟩ := H
  refine t_iastore hT (o := 46) (l := 1536) rfl rfl rfl hn13  (pc' := 97) rfl (fun hT => ?_)
  have H := H _ rfl
  refine g_aload (r := some _) rfl rfl rfl (pc' := 98) ?_
  refine t_get (o := 47) rfl hT rfl rfl rfl (pc' := 101) rfl ?_
  refine g_iload rfl rfl rfl (pc' := 102) ?_
  refine g_iconst rfl rfl rfl (pc' := 103) ?_
  obtain ⟨n15, hn15, H⟩ := H
  refine t_iastore hT (o := 47) (l := 1536) rfl rfl rfl hn15  (pc' := 104) rfl (fun hT => ?_)
  have H := H _ rfl
  refine g_aload (r := some _) rfl rfl rfl (pc' := 105) ?_
  refine t_get (o := 58) rfl hT rfl rfl rfl (pc' := 108) rfl ?_
  refine g_iload rfl rfl rfl (pc' := 109) ?_
  refine g_iconst rfl rfl rfl (pc' := 110) ?_
  obtain ⟨n17, hn17, H⟩ := H
  refine t_iastore hT (o := 58) (l := 96) rfl rfl rfl hn17  (pc' := 111) rfl (fun hT => ?_)
  have H := H _ rfl
  exact g_return rfl H
theorem w_293_0 {m : Nat} {x1 : Int32} {h : hh_T} {Q : Option Value ⊕ Nat → hh_T → Prop} (hT : tw_ok h m) (H : ∃ n1, gm_ix ((Int32.ofNat 16) * x1) n1 64 ∧ (gm_G 129 0 [some (.ref m), some (.int (hh_i h (m + 32) n1))] [] h (pV (fun h2 => Q (.inl (some (.int (hh_i h (m + 32) n1)))) h2) (fun _ _ => False)))) : gm_G 293 0 [some (.ref m), some (.int x1)] [] h Q := by
  refine g_aload (r := some _) rfl rfl rfl (pc' := 1) ?_
  refine t_get (o := 32) rfl hT rfl rfl rfl (pc' := 4) rfl ?_
  refine g_iconst rfl rfl rfl (pc' := 6) ?_
  refine g_iload rfl rfl rfl (pc' := 7) ?_
  refine g_imul rfl rfl (pc' := 8) ?_
  obtain ⟨n1, hn1, H⟩ := H
  refine t_iaload hT (o := 32) (l := 64) rfl rfl rfl hn1 (pc' := 9) rfl ?_
  refine g_istore rfl rfl rfl (pc' := 10) ?_
  refine g_aload (r := some _) rfl rfl rfl (pc' := 11) ?_
  refine g_iload rfl rfl rfl (pc' := 12) ?_
  refine t_call hT (y := 129) (n := 2) (pc' := 15) rfl rfl (t_vt hT rfl rfl) rfl rfl ⟨(Nat.le_of_ble_eq_true rfl), (Nat.le_of_ble_eq_true rfl), (Nat.le_of_ble_eq_true rfl)⟩ rfl H (tV_elim (fun h2 H hT => ?_))
  show gm_G _ 15 _ _ _ _
  refine g_iload rfl rfl rfl (pc' := 16) ?_
  exact g_ireturn rfl (Or.inl rfl) H
theorem w_294_0 {m : Nat} {x1 : Int32} {h : hh_T} {Q : Option Value ⊕ Nat → hh_T → Prop} (hT : tw_ok h m) (H : gm_G 294 4 [some (.ref m), some (.int x1), some (.int (Int32.ofNat 0)), some (.int (Int32.ofNat 0))] [] h Q) : gm_G 294 0 [some (.ref m), some (.int x1)] [] h Q := by
  refine g_iconst rfl rfl rfl (pc' := 1) ?_
  refine g_istore rfl rfl rfl (pc' := 2) ?_
  refine g_iconst rfl rfl rfl (pc' := 3) ?_
  refine g_istore rfl rfl rfl (pc' := 4) ?_
  exact g_weak (show gm_Lle [some _, some _, some _, some _] _ from ⟨rfl, ⟨rfl, ⟨rfl, ⟨rfl, trivial⟩⟩⟩⟩) H
theorem w_294_4 {m : Nat} {x1 : Int32} {x2 : Int32} {x3 : Int32} {h : hh_T} {Q : Option Value ⊕ Nat → hh_T → Prop} (hT : tw_ok h m) (H : ∃ n1, gm_ix x1 n1 640 ∧ ((¬ x3 < (hh_i h (m + 22) n1) → (Q (.inl (some (.int x2))) h)) ∧ (x3 < (hh_i h (m + 22) n1) → (∃ n2, gm_ix (((Int32.ofNat 2) * x1) + x3) n2 1280 ∧ (∃ n3, gm_ix x1 n3 640 ∧ (gm_G 149 0 [some (.ref m), some (.int (hh_i h (m + 23) n2)), some (.int (hh_i h (m + 21) n3))] [] h (pI (fun v5 h4 => gm_G 294 4 [some (.ref m), some (.int x1), some (.int (x2 + v5)), some (.int (x3 + (Int32.ofNat 1)))] [] h4 Q) (fun _ _ => False)))))))) : gm_G 294 4 [some (.ref m), some (.int x1), some (.int x2), some (.int x3)] [] h Q := by
  refine g_iload rfl rfl rfl (pc' := 5) ?_
  refine g_aload (r := some _) rfl rfl rfl (pc' := 6) ?_
  refine t_get (o := 22) rfl hT rfl rfl rfl (pc' := 9) rfl ?_
  refine g_iload rfl rfl rfl (pc' := 10) ?_
  obtain ⟨n1, hn1, H⟩ := H
  refine t_iaload hT (o := 22) (l := 640) rfl rfl rfl hn1 (pc' := 11) rfl ?_
  refine g_ic_ge rfl (pc' := 14) (pt := 43) rfl rfl ⟨fun hc => ?_, fun hc => ?_⟩
  · have H := H.1 hc
    refine g_iload rfl rfl rfl (pc' := 44) ?_
    exact g_ireturn rfl (Or.inl rfl) H
  · have H := H.2 hc
    refine g_iload rfl rfl rfl (pc' := 15) ?_
    refine g_aload (r := some _) rfl rfl rfl (pc' := 16) ?_
    refine g_aload (r := some _) rfl rfl rfl (pc' := 17) ?_
    refine t_get (o := 23) rfl hT rfl rfl rfl (pc' := 20) rfl ?_
    refine g_iconst rfl rfl rfl (pc' := 21) ?_
    refine g_iload rfl rfl rfl (pc' := 22) ?_
    refine g_imul rfl rfl (pc' := 23) ?_
    refine g_iload rfl rfl rfl (pc' := 24) ?_
    refine g_iadd rfl rfl (pc' := 25) ?_
    obtain ⟨n2, hn2, H⟩ := H
    refine t_iaload hT (o := 23) (l := 1280) rfl rfl rfl hn2 (pc' := 26) rfl ?_
    refine g_aload (r := some _) rfl rfl rfl (pc' := 27) ?_
    refine t_get (o := 21) rfl hT rfl rfl rfl (pc' := 30) rfl ?_
    refine g_iload rfl rfl rfl (pc' := 31) ?_
    obtain ⟨n3, hn3, H⟩ := H
    refine t_iaload hT (o := 21) (l := 640) rfl rfl rfl hn3 (pc' := 32) rfl ?_
    refine t_call hT (y := 149) (n := 3) (pc' := 35) rfl rfl (t_vt hT rfl rfl) rfl rfl ⟨(Nat.le_of_ble_eq_true rfl), (Nat.le_of_ble_eq_true rfl), (Nat.le_of_ble_eq_true rfl)⟩ rfl H (tI_elim (fun v5 h4 H hT => ?_))
    show gm_G _ 35 _ _ _ _
    refine g_iadd rfl rfl (pc' := 36) ?_
    refine g_istore rfl rfl rfl (pc' := 37) ?_
    refine g_iinc (c := (Int32.ofNat 1)) rfl rfl rfl rfl rfl (pc' := 40) ?_
    refine g_goto rfl (pc' := 4) rfl ?_
    exact g_weak (show gm_Lle [some _, some _, some _, some _] _ from ⟨rfl, ⟨rfl, ⟨rfl, ⟨rfl, trivial⟩⟩⟩⟩) H
theorem w_295_0 {m : Nat} {x1 : Int32} {x2 : Int32} {x3 : Int32} {x4 : Int32} {h : hh_T} {Q : Option Value ⊕ Nat → hh_T → Prop} (hT : tw_ok h m) (H : gm_G 135 0 [some (.ref m), some (.int x1)] [] h (pI (fun v2 h1 => (¬ v2 = Int32.ofNat 0 → (Q (.inl (some (.int (Int32.ofInt (-1))))) h1)) ∧ (v2 = Int32.ofNat 0 → ((x2 < Int32.ofNat 0 → (Q (.inl (some (.int (Int32.ofInt (-1))))) h1)) ∧ (¬ x2 < Int32.ofNat 0 → (∃ n3, gm_ix x1 n3 8 ∧ ((¬ x2 < (hh_i h1 (m + 4) n3) → (Q (.inl (some (.int (Int32.ofInt (-1))))) h1)) ∧ (x2 < (hh_i h1 (m + 4) n3) → ((x3 < Int32.ofNat 0 → (Q (.inl (some (.int (Int32.ofInt (-1))))) h1)) ∧ (¬ x3 < Int32.ofNat 0 → (((Int32.ofNat 7) < x3 → (Q (.inl (some (.int (Int32.ofInt (-1))))) h1)) ∧ (¬ (Int32.ofNat 7) < x3 → ((x4 < Int32.ofNat 0 → (Q (.inl (some (.int (Int32.ofInt (-1))))) h1)) ∧ (¬ x4 < Int32.ofNat 0 → ((¬ (Int32.ofNat 255) < x4 → (∃ n4, gm_ix ((((Int32.ofNat 512) * x1) + ((Int32.ofNat 8) * x2)) + x3) n4 4096 ∧ (∃ n5, gm_ix ((((Int32.ofNat 512) * x1) + ((Int32.ofNat 8) * x2)) + x3) n5 4096 ∧ (∀ h6, h6 = hh_wi h1 (m + 10) n5 ((((hh_i h1 (m + 10) n4) ^^^ (x4.toInt8.toInt32)).toInt8.toInt32).toInt8.toInt32) → (Q (.inl (some (.int (Int32.ofNat 0)))) h6))))) ∧ ((Int32.ofNat 255) < x4 → (Q (.inl (some (.int (Int32.ofInt (-1))))) h1)))))))))))))))) (fun _ _ => False))) : gm_G 295 0 [some (.ref m), some (.int x1), some (.int x2), some (.int x3), some (.int x4)] [] h Q := by
  refine g_aload (r := some _) rfl rfl rfl (pc' := 1) ?_
  refine g_iload rfl rfl rfl (pc' := 2) ?_
  refine t_call hT (y := 135) (n := 2) (pc' := 5) rfl rfl (t_vt hT rfl rfl) rfl rfl ⟨(Nat.le_of_ble_eq_true rfl), (Nat.le_of_ble_eq_true rfl), (Nat.le_of_ble_eq_true rfl)⟩ rfl H (tI_elim (fun v2 h1 H hT => ?_))
  show gm_G _ 5 _ _ _ _
  refine g_if_ne rfl (pc' := 8) (pt := 45) rfl rfl ⟨fun hc => ?_, fun hc => ?_⟩
  · have H := H.1 hc
    refine g_iconst rfl rfl rfl (pc' := 46) ?_
    exact g_ireturn rfl (Or.inl rfl) H
  · have H := H.2 hc
    refine g_iload rfl rfl rfl (pc' := 9) ?_
    refine g_if_lt rfl (pc' := 12) (pt := 45) rfl rfl ⟨fun hc => ?_, fun hc => ?_⟩
    · have H := H.1 hc
      refine g_iconst rfl rfl rfl (pc' := 46) ?_
      exact g_ireturn rfl (Or.inl rfl) H
    · have H := H.2 hc
      refine g_iload rfl rfl rfl (pc' := 13) ?_
      refine g_aload (r := some _) rfl rfl rfl (pc' := 14) ?_
      refine t_get (o := 4) rfl hT rfl rfl rfl (pc' := 17) rfl ?_
      refine g_iload rfl rfl rfl (pc' := 18) ?_
      obtain ⟨n3, hn3, H⟩ := H
      refine t_iaload hT (o := 4) (l := 8) rfl rfl rfl hn3 (pc' := 19) rfl ?_
      refine g_ic_ge rfl (pc' := 22) (pt := 45) rfl rfl ⟨fun hc => ?_, fun hc => ?_⟩
      · have H := H.1 hc
        refine g_iconst rfl rfl rfl (pc' := 46) ?_
        exact g_ireturn rfl (Or.inl rfl) H
      · have H := H.2 hc
        refine g_iload rfl rfl rfl (pc' := 23) ?_
        refine g_if_lt rfl (pc' := 26) (pt := 45) rfl rfl ⟨fun hc => ?_, fun hc => ?_⟩
        · have H := H.1 hc
          refine g_iconst rfl rfl rfl (pc' := 46) ?_
          exact g_ireturn rfl (Or.inl rfl) H
        · have H := H.2 hc
          refine g_iload rfl rfl rfl (pc' := 27) ?_
          refine g_iconst rfl rfl rfl (pc' := 29) ?_
          refine g_ic_gt rfl (pc' := 32) (pt := 45) rfl rfl ⟨fun hc => ?_, fun hc => ?_⟩
          · have H := H.1 hc
            refine g_iconst rfl rfl rfl (pc' := 46) ?_
            exact g_ireturn rfl (Or.inl rfl) H
          · have H := H.2 hc
            refine g_iload rfl rfl rfl (pc' := 34) ?_
            refine g_if_lt rfl (pc' := 37) (pt := 45) rfl rfl ⟨fun hc => ?_, fun hc => ?_⟩
            · have H := H.1 hc
              refine g_iconst rfl rfl rfl (pc' := 46) ?_
              exact g_ireturn rfl (Or.inl rfl) H
            · have H := H.2 hc
              refine g_iload rfl rfl rfl (pc' := 39) ?_
              refine g_iconst rfl rfl rfl (pc' := 42) ?_
              refine g_ic_le rfl (pc' := 45) (pt := 47) rfl rfl ⟨fun hc => ?_, fun hc => ?_⟩
              · have H := H.1 hc
                refine g_aload (r := some _) rfl rfl rfl (pc' := 48) ?_
                refine t_get (o := 10) rfl hT rfl rfl rfl (pc' := 51) rfl ?_
                refine g_iconst rfl rfl rfl (pc' := 54) ?_
                refine g_iload rfl rfl rfl (pc' := 55) ?_
                refine g_imul rfl rfl (pc' := 56) ?_
                refine g_iconst rfl rfl rfl (pc' := 58) ?_
                refine g_iload rfl rfl rfl (pc' := 59) ?_
                refine g_imul rfl rfl (pc' := 60) ?_
                refine g_iadd rfl rfl (pc' := 61) ?_
                refine g_iload rfl rfl rfl (pc' := 62) ?_
                refine g_iadd rfl rfl (pc' := 63) ?_
                refine g_dup2_a rfl (pc' := 64) rfl ?_
                obtain ⟨n4, hn4, H⟩ := H
                refine t_baload hT (o := 10) (l := 4096) rfl rfl rfl hn4 (pc' := 65) rfl ?_
                refine g_iload rfl rfl rfl (pc' := 67) ?_
                refine g_i2b rfl rfl (pc' := 68) ?_
                refine g_ixor rfl rfl (pc' := 69) ?_
                refine g_i2b rfl rfl (pc' := 70) ?_
                obtain ⟨n5, hn5, H⟩ := H
                refine t_bastore hT (o := 10) (l := 4096) rfl rfl rfl hn5  (pc' := 71) rfl (fun hT => ?_)
                have H := H _ rfl
                refine g_iconst rfl rfl rfl (pc' := 72) ?_
                exact g_ireturn rfl (Or.inl rfl) H
              · have H := H.2 hc
                refine g_iconst rfl rfl rfl (pc' := 46) ?_
                exact g_ireturn rfl (Or.inl rfl) H
theorem w_296_0 {m : Nat} {x0 : Int32} {h : hh_T} {Q : Option Value ⊕ Nat → hh_T → Prop} (hT : tw_ok h m) (H : gm_G 296 4 [some (.int x0), some (.int (Int32.ofNat 1)), some (.int (Int32.ofNat 0))] [] h Q) : gm_G 296 0 [some (.int x0)] [] h Q := by
  refine g_iconst rfl rfl rfl (pc' := 1) ?_
  refine g_istore rfl rfl rfl (pc' := 2) ?_
  refine g_iconst rfl rfl rfl (pc' := 3) ?_
  refine g_istore rfl rfl rfl (pc' := 4) ?_
  exact g_weak (show gm_Lle [some _, some _, some _] _ from ⟨rfl, ⟨rfl, ⟨rfl, trivial⟩⟩⟩) H
theorem w_296_4 {m : Nat} {x0 : Int32} {x1 : Int32} {x2 : Int32} {h : hh_T} {Q : Option Value ⊕ Nat → hh_T → Prop} (hT : tw_ok h m) (H : (¬ x2 < x0 → (Q (.inl (some (.int x1))) h)) ∧ (x2 < x0 → (gm_G 161 0 [some (.int x1), some (.int (Int32.ofNat 2))] [] h (pI (fun v2 h1 => gm_G 296 4 [some (.int x0), some (.int v2), some (.int (x2 + (Int32.ofNat 1)))] [] h1 Q) (fun _ _ => False))))) : gm_G 296 4 [some (.int x0), some (.int x1), some (.int x2)] [] h Q := by
  refine g_iload rfl rfl rfl (pc' := 5) ?_
  refine g_iload rfl rfl rfl (pc' := 6) ?_
  refine g_ic_ge rfl (pc' := 9) (pt := 21) rfl rfl ⟨fun hc => ?_, fun hc => ?_⟩
  · have H := H.1 hc
    refine g_iload rfl rfl rfl (pc' := 22) ?_
    exact g_ireturn rfl (Or.inl rfl) H
  · have H := H.2 hc
    refine g_iload rfl rfl rfl (pc' := 10) ?_
    refine g_iconst rfl rfl rfl (pc' := 11) ?_
    refine t_call hT (y := 161) (n := 2) (pc' := 14) rfl rfl (fun _ => rfl) rfl rfl ⟨(Nat.le_of_ble_eq_true rfl), (Nat.le_of_ble_eq_true rfl), (Nat.le_of_ble_eq_true rfl)⟩ rfl H (tI_elim (fun v2 h1 H hT => ?_))
    show gm_G _ 14 _ _ _ _
    refine g_istore rfl rfl rfl (pc' := 15) ?_
    refine g_iinc (c := (Int32.ofNat 1)) rfl rfl rfl rfl rfl (pc' := 18) ?_
    refine g_goto rfl (pc' := 4) rfl ?_
    exact g_weak (show gm_Lle [some _, some _, some _] _ from ⟨rfl, ⟨rfl, ⟨rfl, trivial⟩⟩⟩) H
theorem w_297_0 {m : Nat} {x1 : Int32} {x2 : Int32} {h : hh_T} {Q : Option Value ⊕ Nat → hh_T → Prop} (hT : tw_ok h m) (H : gm_G 297 2 [some (.ref m), none, some (.int x2), some (.int x1)] [] h Q) : gm_G 297 0 [some (.ref m), some (.int x1), some (.int x2)] [] h Q := by
  refine g_iload rfl rfl rfl (pc' := 1) ?_
  refine g_istore rfl rfl rfl (pc' := 2) ?_
  exact g_weak (show gm_Lle [some _, none, some _, some _] _ from ⟨rfl, ⟨rfl, ⟨rfl, trivial⟩⟩⟩) H
theorem w_297_2 {m : Nat} {x2 : Int32} {x3 : Int32} {h : hh_T} {Q : Option Value ⊕ Nat → hh_T → Prop} (hT : tw_ok h m) (H : ∃ n1, gm_ix (((Int32.ofNat 5) * x3) + x2) n1 160 ∧ ((¬ (hh_i h (m + 65) n1) < Int32.ofNat 0 → (∃ n2, gm_ix (((Int32.ofNat 5) * x3) + x2) n2 160 ∧ (Q (.inl (some (.int (hh_i h (m + 65) n2)))) h))) ∧ ((hh_i h (m + 65) n1) < Int32.ofNat 0 → (∃ n3, gm_ix x3 n3 32 ∧ ((¬ (hh_i h (m + 59) n3) = Int32.ofNat 0 → (∃ n4, gm_ix x3 n4 32 ∧ (gm_G 152 0 [some (.ref m), some (.int (hh_i h (m + 60) n4))] [] h (pI (fun v6 h5 => gm_G 297 2 [some (.ref m), none, some (.int x2), some (.int v6)] [] h5 Q) (fun _ _ => False))))) ∧ ((hh_i h (m + 59) n3) = Int32.ofNat 0 → ((¬ x2 = (Int32.ofNat 1) → (Q (.inl (some (.int (Int32.ofNat 0)))) h)) ∧ (x2 = (Int32.ofNat 1) → (Q (.inl (some (.int (Int32.ofNat 1)))) h))))))))) : gm_G 297 2 [some (.ref m), none, some (.int x2), some (.int x3)] [] h Q := by
  refine g_aload (r := some _) rfl rfl rfl (pc' := 3) ?_
  refine t_get (o := 65) rfl hT rfl rfl rfl (pc' := 6) rfl ?_
  refine g_iconst rfl rfl rfl (pc' := 7) ?_
  refine g_iload rfl rfl rfl (pc' := 8) ?_
  refine g_imul rfl rfl (pc' := 9) ?_
  refine g_iload rfl rfl rfl (pc' := 10) ?_
  refine g_iadd rfl rfl (pc' := 11) ?_
  obtain ⟨n1, hn1, H⟩ := H
  refine t_iaload hT (o := 65) (l := 160) rfl rfl rfl hn1 (pc' := 12) rfl ?_
  refine g_if_ge rfl (pc' := 15) (pt := 49) rfl rfl ⟨fun hc => ?_, fun hc => ?_⟩
  · have H := H.1 hc
    refine g_aload (r := some _) rfl rfl rfl (pc' := 50) ?_
    refine t_get (o := 65) rfl hT rfl rfl rfl (pc' := 53) rfl ?_
    refine g_iconst rfl rfl rfl (pc' := 54) ?_
    refine g_iload rfl rfl rfl (pc' := 55) ?_
    refine g_imul rfl rfl (pc' := 56) ?_
    refine g_iload rfl rfl rfl (pc' := 57) ?_
    refine g_iadd rfl rfl (pc' := 58) ?_
    obtain ⟨n2, hn2, H⟩ := H
    refine t_iaload hT (o := 65) (l := 160) rfl rfl rfl hn2 (pc' := 59) rfl ?_
    exact g_ireturn rfl (Or.inl rfl) H
  · have H := H.2 hc
    refine g_aload (r := some _) rfl rfl rfl (pc' := 16) ?_
    refine t_get (o := 59) rfl hT rfl rfl rfl (pc' := 19) rfl ?_
    refine g_iload rfl rfl rfl (pc' := 20) ?_
    obtain ⟨n3, hn3, H⟩ := H
    refine t_iaload hT (o := 59) (l := 32) rfl rfl rfl hn3 (pc' := 21) rfl ?_
    refine g_if_ne rfl (pc' := 24) (pt := 35) rfl rfl ⟨fun hc => ?_, fun hc => ?_⟩
    · have H := H.1 hc
      refine g_aload (r := some _) rfl rfl rfl (pc' := 36) ?_
      refine g_aload (r := some _) rfl rfl rfl (pc' := 37) ?_
      refine t_get (o := 60) rfl hT rfl rfl rfl (pc' := 40) rfl ?_
      refine g_iload rfl rfl rfl (pc' := 41) ?_
      obtain ⟨n4, hn4, H⟩ := H
      refine t_iaload hT (o := 60) (l := 32) rfl rfl rfl hn4 (pc' := 42) rfl ?_
      refine t_call hT (y := 152) (n := 2) (pc' := 45) rfl rfl (t_vt hT rfl rfl) rfl rfl ⟨(Nat.le_of_ble_eq_true rfl), (Nat.le_of_ble_eq_true rfl), (Nat.le_of_ble_eq_true rfl)⟩ rfl H (tI_elim (fun v6 h5 H hT => ?_))
      show gm_G _ 45 _ _ _ _
      refine g_istore rfl rfl rfl (pc' := 46) ?_
      refine g_goto rfl (pc' := 2) rfl ?_
      exact g_weak (show gm_Lle [some _, none, some _, some _] _ from ⟨rfl, ⟨rfl, ⟨rfl, trivial⟩⟩⟩) H
    · have H := H.2 hc
      refine g_iload rfl rfl rfl (pc' := 25) ?_
      refine g_iconst rfl rfl rfl (pc' := 26) ?_
      refine g_ic_ne rfl (pc' := 29) (pt := 33) rfl rfl ⟨fun hc => ?_, fun hc => ?_⟩
      · have H := H.1 hc
        refine g_iconst rfl rfl rfl (pc' := 34) ?_
        exact g_ireturn rfl (Or.inl rfl) H
      · have H := H.2 hc
        refine g_iconst rfl rfl rfl (pc' := 30) ?_
        refine g_goto rfl (pc' := 34) rfl ?_
        exact g_ireturn rfl (Or.inl rfl) H
theorem w_298_0 {m : Nat} {j1 : Int64} {x3 : Int32} {h : hh_T} {Q : Option Value ⊕ Nat → hh_T → Prop} (hT : tw_ok h m) (H : gm_G 298 5 [some (.ref m), some (.long j1), none, none, some (.int (x3 - (Int32.ofNat 1)))] [] h Q) : gm_G 298 0 [some (.ref m), some (.long j1), none, some (.int x3)] [] h Q := by
  refine g_iload rfl rfl rfl (pc' := 1) ?_
  refine g_iconst rfl rfl rfl (pc' := 2) ?_
  refine g_isub rfl rfl (pc' := 3) ?_
  refine g_istore rfl rfl rfl (pc' := 5) ?_
  exact g_weak (show gm_Lle [some _, some _, none, none, some _] _ from ⟨rfl, ⟨rfl, ⟨rfl, trivial⟩⟩⟩) H
theorem w_298_5 {m : Nat} {j1 : Int64} {x4 : Int32} {h : hh_T} {Q : Option Value ⊕ Nat → hh_T → Prop} (hT : tw_ok h m) (H : (x4 < Int32.ofNat 0 → (Q (.inl none) h)) ∧ (¬ x4 < Int32.ofNat 0 → (gm_G 146 0 [some (.ref m), some (.int ((j1 >>> (((Int32.ofNat 8) * x4).toInt64 &&& 63)).toInt32))] [] h (pV (fun h1 => gm_G 298 5 [some (.ref m), some (.long j1), none, none, some (.int (x4 + (Int32.ofInt (-1))))] [] h1 Q) (fun _ _ => False))))) : gm_G 298 5 [some (.ref m), some (.long j1), none, none, some (.int x4)] [] h Q := by
  refine g_iload rfl rfl rfl (pc' := 7) ?_
  refine g_if_lt rfl (pc' := 10) (pt := 28) rfl rfl ⟨fun hc => ?_, fun hc => ?_⟩
  · have H := H.1 hc
    exact g_return rfl H
  · have H := H.2 hc
    refine g_aload (r := some _) rfl rfl rfl (pc' := 11) ?_
    refine g_lload rfl rfl rfl (pc' := 12) ?_
    refine g_iconst rfl rfl rfl (pc' := 14) ?_
    refine g_iload rfl rfl rfl (pc' := 16) ?_
    refine g_imul rfl rfl (pc' := 17) ?_
    refine g_lshr rfl rfl (pc' := 18) ?_
    refine g_l2i rfl rfl (pc' := 19) ?_
    refine t_call hT (y := 146) (n := 2) (pc' := 22) rfl rfl (t_vt hT rfl rfl) rfl rfl ⟨(Nat.le_of_ble_eq_true rfl), (Nat.le_of_ble_eq_true rfl), (Nat.le_of_ble_eq_true rfl)⟩ rfl H (tV_elim (fun h1 H hT => ?_))
    show gm_G _ 22 _ _ _ _
    refine g_iinc (c := (Int32.ofInt (-1))) rfl rfl rfl rfl rfl (pc' := 25) ?_
    refine g_goto rfl (pc' := 5) rfl ?_
    exact g_weak (show gm_Lle [some _, some _, none, none, some _] _ from ⟨rfl, ⟨rfl, ⟨rfl, trivial⟩⟩⟩) H
theorem w_299_0 {m : Nat} {x1 : Int32} {x2 : Int32} {h : hh_T} {Q : Option Value ⊕ Nat → hh_T → Prop} (hT : tw_ok h m) (H : gm_G 299 2 [some (.ref m), some (.int x1), some (.int x2), some (.int (Int32.ofNat 0))] [] h Q) : gm_G 299 0 [some (.ref m), some (.int x1), some (.int x2)] [] h Q := by
  refine g_iconst rfl rfl rfl (pc' := 1) ?_
  refine g_istore rfl rfl rfl (pc' := 2) ?_
  exact g_weak (show gm_Lle [some _, some _, some _, some _] _ from ⟨rfl, ⟨rfl, ⟨rfl, ⟨rfl, trivial⟩⟩⟩⟩) H
theorem w_299_2 {m : Nat} {x1 : Int32} {x2 : Int32} {x3 : Int32} {h : hh_T} {Q : Option Value ⊕ Nat → hh_T → Prop} (hT : tw_ok h m) (H : ∃ n1, gm_ix x1 n1 1536 ∧ ((¬ x3 < (hh_i h (m + 45) n1) → (Q (.inl (some (.int (Int32.ofInt (-1))))) h)) ∧ (x3 < (hh_i h (m + 45) n1) → (gm_G 299 18 [some (.ref m), some (.int x1), some (.int x2), some (.int x3), some (.int (Int32.ofNat 0)), some (.int (Int32.ofNat 0))] [] h Q)))) : gm_G 299 2 [some (.ref m), some (.int x1), some (.int x2), some (.int x3)] [] h Q := by
  refine g_iload rfl rfl rfl (pc' := 3) ?_
  refine g_aload (r := some _) rfl rfl rfl (pc' := 4) ?_
  refine t_get (o := 45) rfl hT rfl rfl rfl (pc' := 7) rfl ?_
  refine g_iload rfl rfl rfl (pc' := 8) ?_
  obtain ⟨n1, hn1, H⟩ := H
  refine t_iaload hT (o := 45) (l := 1536) rfl rfl rfl hn1 (pc' := 9) rfl ?_
  refine g_ic_ge rfl (pc' := 12) (pt := 79) rfl rfl ⟨fun hc => ?_, fun hc => ?_⟩
  · have H := H.1 hc
    refine g_iconst rfl rfl rfl (pc' := 80) ?_
    exact g_ireturn rfl (Or.inl rfl) H
  · have H := H.2 hc
    refine g_iconst rfl rfl rfl (pc' := 13) ?_
    refine g_istore rfl rfl rfl (pc' := 15) ?_
    refine g_iconst rfl rfl rfl (pc' := 16) ?_
    refine g_istore rfl rfl rfl (pc' := 18) ?_
    exact g_weak (show gm_Lle [some _, some _, some _, some _, some _, some _] _ from ⟨rfl, ⟨rfl, ⟨rfl, ⟨rfl, ⟨rfl, ⟨rfl, trivial⟩⟩⟩⟩⟩⟩) H
theorem w_299_18 {m : Nat} {x1 : Int32} {x2 : Int32} {x3 : Int32} {x4 : Int32} {x5 : Int32} {h : hh_T} {Q : Option Value ⊕ Nat → hh_T → Prop} (hT : tw_ok h m) (H : ∃ n1, gm_ix x1 n1 1536 ∧ ((¬ x5 < (hh_i h (m + 45) n1) → ((¬ x4 = x2 → (gm_G 299 2 [some (.ref m), some (.int x1), some (.int x2), some (.int (x3 + (Int32.ofNat 1)))] [] h Q)) ∧ (x4 = x2 → (Q (.inl (some (.int x3))) h)))) ∧ (x5 < (hh_i h (m + 45) n1) → (gm_G 117 0 [some (.ref m), some (.int (((Int32.ofNat 8) * x1) + x5)), some (.int (((Int32.ofNat 8) * x1) + x3))] [] h (pI (fun v3 h2 => (v3 = Int32.ofNat 0 → (gm_G 299 56 [some (.ref m), some (.int x1), some (.int x2), some (.int x3), none, some (.int x5)] [.int (Int32.ofNat 0), .int x4] h2 Q)) ∧ (¬ v3 = Int32.ofNat 0 → (gm_G 299 56 [some (.ref m), some (.int x1), some (.int x2), some (.int x3), none, some (.int x5)] [.int (Int32.ofNat 1), .int x4] h2 Q))) (fun _ _ => False)))))) : gm_G 299 18 [some (.ref m), some (.int x1), some (.int x2), some (.int x3), some (.int x4), some (.int x5)] [] h Q := by
  refine g_iload rfl rfl rfl (pc' := 20) ?_
  refine g_aload (r := some _) rfl rfl rfl (pc' := 21) ?_
  refine t_get (o := 45) rfl hT rfl rfl rfl (pc' := 24) rfl ?_
  refine g_iload rfl rfl rfl (pc' := 25) ?_
  obtain ⟨n1, hn1, H⟩ := H
  refine t_iaload hT (o := 45) (l := 1536) rfl rfl rfl hn1 (pc' := 26) rfl ?_
  refine g_ic_ge rfl (pc' := 29) (pt := 65) rfl rfl ⟨fun hc => ?_, fun hc => ?_⟩
  · have H := H.1 hc
    refine g_iload rfl rfl rfl (pc' := 67) ?_
    refine g_iload rfl rfl rfl (pc' := 68) ?_
    refine g_ic_ne rfl (pc' := 71) (pt := 73) rfl rfl ⟨fun hc => ?_, fun hc => ?_⟩
    · have H := H.1 hc
      refine g_iinc (c := (Int32.ofNat 1)) rfl rfl rfl rfl rfl (pc' := 76) ?_
      refine g_goto rfl (pc' := 2) rfl ?_
      exact g_weak (show gm_Lle [some _, some _, some _, some _] _ from ⟨rfl, ⟨rfl, ⟨rfl, ⟨rfl, trivial⟩⟩⟩⟩) H
    · have H := H.2 hc
      refine g_iload rfl rfl rfl (pc' := 72) ?_
      exact g_ireturn rfl (Or.inl rfl) H
  · have H := H.2 hc
    refine g_iload rfl rfl rfl (pc' := 31) ?_
    refine g_aload (r := some _) rfl rfl rfl (pc' := 32) ?_
    refine g_iconst rfl rfl rfl (pc' := 34) ?_
    refine g_iload rfl rfl rfl (pc' := 35) ?_
    refine g_imul rfl rfl (pc' := 36) ?_
    refine g_iload rfl rfl rfl (pc' := 38) ?_
    refine g_iadd rfl rfl (pc' := 39) ?_
    refine g_iconst rfl rfl rfl (pc' := 41) ?_
    refine g_iload rfl rfl rfl (pc' := 42) ?_
    refine g_imul rfl rfl (pc' := 43) ?_
    refine g_iload rfl rfl rfl (pc' := 44) ?_
    refine g_iadd rfl rfl (pc' := 45) ?_
    refine t_call hT (y := 117) (n := 3) (pc' := 48) rfl rfl (t_vt hT rfl rfl) rfl rfl ⟨(Nat.le_of_ble_eq_true rfl), (Nat.le_of_ble_eq_true rfl), (Nat.le_of_ble_eq_true rfl)⟩ rfl H (tI_elim (fun v3 h2 H hT => ?_))
    show gm_G _ 48 _ _ _ _
    refine g_if_eq rfl (pc' := 51) (pt := 55) rfl rfl ⟨fun hc => ?_, fun hc => ?_⟩
    · have H := H.1 hc
      refine g_iconst rfl rfl rfl (pc' := 56) ?_
      exact g_weak (show gm_Lle [some _, some _, some _, some _, none, some _] _ from ⟨rfl, ⟨rfl, ⟨rfl, ⟨rfl, ⟨rfl, trivial⟩⟩⟩⟩⟩) H
    · have H := H.2 hc
      refine g_iconst rfl rfl rfl (pc' := 52) ?_
      refine g_goto rfl (pc' := 56) rfl ?_
      exact g_weak (show gm_Lle [some _, some _, some _, some _, none, some _] _ from ⟨rfl, ⟨rfl, ⟨rfl, ⟨rfl, ⟨rfl, trivial⟩⟩⟩⟩⟩) H
theorem w_299_56 {m : Nat} {x1 : Int32} {x2 : Int32} {x3 : Int32} {x5 : Int32} {y0 : Int32} {y1 : Int32} {h : hh_T} {Q : Option Value ⊕ Nat → hh_T → Prop} (hT : tw_ok h m) (H : gm_G 299 18 [some (.ref m), some (.int x1), some (.int x2), some (.int x3), some (.int (y1 + y0)), some (.int (x5 + (Int32.ofNat 1)))] [] h Q) : gm_G 299 56 [some (.ref m), some (.int x1), some (.int x2), some (.int x3), none, some (.int x5)] [.int y0, .int y1] h Q := by
  refine g_iadd rfl rfl (pc' := 57) ?_
  refine g_istore rfl rfl rfl (pc' := 59) ?_
  refine g_iinc (c := (Int32.ofNat 1)) rfl rfl rfl rfl rfl (pc' := 62) ?_
  refine g_goto rfl (pc' := 18) rfl ?_
  exact g_weak (show gm_Lle [some _, some _, some _, some _, some _, some _] _ from ⟨rfl, ⟨rfl, ⟨rfl, ⟨rfl, ⟨rfl, ⟨rfl, trivial⟩⟩⟩⟩⟩⟩) H
theorem w_300_0 {m : Nat} {x1 : Int32} {h : hh_T} {Q : Option Value ⊕ Nat → hh_T → Prop} (hT : tw_ok h m) (H : ((hh_i h m 77) = Int32.ofNat 0 → (gm_G 300 17 [some (.ref m), some (.int x1)] [.int (Int32.ofNat 0)] h Q)) ∧ (¬ (hh_i h m 77) = Int32.ofNat 0 → (gm_G 148 0 [some (.ref m), some (.int (Int32.ofNat 0)), some (.int x1)] [] h (pI (fun v2 h1 => gm_G 300 17 [some (.ref m), some (.int x1)] [.int v2] h1 Q) (fun _ _ => False))))) : gm_G 300 0 [some (.ref m), some (.int x1)] [] h Q := by
  refine g_aload (r := some _) rfl rfl rfl (pc' := 1) ?_
  refine t_getZ rfl hT rfl rfl (pc' := 4) rfl ?_
  refine g_if_eq rfl (pc' := 7) (pt := 16) rfl rfl ⟨fun hc => ?_, fun hc => ?_⟩
  · have H := H.1 hc
    refine g_iconst rfl rfl rfl (pc' := 17) ?_
    exact g_weak (show gm_Lle [some _, some _] _ from ⟨rfl, ⟨rfl, trivial⟩⟩) H
  · have H := H.2 hc
    refine g_aload (r := some _) rfl rfl rfl (pc' := 8) ?_
    refine g_iconst rfl rfl rfl (pc' := 9) ?_
    refine g_iload rfl rfl rfl (pc' := 10) ?_
    refine t_call hT (y := 148) (n := 3) (pc' := 13) rfl rfl (t_vt hT rfl rfl) rfl rfl ⟨(Nat.le_of_ble_eq_true rfl), (Nat.le_of_ble_eq_true rfl), (Nat.le_of_ble_eq_true rfl)⟩ rfl H (tI_elim (fun v2 h1 H hT => ?_))
    show gm_G _ 13 _ _ _ _
    refine g_goto rfl (pc' := 17) rfl ?_
    exact g_weak (show gm_Lle [some _, some _] _ from ⟨rfl, ⟨rfl, trivial⟩⟩) H
theorem w_300_17 {m : Nat} {x1 : Int32} {y0 : Int32} {h : hh_T} {Q : Option Value ⊕ Nat → hh_T → Prop} (hT : tw_ok h m) (H : gm_G 300 20 [some (.ref m), some (.int x1), some (.int y0), some (.int (Int32.ofNat 0))] [] h Q) : gm_G 300 17 [some (.ref m), some (.int x1)] [.int y0] h Q := by
  refine g_istore rfl rfl rfl (pc' := 18) ?_
  refine g_iconst rfl rfl rfl (pc' := 19) ?_
  refine g_istore rfl rfl rfl (pc' := 20) ?_
  exact g_weak (show gm_Lle [some _, some _, some _, some _] _ from ⟨rfl, ⟨rfl, ⟨rfl, ⟨rfl, trivial⟩⟩⟩⟩) H
theorem w_300_20 {m : Nat} {x1 : Int32} {x2 : Int32} {x3 : Int32} {h : hh_T} {Q : Option Value ⊕ Nat → hh_T → Prop} (hT : tw_ok h m) (H : (¬ x3 < (hh_i h m 99) → (Q (.inl (some (.int x2))) h)) ∧ (x3 < (hh_i h m 99) → (∃ n1, gm_ix x3 n1 3 ∧ (gm_G 148 0 [some (.ref m), some (.int (hh_i h (m + 78) n1)), some (.int x1)] [] h (pI (fun v3 h2 => gm_G 300 20 [some (.ref m), some (.int x1), some (.int (x2 + v3)), some (.int (x3 + (Int32.ofNat 1)))] [] h2 Q) (fun _ _ => False)))))) : gm_G 300 20 [some (.ref m), some (.int x1), some (.int x2), some (.int x3)] [] h Q := by
  refine g_iload rfl rfl rfl (pc' := 21) ?_
  refine g_aload (r := some _) rfl rfl rfl (pc' := 22) ?_
  refine t_getI rfl hT rfl rfl (pc' := 25) rfl ?_
  refine g_ic_ge rfl (pc' := 28) (pt := 48) rfl rfl ⟨fun hc => ?_, fun hc => ?_⟩
  · have H := H.1 hc
    refine g_iload rfl rfl rfl (pc' := 49) ?_
    exact g_ireturn rfl (Or.inl rfl) H
  · have H := H.2 hc
    refine g_iload rfl rfl rfl (pc' := 29) ?_
    refine g_aload (r := some _) rfl rfl rfl (pc' := 30) ?_
    refine g_aload (r := some _) rfl rfl rfl (pc' := 31) ?_
    refine t_get (o := 78) rfl hT rfl rfl rfl (pc' := 34) rfl ?_
    refine g_iload rfl rfl rfl (pc' := 35) ?_
    obtain ⟨n1, hn1, H⟩ := H
    refine t_iaload hT (o := 78) (l := 3) rfl rfl rfl hn1 (pc' := 36) rfl ?_
    refine g_iload rfl rfl rfl (pc' := 37) ?_
    refine t_call hT (y := 148) (n := 3) (pc' := 40) rfl rfl (t_vt hT rfl rfl) rfl rfl ⟨(Nat.le_of_ble_eq_true rfl), (Nat.le_of_ble_eq_true rfl), (Nat.le_of_ble_eq_true rfl)⟩ rfl H (tI_elim (fun v3 h2 H hT => ?_))
    show gm_G _ 40 _ _ _ _
    refine g_iadd rfl rfl (pc' := 41) ?_
    refine g_istore rfl rfl rfl (pc' := 42) ?_
    refine g_iinc (c := (Int32.ofNat 1)) rfl rfl rfl rfl rfl (pc' := 45) ?_
    refine g_goto rfl (pc' := 20) rfl ?_
    exact g_weak (show gm_Lle [some _, some _, some _, some _] _ from ⟨rfl, ⟨rfl, ⟨rfl, ⟨rfl, trivial⟩⟩⟩⟩) H
theorem w_301_0 {m : Nat} {x1 : Int32} {x2 : Int32} {h : hh_T} {Q : Option Value ⊕ Nat → hh_T → Prop} (hT : tw_ok h m) (H : (¬ (hh_i h m 77) = Int32.ofNat 0 → (gm_G 135 0 [some (.ref m), some (.int x1)] [] h (pI (fun v2 h1 => (¬ v2 = Int32.ofNat 0 → (Q (.inl (some (.int (Int32.ofInt (-1))))) h1)) ∧ (v2 = Int32.ofNat 0 → (gm_G 135 0 [some (.ref m), some (.int x2)] [] h1 (pI (fun v4 h3 => (v4 = Int32.ofNat 0 → (∃ n5, gm_ix x1 n5 8 ∧ ((¬ (hh_i h3 (m + 5) n5) < Int32.ofNat 0 → (∃ n6, gm_ix x2 n6 8 ∧ ((¬ (hh_i h3 (m + 7) n6) = Int32.ofNat 0 → (Q (.inl (some (.int (Int32.ofInt (-5))))) h3)) ∧ ((hh_i h3 (m + 7) n6) = Int32.ofNat 0 → (∃ n7, gm_ix x2 n7 8 ∧ ((¬ (hh_i h3 (m + 5) n7) < Int32.ofNat 0 → (Q (.inl (some (.int (Int32.ofInt (-5))))) h3)) ∧ ((hh_i h3 (m + 5) n7) < Int32.ofNat 0 → (∃ n8, gm_ix x2 n8 8 ∧ (∃ n9, gm_ix (hh_i h3 (m + 5) n5) n9 3 ∧ ((¬ (hh_i h3 (m + 4) n8) < (hh_i h3 (m + 14) n9) → (gm_G 301 81 [some (.ref m), some (.int x1), some (.int x2), some (.int (hh_i h3 (m + 5) n5)), some (.int (Int32.ofNat 0))] [] h3 Q)) ∧ ((hh_i h3 (m + 4) n8) < (hh_i h3 (m + 14) n9) → (Q (.inl (some (.int (Int32.ofInt (-5))))) h3)))))))))))) ∧ ((hh_i h3 (m + 5) n5) < Int32.ofNat 0 → (Q (.inl (some (.int (Int32.ofInt (-10))))) h3))))) ∧ (¬ v4 = Int32.ofNat 0 → (Q (.inl (some (.int (Int32.ofInt (-1))))) h3))) (fun _ _ => False))))) (fun _ _ => False)))) ∧ ((hh_i h m 77) = Int32.ofNat 0 → (Q (.inl (some (.int (Int32.ofInt (-9))))) h))) : gm_G 301 0 [some (.ref m), some (.int x1), some (.int x2)] [] h Q := by
  refine g_aload (r := some _) rfl rfl rfl (pc' := 1) ?_
  refine t_getZ rfl hT rfl rfl (pc' := 4) rfl ?_
  refine g_if_ne rfl (pc' := 7) (pt := 10) rfl rfl ⟨fun hc => ?_, fun hc => ?_⟩
  · have H := H.1 hc
    refine g_aload (r := some _) rfl rfl rfl (pc' := 11) ?_
    refine g_iload rfl rfl rfl (pc' := 12) ?_
    refine t_call hT (y := 135) (n := 2) (pc' := 15) rfl rfl (t_vt hT rfl rfl) rfl rfl ⟨(Nat.le_of_ble_eq_true rfl), (Nat.le_of_ble_eq_true rfl), (Nat.le_of_ble_eq_true rfl)⟩ rfl H (tI_elim (fun v2 h1 H hT => ?_))
    show gm_G _ 15 _ _ _ _
    refine g_if_ne rfl (pc' := 18) (pt := 26) rfl rfl ⟨fun hc => ?_, fun hc => ?_⟩
    · have H := H.1 hc
      refine g_iconst rfl rfl rfl (pc' := 27) ?_
      exact g_ireturn rfl (Or.inl rfl) H
    · have H := H.2 hc
      refine g_aload (r := some _) rfl rfl rfl (pc' := 19) ?_
      refine g_iload rfl rfl rfl (pc' := 20) ?_
      refine t_call hT (y := 135) (n := 2) (pc' := 23) rfl rfl (t_vt hT rfl rfl) rfl rfl ⟨(Nat.le_of_ble_eq_true rfl), (Nat.le_of_ble_eq_true rfl), (Nat.le_of_ble_eq_true rfl)⟩ rfl H (tI_elim (fun v4 h3 H hT => ?_))
      show gm_G _ 23 _ _ _ _
      refine g_if_eq rfl (pc' := 26) (pt := 28) rfl rfl ⟨fun hc => ?_, fun hc => ?_⟩
      · have H := H.1 hc
        refine g_aload (r := some _) rfl rfl rfl (pc' := 29) ?_
        refine t_get (o := 5) rfl hT rfl rfl rfl (pc' := 32) rfl ?_
        refine g_iload rfl rfl rfl (pc' := 33) ?_
        obtain ⟨n5, hn5, H⟩ := H
        refine t_iaload hT (o := 5) (l := 8) rfl rfl rfl hn5 (pc' := 34) rfl ?_
        refine g_istore rfl rfl rfl (pc' := 35) ?_
        refine g_iload rfl rfl rfl (pc' := 36) ?_
        refine g_if_ge rfl (pc' := 39) (pt := 42) rfl rfl ⟨fun hc => ?_, fun hc => ?_⟩
        · have H := H.1 hc
          refine g_aload (r := some _) rfl rfl rfl (pc' := 43) ?_
          refine t_get (o := 7) rfl hT rfl rfl rfl (pc' := 46) rfl ?_
          refine g_iload rfl rfl rfl (pc' := 47) ?_
          obtain ⟨n6, hn6, H⟩ := H
          refine t_zaload hT (o := 7) (l := 8) rfl rfl rfl hn6 (pc' := 48) rfl ?_
          refine g_if_ne rfl (pc' := 51) (pt := 75) rfl rfl ⟨fun hc => ?_, fun hc => ?_⟩
          · have H := H.1 hc
            refine g_iconst rfl rfl rfl (pc' := 77) ?_
            exact g_ireturn rfl (Or.inl rfl) H
          · have H := H.2 hc
            refine g_aload (r := some _) rfl rfl rfl (pc' := 52) ?_
            refine t_get (o := 5) rfl hT rfl rfl rfl (pc' := 55) rfl ?_
            refine g_iload rfl rfl rfl (pc' := 56) ?_
            obtain ⟨n7, hn7, H⟩ := H
            refine t_iaload hT (o := 5) (l := 8) rfl rfl rfl hn7 (pc' := 57) rfl ?_
            refine g_if_ge rfl (pc' := 60) (pt := 75) rfl rfl ⟨fun hc => ?_, fun hc => ?_⟩
            · have H := H.1 hc
              refine g_iconst rfl rfl rfl (pc' := 77) ?_
              exact g_ireturn rfl (Or.inl rfl) H
            · have H := H.2 hc
              refine g_aload (r := some _) rfl rfl rfl (pc' := 61) ?_
              refine t_get (o := 4) rfl hT rfl rfl rfl (pc' := 64) rfl ?_
              refine g_iload rfl rfl rfl (pc' := 65) ?_
              obtain ⟨n8, hn8, H⟩ := H
              refine t_iaload hT (o := 4) (l := 8) rfl rfl rfl hn8 (pc' := 66) rfl ?_
              refine g_aload (r := some _) rfl rfl rfl (pc' := 67) ?_
              refine t_get (o := 14) rfl hT rfl rfl rfl (pc' := 70) rfl ?_
              refine g_iload rfl rfl rfl (pc' := 71) ?_
              obtain ⟨n9, hn9, H⟩ := H
              refine t_iaload hT (o := 14) (l := 3) rfl rfl rfl hn9 (pc' := 72) rfl ?_
              refine g_ic_ge rfl (pc' := 75) (pt := 78) rfl rfl ⟨fun hc => ?_, fun hc => ?_⟩
              · have H := H.1 hc
                refine g_iconst rfl rfl rfl (pc' := 79) ?_
                refine g_istore rfl rfl rfl (pc' := 81) ?_
                exact g_weak (show gm_Lle [some _, some _, some _, some _, some _] _ from ⟨rfl, ⟨rfl, ⟨rfl, ⟨rfl, ⟨rfl, trivial⟩⟩⟩⟩⟩) H
              · have H := H.2 hc
                refine g_iconst rfl rfl rfl (pc' := 77) ?_
                exact g_ireturn rfl (Or.inl rfl) H
        · have H := H.2 hc
          refine g_iconst rfl rfl rfl (pc' := 41) ?_
          exact g_ireturn rfl (Or.inl rfl) H
      · have H := H.2 hc
        refine g_iconst rfl rfl rfl (pc' := 27) ?_
        exact g_ireturn rfl (Or.inl rfl) H
  · have H := H.2 hc
    refine g_iconst rfl rfl rfl (pc' := 9) ?_
    exact g_ireturn rfl (Or.inl rfl) H
theorem w_301_81 {m : Nat} {x1 : Int32} {x2 : Int32} {x3 : Int32} {x4 : Int32} {h : hh_T} {Q : Option Value ⊕ Nat → hh_T → Prop} (hT : tw_ok h m) (H : ∃ n1, gm_ix x3 n1 3 ∧ ((¬ x4 < (hh_i h (m + 13) n1) → (∃ n2, gm_ix x2 n2 8 ∧ (∀ h3, h3 = hh_wi h (m + 5) n2 x3 → (∃ n4, gm_ix x1 n4 8 ∧ (∀ h5, h5 = hh_wi h3 (m + 5) n4 (Int32.ofInt (-1)) → (gm_G 131 0 [some (.ref m), some (.int x3), some (.int x2)] [] h5 (pV (fun h6 => Q (.inl (some (.int x3))) h6) (fun _ _ => False)))))))) ∧ (x4 < (hh_i h (m + 13) n1) → (∃ n7, gm_ix (((Int32.ofNat 6) * x3) + x4) n7 18 ∧ ((¬ (hh_i h (m + 15) n7) = x1 → (gm_G 301 121 [some (.ref m), some (.int x1), some (.int x2), some (.int x3), some (.int x4)] [] h Q)) ∧ ((hh_i h (m + 15) n7) = x1 → (∃ n8, gm_ix (((Int32.ofNat 6) * x3) + x4) n8 18 ∧ (∀ h9, h9 = hh_wi h (m + 15) n8 x2 → (gm_G 301 121 [some (.ref m), some (.int x1), some (.int x2), some (.int x3), some (.int x4)] [] h9 Q))))))))) : gm_G 301 81 [some (.ref m), some (.int x1), some (.int x2), some (.int x3), some (.int x4)] [] h Q := by
  refine g_iload rfl rfl rfl (pc' := 83) ?_
  refine g_aload (r := some _) rfl rfl rfl (pc' := 84) ?_
  refine t_get (o := 13) rfl hT rfl rfl rfl (pc' := 87) rfl ?_
  refine g_iload rfl rfl rfl (pc' := 88) ?_
  obtain ⟨n1, hn1, H⟩ := H
  refine t_iaload hT (o := 13) (l := 3) rfl rfl rfl hn1 (pc' := 89) rfl ?_
  refine g_ic_ge rfl (pc' := 92) (pt := 127) rfl rfl ⟨fun hc => ?_, fun hc => ?_⟩
  · have H := H.1 hc
    refine g_aload (r := some _) rfl rfl rfl (pc' := 128) ?_
    refine t_get (o := 5) rfl hT rfl rfl rfl (pc' := 131) rfl ?_
    refine g_iload rfl rfl rfl (pc' := 132) ?_
    refine g_iload rfl rfl rfl (pc' := 133) ?_
    obtain ⟨n2, hn2, H⟩ := H
    refine t_iastore hT (o := 5) (l := 8) rfl rfl rfl hn2  (pc' := 134) rfl (fun hT => ?_)
    have H := H _ rfl
    refine g_aload (r := some _) rfl rfl rfl (pc' := 135) ?_
    refine t_get (o := 5) rfl hT rfl rfl rfl (pc' := 138) rfl ?_
    refine g_iload rfl rfl rfl (pc' := 139) ?_
    refine g_iconst rfl rfl rfl (pc' := 140) ?_
    obtain ⟨n4, hn4, H⟩ := H
    refine t_iastore hT (o := 5) (l := 8) rfl rfl rfl hn4  (pc' := 141) rfl (fun hT => ?_)
    have H := H _ rfl
    refine g_aload (r := some _) rfl rfl rfl (pc' := 142) ?_
    refine g_iload rfl rfl rfl (pc' := 143) ?_
    refine g_iload rfl rfl rfl (pc' := 144) ?_
    refine t_call hT (y := 131) (n := 3) (pc' := 147) rfl rfl (t_vt hT rfl rfl) rfl rfl ⟨(Nat.le_of_ble_eq_true rfl), (Nat.le_of_ble_eq_true rfl), (Nat.le_of_ble_eq_true rfl)⟩ rfl H (tV_elim (fun h6 H hT => ?_))
    show gm_G _ 147 _ _ _ _
    refine g_iload rfl rfl rfl (pc' := 148) ?_
    exact g_ireturn rfl (Or.inl rfl) H
  · have H := H.2 hc
    refine g_aload (r := some _) rfl rfl rfl (pc' := 93) ?_
    refine t_get (o := 15) rfl hT rfl rfl rfl (pc' := 96) rfl ?_
    refine g_iconst rfl rfl rfl (pc' := 98) ?_
    refine g_iload rfl rfl rfl (pc' := 99) ?_
    refine g_imul rfl rfl (pc' := 100) ?_
    refine g_iload rfl rfl rfl (pc' := 102) ?_
    refine g_iadd rfl rfl (pc' := 103) ?_
    obtain ⟨n7, hn7, H⟩ := H
    refine t_iaload hT (o := 15) (l := 18) rfl rfl rfl hn7 (pc' := 104) rfl ?_
    refine g_iload rfl rfl rfl (pc' := 105) ?_
    refine g_ic_ne rfl (pc' := 108) (pt := 121) rfl rfl ⟨fun hc => ?_, fun hc => ?_⟩
    · have H := H.1 hc
      exact g_weak (show gm_Lle [some _, some _, some _, some _, some _] _ from ⟨rfl, ⟨rfl, ⟨rfl, ⟨rfl, ⟨rfl, trivial⟩⟩⟩⟩⟩) H
    · have H := H.2 hc
      refine g_aload (r := some _) rfl rfl rfl (pc' := 109) ?_
      refine t_get (o := 15) rfl hT rfl rfl rfl (pc' := 112) rfl ?_
      refine g_iconst rfl rfl rfl (pc' := 114) ?_
      refine g_iload rfl rfl rfl (pc' := 115) ?_
      refine g_imul rfl rfl (pc' := 116) ?_
      refine g_iload rfl rfl rfl (pc' := 118) ?_
      refine g_iadd rfl rfl (pc' := 119) ?_
      refine g_iload rfl rfl rfl (pc' := 120) ?_
      obtain ⟨n8, hn8, H⟩ := H
      refine t_iastore hT (o := 15) (l := 18) rfl rfl rfl hn8  (pc' := 121) rfl (fun hT => ?_)
      have H := H _ rfl
      exact g_weak (show gm_Lle [some _, some _, some _, some _, some _] _ from ⟨rfl, ⟨rfl, ⟨rfl, ⟨rfl, ⟨rfl, trivial⟩⟩⟩⟩⟩) H
