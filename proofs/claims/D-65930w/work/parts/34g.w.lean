/-! STAGE 2, 5: the twin, label by label (printed) -/
theorem w_514_154 {m : Nat} {x2 : Int32} {x3 : Int32} {x4 : Int32} {x5 : Int32} {x8 : Int32} {x9 : Int32} {h : hh_T} {Q : Option Value ⊕ Nat → hh_T → Prop} (hT : tw_ok h m) (H : (¬ x3 < (Int32.ofNat 2) → (gm_G 514 173 [some (.ref m), none, some (.int x2), some (.int x3), some (.int x4), some (.int x5), none, none, some (.int x8)] [] h Q)) ∧ (x3 < (Int32.ofNat 2) → (∃ n1, gm_ix x9 n1 1536 ∧ ((¬ (hh_i h (m + 49) n1) = (Int32.ofNat 4) → (gm_G 514 173 [some (.ref m), none, some (.int x2), some (.int x3), some (.int x4), some (.int x5), none, none, some (.int x8)] [] h Q)) ∧ ((hh_i h (m + 49) n1) = (Int32.ofNat 4) → (Q (.inl (some (.int (Int32.ofInt (-3))))) h)))))) : gm_G 514 154 [some (.ref m), none, some (.int x2), some (.int x3), some (.int x4), some (.int x5), none, none, some (.int x8), some (.int x9)] [] h Q := by
  refine g_iload rfl rfl rfl (pc' := 155) ?_
  refine g_iconst rfl rfl rfl (pc' := 156) ?_
  refine g_ic_ge rfl (pc' := 159) (pt := 173) rfl rfl ⟨fun hc => ?_, fun hc => ?_⟩
  · have H := H.1 hc
    exact g_weak (show gm_Lle [some _, none, some _, some _, some _, some _, none, none, some _] _ from ⟨rfl, ⟨rfl, ⟨rfl, ⟨rfl, ⟨rfl, ⟨rfl, trivial⟩⟩⟩⟩⟩⟩) H
  · have H := H.2 hc
    refine g_aload (r := some _) rfl rfl rfl (pc' := 160) ?_
    refine t_get (o := 49) rfl hT rfl rfl rfl (pc' := 163) rfl ?_
    refine g_iload rfl rfl rfl (pc' := 165) ?_
    obtain ⟨n1, hn1, H⟩ := H
    refine t_iaload hT (o := 49) (l := 1536) rfl rfl rfl hn1 (pc' := 166) rfl ?_
    refine g_iconst rfl rfl rfl (pc' := 167) ?_
    refine g_ic_ne rfl (pc' := 170) (pt := 173) rfl rfl ⟨fun hc => ?_, fun hc => ?_⟩
    · have H := H.1 hc
      exact g_weak (show gm_Lle [some _, none, some _, some _, some _, some _, none, none, some _] _ from ⟨rfl, ⟨rfl, ⟨rfl, ⟨rfl, ⟨rfl, ⟨rfl, trivial⟩⟩⟩⟩⟩⟩) H
    · have H := H.2 hc
      refine g_iconst rfl rfl rfl (pc' := 172) ?_
      exact g_ireturn rfl (Or.inl rfl) H
theorem w_514_173 {m : Nat} {x2 : Int32} {x3 : Int32} {x4 : Int32} {x5 : Int32} {x8 : Int32} {h : hh_T} {Q : Option Value ⊕ Nat → hh_T → Prop} (hT : tw_ok h m) (H : gm_G 435 0 [some (.ref m), some (.int x8), some (.int x2), some (.int x3), some (.int x4), some (.int x5)] [] h (pV (fun h1 => ∃ n2, gm_ix x8 n2 32 ∧ (∃ n3, gm_ix (((Int32.ofNat 16) * (hh_i h1 (m + 63) n2)) + x2) n3 1536 ∧ (gm_G 468 0 [some (.ref m), some (.int (hh_i h1 (m + 49) n3))] [] h1 (pI (fun v5 h4 => Q (.inl (some (.int v5))) h4) (fun _ _ => False))))) (fun _ _ => False))) : gm_G 514 173 [some (.ref m), none, some (.int x2), some (.int x3), some (.int x4), some (.int x5), none, none, some (.int x8)] [] h Q := by
  refine g_aload (r := some _) rfl rfl rfl (pc' := 174) ?_
  refine g_iload rfl rfl rfl (pc' := 176) ?_
  refine g_iload rfl rfl rfl (pc' := 177) ?_
  refine g_iload rfl rfl rfl (pc' := 178) ?_
  refine g_iload rfl rfl rfl (pc' := 180) ?_
  refine g_iload rfl rfl rfl (pc' := 182) ?_
  refine t_call hT (y := 435) (n := 6) (pc' := 185) rfl rfl (t_vt hT rfl rfl) rfl rfl ⟨(Nat.le_of_ble_eq_true rfl), (Nat.le_of_ble_eq_true rfl), (Nat.le_of_ble_eq_true rfl)⟩ rfl H (tV_elim (fun h1 H hT => ?_))
  show gm_G _ 185 _ _ _ _
  refine g_aload (r := some _) rfl rfl rfl (pc' := 186) ?_
  refine g_aload (r := some _) rfl rfl rfl (pc' := 187) ?_
  refine t_get (o := 49) rfl hT rfl rfl rfl (pc' := 190) rfl ?_
  refine g_iconst rfl rfl rfl (pc' := 192) ?_
  refine g_aload (r := some _) rfl rfl rfl (pc' := 193) ?_
  refine t_get (o := 63) rfl hT rfl rfl rfl (pc' := 196) rfl ?_
  refine g_iload rfl rfl rfl (pc' := 198) ?_
  obtain ⟨n2, hn2, H⟩ := H
  refine t_iaload hT (o := 63) (l := 32) rfl rfl rfl hn2 (pc' := 199) rfl ?_
  refine g_imul rfl rfl (pc' := 200) ?_
  refine g_iload rfl rfl rfl (pc' := 201) ?_
  refine g_iadd rfl rfl (pc' := 202) ?_
  obtain ⟨n3, hn3, H⟩ := H
  refine t_iaload hT (o := 49) (l := 1536) rfl rfl rfl hn3 (pc' := 203) rfl ?_
  refine t_call hT (y := 468) (n := 2) (pc' := 206) rfl rfl (t_vt hT rfl rfl) rfl rfl ⟨(Nat.le_of_ble_eq_true rfl), (Nat.le_of_ble_eq_true rfl), (Nat.le_of_ble_eq_true rfl)⟩ rfl H (tI_elim (fun v5 h4 H hT => ?_))
  show gm_G _ 206 _ _ _ _
  exact g_ireturn rfl (Or.inl rfl) H
theorem w_515_0 {m : Nat} {x1 : Int32} {h : hh_T} {Q : Option Value ⊕ Nat → hh_T → Prop} (hT : tw_ok h m) (H : ∀ h1, h1 = hh_wi h m 2 (Int32.ofNat 0) → ((¬ (hh_i h1 m 77) = Int32.ofNat 0 → (gm_G 90 0 [some (.ref m), some (.int (hh_i h m 2))] [] h1 (pI (fun v3 h2 => (v3 < Int32.ofNat 0 → (Q (.inl (some (.int (Int32.ofInt (-11))))) h2)) ∧ (¬ v3 < Int32.ofNat 0 → (gm_G 370 0 [some (.ref m), some (.ref (m + 1)), some (.int (Int32.ofNat 0)), some (.int v3)] [] h2 (pI (fun v5 h4 => (v5 = Int32.ofNat 0 → (Q (.inl (some (.int (Int32.ofInt (-11))))) h4)) ∧ (¬ v5 = Int32.ofNat 0 → (gm_G 370 0 [some (.ref m), some (.ref (m + 1)), some (.int (v3 + (Int32.ofNat 1))), some (.int (((hh_i h m 2) - v3) - (Int32.ofNat 1)))] [] h4 (pI (fun v7 h6 => (v7 = Int32.ofNat 0 → (Q (.inl (some (.int (Int32.ofInt (-11))))) h6)) ∧ (¬ v7 = Int32.ofNat 0 → (gm_G 372 0 [some (.ref m), some (.ref (m + 1)), some (.int (v3 + (Int32.ofNat 1))), some (.int (((hh_i h m 2) - v3) - (Int32.ofNat 1)))] [] h6 (pI (fun v9 h8 => (¬ v9 < Int32.ofNat 0 → (gm_G 366 0 [some (.ref m), some (.int x1)] [] h8 (pI (fun v11 h10 => (¬ v11 < Int32.ofNat 0 → (gm_G 152 0 [some (.ref m), some (.int x1)] [] h10 (pI (fun v13 h12 => ∃ n14, gm_ix v13 n14 32 ∧ (gm_G 308 0 [some (.ref m), some (.int (hh_i h12 (m + 63) n14)), some (.ref (m + 1)), some (.int (Int32.ofNat 0)), some (.int v3), some (.int (Int32.ofNat 0))] [] h12 (pI (fun v16 h15 => (¬ v16 < Int32.ofNat 0 → (∃ n17, gm_ix (((Int32.ofNat 16) * (hh_i h12 (m + 63) n14)) + v16) n17 1536 ∧ (((hh_i h15 (m + 40) n17) = (Int32.ofNat 1) → (gm_G 372 0 [some (.ref m), some (.ref (m + 1)), some (.int (v3 + (Int32.ofNat 1))), some (.int (((hh_i h m 2) - v3) - (Int32.ofNat 1)))] [] h15 (pI (fun v19 h18 => gm_G 384 0 [some (.ref m), some (.int (hh_i h12 (m + 63) n14)), some (.ref (m + 1)), some (.int (v3 + (Int32.ofNat 1))), some (.int v19)] [] h18 (pI (fun v21 h20 => (¬ v21 < Int32.ofNat 0 → (gm_G 106 0 [some (.ref m), some (.int (((Int32.ofNat 16) * (hh_i h12 (m + 63) n14)) + v21)), some (.ref (m + 1)), some (.int v19), some (.int ((hh_i h m 2) - v19))] [] h20 (pI (fun v23 h22 => (v23 < Int32.ofNat 0 → (gm_G 282 0 [some (.ref m), some (.int (((Int32.ofNat 16) * (hh_i h12 (m + 63) n14)) + v21)), some (.int (hh_i h22 m 5)), some (.int (Int32.ofNat 3))] [] h22 (pI (fun v25 h24 => (¬ v25 = Int32.ofNat 0 → (∃ n26, gm_ix (((Int32.ofNat 16) * (hh_i h12 (m + 63) n14)) + v21) n26 1536 ∧ ((¬ (hh_i h24 (m + 45) n26) = (Int32.ofNat 8) → (gm_G 436 0 [some (.ref m), some (.int v13), some (.int v21), some (.int v16), some (.ref (m + 1)), some (.int v19), some (.int ((hh_i h m 2) - v19))] [] h24 (pV (fun h27 => gm_G 468 0 [some (.ref m), some (.int v16)] [] h27 (pI (fun v29 h28 => Q (.inl (some (.int v29))) h28) (fun _ _ => False))) (fun _ _ => False)))) ∧ ((hh_i h24 (m + 45) n26) = (Int32.ofNat 8) → (Q (.inl (some (.int (Int32.ofInt (-3))))) h24))))) ∧ (v25 = Int32.ofNat 0 → (Q (.inl (some (.int (Int32.ofInt (-6))))) h24))) (fun _ _ => False)))) ∧ (¬ v23 < Int32.ofNat 0 → (Q (.inl (some (.int (Int32.ofInt (-4))))) h22))) (fun _ _ => False)))) ∧ (v21 < Int32.ofNat 0 → (Q (.inl (some (.int v21))) h20))) (fun _ _ => False))) (fun _ _ => False)))) ∧ (¬ (hh_i h15 (m + 40) n17) = (Int32.ofNat 1) → (Q (.inl (some (.int (Int32.ofInt (-10))))) h15))))) ∧ (v16 < Int32.ofNat 0 → (Q (.inl (some (.int v16))) h15))) (fun _ _ => False)))) (fun _ _ => False)))) ∧ (v11 < Int32.ofNat 0 → (Q (.inl (some (.int v11))) h10))) (fun _ _ => False)))) ∧ (v9 < Int32.ofNat 0 → (Q (.inl (some (.int (Int32.ofInt (-11))))) h8))) (fun _ _ => False))))) (fun _ _ => False))))) (fun _ _ => False))))) (fun _ _ => False)))) ∧ ((hh_i h1 m 77) = Int32.ofNat 0 → (Q (.inl (some (.int (Int32.ofInt (-9))))) h1)))) : gm_G 515 0 [some (.ref m), some (.int x1)] [] h Q := by
  refine g_aload (r := some _) rfl rfl rfl (pc' := 1) ?_
  refine t_getI rfl hT rfl rfl (pc' := 4) rfl ?_
  refine g_istore rfl rfl rfl (pc' := 5) ?_
  refine g_aload (r := some _) rfl rfl rfl (pc' := 6) ?_
  refine g_iconst rfl rfl rfl (pc' := 7) ?_
  refine t_putI rfl hT rfl rfl  (pc' := 10) rfl (fun hT => ?_)
  have H := H _ rfl
  refine g_aload (r := some _) rfl rfl rfl (pc' := 11) ?_
  refine t_getZ rfl hT rfl rfl (pc' := 14) rfl ?_
  refine g_if_ne rfl (pc' := 17) (pt := 20) rfl rfl ⟨fun hc => ?_, fun hc => ?_⟩
  · have H := H.1 hc
    refine g_aload (r := some _) rfl rfl rfl (pc' := 21) ?_
    refine g_iload rfl rfl rfl (pc' := 22) ?_
    refine t_call hT (y := 90) (n := 2) (pc' := 25) rfl rfl (t_vt hT rfl rfl) rfl rfl ⟨(Nat.le_of_ble_eq_true rfl), (Nat.le_of_ble_eq_true rfl), (Nat.le_of_ble_eq_true rfl)⟩ rfl H (tI_elim (fun v3 h2 H hT => ?_))
    show gm_G _ 25 _ _ _ _
    refine g_istore rfl rfl rfl (pc' := 26) ?_
    refine g_iload rfl rfl rfl (pc' := 27) ?_
    refine g_if_lt rfl (pc' := 30) (pt := 81) rfl rfl ⟨fun hc => ?_, fun hc => ?_⟩
    · have H := H.1 hc
      refine g_iconst rfl rfl rfl (pc' := 83) ?_
      exact g_ireturn rfl (Or.inl rfl) H
    · have H := H.2 hc
      refine g_aload (r := some _) rfl rfl rfl (pc' := 31) ?_
      refine g_aload (r := some _) rfl rfl rfl (pc' := 32) ?_
      refine t_get (o := 1) rfl hT rfl rfl rfl (pc' := 35) rfl ?_
      refine g_iconst rfl rfl rfl (pc' := 36) ?_
      refine g_iload rfl rfl rfl (pc' := 37) ?_
      refine t_call hT (y := 370) (n := 4) (pc' := 40) rfl rfl (t_vt hT rfl rfl) rfl rfl ⟨(Nat.le_of_ble_eq_true rfl), (Nat.le_of_ble_eq_true rfl), (Nat.le_of_ble_eq_true rfl)⟩ rfl H (tI_elim (fun v5 h4 H hT => ?_))
      show gm_G _ 40 _ _ _ _
      refine g_if_eq rfl (pc' := 43) (pt := 81) rfl rfl ⟨fun hc => ?_, fun hc => ?_⟩
      · have H := H.1 hc
        refine g_iconst rfl rfl rfl (pc' := 83) ?_
        exact g_ireturn rfl (Or.inl rfl) H
      · have H := H.2 hc
        refine g_aload (r := some _) rfl rfl rfl (pc' := 44) ?_
        refine g_aload (r := some _) rfl rfl rfl (pc' := 45) ?_
        refine t_get (o := 1) rfl hT rfl rfl rfl (pc' := 48) rfl ?_
        refine g_iload rfl rfl rfl (pc' := 49) ?_
        refine g_iconst rfl rfl rfl (pc' := 50) ?_
        refine g_iadd rfl rfl (pc' := 51) ?_
        refine g_iload rfl rfl rfl (pc' := 52) ?_
        refine g_iload rfl rfl rfl (pc' := 53) ?_
        refine g_isub rfl rfl (pc' := 54) ?_
        refine g_iconst rfl rfl rfl (pc' := 55) ?_
        refine g_isub rfl rfl (pc' := 56) ?_
        refine t_call hT (y := 370) (n := 4) (pc' := 59) rfl rfl (t_vt hT rfl rfl) rfl rfl ⟨(Nat.le_of_ble_eq_true rfl), (Nat.le_of_ble_eq_true rfl), (Nat.le_of_ble_eq_true rfl)⟩ rfl H (tI_elim (fun v7 h6 H hT => ?_))
        show gm_G _ 59 _ _ _ _
        refine g_if_eq rfl (pc' := 62) (pt := 81) rfl rfl ⟨fun hc => ?_, fun hc => ?_⟩
        · have H := H.1 hc
          refine g_iconst rfl rfl rfl (pc' := 83) ?_
          exact g_ireturn rfl (Or.inl rfl) H
        · have H := H.2 hc
          refine g_aload (r := some _) rfl rfl rfl (pc' := 63) ?_
          refine g_aload (r := some _) rfl rfl rfl (pc' := 64) ?_
          refine t_get (o := 1) rfl hT rfl rfl rfl (pc' := 67) rfl ?_
          refine g_iload rfl rfl rfl (pc' := 68) ?_
          refine g_iconst rfl rfl rfl (pc' := 69) ?_
          refine g_iadd rfl rfl (pc' := 70) ?_
          refine g_iload rfl rfl rfl (pc' := 71) ?_
          refine g_iload rfl rfl rfl (pc' := 72) ?_
          refine g_isub rfl rfl (pc' := 73) ?_
          refine g_iconst rfl rfl rfl (pc' := 74) ?_
          refine g_isub rfl rfl (pc' := 75) ?_
          refine t_call hT (y := 372) (n := 4) (pc' := 78) rfl rfl (t_vt hT rfl rfl) rfl rfl ⟨(Nat.le_of_ble_eq_true rfl), (Nat.le_of_ble_eq_true rfl), (Nat.le_of_ble_eq_true rfl)⟩ rfl H (tI_elim (fun v9 h8 H hT => ?_))
          show gm_G _ 78 _ _ _ _
          refine g_if_ge rfl (pc' := 81) (pt := 84) rfl rfl ⟨fun hc => ?_, fun hc => ?_⟩
          · have H := H.1 hc
            refine g_aload (r := some _) rfl rfl rfl (pc' := 85) ?_
            refine g_iload rfl rfl rfl (pc' := 86) ?_
            refine t_call hT (y := 366) (n := 2) (pc' := 89) rfl rfl (t_vt hT rfl rfl) rfl rfl ⟨(Nat.le_of_ble_eq_true rfl), (Nat.le_of_ble_eq_true rfl), (Nat.le_of_ble_eq_true rfl)⟩ rfl H (tI_elim (fun v11 h10 H hT => ?_))
            show gm_G _ 89 _ _ _ _
            refine g_istore rfl rfl rfl (pc' := 91) ?_
            refine g_iload rfl rfl rfl (pc' := 93) ?_
            refine g_if_ge rfl (pc' := 96) (pt := 99) rfl rfl ⟨fun hc => ?_, fun hc => ?_⟩
            · have H := H.1 hc
              refine g_aload (r := some _) rfl rfl rfl (pc' := 100) ?_
              refine g_iload rfl rfl rfl (pc' := 101) ?_
              refine t_call hT (y := 152) (n := 2) (pc' := 104) rfl rfl (t_vt hT rfl rfl) rfl rfl ⟨(Nat.le_of_ble_eq_true rfl), (Nat.le_of_ble_eq_true rfl), (Nat.le_of_ble_eq_true rfl)⟩ rfl H (tI_elim (fun v13 h12 H hT => ?_))
              show gm_G _ 104 _ _ _ _
              refine g_istore rfl rfl rfl (pc' := 106) ?_
              refine g_aload (r := some _) rfl rfl rfl (pc' := 107) ?_
              refine t_get (o := 63) rfl hT rfl rfl rfl (pc' := 110) rfl ?_
              refine g_iload rfl rfl rfl (pc' := 112) ?_
              obtain ⟨n14, hn14, H⟩ := H
              refine t_iaload hT (o := 63) (l := 32) rfl rfl rfl hn14 (pc' := 113) rfl ?_
              refine g_istore rfl rfl rfl (pc' := 115) ?_
              refine g_aload (r := some _) rfl rfl rfl (pc' := 116) ?_
              refine g_iload rfl rfl rfl (pc' := 118) ?_
              refine g_aload (r := some _) rfl rfl rfl (pc' := 119) ?_
              refine t_get (o := 1) rfl hT rfl rfl rfl (pc' := 122) rfl ?_
              refine g_iconst rfl rfl rfl (pc' := 123) ?_
              refine g_iload rfl rfl rfl (pc' := 124) ?_
              refine g_iconst rfl rfl rfl (pc' := 125) ?_
              refine t_call hT (y := 308) (n := 6) (pc' := 128) rfl rfl (t_vt hT rfl rfl) rfl rfl ⟨(Nat.le_of_ble_eq_true rfl), (Nat.le_of_ble_eq_true rfl), (Nat.le_of_ble_eq_true rfl)⟩ rfl H (tI_elim (fun v16 h15 H hT => ?_))
              show gm_G _ 128 _ _ _ _
              refine g_istore rfl rfl rfl (pc' := 130) ?_
              refine g_iload rfl rfl rfl (pc' := 132) ?_
              refine g_if_ge rfl (pc' := 135) (pt := 138) rfl rfl ⟨fun hc => ?_, fun hc => ?_⟩
              · have H := H.1 hc
                refine g_aload (r := some _) rfl rfl rfl (pc' := 139) ?_
                refine t_get (o := 40) rfl hT rfl rfl rfl (pc' := 142) rfl ?_
                refine g_iconst rfl rfl rfl (pc' := 144) ?_
                refine g_iload rfl rfl rfl (pc' := 146) ?_
                refine g_imul rfl rfl (pc' := 147) ?_
                refine g_iload rfl rfl rfl (pc' := 149) ?_
                refine g_iadd rfl rfl (pc' := 150) ?_
                obtain ⟨n17, hn17, H⟩ := H
                refine t_iaload hT (o := 40) (l := 1536) rfl rfl rfl hn17 (pc' := 151) rfl ?_
                refine g_iconst rfl rfl rfl (pc' := 152) ?_
                refine g_ic_eq rfl (pc' := 155) (pt := 158) rfl rfl ⟨fun hc => ?_, fun hc => ?_⟩
                · have H := H.1 hc
                  refine g_aload (r := some _) rfl rfl rfl (pc' := 159) ?_
                  refine g_aload (r := some _) rfl rfl rfl (pc' := 160) ?_
                  refine t_get (o := 1) rfl hT rfl rfl rfl (pc' := 163) rfl ?_
                  refine g_iload rfl rfl rfl (pc' := 164) ?_
                  refine g_iconst rfl rfl rfl (pc' := 165) ?_
                  refine g_iadd rfl rfl (pc' := 166) ?_
                  refine g_iload rfl rfl rfl (pc' := 167) ?_
                  refine g_iload rfl rfl rfl (pc' := 168) ?_
                  refine g_isub rfl rfl (pc' := 169) ?_
                  refine g_iconst rfl rfl rfl (pc' := 170) ?_
                  refine g_isub rfl rfl (pc' := 171) ?_
                  refine t_call hT (y := 372) (n := 4) (pc' := 174) rfl rfl (t_vt hT rfl rfl) rfl rfl ⟨(Nat.le_of_ble_eq_true rfl), (Nat.le_of_ble_eq_true rfl), (Nat.le_of_ble_eq_true rfl)⟩ rfl H (tI_elim (fun v19 h18 H hT => ?_))
                  show gm_G _ 174 _ _ _ _
                  refine g_istore rfl rfl rfl (pc' := 176) ?_
                  refine g_aload (r := some _) rfl rfl rfl (pc' := 177) ?_
                  refine g_iload rfl rfl rfl (pc' := 179) ?_
                  refine g_aload (r := some _) rfl rfl rfl (pc' := 180) ?_
                  refine t_get (o := 1) rfl hT rfl rfl rfl (pc' := 183) rfl ?_
                  refine g_iload rfl rfl rfl (pc' := 184) ?_
                  refine g_iconst rfl rfl rfl (pc' := 185) ?_
                  refine g_iadd rfl rfl (pc' := 186) ?_
                  refine g_iload rfl rfl rfl (pc' := 188) ?_
                  refine t_call hT (y := 384) (n := 5) (pc' := 191) rfl rfl (t_vt hT rfl rfl) rfl rfl ⟨(Nat.le_of_ble_eq_true rfl), (Nat.le_of_ble_eq_true rfl), (Nat.le_of_ble_eq_true rfl)⟩ rfl H (tI_elim (fun v21 h20 H hT => ?_))
                  show gm_G _ 191 _ _ _ _
                  refine g_istore rfl rfl rfl (pc' := 193) ?_
                  refine g_iload rfl rfl rfl (pc' := 195) ?_
                  refine g_if_ge rfl (pc' := 198) (pt := 201) rfl rfl ⟨fun hc => ?_, fun hc => ?_⟩
                  · have H := H.1 hc
                    refine g_iconst rfl rfl rfl (pc' := 203) ?_
                    refine g_iload rfl rfl rfl (pc' := 205) ?_
                    refine g_imul rfl rfl (pc' := 206) ?_
                    refine g_iload rfl rfl rfl (pc' := 208) ?_
                    refine g_iadd rfl rfl (pc' := 209) ?_
                    refine g_istore rfl rfl rfl (pc' := 211) ?_
                    refine g_aload (r := some _) rfl rfl rfl (pc' := 212) ?_
                    refine g_iload rfl rfl rfl (pc' := 214) ?_
                    refine g_aload (r := some _) rfl rfl rfl (pc' := 215) ?_
                    refine t_get (o := 1) rfl hT rfl rfl rfl (pc' := 218) rfl ?_
                    refine g_iload rfl rfl rfl (pc' := 220) ?_
                    refine g_iload rfl rfl rfl (pc' := 221) ?_
                    refine g_iload rfl rfl rfl (pc' := 223) ?_
                    refine g_isub rfl rfl (pc' := 224) ?_
                    refine t_call hT (y := 106) (n := 5) (pc' := 227) rfl rfl (t_vt hT rfl rfl) rfl rfl ⟨(Nat.le_of_ble_eq_true rfl), (Nat.le_of_ble_eq_true rfl), (Nat.le_of_ble_eq_true rfl)⟩ rfl H (tI_elim (fun v23 h22 H hT => ?_))
                    show gm_G _ 227 _ _ _ _
                    refine g_if_lt rfl (pc' := 230) (pt := 233) rfl rfl ⟨fun hc => ?_, fun hc => ?_⟩
                    · have H := H.1 hc
                      refine g_aload (r := some _) rfl rfl rfl (pc' := 234) ?_
                      refine g_iload rfl rfl rfl (pc' := 236) ?_
                      refine g_aload (r := some _) rfl rfl rfl (pc' := 237) ?_
                      refine t_getI rfl hT rfl rfl (pc' := 240) rfl ?_
                      refine g_iconst rfl rfl rfl (pc' := 241) ?_
                      refine t_call hT (y := 282) (n := 4) (pc' := 244) rfl rfl (t_vt hT rfl rfl) rfl rfl ⟨(Nat.le_of_ble_eq_true rfl), (Nat.le_of_ble_eq_true rfl), (Nat.le_of_ble_eq_true rfl)⟩ rfl H (tI_elim (fun v25 h24 H hT => ?_))
                      show gm_G _ 244 _ _ _ _
                      refine g_if_ne rfl (pc' := 247) (pt := 250) rfl rfl ⟨fun hc => ?_, fun hc => ?_⟩
                      · have H := H.1 hc
                        refine g_aload (r := some _) rfl rfl rfl (pc' := 251) ?_
                        refine t_get (o := 45) rfl hT rfl rfl rfl (pc' := 254) rfl ?_
                        refine g_iload rfl rfl rfl (pc' := 256) ?_
                        obtain ⟨n26, hn26, H⟩ := H
                        refine t_iaload hT (o := 45) (l := 1536) rfl rfl rfl hn26 (pc' := 257) rfl ?_
                        refine g_iconst rfl rfl rfl (pc' := 259) ?_
                        refine g_ic_ne rfl (pc' := 262) (pt := 265) rfl rfl ⟨fun hc => ?_, fun hc => ?_⟩
                        · have H := H.1 hc
                          refine g_aload (r := some _) rfl rfl rfl (pc' := 266) ?_
                          refine g_iload rfl rfl rfl (pc' := 268) ?_
                          refine g_iload rfl rfl rfl (pc' := 270) ?_
                          refine g_iload rfl rfl rfl (pc' := 272) ?_
                          refine g_aload (r := some _) rfl rfl rfl (pc' := 273) ?_
                          refine t_get (o := 1) rfl hT rfl rfl rfl (pc' := 276) rfl ?_
                          refine g_iload rfl rfl rfl (pc' := 278) ?_
                          refine g_iload rfl rfl rfl (pc' := 279) ?_
                          refine g_iload rfl rfl rfl (pc' := 281) ?_
                          refine g_isub rfl rfl (pc' := 282) ?_
                          refine t_call hT (y := 436) (n := 7) (pc' := 285) rfl rfl (t_vt hT rfl rfl) rfl rfl ⟨(Nat.le_of_ble_eq_true rfl), (Nat.le_of_ble_eq_true rfl), (Nat.le_of_ble_eq_true rfl)⟩ rfl H (tV_elim (fun h27 H hT => ?_))
                          show gm_G _ 285 _ _ _ _
                          refine g_aload (r := some _) rfl rfl rfl (pc' := 286) ?_
                          refine g_iload rfl rfl rfl (pc' := 288) ?_
                          refine t_call hT (y := 468) (n := 2) (pc' := 291) rfl rfl (t_vt hT rfl rfl) rfl rfl ⟨(Nat.le_of_ble_eq_true rfl), (Nat.le_of_ble_eq_true rfl), (Nat.le_of_ble_eq_true rfl)⟩ rfl H (tI_elim (fun v29 h28 H hT => ?_))
                          show gm_G _ 291 _ _ _ _
                          exact g_ireturn rfl (Or.inl rfl) H
                        · have H := H.2 hc
                          refine g_iconst rfl rfl rfl (pc' := 264) ?_
                          exact g_ireturn rfl (Or.inl rfl) H
                      · have H := H.2 hc
                        refine g_iconst rfl rfl rfl (pc' := 249) ?_
                        exact g_ireturn rfl (Or.inl rfl) H
                    · have H := H.2 hc
                      refine g_iconst rfl rfl rfl (pc' := 232) ?_
                      exact g_ireturn rfl (Or.inl rfl) H
                  · have H := H.2 hc
                    refine g_iload rfl rfl rfl (pc' := 200) ?_
                    exact g_ireturn rfl (Or.inl rfl) H
                · have H := H.2 hc
                  refine g_iconst rfl rfl rfl (pc' := 157) ?_
                  exact g_ireturn rfl (Or.inl rfl) H
              · have H := H.2 hc
                refine g_iload rfl rfl rfl (pc' := 137) ?_
                exact g_ireturn rfl (Or.inl rfl) H
            · have H := H.2 hc
              refine g_iload rfl rfl rfl (pc' := 98) ?_
              exact g_ireturn rfl (Or.inl rfl) H
          · have H := H.2 hc
            refine g_iconst rfl rfl rfl (pc' := 83) ?_
            exact g_ireturn rfl (Or.inl rfl) H
  · have H := H.2 hc
    refine g_iconst rfl rfl rfl (pc' := 19) ?_
    exact g_ireturn rfl (Or.inl rfl) H
theorem w_516_0 {m : Nat} {x1 : Int32} {x2 : Int32} {h : hh_T} {Q : Option Value ⊕ Nat → hh_T → Prop} (hT : tw_ok h m) (H : ∀ h1, h1 = hh_wi h m 2 (Int32.ofNat 0) → ((¬ (hh_i h1 m 77) = Int32.ofNat 0 → ((x2 < (Int32.ofNat 1) → (Q (.inl (some (.int (Int32.ofInt (-1))))) h1)) ∧ (¬ x2 < (Int32.ofNat 1) → ((¬ (Int32.ofNat 3) < x2 → ((¬ x2 = (Int32.ofNat 3) → (gm_G 516 46 [some (.ref m), some (.int x1), some (.int x2), some (.int (hh_i h m 2))] [.int (hh_i h m 2)] h1 Q)) ∧ (x2 = (Int32.ofNat 3) → (gm_G 90 0 [some (.ref m), some (.int (hh_i h m 2))] [] h1 (pI (fun v3 h2 => gm_G 516 46 [some (.ref m), some (.int x1), some (.int x2), some (.int (hh_i h m 2))] [.int v3] h2 Q) (fun _ _ => False)))))) ∧ ((Int32.ofNat 3) < x2 → (Q (.inl (some (.int (Int32.ofInt (-1))))) h1)))))) ∧ ((hh_i h1 m 77) = Int32.ofNat 0 → (Q (.inl (some (.int (Int32.ofInt (-9))))) h1)))) : gm_G 516 0 [some (.ref m), some (.int x1), some (.int x2)] [] h Q := by
  refine g_aload (r := some _) rfl rfl rfl (pc' := 1) ?_
  refine t_getI rfl hT rfl rfl (pc' := 4) rfl ?_
  refine g_istore rfl rfl rfl (pc' := 5) ?_
  refine g_aload (r := some _) rfl rfl rfl (pc' := 6) ?_
  refine g_iconst rfl rfl rfl (pc' := 7) ?_
  refine t_putI rfl hT rfl rfl  (pc' := 10) rfl (fun hT => ?_)
  have H := H _ rfl
  refine g_aload (r := some _) rfl rfl rfl (pc' := 11) ?_
  refine t_getZ rfl hT rfl rfl (pc' := 14) rfl ?_
  refine g_if_ne rfl (pc' := 17) (pt := 20) rfl rfl ⟨fun hc => ?_, fun hc => ?_⟩
  · have H := H.1 hc
    refine g_iload rfl rfl rfl (pc' := 21) ?_
    refine g_iconst rfl rfl rfl (pc' := 22) ?_
    refine g_ic_lt rfl (pc' := 25) (pt := 30) rfl rfl ⟨fun hc => ?_, fun hc => ?_⟩
    · have H := H.1 hc
      refine g_iconst rfl rfl rfl (pc' := 31) ?_
      exact g_ireturn rfl (Or.inl rfl) H
    · have H := H.2 hc
      refine g_iload rfl rfl rfl (pc' := 26) ?_
      refine g_iconst rfl rfl rfl (pc' := 27) ?_
      refine g_ic_le rfl (pc' := 30) (pt := 32) rfl rfl ⟨fun hc => ?_, fun hc => ?_⟩
      · have H := H.1 hc
        refine g_iload rfl rfl rfl (pc' := 33) ?_
        refine g_iconst rfl rfl rfl (pc' := 34) ?_
        refine g_ic_ne rfl (pc' := 37) (pt := 45) rfl rfl ⟨fun hc => ?_, fun hc => ?_⟩
        · have H := H.1 hc
          refine g_iload rfl rfl rfl (pc' := 46) ?_
          exact g_weak (show gm_Lle [some _, some _, some _, some _] _ from ⟨rfl, ⟨rfl, ⟨rfl, ⟨rfl, trivial⟩⟩⟩⟩) H
        · have H := H.2 hc
          refine g_aload (r := some _) rfl rfl rfl (pc' := 38) ?_
          refine g_iload rfl rfl rfl (pc' := 39) ?_
          refine t_call hT (y := 90) (n := 2) (pc' := 42) rfl rfl (t_vt hT rfl rfl) rfl rfl ⟨(Nat.le_of_ble_eq_true rfl), (Nat.le_of_ble_eq_true rfl), (Nat.le_of_ble_eq_true rfl)⟩ rfl H (tI_elim (fun v3 h2 H hT => ?_))
          show gm_G _ 42 _ _ _ _
          refine g_goto rfl (pc' := 46) rfl ?_
          exact g_weak (show gm_Lle [some _, some _, some _, some _] _ from ⟨rfl, ⟨rfl, ⟨rfl, ⟨rfl, trivial⟩⟩⟩⟩) H
      · have H := H.2 hc
        refine g_iconst rfl rfl rfl (pc' := 31) ?_
        exact g_ireturn rfl (Or.inl rfl) H
  · have H := H.2 hc
    refine g_iconst rfl rfl rfl (pc' := 19) ?_
    exact g_ireturn rfl (Or.inl rfl) H
theorem w_516_46 {m : Nat} {x1 : Int32} {x2 : Int32} {x3 : Int32} {y0 : Int32} {h : hh_T} {Q : Option Value ⊕ Nat → hh_T → Prop} (hT : tw_ok h m) (H : (y0 < Int32.ofNat 0 → (Q (.inl (some (.int (Int32.ofInt (-11))))) h)) ∧ (¬ y0 < Int32.ofNat 0 → (gm_G 370 0 [some (.ref m), some (.ref (m + 1)), some (.int (Int32.ofNat 0)), some (.int y0)] [] h (pI (fun v2 h1 => (v2 = Int32.ofNat 0 → (Q (.inl (some (.int (Int32.ofInt (-11))))) h1)) ∧ (¬ v2 = Int32.ofNat 0 → (gm_G 372 0 [some (.ref m), some (.ref (m + 1)), some (.int (Int32.ofNat 0)), some (.int y0)] [] h1 (pI (fun v4 h3 => (¬ v4 < Int32.ofNat 0 → ((¬ x2 = (Int32.ofNat 3) → (gm_G 516 99 [some (.ref m), some (.int x1), some (.int x2), none, some (.int y0)] [.int (Int32.ofNat 0)] h3 Q)) ∧ (x2 = (Int32.ofNat 3) → (gm_G 516 99 [some (.ref m), some (.int x1), some (.int x2), none, some (.int y0)] [.int ((x3 - y0) - (Int32.ofNat 1))] h3 Q)))) ∧ (v4 < Int32.ofNat 0 → (Q (.inl (some (.int (Int32.ofInt (-11))))) h3))) (fun _ _ => False))))) (fun _ _ => False))))) : gm_G 516 46 [some (.ref m), some (.int x1), some (.int x2), some (.int x3)] [.int y0] h Q := by
  refine g_istore rfl rfl rfl (pc' := 48) ?_
  refine g_iload rfl rfl rfl (pc' := 50) ?_
  refine g_if_lt rfl (pc' := 53) (pt := 81) rfl rfl ⟨fun hc => ?_, fun hc => ?_⟩
  · have H := H.1 hc
    refine g_iconst rfl rfl rfl (pc' := 83) ?_
    exact g_ireturn rfl (Or.inl rfl) H
  · have H := H.2 hc
    refine g_aload (r := some _) rfl rfl rfl (pc' := 54) ?_
    refine g_aload (r := some _) rfl rfl rfl (pc' := 55) ?_
    refine t_get (o := 1) rfl hT rfl rfl rfl (pc' := 58) rfl ?_
    refine g_iconst rfl rfl rfl (pc' := 59) ?_
    refine g_iload rfl rfl rfl (pc' := 61) ?_
    refine t_call hT (y := 370) (n := 4) (pc' := 64) rfl rfl (t_vt hT rfl rfl) rfl rfl ⟨(Nat.le_of_ble_eq_true rfl), (Nat.le_of_ble_eq_true rfl), (Nat.le_of_ble_eq_true rfl)⟩ rfl H (tI_elim (fun v2 h1 H hT => ?_))
    show gm_G _ 64 _ _ _ _
    refine g_if_eq rfl (pc' := 67) (pt := 81) rfl rfl ⟨fun hc => ?_, fun hc => ?_⟩
    · have H := H.1 hc
      refine g_iconst rfl rfl rfl (pc' := 83) ?_
      exact g_ireturn rfl (Or.inl rfl) H
    · have H := H.2 hc
      refine g_aload (r := some _) rfl rfl rfl (pc' := 68) ?_
      refine g_aload (r := some _) rfl rfl rfl (pc' := 69) ?_
      refine t_get (o := 1) rfl hT rfl rfl rfl (pc' := 72) rfl ?_
      refine g_iconst rfl rfl rfl (pc' := 73) ?_
      refine g_iload rfl rfl rfl (pc' := 75) ?_
      refine t_call hT (y := 372) (n := 4) (pc' := 78) rfl rfl (t_vt hT rfl rfl) rfl rfl ⟨(Nat.le_of_ble_eq_true rfl), (Nat.le_of_ble_eq_true rfl), (Nat.le_of_ble_eq_true rfl)⟩ rfl H (tI_elim (fun v4 h3 H hT => ?_))
      show gm_G _ 78 _ _ _ _
      refine g_if_ge rfl (pc' := 81) (pt := 84) rfl rfl ⟨fun hc => ?_, fun hc => ?_⟩
      · have H := H.1 hc
        refine g_iload rfl rfl rfl (pc' := 85) ?_
        refine g_iconst rfl rfl rfl (pc' := 86) ?_
        refine g_ic_ne rfl (pc' := 89) (pt := 98) rfl rfl ⟨fun hc => ?_, fun hc => ?_⟩
        · have H := H.1 hc
          refine g_iconst rfl rfl rfl (pc' := 99) ?_
          exact g_weak (show gm_Lle [some _, some _, some _, none, some _] _ from ⟨rfl, ⟨rfl, ⟨rfl, ⟨rfl, trivial⟩⟩⟩⟩) H
        · have H := H.2 hc
          refine g_iload rfl rfl rfl (pc' := 90) ?_
          refine g_iload rfl rfl rfl (pc' := 92) ?_
          refine g_isub rfl rfl (pc' := 93) ?_
          refine g_iconst rfl rfl rfl (pc' := 94) ?_
          refine g_isub rfl rfl (pc' := 95) ?_
          refine g_goto rfl (pc' := 99) rfl ?_
          exact g_weak (show gm_Lle [some _, some _, some _, none, some _] _ from ⟨rfl, ⟨rfl, ⟨rfl, ⟨rfl, trivial⟩⟩⟩⟩) H
      · have H := H.2 hc
        refine g_iconst rfl rfl rfl (pc' := 83) ?_
        exact g_ireturn rfl (Or.inl rfl) H
theorem w_516_99 {m : Nat} {x1 : Int32} {x2 : Int32} {x4 : Int32} {y0 : Int32} {h : hh_T} {Q : Option Value ⊕ Nat → hh_T → Prop} (hT : tw_ok h m) (H : (¬ x2 = (Int32.ofNat 3) → (gm_G 516 133 [some (.ref m), some (.int x1), some (.int x2), none, some (.int x4), some (.int y0)] [] h Q)) ∧ (x2 = (Int32.ofNat 3) → (gm_G 370 0 [some (.ref m), some (.ref (m + 1)), some (.int (x4 + (Int32.ofNat 1))), some (.int y0)] [] h (pI (fun v2 h1 => (v2 = Int32.ofNat 0 → (Q (.inl (some (.int (Int32.ofInt (-11))))) h1)) ∧ (¬ v2 = Int32.ofNat 0 → ((¬ (Int32.ofNat 24) < y0 → (gm_G 516 133 [some (.ref m), some (.int x1), some (.int x2), none, some (.int x4), some (.int y0)] [] h1 Q)) ∧ ((Int32.ofNat 24) < y0 → (Q (.inl (some (.int (Int32.ofInt (-11))))) h1))))) (fun _ _ => False))))) : gm_G 516 99 [some (.ref m), some (.int x1), some (.int x2), none, some (.int x4)] [.int y0] h Q := by
  refine g_istore rfl rfl rfl (pc' := 101) ?_
  refine g_iload rfl rfl rfl (pc' := 102) ?_
  refine g_iconst rfl rfl rfl (pc' := 103) ?_
  refine g_ic_ne rfl (pc' := 106) (pt := 133) rfl rfl ⟨fun hc => ?_, fun hc => ?_⟩
  · have H := H.1 hc
    exact g_weak (show gm_Lle [some _, some _, some _, none, some _, some _] _ from ⟨rfl, ⟨rfl, ⟨rfl, ⟨rfl, ⟨rfl, trivial⟩⟩⟩⟩⟩) H
  · have H := H.2 hc
    refine g_aload (r := some _) rfl rfl rfl (pc' := 107) ?_
    refine g_aload (r := some _) rfl rfl rfl (pc' := 108) ?_
    refine t_get (o := 1) rfl hT rfl rfl rfl (pc' := 111) rfl ?_
    refine g_iload rfl rfl rfl (pc' := 113) ?_
    refine g_iconst rfl rfl rfl (pc' := 114) ?_
    refine g_iadd rfl rfl (pc' := 115) ?_
    refine g_iload rfl rfl rfl (pc' := 117) ?_
    refine t_call hT (y := 370) (n := 4) (pc' := 120) rfl rfl (t_vt hT rfl rfl) rfl rfl ⟨(Nat.le_of_ble_eq_true rfl), (Nat.le_of_ble_eq_true rfl), (Nat.le_of_ble_eq_true rfl)⟩ rfl H (tI_elim (fun v2 h1 H hT => ?_))
    show gm_G _ 120 _ _ _ _
    refine g_if_eq rfl (pc' := 123) (pt := 130) rfl rfl ⟨fun hc => ?_, fun hc => ?_⟩
    · have H := H.1 hc
      refine g_iconst rfl rfl rfl (pc' := 132) ?_
      exact g_ireturn rfl (Or.inl rfl) H
    · have H := H.2 hc
      refine g_iload rfl rfl rfl (pc' := 125) ?_
      refine g_iconst rfl rfl rfl (pc' := 127) ?_
      refine g_ic_le rfl (pc' := 130) (pt := 133) rfl rfl ⟨fun hc => ?_, fun hc => ?_⟩
      · have H := H.1 hc
        exact g_weak (show gm_Lle [some _, some _, some _, none, some _, some _] _ from ⟨rfl, ⟨rfl, ⟨rfl, ⟨rfl, ⟨rfl, trivial⟩⟩⟩⟩⟩) H
      · have H := H.2 hc
        refine g_iconst rfl rfl rfl (pc' := 132) ?_
        exact g_ireturn rfl (Or.inl rfl) H
theorem w_516_133 {m : Nat} {x1 : Int32} {x2 : Int32} {x4 : Int32} {x5 : Int32} {h : hh_T} {Q : Option Value ⊕ Nat → hh_T → Prop} (hT : tw_ok h m) (H : gm_G 366 0 [some (.ref m), some (.int x1)] [] h (pI (fun v2 h1 => (¬ v2 < Int32.ofNat 0 → (gm_G 152 0 [some (.ref m), some (.int x1)] [] h1 (pI (fun v4 h3 => ∃ n5, gm_ix v4 n5 32 ∧ (gm_G 372 0 [some (.ref m), some (.ref (m + 1)), some (.int (Int32.ofNat 0)), some (.int x4)] [] h3 (pI (fun v7 h6 => gm_G 384 0 [some (.ref m), some (.int (hh_i h3 (m + 63) n5)), some (.ref (m + 1)), some (.int (Int32.ofNat 0)), some (.int v7)] [] h6 (pI (fun v9 h8 => (¬ v9 < Int32.ofNat 0 → (gm_G 106 0 [some (.ref m), some (.int (((Int32.ofNat 16) * (hh_i h3 (m + 63) n5)) + v9)), some (.ref (m + 1)), some (.int v7), some (.int (x4 - v7))] [] h8 (pI (fun v11 h10 => (v11 < Int32.ofNat 0 → (gm_G 282 0 [some (.ref m), some (.int (((Int32.ofNat 16) * (hh_i h3 (m + 63) n5)) + v9)), some (.int (hh_i h10 m 5)), some (.int (Int32.ofNat 3))] [] h10 (pI (fun v13 h12 => (¬ v13 = Int32.ofNat 0 → (gm_G 111 0 [some (.ref m), some (.int (hh_i h3 (m + 63) n5))] [] h12 (pI (fun v15 h14 => ∃ n16, gm_ix (((Int32.ofNat 16) * (hh_i h3 (m + 63) n5)) + v9) n16 1536 ∧ (((hh_i h14 (m + 45) n16) = (Int32.ofNat 8) → (Q (.inl (some (.int (Int32.ofInt (-3))))) h14)) ∧ (¬ (hh_i h14 (m + 45) n16) = (Int32.ofNat 8) → ((¬ v15 < Int32.ofNat 0 → ((¬ x2 = (Int32.ofNat 1) → ((¬ x2 = (Int32.ofNat 2) → (gm_G 516 311 [some (.ref m), none, some (.int x2), none, some (.int x4), some (.int x5), none, none, none, some (.int v7), none, none, some (.int v15)] [.int (Int32.ofNat 511), .int x2, .int v15, .int v9, .int v4, .ref m] h14 Q)) ∧ (x2 = (Int32.ofNat 2) → (gm_G 516 311 [some (.ref m), none, some (.int x2), none, some (.int x4), some (.int x5), none, none, none, some (.int v7), none, none, some (.int v15)] [.int (Int32.ofNat 493), .int x2, .int v15, .int v9, .int v4, .ref m] h14 Q)))) ∧ (x2 = (Int32.ofNat 1) → (gm_G 516 311 [some (.ref m), none, some (.int x2), none, some (.int x4), some (.int x5), none, none, none, some (.int v7), none, none, some (.int v15)] [.int (Int32.ofNat 420), .int x2, .int v15, .int v9, .int v4, .ref m] h14 Q)))) ∧ (v15 < Int32.ofNat 0 → (Q (.inl (some (.int (Int32.ofInt (-3))))) h14)))))) (fun _ _ => False)))) ∧ (v13 = Int32.ofNat 0 → (Q (.inl (some (.int (Int32.ofInt (-6))))) h12))) (fun _ _ => False)))) ∧ (¬ v11 < Int32.ofNat 0 → (Q (.inl (some (.int (Int32.ofInt (-4))))) h10))) (fun _ _ => False)))) ∧ (v9 < Int32.ofNat 0 → (Q (.inl (some (.int v9))) h8))) (fun _ _ => False))) (fun _ _ => False)))) (fun _ _ => False)))) ∧ (v2 < Int32.ofNat 0 → (Q (.inl (some (.int v2))) h1))) (fun _ _ => False))) : gm_G 516 133 [some (.ref m), some (.int x1), some (.int x2), none, some (.int x4), some (.int x5)] [] h Q := by
  refine g_aload (r := some _) rfl rfl rfl (pc' := 134) ?_
  refine g_iload rfl rfl rfl (pc' := 135) ?_
  refine t_call hT (y := 366) (n := 2) (pc' := 138) rfl rfl (t_vt hT rfl rfl) rfl rfl ⟨(Nat.le_of_ble_eq_true rfl), (Nat.le_of_ble_eq_true rfl), (Nat.le_of_ble_eq_true rfl)⟩ rfl H (tI_elim (fun v2 h1 H hT => ?_))
  show gm_G _ 138 _ _ _ _
  refine g_istore rfl rfl rfl (pc' := 140) ?_
  refine g_iload rfl rfl rfl (pc' := 142) ?_
  refine g_if_ge rfl (pc' := 145) (pt := 148) rfl rfl ⟨fun hc => ?_, fun hc => ?_⟩
  · have H := H.1 hc
    refine g_aload (r := some _) rfl rfl rfl (pc' := 149) ?_
    refine g_iload rfl rfl rfl (pc' := 150) ?_
    refine t_call hT (y := 152) (n := 2) (pc' := 153) rfl rfl (t_vt hT rfl rfl) rfl rfl ⟨(Nat.le_of_ble_eq_true rfl), (Nat.le_of_ble_eq_true rfl), (Nat.le_of_ble_eq_true rfl)⟩ rfl H (tI_elim (fun v4 h3 H hT => ?_))
    show gm_G _ 153 _ _ _ _
    refine g_istore rfl rfl rfl (pc' := 155) ?_
    refine g_aload (r := some _) rfl rfl rfl (pc' := 156) ?_
    refine t_get (o := 63) rfl hT rfl rfl rfl (pc' := 159) rfl ?_
    refine g_iload rfl rfl rfl (pc' := 161) ?_
    obtain ⟨n5, hn5, H⟩ := H
    refine t_iaload hT (o := 63) (l := 32) rfl rfl rfl hn5 (pc' := 162) rfl ?_
    refine g_istore rfl rfl rfl (pc' := 164) ?_
    refine g_aload (r := some _) rfl rfl rfl (pc' := 165) ?_
    refine g_aload (r := some _) rfl rfl rfl (pc' := 166) ?_
    refine t_get (o := 1) rfl hT rfl rfl rfl (pc' := 169) rfl ?_
    refine g_iconst rfl rfl rfl (pc' := 170) ?_
    refine g_iload rfl rfl rfl (pc' := 172) ?_
    refine t_call hT (y := 372) (n := 4) (pc' := 175) rfl rfl (t_vt hT rfl rfl) rfl rfl ⟨(Nat.le_of_ble_eq_true rfl), (Nat.le_of_ble_eq_true rfl), (Nat.le_of_ble_eq_true rfl)⟩ rfl H (tI_elim (fun v7 h6 H hT => ?_))
    show gm_G _ 175 _ _ _ _
    refine g_istore rfl rfl rfl (pc' := 177) ?_
    refine g_aload (r := some _) rfl rfl rfl (pc' := 178) ?_
    refine g_iload rfl rfl rfl (pc' := 180) ?_
    refine g_aload (r := some _) rfl rfl rfl (pc' := 181) ?_
    refine t_get (o := 1) rfl hT rfl rfl rfl (pc' := 184) rfl ?_
    refine g_iconst rfl rfl rfl (pc' := 185) ?_
    refine g_iload rfl rfl rfl (pc' := 187) ?_
    refine t_call hT (y := 384) (n := 5) (pc' := 190) rfl rfl (t_vt hT rfl rfl) rfl rfl ⟨(Nat.le_of_ble_eq_true rfl), (Nat.le_of_ble_eq_true rfl), (Nat.le_of_ble_eq_true rfl)⟩ rfl H (tI_elim (fun v9 h8 H hT => ?_))
    show gm_G _ 190 _ _ _ _
    refine g_istore rfl rfl rfl (pc' := 192) ?_
    refine g_iload rfl rfl rfl (pc' := 194) ?_
    refine g_if_ge rfl (pc' := 197) (pt := 200) rfl rfl ⟨fun hc => ?_, fun hc => ?_⟩
    · have H := H.1 hc
      refine g_iconst rfl rfl rfl (pc' := 202) ?_
      refine g_iload rfl rfl rfl (pc' := 204) ?_
      refine g_imul rfl rfl (pc' := 205) ?_
      refine g_iload rfl rfl rfl (pc' := 207) ?_
      refine g_iadd rfl rfl (pc' := 208) ?_
      refine g_istore rfl rfl rfl (pc' := 210) ?_
      refine g_aload (r := some _) rfl rfl rfl (pc' := 211) ?_
      refine g_iload rfl rfl rfl (pc' := 213) ?_
      refine g_aload (r := some _) rfl rfl rfl (pc' := 214) ?_
      refine t_get (o := 1) rfl hT rfl rfl rfl (pc' := 217) rfl ?_
      refine g_iload rfl rfl rfl (pc' := 219) ?_
      refine g_iload rfl rfl rfl (pc' := 221) ?_
      refine g_iload rfl rfl rfl (pc' := 223) ?_
      refine g_isub rfl rfl (pc' := 224) ?_
      refine t_call hT (y := 106) (n := 5) (pc' := 227) rfl rfl (t_vt hT rfl rfl) rfl rfl ⟨(Nat.le_of_ble_eq_true rfl), (Nat.le_of_ble_eq_true rfl), (Nat.le_of_ble_eq_true rfl)⟩ rfl H (tI_elim (fun v11 h10 H hT => ?_))
      show gm_G _ 227 _ _ _ _
      refine g_if_lt rfl (pc' := 230) (pt := 233) rfl rfl ⟨fun hc => ?_, fun hc => ?_⟩
      · have H := H.1 hc
        refine g_aload (r := some _) rfl rfl rfl (pc' := 234) ?_
        refine g_iload rfl rfl rfl (pc' := 236) ?_
        refine g_aload (r := some _) rfl rfl rfl (pc' := 237) ?_
        refine t_getI rfl hT rfl rfl (pc' := 240) rfl ?_
        refine g_iconst rfl rfl rfl (pc' := 241) ?_
        refine t_call hT (y := 282) (n := 4) (pc' := 244) rfl rfl (t_vt hT rfl rfl) rfl rfl ⟨(Nat.le_of_ble_eq_true rfl), (Nat.le_of_ble_eq_true rfl), (Nat.le_of_ble_eq_true rfl)⟩ rfl H (tI_elim (fun v13 h12 H hT => ?_))
        show gm_G _ 244 _ _ _ _
        refine g_if_ne rfl (pc' := 247) (pt := 250) rfl rfl ⟨fun hc => ?_, fun hc => ?_⟩
        · have H := H.1 hc
          refine g_aload (r := some _) rfl rfl rfl (pc' := 251) ?_
          refine g_iload rfl rfl rfl (pc' := 253) ?_
          refine t_call hT (y := 111) (n := 2) (pc' := 256) rfl rfl (t_vt hT rfl rfl) rfl rfl ⟨(Nat.le_of_ble_eq_true rfl), (Nat.le_of_ble_eq_true rfl), (Nat.le_of_ble_eq_true rfl)⟩ rfl H (tI_elim (fun v15 h14 H hT => ?_))
          show gm_G _ 256 _ _ _ _
          refine g_istore rfl rfl rfl (pc' := 258) ?_
          refine g_aload (r := some _) rfl rfl rfl (pc' := 259) ?_
          refine t_get (o := 45) rfl hT rfl rfl rfl (pc' := 262) rfl ?_
          refine g_iload rfl rfl rfl (pc' := 264) ?_
          obtain ⟨n16, hn16, H⟩ := H
          refine t_iaload hT (o := 45) (l := 1536) rfl rfl rfl hn16 (pc' := 265) rfl ?_
          refine g_iconst rfl rfl rfl (pc' := 267) ?_
          refine g_ic_eq rfl (pc' := 270) (pt := 275) rfl rfl ⟨fun hc => ?_, fun hc => ?_⟩
          · have H := H.1 hc
            refine g_iconst rfl rfl rfl (pc' := 277) ?_
            exact g_ireturn rfl (Or.inl rfl) H
          · have H := H.2 hc
            refine g_iload rfl rfl rfl (pc' := 272) ?_
            refine g_if_ge rfl (pc' := 275) (pt := 278) rfl rfl ⟨fun hc => ?_, fun hc => ?_⟩
            · have H := H.1 hc
              refine g_aload (r := some _) rfl rfl rfl (pc' := 279) ?_
              refine g_iload rfl rfl rfl (pc' := 281) ?_
              refine g_iload rfl rfl rfl (pc' := 283) ?_
              refine g_iload rfl rfl rfl (pc' := 285) ?_
              refine g_iload rfl rfl rfl (pc' := 286) ?_
              refine g_iload rfl rfl rfl (pc' := 287) ?_
              refine g_iconst rfl rfl rfl (pc' := 288) ?_
              refine g_ic_ne rfl (pc' := 291) (pt := 297) rfl rfl ⟨fun hc => ?_, fun hc => ?_⟩
              · have H := H.1 hc
                refine g_iload rfl rfl rfl (pc' := 298) ?_
                refine g_iconst rfl rfl rfl (pc' := 299) ?_
                refine g_ic_ne rfl (pc' := 302) (pt := 308) rfl rfl ⟨fun hc => ?_, fun hc => ?_⟩
                · have H := H.1 hc
                  refine g_iconst rfl rfl rfl (pc' := 311) ?_
                  exact g_weak (show gm_Lle [some _, none, some _, none, some _, some _, none, none, none, some _, none, none, some _] _ from ⟨rfl, ⟨rfl, ⟨rfl, ⟨rfl, ⟨rfl, ⟨rfl, trivial⟩⟩⟩⟩⟩⟩) H
                · have H := H.2 hc
                  refine g_iconst rfl rfl rfl (pc' := 305) ?_
                  refine g_goto rfl (pc' := 311) rfl ?_
                  exact g_weak (show gm_Lle [some _, none, some _, none, some _, some _, none, none, none, some _, none, none, some _] _ from ⟨rfl, ⟨rfl, ⟨rfl, ⟨rfl, ⟨rfl, ⟨rfl, trivial⟩⟩⟩⟩⟩⟩) H
              · have H := H.2 hc
                refine g_iconst rfl rfl rfl (pc' := 294) ?_
                refine g_goto rfl (pc' := 311) rfl ?_
                exact g_weak (show gm_Lle [some _, none, some _, none, some _, some _, none, none, none, some _, none, none, some _] _ from ⟨rfl, ⟨rfl, ⟨rfl, ⟨rfl, ⟨rfl, ⟨rfl, trivial⟩⟩⟩⟩⟩⟩) H
            · have H := H.2 hc
              refine g_iconst rfl rfl rfl (pc' := 277) ?_
              exact g_ireturn rfl (Or.inl rfl) H
        · have H := H.2 hc
          refine g_iconst rfl rfl rfl (pc' := 249) ?_
          exact g_ireturn rfl (Or.inl rfl) H
      · have H := H.2 hc
        refine g_iconst rfl rfl rfl (pc' := 232) ?_
        exact g_ireturn rfl (Or.inl rfl) H
    · have H := H.2 hc
      refine g_iload rfl rfl rfl (pc' := 199) ?_
      exact g_ireturn rfl (Or.inl rfl) H
  · have H := H.2 hc
    refine g_iload rfl rfl rfl (pc' := 147) ?_
    exact g_ireturn rfl (Or.inl rfl) H
theorem w_516_311 {m : Nat} {x2 : Int32} {x4 : Int32} {x5 : Int32} {x9 : Int32} {x12 : Int32} {y0 : Int32} {y1 : Int32} {y2 : Int32} {y3 : Int32} {y4 : Int32} {h : hh_T} {Q : Option Value ⊕ Nat → hh_T → Prop} (hT : tw_ok h m) (H : (¬ x2 = (Int32.ofNat 3) → (gm_G 516 339 [some (.ref m), none, none, none, none, some (.int x5), none, none, none, none, none, none, some (.int x12)] [.int (Int32.ofNat 0), .ref (m + 1), .int (x4 - x9), .int x9, .ref (m + 1), .int y0, .int y1, .int y2, .int y3, .int y4, .ref m] h Q)) ∧ (x2 = (Int32.ofNat 3) → (gm_G 516 339 [some (.ref m), none, none, none, none, some (.int x5), none, none, none, none, none, none, some (.int x12)] [.int (x4 + (Int32.ofNat 1)), .ref (m + 1), .int (x4 - x9), .int x9, .ref (m + 1), .int y0, .int y1, .int y2, .int y3, .int y4, .ref m] h Q))) : gm_G 516 311 [some (.ref m), none, some (.int x2), none, some (.int x4), some (.int x5), none, none, none, some (.int x9), none, none, some (.int x12)] [.int y0, .int y1, .int y2, .int y3, .int y4, .ref m] h Q := by
  refine g_aload (r := some _) rfl rfl rfl (pc' := 312) ?_
  refine t_get (o := 1) rfl hT rfl rfl rfl (pc' := 315) rfl ?_
  refine g_iload rfl rfl rfl (pc' := 317) ?_
  refine g_iload rfl rfl rfl (pc' := 319) ?_
  refine g_iload rfl rfl rfl (pc' := 321) ?_
  refine g_isub rfl rfl (pc' := 322) ?_
  refine g_aload (r := some _) rfl rfl rfl (pc' := 323) ?_
  refine t_get (o := 1) rfl hT rfl rfl rfl (pc' := 326) rfl ?_
  refine g_iload rfl rfl rfl (pc' := 327) ?_
  refine g_iconst rfl rfl rfl (pc' := 328) ?_
  refine g_ic_ne rfl (pc' := 331) (pt := 338) rfl rfl ⟨fun hc => ?_, fun hc => ?_⟩
  · have H := H.1 hc
    refine g_iconst rfl rfl rfl (pc' := 339) ?_
    exact g_weak (show gm_Lle [some _, none, none, none, none, some _, none, none, none, none, none, none, some _] _ from ⟨rfl, ⟨rfl, ⟨rfl, trivial⟩⟩⟩) H
  · have H := H.2 hc
    refine g_iload rfl rfl rfl (pc' := 333) ?_
    refine g_iconst rfl rfl rfl (pc' := 334) ?_
    refine g_iadd rfl rfl (pc' := 335) ?_
    refine g_goto rfl (pc' := 339) rfl ?_
    exact g_weak (show gm_Lle [some _, none, none, none, none, some _, none, none, none, none, none, none, some _] _ from ⟨rfl, ⟨rfl, ⟨rfl, trivial⟩⟩⟩) H
theorem w_516_339 {m : Nat} {x5 : Int32} {x12 : Int32} {y0 : Int32} {y2 : Int32} {y3 : Int32} {y5 : Int32} {y6 : Int32} {y7 : Int32} {y8 : Int32} {y9 : Int32} {h : hh_T} {Q : Option Value ⊕ Nat → hh_T → Prop} (hT : tw_ok h m) (H : gm_G 437 0 [some (.ref m), some (.int y9), some (.int y8), some (.int y7), some (.int y6), some (.int y5), some (.ref (m + 1)), some (.int y3), some (.int y2), some (.ref (m + 1)), some (.int y0), some (.int x5)] [] h (pV (fun h1 => gm_G 468 0 [some (.ref m), some (.int x12)] [] h1 (pI (fun v3 h2 => Q (.inl (some (.int v3))) h2) (fun _ _ => False))) (fun _ _ => False))) : gm_G 516 339 [some (.ref m), none, none, none, none, some (.int x5), none, none, none, none, none, none, some (.int x12)] [.int y0, .ref (m + 1), .int y2, .int y3, .ref (m + 1), .int y5, .int y6, .int y7, .int y8, .int y9, .ref m] h Q := by
  refine g_iload rfl rfl rfl (pc' := 341) ?_
  refine t_call hT (y := 437) (n := 12) (pc' := 344) rfl rfl (t_vt hT rfl rfl) rfl rfl ⟨(Nat.le_of_ble_eq_true rfl), (Nat.le_of_ble_eq_true rfl), (Nat.le_of_ble_eq_true rfl)⟩ rfl H (tV_elim (fun h1 H hT => ?_))
  show gm_G _ 344 _ _ _ _
  refine g_aload (r := some _) rfl rfl rfl (pc' := 345) ?_
  refine g_iload rfl rfl rfl (pc' := 347) ?_
  refine t_call hT (y := 468) (n := 2) (pc' := 350) rfl rfl (t_vt hT rfl rfl) rfl rfl ⟨(Nat.le_of_ble_eq_true rfl), (Nat.le_of_ble_eq_true rfl), (Nat.le_of_ble_eq_true rfl)⟩ rfl H (tI_elim (fun v3 h2 H hT => ?_))
  show gm_G _ 350 _ _ _ _
  exact g_ireturn rfl (Or.inl rfl) H
theorem w_517_0 {m : Nat} {x1 : Int32} {x2 : Int32} {x3 : Int32} {x4 : Int32} {h : hh_T} {Q : Option Value ⊕ Nat → hh_T → Prop} (hT : tw_ok h m) (H : gm_G 517 3 [some (.ref m), some (.int x1), some (.int x2), none, some (.int x4), some (.int (Int32.ofNat 0))] [] h Q) : gm_G 517 0 [some (.ref m), some (.int x1), some (.int x2), some (.int x3), some (.int x4)] [] h Q := by
  refine g_iconst rfl rfl rfl (pc' := 1) ?_
  refine g_istore rfl rfl rfl (pc' := 3) ?_
  exact g_weak (show gm_Lle [some _, some _, some _, none, some _, some _] _ from ⟨rfl, ⟨rfl, ⟨rfl, ⟨rfl, ⟨rfl, trivial⟩⟩⟩⟩⟩) H
theorem w_517_3 {m : Nat} {x1 : Int32} {x2 : Int32} {x4 : Int32} {x5 : Int32} {h : hh_T} {Q : Option Value ⊕ Nat → hh_T → Prop} (hT : tw_ok h m) (H : (¬ x5 < (Int32.ofNat 16) → (gm_G 146 0 [some (.ref m), some (.int (Int32.ofNat 9))] [] h (pV (fun h1 => ∃ n2, gm_ix x2 n2 96 ∧ (gm_G 298 0 [some (.ref m), some (.long ((hh_i h1 (m + 58) n2).toInt64)), none, some (.int (Int32.ofNat 4))] [] h1 (pV (fun h3 => Q (.inl (some (.int (Int32.ofNat 0)))) h3) (fun _ _ => False)))) (fun _ _ => False)))) ∧ (x5 < (Int32.ofNat 16) → (∃ n4, gm_ix (((Int32.ofNat 16) * x2) + x5) n4 1536 ∧ ((¬ (hh_i h (m + 40) n4) = Int32.ofNat 0 → ((x1 < Int32.ofNat 0 → (gm_G 517 97 [some (.ref m), some (.int x1), some (.int x2), none, some (.int x4), some (.int x5), some (.int (((Int32.ofNat 16) * x2) + x5)), some (.int (((Int32.ofNat 16) * x1) + x5))] [] h Q)) ∧ (¬ x1 < Int32.ofNat 0 → (∃ n5, gm_ix (((Int32.ofNat 16) * x1) + x5) n5 1536 ∧ (((hh_i h (m + 40) n5) = Int32.ofNat 0 → (gm_G 517 97 [some (.ref m), some (.int x1), some (.int x2), none, some (.int x4), some (.int x5), some (.int (((Int32.ofNat 16) * x2) + x5)), some (.int (((Int32.ofNat 16) * x1) + x5))] [] h Q)) ∧ (¬ (hh_i h (m + 40) n5) = Int32.ofNat 0 → (∃ n6, gm_ix (((Int32.ofNat 16) * x2) + x5) n6 1536 ∧ (∃ n7, gm_ix (((Int32.ofNat 16) * x1) + x5) n7 1536 ∧ (((hh_i h (m + 47) n6) = (hh_i h (m + 47) n7) → (gm_G 517 102 [some (.ref m), some (.int x1), some (.int x2), none, some (.int x4), some (.int x5), some (.int (((Int32.ofNat 16) * x2) + x5)), some (.int (((Int32.ofNat 16) * x1) + x5))] [.int (Int32.ofNat 0)] h Q)) ∧ (¬ (hh_i h (m + 47) n6) = (hh_i h (m + 47) n7) → (gm_G 517 97 [some (.ref m), some (.int x1), some (.int x2), none, some (.int x4), some (.int x5), some (.int (((Int32.ofNat 16) * x2) + x5)), some (.int (((Int32.ofNat 16) * x1) + x5))] [] h Q))))))))))) ∧ ((hh_i h (m + 40) n4) = Int32.ofNat 0 → ((x1 < Int32.ofNat 0 → (gm_G 517 304 [some (.ref m), some (.int x1), some (.int x2), none, some (.int x4), some (.int x5)] [] h Q)) ∧ (¬ x1 < Int32.ofNat 0 → (∃ n8, gm_ix (((Int32.ofNat 16) * x1) + x5) n8 1536 ∧ ((¬ Int32.ofNat 0 < (hh_i h (m + 40) n8) → (gm_G 517 304 [some (.ref m), some (.int x1), some (.int x2), none, some (.int x4), some (.int x5)] [] h Q)) ∧ (Int32.ofNat 0 < (hh_i h (m + 40) n8) → (gm_G 146 0 [some (.ref m), some (.int (Int32.ofNat 4))] [] h (pV (fun h9 => gm_G 146 0 [some (.ref m), some (.int x5)] [] h9 (pV (fun h10 => gm_G 517 304 [some (.ref m), some (.int x1), some (.int x2), none, some (.int x4), some (.int x5)] [] h10 Q) (fun _ _ => False))) (fun _ _ => False))))))))))))) : gm_G 517 3 [some (.ref m), some (.int x1), some (.int x2), none, some (.int x4), some (.int x5)] [] h Q := by
  refine g_iload rfl rfl rfl (pc' := 5) ?_
  refine g_iconst rfl rfl rfl (pc' := 7) ?_
  refine g_ic_ge rfl (pc' := 10) (pt := 310) rfl rfl ⟨fun hc => ?_, fun hc => ?_⟩
  · have H := H.1 hc
    refine g_aload (r := some _) rfl rfl rfl (pc' := 311) ?_
    refine g_iconst rfl rfl rfl (pc' := 313) ?_
    refine t_call hT (y := 146) (n := 2) (pc' := 316) rfl rfl (t_vt hT rfl rfl) rfl rfl ⟨(Nat.le_of_ble_eq_true rfl), (Nat.le_of_ble_eq_true rfl), (Nat.le_of_ble_eq_true rfl)⟩ rfl H (tV_elim (fun h1 H hT => ?_))
    show gm_G _ 316 _ _ _ _
    refine g_aload (r := some _) rfl rfl rfl (pc' := 317) ?_
    refine g_aload (r := some _) rfl rfl rfl (pc' := 318) ?_
    refine t_get (o := 58) rfl hT rfl rfl rfl (pc' := 321) rfl ?_
    refine g_iload rfl rfl rfl (pc' := 322) ?_
    obtain ⟨n2, hn2, H⟩ := H
    refine t_iaload hT (o := 58) (l := 96) rfl rfl rfl hn2 (pc' := 323) rfl ?_
    refine g_i2l rfl rfl (pc' := 324) ?_
    refine g_iconst rfl rfl rfl (pc' := 325) ?_
    refine t_call hT (y := 298) (n := 3) (pc' := 328) rfl rfl (t_vt hT rfl rfl) rfl rfl ⟨(Nat.le_of_ble_eq_true rfl), (Nat.le_of_ble_eq_true rfl), (Nat.le_of_ble_eq_true rfl)⟩ rfl H (tV_elim (fun h3 H hT => ?_))
    show gm_G _ 328 _ _ _ _
    refine g_iconst rfl rfl rfl (pc' := 329) ?_
    exact g_ireturn rfl (Or.inl rfl) H
  · have H := H.2 hc
    refine g_iconst rfl rfl rfl (pc' := 12) ?_
    refine g_iload rfl rfl rfl (pc' := 13) ?_
    refine g_imul rfl rfl (pc' := 14) ?_
    refine g_iload rfl rfl rfl (pc' := 16) ?_
    refine g_iadd rfl rfl (pc' := 17) ?_
    refine g_istore rfl rfl rfl (pc' := 19) ?_
    refine g_iconst rfl rfl rfl (pc' := 21) ?_
    refine g_iload rfl rfl rfl (pc' := 22) ?_
    refine g_imul rfl rfl (pc' := 23) ?_
    refine g_iload rfl rfl rfl (pc' := 25) ?_
    refine g_iadd rfl rfl (pc' := 26) ?_
    refine g_istore rfl rfl rfl (pc' := 28) ?_
    refine g_aload (r := some _) rfl rfl rfl (pc' := 29) ?_
    refine t_get (o := 40) rfl hT rfl rfl rfl (pc' := 32) rfl ?_
    refine g_iload rfl rfl rfl (pc' := 34) ?_
    obtain ⟨n4, hn4, H⟩ := H
    refine t_iaload hT (o := 40) (l := 1536) rfl rfl rfl hn4 (pc' := 35) rfl ?_
    refine g_if_ne rfl (pc' := 38) (pt := 66) rfl rfl ⟨fun hc => ?_, fun hc => ?_⟩
    · have H := H.1 hc
      refine g_iload rfl rfl rfl (pc' := 67) ?_
      refine g_if_lt rfl (pc' := 70) (pt := 97) rfl rfl ⟨fun hc => ?_, fun hc => ?_⟩
      · have H := H.1 hc
        exact g_weak (show gm_Lle [some _, some _, some _, none, some _, some _, some _, some _] _ from ⟨rfl, ⟨rfl, ⟨rfl, ⟨rfl, ⟨rfl, ⟨rfl, ⟨rfl, trivial⟩⟩⟩⟩⟩⟩⟩) H
      · have H := H.2 hc
        refine g_aload (r := some _) rfl rfl rfl (pc' := 71) ?_
        refine t_get (o := 40) rfl hT rfl rfl rfl (pc' := 74) rfl ?_
        refine g_iload rfl rfl rfl (pc' := 76) ?_
        obtain ⟨n5, hn5, H⟩ := H
        refine t_iaload hT (o := 40) (l := 1536) rfl rfl rfl hn5 (pc' := 77) rfl ?_
        refine g_if_eq rfl (pc' := 80) (pt := 97) rfl rfl ⟨fun hc => ?_, fun hc => ?_⟩
        · have H := H.1 hc
          exact g_weak (show gm_Lle [some _, some _, some _, none, some _, some _, some _, some _] _ from ⟨rfl, ⟨rfl, ⟨rfl, ⟨rfl, ⟨rfl, ⟨rfl, ⟨rfl, trivial⟩⟩⟩⟩⟩⟩⟩) H
        · have H := H.2 hc
          refine g_aload (r := some _) rfl rfl rfl (pc' := 81) ?_
          refine t_get (o := 47) rfl hT rfl rfl rfl (pc' := 84) rfl ?_
          refine g_iload rfl rfl rfl (pc' := 86) ?_
          obtain ⟨n6, hn6, H⟩ := H
          refine t_iaload hT (o := 47) (l := 1536) rfl rfl rfl hn6 (pc' := 87) rfl ?_
          refine g_aload (r := some _) rfl rfl rfl (pc' := 88) ?_
          refine t_get (o := 47) rfl hT rfl rfl rfl (pc' := 91) rfl ?_
          refine g_iload rfl rfl rfl (pc' := 93) ?_
          obtain ⟨n7, hn7, H⟩ := H
          refine t_iaload hT (o := 47) (l := 1536) rfl rfl rfl hn7 (pc' := 94) rfl ?_
          refine g_ic_eq rfl (pc' := 97) (pt := 101) rfl rfl ⟨fun hc => ?_, fun hc => ?_⟩
          · have H := H.1 hc
            refine g_iconst rfl rfl rfl (pc' := 102) ?_
            exact g_weak (show gm_Lle [some _, some _, some _, none, some _, some _, some _, some _] _ from ⟨rfl, ⟨rfl, ⟨rfl, ⟨rfl, ⟨rfl, ⟨rfl, ⟨rfl, trivial⟩⟩⟩⟩⟩⟩⟩) H
          · have H := H.2 hc
            exact g_weak (show gm_Lle [some _, some _, some _, none, some _, some _, some _, some _] _ from ⟨rfl, ⟨rfl, ⟨rfl, ⟨rfl, ⟨rfl, ⟨rfl, ⟨rfl, trivial⟩⟩⟩⟩⟩⟩⟩) H
    · have H := H.2 hc
      refine g_iload rfl rfl rfl (pc' := 39) ?_
      refine g_if_lt rfl (pc' := 42) (pt := 304) rfl rfl ⟨fun hc => ?_, fun hc => ?_⟩
      · have H := H.1 hc
        exact g_weak (show gm_Lle [some _, some _, some _, none, some _, some _] _ from ⟨rfl, ⟨rfl, ⟨rfl, ⟨rfl, ⟨rfl, trivial⟩⟩⟩⟩⟩) H
      · have H := H.2 hc
        refine g_aload (r := some _) rfl rfl rfl (pc' := 43) ?_
        refine t_get (o := 40) rfl hT rfl rfl rfl (pc' := 46) rfl ?_
        refine g_iload rfl rfl rfl (pc' := 48) ?_
        obtain ⟨n8, hn8, H⟩ := H
        refine t_iaload hT (o := 40) (l := 1536) rfl rfl rfl hn8 (pc' := 49) rfl ?_
        refine g_if_le rfl (pc' := 52) (pt := 304) rfl rfl ⟨fun hc => ?_, fun hc => ?_⟩
        · have H := H.1 hc
          exact g_weak (show gm_Lle [some _, some _, some _, none, some _, some _] _ from ⟨rfl, ⟨rfl, ⟨rfl, ⟨rfl, ⟨rfl, trivial⟩⟩⟩⟩⟩) H
        · have H := H.2 hc
          refine g_aload (r := some _) rfl rfl rfl (pc' := 53) ?_
          refine g_iconst rfl rfl rfl (pc' := 54) ?_
          refine t_call hT (y := 146) (n := 2) (pc' := 57) rfl rfl (t_vt hT rfl rfl) rfl rfl ⟨(Nat.le_of_ble_eq_true rfl), (Nat.le_of_ble_eq_true rfl), (Nat.le_of_ble_eq_true rfl)⟩ rfl H (tV_elim (fun h9 H hT => ?_))
          show gm_G _ 57 _ _ _ _
          refine g_aload (r := some _) rfl rfl rfl (pc' := 58) ?_
          refine g_iload rfl rfl rfl (pc' := 60) ?_
          refine t_call hT (y := 146) (n := 2) (pc' := 63) rfl rfl (t_vt hT rfl rfl) rfl rfl ⟨(Nat.le_of_ble_eq_true rfl), (Nat.le_of_ble_eq_true rfl), (Nat.le_of_ble_eq_true rfl)⟩ rfl H (tV_elim (fun h10 H hT => ?_))
          show gm_G _ 63 _ _ _ _
          refine g_goto rfl (pc' := 304) rfl ?_
          exact g_weak (show gm_Lle [some _, some _, some _, none, some _, some _] _ from ⟨rfl, ⟨rfl, ⟨rfl, ⟨rfl, ⟨rfl, trivial⟩⟩⟩⟩⟩) H
theorem w_517_97 {m : Nat} {x1 : Int32} {x2 : Int32} {x4 : Int32} {x5 : Int32} {x6 : Int32} {x7 : Int32} {h : hh_T} {Q : Option Value ⊕ Nat → hh_T → Prop} (hT : tw_ok h m) (H : gm_G 517 102 [some (.ref m), some (.int x1), some (.int x2), none, some (.int x4), some (.int x5), some (.int x6), some (.int x7)] [.int (Int32.ofNat 1)] h Q) : gm_G 517 97 [some (.ref m), some (.int x1), some (.int x2), none, some (.int x4), some (.int x5), some (.int x6), some (.int x7)] [] h Q := by
  refine g_iconst rfl rfl rfl (pc' := 98) ?_
  refine g_goto rfl (pc' := 102) rfl ?_
  exact g_weak (show gm_Lle [some _, some _, some _, none, some _, some _, some _, some _] _ from ⟨rfl, ⟨rfl, ⟨rfl, ⟨rfl, ⟨rfl, ⟨rfl, ⟨rfl, trivial⟩⟩⟩⟩⟩⟩⟩) H
theorem w_517_102 {m : Nat} {x1 : Int32} {x2 : Int32} {x4 : Int32} {x5 : Int32} {x6 : Int32} {x7 : Int32} {y0 : Int32} {h : hh_T} {Q : Option Value ⊕ Nat → hh_T → Prop} (hT : tw_ok h m) (H : (¬ y0 = Int32.ofNat 0 → (gm_G 517 120 [some (.ref m), some (.int x1), some (.int x2), none, some (.int x4), some (.int x5), some (.int x6), some (.int x7), some (.int y0)] [] h Q)) ∧ (y0 = Int32.ofNat 0 → (gm_G 381 0 [some (.ref m), some (.int x6), some (.int x7)] [] h (pI (fun v2 h1 => (¬ v2 = Int32.ofNat 0 → (gm_G 517 128 [some (.ref m), some (.int x1), some (.int x2), none, some (.int x4), some (.int x5), some (.int x6), some (.int x7), some (.int y0)] [] h1 Q)) ∧ (v2 = Int32.ofNat 0 → (gm_G 517 120 [some (.ref m), some (.int x1), some (.int x2), none, some (.int x4), some (.int x5), some (.int x6), some (.int x7), some (.int y0)] [] h1 Q))) (fun _ _ => False))))) : gm_G 517 102 [some (.ref m), some (.int x1), some (.int x2), none, some (.int x4), some (.int x5), some (.int x6), some (.int x7)] [.int y0] h Q := by
  refine g_istore rfl rfl rfl (pc' := 104) ?_
  refine g_iload rfl rfl rfl (pc' := 106) ?_
  refine g_if_ne rfl (pc' := 109) (pt := 120) rfl rfl ⟨fun hc => ?_, fun hc => ?_⟩
  · have H := H.1 hc
    exact g_weak (show gm_Lle [some _, some _, some _, none, some _, some _, some _, some _, some _] _ from ⟨rfl, ⟨rfl, ⟨rfl, ⟨rfl, ⟨rfl, ⟨rfl, ⟨rfl, ⟨rfl, trivial⟩⟩⟩⟩⟩⟩⟩⟩) H
  · have H := H.2 hc
    refine g_aload (r := some _) rfl rfl rfl (pc' := 110) ?_
    refine g_iload rfl rfl rfl (pc' := 112) ?_
    refine g_iload rfl rfl rfl (pc' := 114) ?_
    refine t_call hT (y := 381) (n := 3) (pc' := 117) rfl rfl (t_vt hT rfl rfl) rfl rfl ⟨(Nat.le_of_ble_eq_true rfl), (Nat.le_of_ble_eq_true rfl), (Nat.le_of_ble_eq_true rfl)⟩ rfl H (tI_elim (fun v2 h1 H hT => ?_))
    show gm_G _ 117 _ _ _ _
    refine g_if_ne rfl (pc' := 120) (pt := 128) rfl rfl ⟨fun hc => ?_, fun hc => ?_⟩
    · have H := H.1 hc
      exact g_weak (show gm_Lle [some _, some _, some _, none, some _, some _, some _, some _, some _] _ from ⟨rfl, ⟨rfl, ⟨rfl, ⟨rfl, ⟨rfl, ⟨rfl, ⟨rfl, ⟨rfl, trivial⟩⟩⟩⟩⟩⟩⟩⟩) H
    · have H := H.2 hc
      exact g_weak (show gm_Lle [some _, some _, some _, none, some _, some _, some _, some _, some _] _ from ⟨rfl, ⟨rfl, ⟨rfl, ⟨rfl, ⟨rfl, ⟨rfl, ⟨rfl, ⟨rfl, trivial⟩⟩⟩⟩⟩⟩⟩⟩) H
theorem w_517_120 {m : Nat} {x1 : Int32} {x2 : Int32} {x4 : Int32} {x5 : Int32} {x6 : Int32} {x7 : Int32} {x8 : Int32} {h : hh_T} {Q : Option Value ⊕ Nat → hh_T → Prop} (hT : tw_ok h m) (H : gm_G 380 0 [some (.ref m), some (.int x6), some (.int x5)] [] h (pV (fun h1 => gm_G 517 128 [some (.ref m), some (.int x1), some (.int x2), none, some (.int x4), some (.int x5), some (.int x6), some (.int x7), some (.int x8)] [] h1 Q) (fun _ _ => False))) : gm_G 517 120 [some (.ref m), some (.int x1), some (.int x2), none, some (.int x4), some (.int x5), some (.int x6), some (.int x7), some (.int x8)] [] h Q := by
  refine g_aload (r := some _) rfl rfl rfl (pc' := 121) ?_
  refine g_iload rfl rfl rfl (pc' := 123) ?_
  refine g_iload rfl rfl rfl (pc' := 125) ?_
  refine t_call hT (y := 380) (n := 3) (pc' := 128) rfl rfl (t_vt hT rfl rfl) rfl rfl ⟨(Nat.le_of_ble_eq_true rfl), (Nat.le_of_ble_eq_true rfl), (Nat.le_of_ble_eq_true rfl)⟩ rfl H (tV_elim (fun h1 H hT => ?_))
  show gm_G _ 128 _ _ _ _
  exact g_weak (show gm_Lle [some _, some _, some _, none, some _, some _, some _, some _, some _] _ from ⟨rfl, ⟨rfl, ⟨rfl, ⟨rfl, ⟨rfl, ⟨rfl, ⟨rfl, ⟨rfl, trivial⟩⟩⟩⟩⟩⟩⟩⟩) H
theorem w_517_128 {m : Nat} {x1 : Int32} {x2 : Int32} {x4 : Int32} {x5 : Int32} {x6 : Int32} {x7 : Int32} {x8 : Int32} {h : hh_T} {Q : Option Value ⊕ Nat → hh_T → Prop} (hT : tw_ok h m) (H : ∃ n1, gm_ix x6 n1 1536 ∧ (((hh_i h (m + 40) n1) = (Int32.ofNat 1) → (gm_G 517 153 [some (.ref m), some (.int x1), some (.int x2), none, some (.int x4), some (.int x5), some (.int x6), some (.int x7), some (.int x8)] [] h Q)) ∧ (¬ (hh_i h (m + 40) n1) = (Int32.ofNat 1) → (∃ n2, gm_ix x6 n2 1536 ∧ (((hh_i h (m + 40) n2) = (Int32.ofNat 4) → (gm_G 517 153 [some (.ref m), some (.int x1), some (.int x2), none, some (.int x4), some (.int x5), some (.int x6), some (.int x7), some (.int x8)] [] h Q)) ∧ (¬ (hh_i h (m + 40) n2) = (Int32.ofNat 4) → (gm_G 517 304 [some (.ref m), some (.int x1), some (.int x2), none, some (.int x4), some (.int x5)] [] h Q))))))) : gm_G 517 128 [some (.ref m), some (.int x1), some (.int x2), none, some (.int x4), some (.int x5), some (.int x6), some (.int x7), some (.int x8)] [] h Q := by
  refine g_aload (r := some _) rfl rfl rfl (pc' := 129) ?_
  refine t_get (o := 40) rfl hT rfl rfl rfl (pc' := 132) rfl ?_
  refine g_iload rfl rfl rfl (pc' := 134) ?_
  obtain ⟨n1, hn1, H⟩ := H
  refine t_iaload hT (o := 40) (l := 1536) rfl rfl rfl hn1 (pc' := 135) rfl ?_
  refine g_iconst rfl rfl rfl (pc' := 136) ?_
  refine g_ic_eq rfl (pc' := 139) (pt := 153) rfl rfl ⟨fun hc => ?_, fun hc => ?_⟩
  · have H := H.1 hc
    exact g_weak (show gm_Lle [some _, some _, some _, none, some _, some _, some _, some _, some _] _ from ⟨rfl, ⟨rfl, ⟨rfl, ⟨rfl, ⟨rfl, ⟨rfl, ⟨rfl, ⟨rfl, trivial⟩⟩⟩⟩⟩⟩⟩⟩) H
  · have H := H.2 hc
    refine g_aload (r := some _) rfl rfl rfl (pc' := 140) ?_
    refine t_get (o := 40) rfl hT rfl rfl rfl (pc' := 143) rfl ?_
    refine g_iload rfl rfl rfl (pc' := 145) ?_
    obtain ⟨n2, hn2, H⟩ := H
    refine t_iaload hT (o := 40) (l := 1536) rfl rfl rfl hn2 (pc' := 146) rfl ?_
    refine g_iconst rfl rfl rfl (pc' := 147) ?_
    refine g_ic_eq rfl (pc' := 150) (pt := 153) rfl rfl ⟨fun hc => ?_, fun hc => ?_⟩
    · have H := H.1 hc
      exact g_weak (show gm_Lle [some _, some _, some _, none, some _, some _, some _, some _, some _] _ from ⟨rfl, ⟨rfl, ⟨rfl, ⟨rfl, ⟨rfl, ⟨rfl, ⟨rfl, ⟨rfl, trivial⟩⟩⟩⟩⟩⟩⟩⟩) H
    · have H := H.2 hc
      refine g_goto rfl (pc' := 304) rfl ?_
      exact g_weak (show gm_Lle [some _, some _, some _, none, some _, some _] _ from ⟨rfl, ⟨rfl, ⟨rfl, ⟨rfl, ⟨rfl, trivial⟩⟩⟩⟩⟩) H
theorem w_517_153 {m : Nat} {x1 : Int32} {x2 : Int32} {x4 : Int32} {x5 : Int32} {x6 : Int32} {x7 : Int32} {x8 : Int32} {h : hh_T} {Q : Option Value ⊕ Nat → hh_T → Prop} (hT : tw_ok h m) (H : gm_G 517 156 [some (.ref m), some (.int x1), some (.int x2), none, some (.int x4), some (.int x5), some (.int x6), some (.int x7), some (.int x8), some (.int (Int32.ofNat 0))] [] h Q) : gm_G 517 153 [some (.ref m), some (.int x1), some (.int x2), none, some (.int x4), some (.int x5), some (.int x6), some (.int x7), some (.int x8)] [] h Q := by
  refine g_iconst rfl rfl rfl (pc' := 154) ?_
  refine g_istore rfl rfl rfl (pc' := 156) ?_
  exact g_weak (show gm_Lle [some _, some _, some _, none, some _, some _, some _, some _, some _, some _] _ from ⟨rfl, ⟨rfl, ⟨rfl, ⟨rfl, ⟨rfl, ⟨rfl, ⟨rfl, ⟨rfl, ⟨rfl, trivial⟩⟩⟩⟩⟩⟩⟩⟩⟩) H
theorem w_517_156 {m : Nat} {x1 : Int32} {x2 : Int32} {x4 : Int32} {x5 : Int32} {x6 : Int32} {x7 : Int32} {x8 : Int32} {x9 : Int32} {h : hh_T} {Q : Option Value ⊕ Nat → hh_T → Prop} (hT : tw_ok h m) (H : (¬ x9 < (Int32.ofNat 8) → (gm_G 517 304 [some (.ref m), some (.int x1), some (.int x2), none, some (.int x4), some (.int x5)] [] h Q)) ∧ (x9 < (Int32.ofNat 8) → (∃ n1, gm_ix (((Int32.ofNat 8) * x6) + x9) n1 12288 ∧ ((x8 = Int32.ofNat 0 → (∃ n2, gm_ix (((Int32.ofNat 8) * x7) + x9) n2 12288 ∧ ((¬ (hh_i h (m + 55) n1) = (hh_i h (m + 55) n2) → (gm_G 517 212 [some (.ref m), some (.int x1), some (.int x2), none, some (.int x4), some (.int x5), some (.int x6), some (.int x7), some (.int x8), some (.int x9), some (.int (hh_i h (m + 55) n1))] [] h Q)) ∧ ((hh_i h (m + 55) n1) = (hh_i h (m + 55) n2) → (gm_G 517 298 [some (.ref m), some (.int x1), some (.int x2), none, some (.int x4), some (.int x5), some (.int x6), some (.int x7), some (.int x8), some (.int x9)] [] h Q))))) ∧ (¬ x8 = Int32.ofNat 0 → ((¬ (hh_i h (m + 55) n1) < Int32.ofNat 0 → (gm_G 517 212 [some (.ref m), some (.int x1), some (.int x2), none, some (.int x4), some (.int x5), some (.int x6), some (.int x7), some (.int x8), some (.int x9), some (.int (hh_i h (m + 55) n1))] [] h Q)) ∧ ((hh_i h (m + 55) n1) < Int32.ofNat 0 → (gm_G 517 298 [some (.ref m), some (.int x1), some (.int x2), none, some (.int x4), some (.int x5), some (.int x6), some (.int x7), some (.int x8), some (.int x9)] [] h Q)))))))) : gm_G 517 156 [some (.ref m), some (.int x1), some (.int x2), none, some (.int x4), some (.int x5), some (.int x6), some (.int x7), some (.int x8), some (.int x9)] [] h Q := by
  refine g_iload rfl rfl rfl (pc' := 158) ?_
  refine g_iconst rfl rfl rfl (pc' := 160) ?_
  refine g_ic_ge rfl (pc' := 163) (pt := 304) rfl rfl ⟨fun hc => ?_, fun hc => ?_⟩
  · have H := H.1 hc
    exact g_weak (show gm_Lle [some _, some _, some _, none, some _, some _] _ from ⟨rfl, ⟨rfl, ⟨rfl, ⟨rfl, ⟨rfl, trivial⟩⟩⟩⟩⟩) H
  · have H := H.2 hc
    refine g_aload (r := some _) rfl rfl rfl (pc' := 164) ?_
    refine t_get (o := 55) rfl hT rfl rfl rfl (pc' := 167) rfl ?_
    refine g_iconst rfl rfl rfl (pc' := 169) ?_
    refine g_iload rfl rfl rfl (pc' := 171) ?_
    refine g_imul rfl rfl (pc' := 172) ?_
    refine g_iload rfl rfl rfl (pc' := 174) ?_
    refine g_iadd rfl rfl (pc' := 175) ?_
    obtain ⟨n1, hn1, H⟩ := H
    refine t_iaload hT (o := 55) (l := 12288) rfl rfl rfl hn1 (pc' := 176) rfl ?_
    refine g_istore rfl rfl rfl (pc' := 178) ?_
    refine g_iload rfl rfl rfl (pc' := 180) ?_
    refine g_if_eq rfl (pc' := 183) (pt := 191) rfl rfl ⟨fun hc => ?_, fun hc => ?_⟩
    · have H := H.1 hc
      refine g_iload rfl rfl rfl (pc' := 193) ?_
      refine g_aload (r := some _) rfl rfl rfl (pc' := 194) ?_
      refine t_get (o := 55) rfl hT rfl rfl rfl (pc' := 197) rfl ?_
      refine g_iconst rfl rfl rfl (pc' := 199) ?_
      refine g_iload rfl rfl rfl (pc' := 201) ?_
      refine g_imul rfl rfl (pc' := 202) ?_
      refine g_iload rfl rfl rfl (pc' := 204) ?_
      refine g_iadd rfl rfl (pc' := 205) ?_
      obtain ⟨n2, hn2, H⟩ := H
      refine t_iaload hT (o := 55) (l := 12288) rfl rfl rfl hn2 (pc' := 206) rfl ?_
      refine g_ic_ne rfl (pc' := 209) (pt := 212) rfl rfl ⟨fun hc => ?_, fun hc => ?_⟩
      · have H := H.1 hc
        exact g_weak (show gm_Lle [some _, some _, some _, none, some _, some _, some _, some _, some _, some _, some _] _ from ⟨rfl, ⟨rfl, ⟨rfl, ⟨rfl, ⟨rfl, ⟨rfl, ⟨rfl, ⟨rfl, ⟨rfl, ⟨rfl, trivial⟩⟩⟩⟩⟩⟩⟩⟩⟩⟩) H
      · have H := H.2 hc
        refine g_goto rfl (pc' := 298) rfl ?_
        exact g_weak (show gm_Lle [some _, some _, some _, none, some _, some _, some _, some _, some _, some _] _ from ⟨rfl, ⟨rfl, ⟨rfl, ⟨rfl, ⟨rfl, ⟨rfl, ⟨rfl, ⟨rfl, ⟨rfl, trivial⟩⟩⟩⟩⟩⟩⟩⟩⟩) H
    · have H := H.2 hc
      refine g_iload rfl rfl rfl (pc' := 185) ?_
      refine g_if_ge rfl (pc' := 188) (pt := 212) rfl rfl ⟨fun hc => ?_, fun hc => ?_⟩
      · have H := H.1 hc
        exact g_weak (show gm_Lle [some _, some _, some _, none, some _, some _, some _, some _, some _, some _, some _] _ from ⟨rfl, ⟨rfl, ⟨rfl, ⟨rfl, ⟨rfl, ⟨rfl, ⟨rfl, ⟨rfl, ⟨rfl, ⟨rfl, trivial⟩⟩⟩⟩⟩⟩⟩⟩⟩⟩) H
      · have H := H.2 hc
        refine g_goto rfl (pc' := 298) rfl ?_
        exact g_weak (show gm_Lle [some _, some _, some _, none, some _, some _, some _, some _, some _, some _] _ from ⟨rfl, ⟨rfl, ⟨rfl, ⟨rfl, ⟨rfl, ⟨rfl, ⟨rfl, ⟨rfl, ⟨rfl, trivial⟩⟩⟩⟩⟩⟩⟩⟩⟩) H
theorem w_517_212 {m : Nat} {x1 : Int32} {x2 : Int32} {x4 : Int32} {x5 : Int32} {x6 : Int32} {x7 : Int32} {x8 : Int32} {x9 : Int32} {x10 : Int32} {h : hh_T} {Q : Option Value ⊕ Nat → hh_T → Prop} (hT : tw_ok h m) (H : (¬ x10 < Int32.ofNat 0 → (gm_G 517 223 [some (.ref m), some (.int x1), some (.int x2), none, some (.int x4), some (.int x5), some (.int x6), some (.int x7), some (.int x8), some (.int x9), some (.int x10)] [.int (Int32.ofNat 2), .ref m] h Q)) ∧ (x10 < Int32.ofNat 0 → (gm_G 517 223 [some (.ref m), some (.int x1), some (.int x2), none, some (.int x4), some (.int x5), some (.int x6), some (.int x7), some (.int x8), some (.int x9), some (.int x10)] [.int (Int32.ofNat 3), .ref m] h Q))) : gm_G 517 212 [some (.ref m), some (.int x1), some (.int x2), none, some (.int x4), some (.int x5), some (.int x6), some (.int x7), some (.int x8), some (.int x9), some (.int x10)] [] h Q := by
  refine g_aload (r := some _) rfl rfl rfl (pc' := 213) ?_
  refine g_iload rfl rfl rfl (pc' := 215) ?_
  refine g_if_ge rfl (pc' := 218) (pt := 222) rfl rfl ⟨fun hc => ?_, fun hc => ?_⟩
  · have H := H.1 hc
    refine g_iconst rfl rfl rfl (pc' := 223) ?_
    exact g_weak (show gm_Lle [some _, some _, some _, none, some _, some _, some _, some _, some _, some _, some _] _ from ⟨rfl, ⟨rfl, ⟨rfl, ⟨rfl, ⟨rfl, ⟨rfl, ⟨rfl, ⟨rfl, ⟨rfl, ⟨rfl, trivial⟩⟩⟩⟩⟩⟩⟩⟩⟩⟩) H
  · have H := H.2 hc
    refine g_iconst rfl rfl rfl (pc' := 219) ?_
    refine g_goto rfl (pc' := 223) rfl ?_
    exact g_weak (show gm_Lle [some _, some _, some _, none, some _, some _, some _, some _, some _, some _, some _] _ from ⟨rfl, ⟨rfl, ⟨rfl, ⟨rfl, ⟨rfl, ⟨rfl, ⟨rfl, ⟨rfl, ⟨rfl, ⟨rfl, trivial⟩⟩⟩⟩⟩⟩⟩⟩⟩⟩) H
theorem w_517_223 {m : Nat} {x1 : Int32} {x2 : Int32} {x4 : Int32} {x5 : Int32} {x6 : Int32} {x7 : Int32} {x8 : Int32} {x9 : Int32} {x10 : Int32} {y0 : Int32} {h : hh_T} {Q : Option Value ⊕ Nat → hh_T → Prop} (hT : tw_ok h m) (H : gm_G 146 0 [some (.ref m), some (.int y0)] [] h (pV (fun h1 => gm_G 146 0 [some (.ref m), some (.int x5)] [] h1 (pV (fun h2 => gm_G 146 0 [some (.ref m), some (.int x9)] [] h2 (pV (fun h3 => (¬ x10 < Int32.ofNat 0 → ((x4 = Int32.ofNat 0 → (gm_G 517 261 [some (.ref m), some (.int x1), some (.int x2), none, some (.int x4), some (.int x5), some (.int x6), some (.int x7), some (.int x8), some (.int x9)] [.int (Int32.ofNat 0)] h3 Q)) ∧ (¬ x4 = Int32.ofNat 0 → (gm_G 473 0 [some (.ref m), some (.int x10)] [] h3 (pI (fun v5 h4 => gm_G 517 261 [some (.ref m), some (.int x1), some (.int x2), none, some (.int x4), some (.int x5), some (.int x6), some (.int x7), some (.int x8), some (.int x9)] [.int v5] h4 Q) (fun _ _ => False)))))) ∧ (x10 < Int32.ofNat 0 → (gm_G 517 298 [some (.ref m), some (.int x1), some (.int x2), none, some (.int x4), some (.int x5), some (.int x6), some (.int x7), some (.int x8), some (.int x9)] [] h3 Q))) (fun _ _ => False))) (fun _ _ => False))) (fun _ _ => False))) : gm_G 517 223 [some (.ref m), some (.int x1), some (.int x2), none, some (.int x4), some (.int x5), some (.int x6), some (.int x7), some (.int x8), some (.int x9), some (.int x10)] [.int y0, .ref m] h Q := by
  refine t_call hT (y := 146) (n := 2) (pc' := 226) rfl rfl (t_vt hT rfl rfl) rfl rfl ⟨(Nat.le_of_ble_eq_true rfl), (Nat.le_of_ble_eq_true rfl), (Nat.le_of_ble_eq_true rfl)⟩ rfl H (tV_elim (fun h1 H hT => ?_))
  show gm_G _ 226 _ _ _ _
  refine g_aload (r := some _) rfl rfl rfl (pc' := 227) ?_
  refine g_iload rfl rfl rfl (pc' := 229) ?_
  refine t_call hT (y := 146) (n := 2) (pc' := 232) rfl rfl (t_vt hT rfl rfl) rfl rfl ⟨(Nat.le_of_ble_eq_true rfl), (Nat.le_of_ble_eq_true rfl), (Nat.le_of_ble_eq_true rfl)⟩ rfl H (tV_elim (fun h2 H hT => ?_))
  show gm_G _ 232 _ _ _ _
  refine g_aload (r := some _) rfl rfl rfl (pc' := 233) ?_
  refine g_iload rfl rfl rfl (pc' := 235) ?_
  refine t_call hT (y := 146) (n := 2) (pc' := 238) rfl rfl (t_vt hT rfl rfl) rfl rfl ⟨(Nat.le_of_ble_eq_true rfl), (Nat.le_of_ble_eq_true rfl), (Nat.le_of_ble_eq_true rfl)⟩ rfl H (tV_elim (fun h3 H hT => ?_))
  show gm_G _ 238 _ _ _ _
  refine g_iload rfl rfl rfl (pc' := 240) ?_
  refine g_if_ge rfl (pc' := 243) (pt := 246) rfl rfl ⟨fun hc => ?_, fun hc => ?_⟩
  · have H := H.1 hc
    refine g_iload rfl rfl rfl (pc' := 248) ?_
    refine g_if_eq rfl (pc' := 251) (pt := 260) rfl rfl ⟨fun hc => ?_, fun hc => ?_⟩
    · have H := H.1 hc
      refine g_iconst rfl rfl rfl (pc' := 261) ?_
      exact g_weak (show gm_Lle [some _, some _, some _, none, some _, some _, some _, some _, some _, some _] _ from ⟨rfl, ⟨rfl, ⟨rfl, ⟨rfl, ⟨rfl, ⟨rfl, ⟨rfl, ⟨rfl, ⟨rfl, trivial⟩⟩⟩⟩⟩⟩⟩⟩⟩) H
    · have H := H.2 hc
      refine g_aload (r := some _) rfl rfl rfl (pc' := 252) ?_
      refine g_iload rfl rfl rfl (pc' := 254) ?_
      refine t_call hT (y := 473) (n := 2) (pc' := 257) rfl rfl (t_vt hT rfl rfl) rfl rfl ⟨(Nat.le_of_ble_eq_true rfl), (Nat.le_of_ble_eq_true rfl), (Nat.le_of_ble_eq_true rfl)⟩ rfl H (tI_elim (fun v5 h4 H hT => ?_))
      show gm_G _ 257 _ _ _ _
      refine g_goto rfl (pc' := 261) rfl ?_
      exact g_weak (show gm_Lle [some _, some _, some _, none, some _, some _, some _, some _, some _, some _] _ from ⟨rfl, ⟨rfl, ⟨rfl, ⟨rfl, ⟨rfl, ⟨rfl, ⟨rfl, ⟨rfl, ⟨rfl, trivial⟩⟩⟩⟩⟩⟩⟩⟩⟩) H
  · have H := H.2 hc
    refine g_goto rfl (pc' := 298) rfl ?_
    exact g_weak (show gm_Lle [some _, some _, some _, none, some _, some _, some _, some _, some _, some _] _ from ⟨rfl, ⟨rfl, ⟨rfl, ⟨rfl, ⟨rfl, ⟨rfl, ⟨rfl, ⟨rfl, ⟨rfl, trivial⟩⟩⟩⟩⟩⟩⟩⟩⟩) H
theorem w_517_261 {m : Nat} {x1 : Int32} {x2 : Int32} {x4 : Int32} {x5 : Int32} {x6 : Int32} {x7 : Int32} {x8 : Int32} {x9 : Int32} {y0 : Int32} {h : hh_T} {Q : Option Value ⊕ Nat → hh_T → Prop} (hT : tw_ok h m) (H : (¬ y0 < Int32.ofNat 0 → (gm_G 517 274 [some (.ref m), some (.int x1), some (.int x2), none, some (.int x4), some (.int x5), some (.int x6), some (.int x7), some (.int x8), some (.int x9), none, none, some (.int (Int32.ofNat 0))] [] h Q)) ∧ (y0 < Int32.ofNat 0 → (Q (.inl (some (.int y0))) h))) : gm_G 517 261 [some (.ref m), some (.int x1), some (.int x2), none, some (.int x4), some (.int x5), some (.int x6), some (.int x7), some (.int x8), some (.int x9)] [.int y0] h Q := by
  refine g_istore rfl rfl rfl (pc' := 263) ?_
  refine g_iload rfl rfl rfl (pc' := 265) ?_
  refine g_if_ge rfl (pc' := 268) (pt := 271) rfl rfl ⟨fun hc => ?_, fun hc => ?_⟩
  · have H := H.1 hc
    refine g_iconst rfl rfl rfl (pc' := 272) ?_
    refine g_istore rfl rfl rfl (pc' := 274) ?_
    exact g_weak (show gm_Lle [some _, some _, some _, none, some _, some _, some _, some _, some _, some _, none, none, some _] _ from ⟨rfl, ⟨rfl, ⟨rfl, ⟨rfl, ⟨rfl, ⟨rfl, ⟨rfl, ⟨rfl, ⟨rfl, ⟨rfl, trivial⟩⟩⟩⟩⟩⟩⟩⟩⟩⟩) H
  · have H := H.2 hc
    refine g_iload rfl rfl rfl (pc' := 270) ?_
    exact g_ireturn rfl (Or.inl rfl) H
theorem w_517_274 {m : Nat} {x1 : Int32} {x2 : Int32} {x4 : Int32} {x5 : Int32} {x6 : Int32} {x7 : Int32} {x8 : Int32} {x9 : Int32} {x12 : Int32} {h : hh_T} {Q : Option Value ⊕ Nat → hh_T → Prop} (hT : tw_ok h m) (H : (¬ x12 < (Int32.ofNat 32) → (gm_G 517 298 [some (.ref m), some (.int x1), some (.int x2), none, some (.int x4), some (.int x5), some (.int x6), some (.int x7), some (.int x8), some (.int x9)] [] h Q)) ∧ (x12 < (Int32.ofNat 32) → (∃ n1, gm_ix x12 n1 64 ∧ (gm_G 146 0 [some (.ref m), some (.int (hh_i h (m + 29) n1))] [] h (pV (fun h2 => gm_G 517 274 [some (.ref m), some (.int x1), some (.int x2), none, some (.int x4), some (.int x5), some (.int x6), some (.int x7), some (.int x8), some (.int x9), none, none, some (.int (x12 + (Int32.ofNat 1)))] [] h2 Q) (fun _ _ => False)))))) : gm_G 517 274 [some (.ref m), some (.int x1), some (.int x2), none, some (.int x4), some (.int x5), some (.int x6), some (.int x7), some (.int x8), some (.int x9), none, none, some (.int x12)] [] h Q := by
  refine g_iload rfl rfl rfl (pc' := 276) ?_
  refine g_iconst rfl rfl rfl (pc' := 278) ?_
  refine g_ic_ge rfl (pc' := 281) (pt := 298) rfl rfl ⟨fun hc => ?_, fun hc => ?_⟩
  · have H := H.1 hc
    exact g_weak (show gm_Lle [some _, some _, some _, none, some _, some _, some _, some _, some _, some _] _ from ⟨rfl, ⟨rfl, ⟨rfl, ⟨rfl, ⟨rfl, ⟨rfl, ⟨rfl, ⟨rfl, ⟨rfl, trivial⟩⟩⟩⟩⟩⟩⟩⟩⟩) H
  · have H := H.2 hc
    refine g_aload (r := some _) rfl rfl rfl (pc' := 282) ?_
    refine g_aload (r := some _) rfl rfl rfl (pc' := 283) ?_
    refine t_get (o := 29) rfl hT rfl rfl rfl (pc' := 286) rfl ?_
    refine g_iload rfl rfl rfl (pc' := 288) ?_
    obtain ⟨n1, hn1, H⟩ := H
    refine t_baload hT (o := 29) (l := 64) rfl rfl rfl hn1 (pc' := 289) rfl ?_
    refine t_call hT (y := 146) (n := 2) (pc' := 292) rfl rfl (t_vt hT rfl rfl) rfl rfl ⟨(Nat.le_of_ble_eq_true rfl), (Nat.le_of_ble_eq_true rfl), (Nat.le_of_ble_eq_true rfl)⟩ rfl H (tV_elim (fun h2 H hT => ?_))
    show gm_G _ 292 _ _ _ _
    refine g_iinc (c := (Int32.ofNat 1)) rfl rfl rfl rfl rfl (pc' := 295) ?_
    refine g_goto rfl (pc' := 274) rfl ?_
    exact g_weak (show gm_Lle [some _, some _, some _, none, some _, some _, some _, some _, some _, some _, none, none, some _] _ from ⟨rfl, ⟨rfl, ⟨rfl, ⟨rfl, ⟨rfl, ⟨rfl, ⟨rfl, ⟨rfl, ⟨rfl, ⟨rfl, trivial⟩⟩⟩⟩⟩⟩⟩⟩⟩⟩) H
theorem w_517_298 {m : Nat} {x1 : Int32} {x2 : Int32} {x4 : Int32} {x5 : Int32} {x6 : Int32} {x7 : Int32} {x8 : Int32} {x9 : Int32} {h : hh_T} {Q : Option Value ⊕ Nat → hh_T → Prop} (hT : tw_ok h m) (H : gm_G 517 156 [some (.ref m), some (.int x1), some (.int x2), none, some (.int x4), some (.int x5), some (.int x6), some (.int x7), some (.int x8), some (.int (x9 + (Int32.ofNat 1)))] [] h Q) : gm_G 517 298 [some (.ref m), some (.int x1), some (.int x2), none, some (.int x4), some (.int x5), some (.int x6), some (.int x7), some (.int x8), some (.int x9)] [] h Q := by
  refine g_iinc (c := (Int32.ofNat 1)) rfl rfl rfl rfl rfl (pc' := 301) ?_
  refine g_goto rfl (pc' := 156) rfl ?_
  exact g_weak (show gm_Lle [some _, some _, some _, none, some _, some _, some _, some _, some _, some _] _ from ⟨rfl, ⟨rfl, ⟨rfl, ⟨rfl, ⟨rfl, ⟨rfl, ⟨rfl, ⟨rfl, ⟨rfl, trivial⟩⟩⟩⟩⟩⟩⟩⟩⟩) H
theorem w_517_304 {m : Nat} {x1 : Int32} {x2 : Int32} {x4 : Int32} {x5 : Int32} {h : hh_T} {Q : Option Value ⊕ Nat → hh_T → Prop} (hT : tw_ok h m) (H : gm_G 517 3 [some (.ref m), some (.int x1), some (.int x2), none, some (.int x4), some (.int (x5 + (Int32.ofNat 1)))] [] h Q) : gm_G 517 304 [some (.ref m), some (.int x1), some (.int x2), none, some (.int x4), some (.int x5)] [] h Q := by
  refine g_iinc (c := (Int32.ofNat 1)) rfl rfl rfl rfl rfl (pc' := 307) ?_
  refine g_goto rfl (pc' := 3) rfl ?_
  exact g_weak (show gm_Lle [some _, some _, some _, none, some _, some _] _ from ⟨rfl, ⟨rfl, ⟨rfl, ⟨rfl, ⟨rfl, trivial⟩⟩⟩⟩⟩) H
theorem w_518_0 {m : Nat} {x1 : Int32} {h : hh_T} {Q : Option Value ⊕ Nat → hh_T → Prop} (hT : tw_ok h m) (H : ∀ h1, h1 = hh_wi h m 2 (Int32.ofNat 0) → ((¬ (hh_i h1 m 77) = Int32.ofNat 0 → (gm_G 90 0 [some (.ref m), some (.int (hh_i h m 2))] [] h1 (pI (fun v3 h2 => (v3 < Int32.ofNat 0 → (Q (.inl (some (.int (Int32.ofInt (-11))))) h2)) ∧ (¬ v3 < Int32.ofNat 0 → (gm_G 370 0 [some (.ref m), some (.ref (m + 1)), some (.int (Int32.ofNat 0)), some (.int v3)] [] h2 (pI (fun v5 h4 => (v5 = Int32.ofNat 0 → (Q (.inl (some (.int (Int32.ofInt (-11))))) h4)) ∧ (¬ v5 = Int32.ofNat 0 → (gm_G 372 0 [some (.ref m), some (.ref (m + 1)), some (.int (Int32.ofNat 0)), some (.int v3)] [] h4 (pI (fun v7 h6 => (v7 < Int32.ofNat 0 → (Q (.inl (some (.int (Int32.ofInt (-11))))) h6)) ∧ (¬ v7 < Int32.ofNat 0 → (gm_G 370 0 [some (.ref m), some (.ref (m + 1)), some (.int (v3 + (Int32.ofNat 1))), some (.int (((hh_i h m 2) - v3) - (Int32.ofNat 1)))] [] h6 (pI (fun v9 h8 => (v9 = Int32.ofNat 0 → (Q (.inl (some (.int (Int32.ofInt (-11))))) h8)) ∧ (¬ v9 = Int32.ofNat 0 → (gm_G 372 0 [some (.ref m), some (.ref (m + 1)), some (.int (v3 + (Int32.ofNat 1))), some (.int (((hh_i h m 2) - v3) - (Int32.ofNat 1)))] [] h8 (pI (fun v11 h10 => (¬ v11 < Int32.ofNat 0 → (gm_G 366 0 [some (.ref m), some (.int x1)] [] h10 (pI (fun v13 h12 => (¬ v13 < Int32.ofNat 0 → (gm_G 152 0 [some (.ref m), some (.int x1)] [] h12 (pI (fun v15 h14 => ∃ n16, gm_ix v15 n16 32 ∧ (gm_G 372 0 [some (.ref m), some (.ref (m + 1)), some (.int (Int32.ofNat 0)), some (.int v3)] [] h14 (pI (fun v18 h17 => gm_G 384 0 [some (.ref m), some (.int (hh_i h14 (m + 63) n16)), some (.ref (m + 1)), some (.int (Int32.ofNat 0)), some (.int v18)] [] h17 (pI (fun v20 h19 => (¬ v20 < Int32.ofNat 0 → (gm_G 106 0 [some (.ref m), some (.int (((Int32.ofNat 16) * (hh_i h14 (m + 63) n16)) + v20)), some (.ref (m + 1)), some (.int v18), some (.int (v3 - v18))] [] h19 (pI (fun v22 h21 => (¬ v22 < Int32.ofNat 0 → (gm_G 372 0 [some (.ref m), some (.ref (m + 1)), some (.int (v3 + (Int32.ofNat 1))), some (.int (((hh_i h m 2) - v3) - (Int32.ofNat 1)))] [] h21 (pI (fun v24 h23 => gm_G 384 0 [some (.ref m), some (.int (hh_i h14 (m + 63) n16)), some (.ref (m + 1)), some (.int (v3 + (Int32.ofNat 1))), some (.int v24)] [] h23 (pI (fun v26 h25 => (¬ v26 < Int32.ofNat 0 → (gm_G 106 0 [some (.ref m), some (.int (((Int32.ofNat 16) * (hh_i h14 (m + 63) n16)) + v26)), some (.ref (m + 1)), some (.int v24), some (.int ((hh_i h m 2) - v24))] [] h25 (pI (fun v28 h27 => (v28 < Int32.ofNat 0 → (gm_G 282 0 [some (.ref m), some (.int (((Int32.ofNat 16) * (hh_i h14 (m + 63) n16)) + v20)), some (.int (hh_i h27 m 5)), some (.int (Int32.ofNat 3))] [] h27 (pI (fun v30 h29 => (v30 = Int32.ofNat 0 → (Q (.inl (some (.int (Int32.ofInt (-6))))) h29)) ∧ (¬ v30 = Int32.ofNat 0 → (gm_G 282 0 [some (.ref m), some (.int (((Int32.ofNat 16) * (hh_i h14 (m + 63) n16)) + v26)), some (.int (hh_i h29 m 5)), some (.int (Int32.ofNat 3))] [] h29 (pI (fun v32 h31 => (¬ v32 = Int32.ofNat 0 → (∃ n33, gm_ix (((Int32.ofNat 8) * (((Int32.ofNat 16) * (hh_i h14 (m + 63) n16)) + v20)) + v22) n33 12288 ∧ (∃ n34, gm_ix (((Int32.ofNat 16) * (hh_i h14 (m + 63) n16)) + (hh_i h31 (m + 53) n33)) n34 1536 ∧ ((¬ (hh_i h31 (m + 40) n34) = (Int32.ofNat 2) → (gm_G 518 353 [some (.ref m), none, some (.int (hh_i h m 2)), none, none, some (.int v15), none, none, some (.int v20), none, some (.int v22), some (.int v24), some (.int v26), some (.int (((Int32.ofNat 16) * (hh_i h14 (m + 63) n16)) + v26)), some (.int (hh_i h31 (m + 53) n33))] [] h31 Q)) ∧ ((hh_i h31 (m + 40) n34) = (Int32.ofNat 2) → (gm_G 118 0 [some (.ref m), some (.int (hh_i h14 (m + 63) n16)), some (.int v26), some (.int (hh_i h31 (m + 53) n33))] [] h31 (pI (fun v36 h35 => (v36 = Int32.ofNat 0 → (gm_G 518 353 [some (.ref m), none, some (.int (hh_i h m 2)), none, none, some (.int v15), none, none, some (.int v20), none, some (.int v22), some (.int v24), some (.int v26), some (.int (((Int32.ofNat 16) * (hh_i h14 (m + 63) n16)) + v26)), some (.int (hh_i h31 (m + 53) n33))] [] h35 Q)) ∧ (¬ v36 = Int32.ofNat 0 → (Q (.inl (some (.int (Int32.ofInt (-5))))) h35))) (fun _ _ => False)))))))) ∧ (v32 = Int32.ofNat 0 → (Q (.inl (some (.int (Int32.ofInt (-6))))) h31))) (fun _ _ => False))))) (fun _ _ => False)))) ∧ (¬ v28 < Int32.ofNat 0 → (Q (.inl (some (.int (Int32.ofInt (-4))))) h27))) (fun _ _ => False)))) ∧ (v26 < Int32.ofNat 0 → (Q (.inl (some (.int v26))) h25))) (fun _ _ => False))) (fun _ _ => False)))) ∧ (v22 < Int32.ofNat 0 → (Q (.inl (some (.int (Int32.ofInt (-2))))) h21))) (fun _ _ => False)))) ∧ (v20 < Int32.ofNat 0 → (Q (.inl (some (.int v20))) h19))) (fun _ _ => False))) (fun _ _ => False)))) (fun _ _ => False)))) ∧ (v13 < Int32.ofNat 0 → (Q (.inl (some (.int v13))) h12))) (fun _ _ => False)))) ∧ (v11 < Int32.ofNat 0 → (Q (.inl (some (.int (Int32.ofInt (-11))))) h10))) (fun _ _ => False))))) (fun _ _ => False))))) (fun _ _ => False))))) (fun _ _ => False))))) (fun _ _ => False)))) ∧ ((hh_i h1 m 77) = Int32.ofNat 0 → (Q (.inl (some (.int (Int32.ofInt (-9))))) h1)))) : gm_G 518 0 [some (.ref m), some (.int x1)] [] h Q := by
  refine g_aload (r := some _) rfl rfl rfl (pc' := 1) ?_
  refine t_getI rfl hT rfl rfl (pc' := 4) rfl ?_
  refine g_istore rfl rfl rfl (pc' := 5) ?_
  refine g_aload (r := some _) rfl rfl rfl (pc' := 6) ?_
  refine g_iconst rfl rfl rfl (pc' := 7) ?_
  refine t_putI rfl hT rfl rfl  (pc' := 10) rfl (fun hT => ?_)
  have H := H _ rfl
  refine g_aload (r := some _) rfl rfl rfl (pc' := 11) ?_
  refine t_getZ rfl hT rfl rfl (pc' := 14) rfl ?_
  refine g_if_ne rfl (pc' := 17) (pt := 20) rfl rfl ⟨fun hc => ?_, fun hc => ?_⟩
  · have H := H.1 hc
    refine g_aload (r := some _) rfl rfl rfl (pc' := 21) ?_
    refine g_iload rfl rfl rfl (pc' := 22) ?_
    refine t_call hT (y := 90) (n := 2) (pc' := 25) rfl rfl (t_vt hT rfl rfl) rfl rfl ⟨(Nat.le_of_ble_eq_true rfl), (Nat.le_of_ble_eq_true rfl), (Nat.le_of_ble_eq_true rfl)⟩ rfl H (tI_elim (fun v3 h2 H hT => ?_))
    show gm_G _ 25 _ _ _ _
    refine g_istore rfl rfl rfl (pc' := 26) ?_
    refine g_iload rfl rfl rfl (pc' := 27) ?_
    refine g_if_lt rfl (pc' := 30) (pt := 94) rfl rfl ⟨fun hc => ?_, fun hc => ?_⟩
    · have H := H.1 hc
      refine g_iconst rfl rfl rfl (pc' := 96) ?_
      exact g_ireturn rfl (Or.inl rfl) H
    · have H := H.2 hc
      refine g_aload (r := some _) rfl rfl rfl (pc' := 31) ?_
      refine g_aload (r := some _) rfl rfl rfl (pc' := 32) ?_
      refine t_get (o := 1) rfl hT rfl rfl rfl (pc' := 35) rfl ?_
      refine g_iconst rfl rfl rfl (pc' := 36) ?_
      refine g_iload rfl rfl rfl (pc' := 37) ?_
      refine t_call hT (y := 370) (n := 4) (pc' := 40) rfl rfl (t_vt hT rfl rfl) rfl rfl ⟨(Nat.le_of_ble_eq_true rfl), (Nat.le_of_ble_eq_true rfl), (Nat.le_of_ble_eq_true rfl)⟩ rfl H (tI_elim (fun v5 h4 H hT => ?_))
      show gm_G _ 40 _ _ _ _
      refine g_if_eq rfl (pc' := 43) (pt := 94) rfl rfl ⟨fun hc => ?_, fun hc => ?_⟩
      · have H := H.1 hc
        refine g_iconst rfl rfl rfl (pc' := 96) ?_
        exact g_ireturn rfl (Or.inl rfl) H
      · have H := H.2 hc
        refine g_aload (r := some _) rfl rfl rfl (pc' := 44) ?_
        refine g_aload (r := some _) rfl rfl rfl (pc' := 45) ?_
        refine t_get (o := 1) rfl hT rfl rfl rfl (pc' := 48) rfl ?_
        refine g_iconst rfl rfl rfl (pc' := 49) ?_
        refine g_iload rfl rfl rfl (pc' := 50) ?_
        refine t_call hT (y := 372) (n := 4) (pc' := 53) rfl rfl (t_vt hT rfl rfl) rfl rfl ⟨(Nat.le_of_ble_eq_true rfl), (Nat.le_of_ble_eq_true rfl), (Nat.le_of_ble_eq_true rfl)⟩ rfl H (tI_elim (fun v7 h6 H hT => ?_))
        show gm_G _ 53 _ _ _ _
        refine g_if_lt rfl (pc' := 56) (pt := 94) rfl rfl ⟨fun hc => ?_, fun hc => ?_⟩
        · have H := H.1 hc
          refine g_iconst rfl rfl rfl (pc' := 96) ?_
          exact g_ireturn rfl (Or.inl rfl) H
        · have H := H.2 hc
          refine g_aload (r := some _) rfl rfl rfl (pc' := 57) ?_
          refine g_aload (r := some _) rfl rfl rfl (pc' := 58) ?_
          refine t_get (o := 1) rfl hT rfl rfl rfl (pc' := 61) rfl ?_
          refine g_iload rfl rfl rfl (pc' := 62) ?_
          refine g_iconst rfl rfl rfl (pc' := 63) ?_
          refine g_iadd rfl rfl (pc' := 64) ?_
          refine g_iload rfl rfl rfl (pc' := 65) ?_
          refine g_iload rfl rfl rfl (pc' := 66) ?_
          refine g_isub rfl rfl (pc' := 67) ?_
          refine g_iconst rfl rfl rfl (pc' := 68) ?_
          refine g_isub rfl rfl (pc' := 69) ?_
          refine t_call hT (y := 370) (n := 4) (pc' := 72) rfl rfl (t_vt hT rfl rfl) rfl rfl ⟨(Nat.le_of_ble_eq_true rfl), (Nat.le_of_ble_eq_true rfl), (Nat.le_of_ble_eq_true rfl)⟩ rfl H (tI_elim (fun v9 h8 H hT => ?_))
          show gm_G _ 72 _ _ _ _
          refine g_if_eq rfl (pc' := 75) (pt := 94) rfl rfl ⟨fun hc => ?_, fun hc => ?_⟩
          · have H := H.1 hc
            refine g_iconst rfl rfl rfl (pc' := 96) ?_
            exact g_ireturn rfl (Or.inl rfl) H
          · have H := H.2 hc
            refine g_aload (r := some _) rfl rfl rfl (pc' := 76) ?_
            refine g_aload (r := some _) rfl rfl rfl (pc' := 77) ?_
            refine t_get (o := 1) rfl hT rfl rfl rfl (pc' := 80) rfl ?_
            refine g_iload rfl rfl rfl (pc' := 81) ?_
            refine g_iconst rfl rfl rfl (pc' := 82) ?_
            refine g_iadd rfl rfl (pc' := 83) ?_
            refine g_iload rfl rfl rfl (pc' := 84) ?_
            refine g_iload rfl rfl rfl (pc' := 85) ?_
            refine g_isub rfl rfl (pc' := 86) ?_
            refine g_iconst rfl rfl rfl (pc' := 87) ?_
            refine g_isub rfl rfl (pc' := 88) ?_
            refine t_call hT (y := 372) (n := 4) (pc' := 91) rfl rfl (t_vt hT rfl rfl) rfl rfl ⟨(Nat.le_of_ble_eq_true rfl), (Nat.le_of_ble_eq_true rfl), (Nat.le_of_ble_eq_true rfl)⟩ rfl H (tI_elim (fun v11 h10 H hT => ?_))
            show gm_G _ 91 _ _ _ _
            refine g_if_ge rfl (pc' := 94) (pt := 97) rfl rfl ⟨fun hc => ?_, fun hc => ?_⟩
            · have H := H.1 hc
              refine g_aload (r := some _) rfl rfl rfl (pc' := 98) ?_
              refine g_iload rfl rfl rfl (pc' := 99) ?_
              refine t_call hT (y := 366) (n := 2) (pc' := 102) rfl rfl (t_vt hT rfl rfl) rfl rfl ⟨(Nat.le_of_ble_eq_true rfl), (Nat.le_of_ble_eq_true rfl), (Nat.le_of_ble_eq_true rfl)⟩ rfl H (tI_elim (fun v13 h12 H hT => ?_))
              show gm_G _ 102 _ _ _ _
              refine g_istore rfl rfl rfl (pc' := 104) ?_
              refine g_iload rfl rfl rfl (pc' := 106) ?_
              refine g_if_ge rfl (pc' := 109) (pt := 112) rfl rfl ⟨fun hc => ?_, fun hc => ?_⟩
              · have H := H.1 hc
                refine g_aload (r := some _) rfl rfl rfl (pc' := 113) ?_
                refine g_iload rfl rfl rfl (pc' := 114) ?_
                refine t_call hT (y := 152) (n := 2) (pc' := 117) rfl rfl (t_vt hT rfl rfl) rfl rfl ⟨(Nat.le_of_ble_eq_true rfl), (Nat.le_of_ble_eq_true rfl), (Nat.le_of_ble_eq_true rfl)⟩ rfl H (tI_elim (fun v15 h14 H hT => ?_))
                show gm_G _ 117 _ _ _ _
                refine g_istore rfl rfl rfl (pc' := 119) ?_
                refine g_aload (r := some _) rfl rfl rfl (pc' := 120) ?_
                refine t_get (o := 63) rfl hT rfl rfl rfl (pc' := 123) rfl ?_
                refine g_iload rfl rfl rfl (pc' := 125) ?_
                obtain ⟨n16, hn16, H⟩ := H
                refine t_iaload hT (o := 63) (l := 32) rfl rfl rfl hn16 (pc' := 126) rfl ?_
                refine g_istore rfl rfl rfl (pc' := 128) ?_
                refine g_aload (r := some _) rfl rfl rfl (pc' := 129) ?_
                refine g_aload (r := some _) rfl rfl rfl (pc' := 130) ?_
                refine t_get (o := 1) rfl hT rfl rfl rfl (pc' := 133) rfl ?_
                refine g_iconst rfl rfl rfl (pc' := 134) ?_
                refine g_iload rfl rfl rfl (pc' := 135) ?_
                refine t_call hT (y := 372) (n := 4) (pc' := 138) rfl rfl (t_vt hT rfl rfl) rfl rfl ⟨(Nat.le_of_ble_eq_true rfl), (Nat.le_of_ble_eq_true rfl), (Nat.le_of_ble_eq_true rfl)⟩ rfl H (tI_elim (fun v18 h17 H hT => ?_))
                show gm_G _ 138 _ _ _ _
                refine g_istore rfl rfl rfl (pc' := 140) ?_
                refine g_aload (r := some _) rfl rfl rfl (pc' := 141) ?_
                refine g_iload rfl rfl rfl (pc' := 143) ?_
                refine g_aload (r := some _) rfl rfl rfl (pc' := 144) ?_
                refine t_get (o := 1) rfl hT rfl rfl rfl (pc' := 147) rfl ?_
                refine g_iconst rfl rfl rfl (pc' := 148) ?_
                refine g_iload rfl rfl rfl (pc' := 150) ?_
                refine t_call hT (y := 384) (n := 5) (pc' := 153) rfl rfl (t_vt hT rfl rfl) rfl rfl ⟨(Nat.le_of_ble_eq_true rfl), (Nat.le_of_ble_eq_true rfl), (Nat.le_of_ble_eq_true rfl)⟩ rfl H (tI_elim (fun v20 h19 H hT => ?_))
                show gm_G _ 153 _ _ _ _
                refine g_istore rfl rfl rfl (pc' := 155) ?_
                refine g_iload rfl rfl rfl (pc' := 157) ?_
                refine g_if_ge rfl (pc' := 160) (pt := 163) rfl rfl ⟨fun hc => ?_, fun hc => ?_⟩
                · have H := H.1 hc
                  refine g_iconst rfl rfl rfl (pc' := 165) ?_
                  refine g_iload rfl rfl rfl (pc' := 167) ?_
                  refine g_imul rfl rfl (pc' := 168) ?_
                  refine g_iload rfl rfl rfl (pc' := 170) ?_
                  refine g_iadd rfl rfl (pc' := 171) ?_
                  refine g_istore rfl rfl rfl (pc' := 173) ?_
                  refine g_aload (r := some _) rfl rfl rfl (pc' := 174) ?_
                  refine g_iload rfl rfl rfl (pc' := 176) ?_
                  refine g_aload (r := some _) rfl rfl rfl (pc' := 177) ?_
                  refine t_get (o := 1) rfl hT rfl rfl rfl (pc' := 180) rfl ?_
                  refine g_iload rfl rfl rfl (pc' := 182) ?_
                  refine g_iload rfl rfl rfl (pc' := 183) ?_
                  refine g_iload rfl rfl rfl (pc' := 185) ?_
                  refine g_isub rfl rfl (pc' := 186) ?_
                  refine t_call hT (y := 106) (n := 5) (pc' := 189) rfl rfl (t_vt hT rfl rfl) rfl rfl ⟨(Nat.le_of_ble_eq_true rfl), (Nat.le_of_ble_eq_true rfl), (Nat.le_of_ble_eq_true rfl)⟩ rfl H (tI_elim (fun v22 h21 H hT => ?_))
                  show gm_G _ 189 _ _ _ _
                  refine g_istore rfl rfl rfl (pc' := 191) ?_
                  refine g_iload rfl rfl rfl (pc' := 193) ?_
                  refine g_if_ge rfl (pc' := 196) (pt := 199) rfl rfl ⟨fun hc => ?_, fun hc => ?_⟩
                  · have H := H.1 hc
                    refine g_aload (r := some _) rfl rfl rfl (pc' := 200) ?_
                    refine g_aload (r := some _) rfl rfl rfl (pc' := 201) ?_
                    refine t_get (o := 1) rfl hT rfl rfl rfl (pc' := 204) rfl ?_
                    refine g_iload rfl rfl rfl (pc' := 205) ?_
                    refine g_iconst rfl rfl rfl (pc' := 206) ?_
                    refine g_iadd rfl rfl (pc' := 207) ?_
                    refine g_iload rfl rfl rfl (pc' := 208) ?_
                    refine g_iload rfl rfl rfl (pc' := 209) ?_
                    refine g_isub rfl rfl (pc' := 210) ?_
                    refine g_iconst rfl rfl rfl (pc' := 211) ?_
                    refine g_isub rfl rfl (pc' := 212) ?_
                    refine t_call hT (y := 372) (n := 4) (pc' := 215) rfl rfl (t_vt hT rfl rfl) rfl rfl ⟨(Nat.le_of_ble_eq_true rfl), (Nat.le_of_ble_eq_true rfl), (Nat.le_of_ble_eq_true rfl)⟩ rfl H (tI_elim (fun v24 h23 H hT => ?_))
                    show gm_G _ 215 _ _ _ _
                    refine g_istore rfl rfl rfl (pc' := 217) ?_
                    refine g_aload (r := some _) rfl rfl rfl (pc' := 218) ?_
                    refine g_iload rfl rfl rfl (pc' := 220) ?_
                    refine g_aload (r := some _) rfl rfl rfl (pc' := 221) ?_
                    refine t_get (o := 1) rfl hT rfl rfl rfl (pc' := 224) rfl ?_
                    refine g_iload rfl rfl rfl (pc' := 225) ?_
                    refine g_iconst rfl rfl rfl (pc' := 226) ?_
                    refine g_iadd rfl rfl (pc' := 227) ?_
                    refine g_iload rfl rfl rfl (pc' := 229) ?_
                    refine t_call hT (y := 384) (n := 5) (pc' := 232) rfl rfl (t_vt hT rfl rfl) rfl rfl ⟨(Nat.le_of_ble_eq_true rfl), (Nat.le_of_ble_eq_true rfl), (Nat.le_of_ble_eq_true rfl)⟩ rfl H (tI_elim (fun v26 h25 H hT => ?_))
                    show gm_G _ 232 _ _ _ _
                    refine g_istore rfl rfl rfl (pc' := 234) ?_
                    refine g_iload rfl rfl rfl (pc' := 236) ?_
                    refine g_if_ge rfl (pc' := 239) (pt := 242) rfl rfl ⟨fun hc => ?_, fun hc => ?_⟩
                    · have H := H.1 hc
                      refine g_iconst rfl rfl rfl (pc' := 244) ?_
                      refine g_iload rfl rfl rfl (pc' := 246) ?_
                      refine g_imul rfl rfl (pc' := 247) ?_
                      refine g_iload rfl rfl rfl (pc' := 249) ?_
                      refine g_iadd rfl rfl (pc' := 250) ?_
                      refine g_istore rfl rfl rfl (pc' := 252) ?_
                      refine g_aload (r := some _) rfl rfl rfl (pc' := 253) ?_
                      refine g_iload rfl rfl rfl (pc' := 255) ?_
                      refine g_aload (r := some _) rfl rfl rfl (pc' := 256) ?_
                      refine t_get (o := 1) rfl hT rfl rfl rfl (pc' := 259) rfl ?_
                      refine g_iload rfl rfl rfl (pc' := 261) ?_
                      refine g_iload rfl rfl rfl (pc' := 262) ?_
                      refine g_iload rfl rfl rfl (pc' := 264) ?_
                      refine g_isub rfl rfl (pc' := 265) ?_
                      refine t_call hT (y := 106) (n := 5) (pc' := 268) rfl rfl (t_vt hT rfl rfl) rfl rfl ⟨(Nat.le_of_ble_eq_true rfl), (Nat.le_of_ble_eq_true rfl), (Nat.le_of_ble_eq_true rfl)⟩ rfl H (tI_elim (fun v28 h27 H hT => ?_))
                      show gm_G _ 268 _ _ _ _
                      refine g_if_lt rfl (pc' := 271) (pt := 274) rfl rfl ⟨fun hc => ?_, fun hc => ?_⟩
                      · have H := H.1 hc
                        refine g_aload (r := some _) rfl rfl rfl (pc' := 275) ?_
                        refine g_iload rfl rfl rfl (pc' := 277) ?_
                        refine g_aload (r := some _) rfl rfl rfl (pc' := 278) ?_
                        refine t_getI rfl hT rfl rfl (pc' := 281) rfl ?_
                        refine g_iconst rfl rfl rfl (pc' := 282) ?_
                        refine t_call hT (y := 282) (n := 4) (pc' := 285) rfl rfl (t_vt hT rfl rfl) rfl rfl ⟨(Nat.le_of_ble_eq_true rfl), (Nat.le_of_ble_eq_true rfl), (Nat.le_of_ble_eq_true rfl)⟩ rfl H (tI_elim (fun v30 h29 H hT => ?_))
                        show gm_G _ 285 _ _ _ _
                        refine g_if_eq rfl (pc' := 288) (pt := 302) rfl rfl ⟨fun hc => ?_, fun hc => ?_⟩
                        · have H := H.1 hc
                          refine g_iconst rfl rfl rfl (pc' := 304) ?_
                          exact g_ireturn rfl (Or.inl rfl) H
                        · have H := H.2 hc
                          refine g_aload (r := some _) rfl rfl rfl (pc' := 289) ?_
                          refine g_iload rfl rfl rfl (pc' := 291) ?_
                          refine g_aload (r := some _) rfl rfl rfl (pc' := 292) ?_
                          refine t_getI rfl hT rfl rfl (pc' := 295) rfl ?_
                          refine g_iconst rfl rfl rfl (pc' := 296) ?_
                          refine t_call hT (y := 282) (n := 4) (pc' := 299) rfl rfl (t_vt hT rfl rfl) rfl rfl ⟨(Nat.le_of_ble_eq_true rfl), (Nat.le_of_ble_eq_true rfl), (Nat.le_of_ble_eq_true rfl)⟩ rfl H (tI_elim (fun v32 h31 H hT => ?_))
                          show gm_G _ 299 _ _ _ _
                          refine g_if_ne rfl (pc' := 302) (pt := 305) rfl rfl ⟨fun hc => ?_, fun hc => ?_⟩
                          · have H := H.1 hc
                            refine g_aload (r := some _) rfl rfl rfl (pc' := 306) ?_
                            refine t_get (o := 53) rfl hT rfl rfl rfl (pc' := 309) rfl ?_
                            refine g_iconst rfl rfl rfl (pc' := 311) ?_
                            refine g_iload rfl rfl rfl (pc' := 313) ?_
                            refine g_imul rfl rfl (pc' := 314) ?_
                            refine g_iload rfl rfl rfl (pc' := 316) ?_
                            refine g_iadd rfl rfl (pc' := 317) ?_
                            obtain ⟨n33, hn33, H⟩ := H
                            refine t_iaload hT (o := 53) (l := 12288) rfl rfl rfl hn33 (pc' := 318) rfl ?_
                            refine g_istore rfl rfl rfl (pc' := 320) ?_
                            refine g_aload (r := some _) rfl rfl rfl (pc' := 321) ?_
                            refine t_get (o := 40) rfl hT rfl rfl rfl (pc' := 324) rfl ?_
                            refine g_iconst rfl rfl rfl (pc' := 326) ?_
                            refine g_iload rfl rfl rfl (pc' := 328) ?_
                            refine g_imul rfl rfl (pc' := 329) ?_
                            refine g_iload rfl rfl rfl (pc' := 331) ?_
                            refine g_iadd rfl rfl (pc' := 332) ?_
                            obtain ⟨n34, hn34, H⟩ := H
                            refine t_iaload hT (o := 40) (l := 1536) rfl rfl rfl hn34 (pc' := 333) rfl ?_
                            refine g_iconst rfl rfl rfl (pc' := 334) ?_
                            refine g_ic_ne rfl (pc' := 337) (pt := 353) rfl rfl ⟨fun hc => ?_, fun hc => ?_⟩
                            · have H := H.1 hc
                              exact g_weak (show gm_Lle [some _, none, some _, none, none, some _, none, none, some _, none, some _, some _, some _, some _, some _] _ from ⟨rfl, ⟨rfl, ⟨rfl, ⟨rfl, ⟨rfl, ⟨rfl, ⟨rfl, ⟨rfl, ⟨rfl, trivial⟩⟩⟩⟩⟩⟩⟩⟩⟩) H
                            · have H := H.2 hc
                              refine g_aload (r := some _) rfl rfl rfl (pc' := 338) ?_
                              refine g_iload rfl rfl rfl (pc' := 340) ?_
                              refine g_iload rfl rfl rfl (pc' := 342) ?_
                              refine g_iload rfl rfl rfl (pc' := 344) ?_
                              refine t_call hT (y := 118) (n := 4) (pc' := 347) rfl rfl (t_vt hT rfl rfl) rfl rfl ⟨(Nat.le_of_ble_eq_true rfl), (Nat.le_of_ble_eq_true rfl), (Nat.le_of_ble_eq_true rfl)⟩ rfl H (tI_elim (fun v36 h35 H hT => ?_))
                              show gm_G _ 347 _ _ _ _
                              refine g_if_eq rfl (pc' := 350) (pt := 353) rfl rfl ⟨fun hc => ?_, fun hc => ?_⟩
                              · have H := H.1 hc
                                exact g_weak (show gm_Lle [some _, none, some _, none, none, some _, none, none, some _, none, some _, some _, some _, some _, some _] _ from ⟨rfl, ⟨rfl, ⟨rfl, ⟨rfl, ⟨rfl, ⟨rfl, ⟨rfl, ⟨rfl, ⟨rfl, trivial⟩⟩⟩⟩⟩⟩⟩⟩⟩) H
                              · have H := H.2 hc
                                refine g_iconst rfl rfl rfl (pc' := 352) ?_
                                exact g_ireturn rfl (Or.inl rfl) H
                          · have H := H.2 hc
                            refine g_iconst rfl rfl rfl (pc' := 304) ?_
                            exact g_ireturn rfl (Or.inl rfl) H
                      · have H := H.2 hc
                        refine g_iconst rfl rfl rfl (pc' := 273) ?_
                        exact g_ireturn rfl (Or.inl rfl) H
                    · have H := H.2 hc
                      refine g_iload rfl rfl rfl (pc' := 241) ?_
                      exact g_ireturn rfl (Or.inl rfl) H
                  · have H := H.2 hc
                    refine g_iconst rfl rfl rfl (pc' := 198) ?_
                    exact g_ireturn rfl (Or.inl rfl) H
                · have H := H.2 hc
                  refine g_iload rfl rfl rfl (pc' := 162) ?_
                  exact g_ireturn rfl (Or.inl rfl) H
              · have H := H.2 hc
                refine g_iload rfl rfl rfl (pc' := 111) ?_
                exact g_ireturn rfl (Or.inl rfl) H
            · have H := H.2 hc
              refine g_iconst rfl rfl rfl (pc' := 96) ?_
              exact g_ireturn rfl (Or.inl rfl) H
  · have H := H.2 hc
    refine g_iconst rfl rfl rfl (pc' := 19) ?_
    exact g_ireturn rfl (Or.inl rfl) H
theorem w_518_353 {m : Nat} {x2 : Int32} {x5 : Int32} {x8 : Int32} {x10 : Int32} {x11 : Int32} {x12 : Int32} {x13 : Int32} {x14 : Int32} {h : hh_T} {Q : Option Value ⊕ Nat → hh_T → Prop} (hT : tw_ok h m) (H : (x12 = x8 → (gm_G 518 375 [some (.ref m), none, some (.int x2), none, none, some (.int x5), none, none, some (.int x8), none, some (.int x10), some (.int x11), some (.int x12), none, some (.int x14)] [] h Q)) ∧ (¬ x12 = x8 → (∃ n1, gm_ix x13 n1 1536 ∧ ((¬ (hh_i h (m + 45) n1) = (Int32.ofNat 8) → (gm_G 518 375 [some (.ref m), none, some (.int x2), none, none, some (.int x5), none, none, some (.int x8), none, some (.int x10), some (.int x11), some (.int x12), none, some (.int x14)] [] h Q)) ∧ ((hh_i h (m + 45) n1) = (Int32.ofNat 8) → (Q (.inl (some (.int (Int32.ofInt (-3))))) h)))))) : gm_G 518 353 [some (.ref m), none, some (.int x2), none, none, some (.int x5), none, none, some (.int x8), none, some (.int x10), some (.int x11), some (.int x12), some (.int x13), some (.int x14)] [] h Q := by
  refine g_iload rfl rfl rfl (pc' := 355) ?_
  refine g_iload rfl rfl rfl (pc' := 357) ?_
  refine g_ic_eq rfl (pc' := 360) (pt := 375) rfl rfl ⟨fun hc => ?_, fun hc => ?_⟩
  · have H := H.1 hc
    exact g_weak (show gm_Lle [some _, none, some _, none, none, some _, none, none, some _, none, some _, some _, some _, none, some _] _ from ⟨rfl, ⟨rfl, ⟨rfl, ⟨rfl, ⟨rfl, ⟨rfl, ⟨rfl, ⟨rfl, trivial⟩⟩⟩⟩⟩⟩⟩⟩) H
  · have H := H.2 hc
    refine g_aload (r := some _) rfl rfl rfl (pc' := 361) ?_
    refine t_get (o := 45) rfl hT rfl rfl rfl (pc' := 364) rfl ?_
    refine g_iload rfl rfl rfl (pc' := 366) ?_
    obtain ⟨n1, hn1, H⟩ := H
    refine t_iaload hT (o := 45) (l := 1536) rfl rfl rfl hn1 (pc' := 367) rfl ?_
    refine g_iconst rfl rfl rfl (pc' := 369) ?_
    refine g_ic_ne rfl (pc' := 372) (pt := 375) rfl rfl ⟨fun hc => ?_, fun hc => ?_⟩
    · have H := H.1 hc
      exact g_weak (show gm_Lle [some _, none, some _, none, none, some _, none, none, some _, none, some _, some _, some _, none, some _] _ from ⟨rfl, ⟨rfl, ⟨rfl, ⟨rfl, ⟨rfl, ⟨rfl, ⟨rfl, ⟨rfl, trivial⟩⟩⟩⟩⟩⟩⟩⟩) H
    · have H := H.2 hc
      refine g_iconst rfl rfl rfl (pc' := 374) ?_
      exact g_ireturn rfl (Or.inl rfl) H
theorem w_518_375 {m : Nat} {x2 : Int32} {x5 : Int32} {x8 : Int32} {x10 : Int32} {x11 : Int32} {x12 : Int32} {x14 : Int32} {h : hh_T} {Q : Option Value ⊕ Nat → hh_T → Prop} (hT : tw_ok h m) (H : gm_G 438 0 [some (.ref m), some (.int x5), some (.int x8), some (.int x10), some (.int x12), some (.ref (m + 1)), some (.int x11), some (.int (x2 - x11))] [] h (pV (fun h1 => gm_G 468 0 [some (.ref m), some (.int x14)] [] h1 (pI (fun v3 h2 => Q (.inl (some (.int v3))) h2) (fun _ _ => False))) (fun _ _ => False))) : gm_G 518 375 [some (.ref m), none, some (.int x2), none, none, some (.int x5), none, none, some (.int x8), none, some (.int x10), some (.int x11), some (.int x12), none, some (.int x14)] [] h Q := by
  refine g_aload (r := some _) rfl rfl rfl (pc' := 376) ?_
  refine g_iload rfl rfl rfl (pc' := 378) ?_
  refine g_iload rfl rfl rfl (pc' := 380) ?_
  refine g_iload rfl rfl rfl (pc' := 382) ?_
  refine g_iload rfl rfl rfl (pc' := 384) ?_
  refine g_aload (r := some _) rfl rfl rfl (pc' := 385) ?_
  refine t_get (o := 1) rfl hT rfl rfl rfl (pc' := 388) rfl ?_
  refine g_iload rfl rfl rfl (pc' := 390) ?_
  refine g_iload rfl rfl rfl (pc' := 391) ?_
  refine g_iload rfl rfl rfl (pc' := 393) ?_
  refine g_isub rfl rfl (pc' := 394) ?_
  refine t_call hT (y := 438) (n := 8) (pc' := 397) rfl rfl (t_vt hT rfl rfl) rfl rfl ⟨(Nat.le_of_ble_eq_true rfl), (Nat.le_of_ble_eq_true rfl), (Nat.le_of_ble_eq_true rfl)⟩ rfl H (tV_elim (fun h1 H hT => ?_))
  show gm_G _ 397 _ _ _ _
  refine g_aload (r := some _) rfl rfl rfl (pc' := 398) ?_
  refine g_iload rfl rfl rfl (pc' := 400) ?_
  refine t_call hT (y := 468) (n := 2) (pc' := 403) rfl rfl (t_vt hT rfl rfl) rfl rfl ⟨(Nat.le_of_ble_eq_true rfl), (Nat.le_of_ble_eq_true rfl), (Nat.le_of_ble_eq_true rfl)⟩ rfl H (tI_elim (fun v3 h2 H hT => ?_))
  show gm_G _ 403 _ _ _ _
  exact g_ireturn rfl (Or.inl rfl) H
theorem w_519_0 {m : Nat} {x1 : Int32} {x2 : Int32} {x3 : Int32} {x4 : Int32} {x5 : Int32} {h : hh_T} {Q : Option Value ⊕ Nat → hh_T → Prop} (hT : tw_ok h m) (H : (¬ (hh_i h m 77) = Int32.ofNat 0 → (gm_G 138 0 [some (.int x1)] [] h (pI (fun v2 h1 => (¬ v2 = Int32.ofNat 0 → (Q (.inl (some (.int (Int32.ofInt (-1))))) h1)) ∧ (v2 = Int32.ofNat 0 → (gm_G 138 0 [some (.int x2)] [] h1 (pI (fun v4 h3 => (¬ v4 = Int32.ofNat 0 → (Q (.inl (some (.int (Int32.ofInt (-1))))) h3)) ∧ (v4 = Int32.ofNat 0 → ((x5 < (Int32.ofNat 1) → (Q (.inl (some (.int (Int32.ofInt (-1))))) h3)) ∧ (¬ x5 < (Int32.ofNat 1) → (((Int32.ofNat 8) < x5 → (Q (.inl (some (.int (Int32.ofInt (-1))))) h3)) ∧ (¬ (Int32.ofNat 8) < x5 → ((x3 < Int32.ofNat 0 → (Q (.inl (some (.int (Int32.ofInt (-1))))) h3)) ∧ (¬ x3 < Int32.ofNat 0 → ((x4 < Int32.ofNat 0 → (Q (.inl (some (.int (Int32.ofInt (-1))))) h3)) ∧ (¬ x4 < Int32.ofNat 0 → ((((Int32.ofNat 8) - x5) < x3 → (Q (.inl (some (.int (Int32.ofInt (-1))))) h3)) ∧ (¬ ((Int32.ofNat 8) - x5) < x3 → ((¬ ((Int32.ofNat 8) - x5) < x4 → (∃ n5, gm_ix x1 n5 8 ∧ (((hh_i h3 (m + 88) n5) = Int32.ofNat 0 → (Q (.inl (some (.int (Int32.ofInt (-2))))) h3)) ∧ (¬ (hh_i h3 (m + 88) n5) = Int32.ofNat 0 → (∃ n6, gm_ix x2 n6 8 ∧ ((¬ (hh_i h3 (m + 88) n6) = Int32.ofNat 0 → (∃ n7, gm_ix x1 n7 8 ∧ ((((hh_i h3 (m + 92) n7) &&& (Int32.ofNat 1)) = Int32.ofNat 0 → (Q (.inl (some (.int (Int32.ofInt (-6))))) h3)) ∧ (¬ ((hh_i h3 (m + 92) n7) &&& (Int32.ofNat 1)) = Int32.ofNat 0 → (∃ n8, gm_ix x2 n8 8 ∧ ((¬ ((hh_i h3 (m + 92) n8) &&& (Int32.ofNat 2)) = Int32.ofNat 0 → (∃ n9, gm_ix x2 n9 8 ∧ (gm_G 152 0 [some (.ref m), some (.int ((hh_i h3 (m + 90) n9) / (Int32.ofNat 2)))] [] h3 (pI (fun v11 h10 => gm_G 297 0 [some (.ref m), some (.int v11), some (.int (Int32.ofNat 3))] [] h10 (pI (fun v13 h12 => (¬ v13 = (Int32.ofNat 1) → (∃ n14, gm_ix x1 n14 8 ∧ (∃ n15, gm_ix x2 n15 8 ∧ (((hh_i h12 (m + 90) n14) = (hh_i h12 (m + 90) n15) → (gm_G 377 0 [some (.ref m), some (.int x1)] [] h12 (pI (fun v17 h16 => gm_G 377 0 [some (.ref m), some (.int x2)] [] h16 (pI (fun v19 h18 => gm_G 123 0 [some (.ref m), some (.int v17), some (.int v19), some (.int x3), some (.int x4), some (.int x5)] [] h18 (pI (fun v21 h20 => (v21 = Int32.ofNat 0 → (gm_G 284 0 [some (.ref m), some (.int x2), some (.int ((Int32.ofNat 32) * x4)), some (.int ((Int32.ofNat 32) * (x4 + x5))), some (.int (Int32.ofNat 1))] [] h20 (pI (fun v23 h22 => (v23 = Int32.ofNat 0 → (∃ n24, gm_ix x1 n24 8 ∧ (∃ n25, gm_ix x2 n25 8 ∧ (gm_G 466 0 [some (.ref m), some (.int v11), some (.int (hh_i h22 (m + 91) n24)), some (.int (hh_i h22 (m + 91) n25)), some (.int x3), some (.int x4), some (.int x5)] [] h22 (pI (fun v27 h26 => (¬ v27 < Int32.ofNat 0 → (gm_G 468 0 [some (.ref m), some (.int (Int32.ofNat 0))] [] h26 (pI (fun v29 h28 => Q (.inl (some (.int v29))) h28) (fun _ _ => False)))) ∧ (v27 < Int32.ofNat 0 → (Q (.inl (some (.int v27))) h26))) (fun _ _ => False)))))) ∧ (¬ v23 = Int32.ofNat 0 → (Q (.inl (some (.int (Int32.ofInt (-5))))) h22))) (fun _ _ => False)))) ∧ (¬ v21 = Int32.ofNat 0 → (Q (.inl (some (.int (Int32.ofInt (-1))))) h20))) (fun _ _ => False))) (fun _ _ => False))) (fun _ _ => False)))) ∧ (¬ (hh_i h12 (m + 90) n14) = (hh_i h12 (m + 90) n15) → (Q (.inl (some (.int (Int32.ofInt (-10))))) h12)))))) ∧ (v13 = (Int32.ofNat 1) → (Q (.inl (some (.int (Int32.ofInt (-6))))) h12))) (fun _ _ => False))) (fun _ _ => False))))) ∧ (((hh_i h3 (m + 92) n8) &&& (Int32.ofNat 2)) = Int32.ofNat 0 → (Q (.inl (some (.int (Int32.ofInt (-6))))) h3)))))))) ∧ ((hh_i h3 (m + 88) n6) = Int32.ofNat 0 → (Q (.inl (some (.int (Int32.ofInt (-2))))) h3)))))))) ∧ (((Int32.ofNat 8) - x5) < x4 → (Q (.inl (some (.int (Int32.ofInt (-1))))) h3))))))))))))))) (fun _ _ => False))))) (fun _ _ => False)))) ∧ ((hh_i h m 77) = Int32.ofNat 0 → (Q (.inl (some (.int (Int32.ofInt (-9))))) h))) : gm_G 519 0 [some (.ref m), some (.int x1), some (.int x2), some (.int x3), some (.int x4), some (.int x5)] [] h Q := by
  refine g_aload (r := some _) rfl rfl rfl (pc' := 1) ?_
  refine t_getZ rfl hT rfl rfl (pc' := 4) rfl ?_
  refine g_if_ne rfl (pc' := 7) (pt := 10) rfl rfl ⟨fun hc => ?_, fun hc => ?_⟩
  · have H := H.1 hc
    refine g_iload rfl rfl rfl (pc' := 11) ?_
    refine t_call hT (y := 138) (n := 1) (pc' := 14) rfl rfl (fun _ => rfl) rfl rfl ⟨(Nat.le_of_ble_eq_true rfl), (Nat.le_of_ble_eq_true rfl), (Nat.le_of_ble_eq_true rfl)⟩ rfl H (tI_elim (fun v2 h1 H hT => ?_))
    show gm_G _ 14 _ _ _ _
    refine g_if_ne rfl (pc' := 17) (pt := 65) rfl rfl ⟨fun hc => ?_, fun hc => ?_⟩
    · have H := H.1 hc
      refine g_iconst rfl rfl rfl (pc' := 66) ?_
      exact g_ireturn rfl (Or.inl rfl) H
    · have H := H.2 hc
      refine g_iload rfl rfl rfl (pc' := 18) ?_
      refine t_call hT (y := 138) (n := 1) (pc' := 21) rfl rfl (fun _ => rfl) rfl rfl ⟨(Nat.le_of_ble_eq_true rfl), (Nat.le_of_ble_eq_true rfl), (Nat.le_of_ble_eq_true rfl)⟩ rfl H (tI_elim (fun v4 h3 H hT => ?_))
      show gm_G _ 21 _ _ _ _
      refine g_if_ne rfl (pc' := 24) (pt := 65) rfl rfl ⟨fun hc => ?_, fun hc => ?_⟩
      · have H := H.1 hc
        refine g_iconst rfl rfl rfl (pc' := 66) ?_
        exact g_ireturn rfl (Or.inl rfl) H
      · have H := H.2 hc
        refine g_iload rfl rfl rfl (pc' := 26) ?_
        refine g_iconst rfl rfl rfl (pc' := 27) ?_
        refine g_ic_lt rfl (pc' := 30) (pt := 65) rfl rfl ⟨fun hc => ?_, fun hc => ?_⟩
        · have H := H.1 hc
          refine g_iconst rfl rfl rfl (pc' := 66) ?_
          exact g_ireturn rfl (Or.inl rfl) H
        · have H := H.2 hc
          refine g_iload rfl rfl rfl (pc' := 32) ?_
          refine g_iconst rfl rfl rfl (pc' := 34) ?_
          refine g_ic_gt rfl (pc' := 37) (pt := 65) rfl rfl ⟨fun hc => ?_, fun hc => ?_⟩
          · have H := H.1 hc
            refine g_iconst rfl rfl rfl (pc' := 66) ?_
            exact g_ireturn rfl (Or.inl rfl) H
          · have H := H.2 hc
            refine g_iload rfl rfl rfl (pc' := 38) ?_
            refine g_if_lt rfl (pc' := 41) (pt := 65) rfl rfl ⟨fun hc => ?_, fun hc => ?_⟩
            · have H := H.1 hc
              refine g_iconst rfl rfl rfl (pc' := 66) ?_
              exact g_ireturn rfl (Or.inl rfl) H
            · have H := H.2 hc
              refine g_iload rfl rfl rfl (pc' := 43) ?_
              refine g_if_lt rfl (pc' := 46) (pt := 65) rfl rfl ⟨fun hc => ?_, fun hc => ?_⟩
              · have H := H.1 hc
                refine g_iconst rfl rfl rfl (pc' := 66) ?_
                exact g_ireturn rfl (Or.inl rfl) H
              · have H := H.2 hc
                refine g_iload rfl rfl rfl (pc' := 47) ?_
                refine g_iconst rfl rfl rfl (pc' := 49) ?_
                refine g_iload rfl rfl rfl (pc' := 51) ?_
                refine g_isub rfl rfl (pc' := 52) ?_
                refine g_ic_gt rfl (pc' := 55) (pt := 65) rfl rfl ⟨fun hc => ?_, fun hc => ?_⟩
                · have H := H.1 hc
                  refine g_iconst rfl rfl rfl (pc' := 66) ?_
                  exact g_ireturn rfl (Or.inl rfl) H
                · have H := H.2 hc
                  refine g_iload rfl rfl rfl (pc' := 57) ?_
                  refine g_iconst rfl rfl rfl (pc' := 59) ?_
                  refine g_iload rfl rfl rfl (pc' := 61) ?_
                  refine g_isub rfl rfl (pc' := 62) ?_
                  refine g_ic_le rfl (pc' := 65) (pt := 67) rfl rfl ⟨fun hc => ?_, fun hc => ?_⟩
                  · have H := H.1 hc
                    refine g_aload (r := some _) rfl rfl rfl (pc' := 68) ?_
                    refine t_get (o := 88) rfl hT rfl rfl rfl (pc' := 71) rfl ?_
                    refine g_iload rfl rfl rfl (pc' := 72) ?_
                    obtain ⟨n5, hn5, H⟩ := H
                    refine t_zaload hT (o := 88) (l := 8) rfl rfl rfl hn5 (pc' := 73) rfl ?_
                    refine g_if_eq rfl (pc' := 76) (pt := 85) rfl rfl ⟨fun hc => ?_, fun hc => ?_⟩
                    · have H := H.1 hc
                      refine g_iconst rfl rfl rfl (pc' := 87) ?_
                      exact g_ireturn rfl (Or.inl rfl) H
                    · have H := H.2 hc
                      refine g_aload (r := some _) rfl rfl rfl (pc' := 77) ?_
                      refine t_get (o := 88) rfl hT rfl rfl rfl (pc' := 80) rfl ?_
                      refine g_iload rfl rfl rfl (pc' := 81) ?_
                      obtain ⟨n6, hn6, H⟩ := H
                      refine t_zaload hT (o := 88) (l := 8) rfl rfl rfl hn6 (pc' := 82) rfl ?_
                      refine g_if_ne rfl (pc' := 85) (pt := 88) rfl rfl ⟨fun hc => ?_, fun hc => ?_⟩
                      · have H := H.1 hc
                        refine g_aload (r := some _) rfl rfl rfl (pc' := 89) ?_
                        refine t_get (o := 92) rfl hT rfl rfl rfl (pc' := 92) rfl ?_
                        refine g_iload rfl rfl rfl (pc' := 93) ?_
                        obtain ⟨n7, hn7, H⟩ := H
                        refine t_iaload hT (o := 92) (l := 8) rfl rfl rfl hn7 (pc' := 94) rfl ?_
                        refine g_iconst rfl rfl rfl (pc' := 95) ?_
                        refine g_iand rfl rfl (pc' := 96) ?_
                        refine g_if_eq rfl (pc' := 99) (pt := 110) rfl rfl ⟨fun hc => ?_, fun hc => ?_⟩
                        · have H := H.1 hc
                          refine g_iconst rfl rfl rfl (pc' := 112) ?_
                          exact g_ireturn rfl (Or.inl rfl) H
                        · have H := H.2 hc
                          refine g_aload (r := some _) rfl rfl rfl (pc' := 100) ?_
                          refine t_get (o := 92) rfl hT rfl rfl rfl (pc' := 103) rfl ?_
                          refine g_iload rfl rfl rfl (pc' := 104) ?_
                          obtain ⟨n8, hn8, H⟩ := H
                          refine t_iaload hT (o := 92) (l := 8) rfl rfl rfl hn8 (pc' := 105) rfl ?_
                          refine g_iconst rfl rfl rfl (pc' := 106) ?_
                          refine g_iand rfl rfl (pc' := 107) ?_
                          refine g_if_ne rfl (pc' := 110) (pt := 113) rfl rfl ⟨fun hc => ?_, fun hc => ?_⟩
                          · have H := H.1 hc
                            refine g_aload (r := some _) rfl rfl rfl (pc' := 114) ?_
                            refine g_aload (r := some _) rfl rfl rfl (pc' := 115) ?_
                            refine t_get (o := 90) rfl hT rfl rfl rfl (pc' := 118) rfl ?_
                            refine g_iload rfl rfl rfl (pc' := 119) ?_
                            obtain ⟨n9, hn9, H⟩ := H
                            refine t_iaload hT (o := 90) (l := 8) rfl rfl rfl hn9 (pc' := 120) rfl ?_
                            refine g_iconst rfl rfl rfl (pc' := 121) ?_
                            refine g_idiv rfl (by decide) (pc' := 122) rfl ?_
                            refine t_call hT (y := 152) (n := 2) (pc' := 125) rfl rfl (t_vt hT rfl rfl) rfl rfl ⟨(Nat.le_of_ble_eq_true rfl), (Nat.le_of_ble_eq_true rfl), (Nat.le_of_ble_eq_true rfl)⟩ rfl H (tI_elim (fun v11 h10 H hT => ?_))
                            show gm_G _ 125 _ _ _ _
                            refine g_istore rfl rfl rfl (pc' := 127) ?_
                            refine g_aload (r := some _) rfl rfl rfl (pc' := 128) ?_
                            refine g_iload rfl rfl rfl (pc' := 130) ?_
                            refine g_iconst rfl rfl rfl (pc' := 131) ?_
                            refine t_call hT (y := 297) (n := 3) (pc' := 134) rfl rfl (t_vt hT rfl rfl) rfl rfl ⟨(Nat.le_of_ble_eq_true rfl), (Nat.le_of_ble_eq_true rfl), (Nat.le_of_ble_eq_true rfl)⟩ rfl H (tI_elim (fun v13 h12 H hT => ?_))
                            show gm_G _ 134 _ _ _ _
                            refine g_iconst rfl rfl rfl (pc' := 135) ?_
                            refine g_ic_ne rfl (pc' := 138) (pt := 141) rfl rfl ⟨fun hc => ?_, fun hc => ?_⟩
                            · have H := H.1 hc
                              refine g_aload (r := some _) rfl rfl rfl (pc' := 142) ?_
                              refine t_get (o := 90) rfl hT rfl rfl rfl (pc' := 145) rfl ?_
                              refine g_iload rfl rfl rfl (pc' := 146) ?_
                              obtain ⟨n14, hn14, H⟩ := H
                              refine t_iaload hT (o := 90) (l := 8) rfl rfl rfl hn14 (pc' := 147) rfl ?_
                              refine g_aload (r := some _) rfl rfl rfl (pc' := 148) ?_
                              refine t_get (o := 90) rfl hT rfl rfl rfl (pc' := 151) rfl ?_
                              refine g_iload rfl rfl rfl (pc' := 152) ?_
                              obtain ⟨n15, hn15, H⟩ := H
                              refine t_iaload hT (o := 90) (l := 8) rfl rfl rfl hn15 (pc' := 153) rfl ?_
                              refine g_ic_eq rfl (pc' := 156) (pt := 159) rfl rfl ⟨fun hc => ?_, fun hc => ?_⟩
                              · have H := H.1 hc
                                refine g_aload (r := some _) rfl rfl rfl (pc' := 160) ?_
                                refine g_aload (r := some _) rfl rfl rfl (pc' := 161) ?_
                                refine g_iload rfl rfl rfl (pc' := 162) ?_
                                refine t_call hT (y := 377) (n := 2) (pc' := 165) rfl rfl (t_vt hT rfl rfl) rfl rfl ⟨(Nat.le_of_ble_eq_true rfl), (Nat.le_of_ble_eq_true rfl), (Nat.le_of_ble_eq_true rfl)⟩ rfl H (tI_elim (fun v17 h16 H hT => ?_))
                                show gm_G _ 165 _ _ _ _
                                refine g_aload (r := some _) rfl rfl rfl (pc' := 166) ?_
                                refine g_iload rfl rfl rfl (pc' := 167) ?_
                                refine t_call hT (y := 377) (n := 2) (pc' := 170) rfl rfl (t_vt hT rfl rfl) rfl rfl ⟨(Nat.le_of_ble_eq_true rfl), (Nat.le_of_ble_eq_true rfl), (Nat.le_of_ble_eq_true rfl)⟩ rfl H (tI_elim (fun v19 h18 H hT => ?_))
                                show gm_G _ 170 _ _ _ _
                                refine g_iload rfl rfl rfl (pc' := 171) ?_
                                refine g_iload rfl rfl rfl (pc' := 173) ?_
                                refine g_iload rfl rfl rfl (pc' := 175) ?_
                                refine t_call hT (y := 123) (n := 6) (pc' := 178) rfl rfl (t_vt hT rfl rfl) rfl rfl ⟨(Nat.le_of_ble_eq_true rfl), (Nat.le_of_ble_eq_true rfl), (Nat.le_of_ble_eq_true rfl)⟩ rfl H (tI_elim (fun v21 h20 H hT => ?_))
                                show gm_G _ 178 _ _ _ _
                                refine g_if_eq rfl (pc' := 181) (pt := 183) rfl rfl ⟨fun hc => ?_, fun hc => ?_⟩
                                · have H := H.1 hc
                                  refine g_aload (r := some _) rfl rfl rfl (pc' := 184) ?_
                                  refine g_iload rfl rfl rfl (pc' := 185) ?_
                                  refine g_iconst rfl rfl rfl (pc' := 187) ?_
                                  refine g_iload rfl rfl rfl (pc' := 189) ?_
                                  refine g_imul rfl rfl (pc' := 190) ?_
                                  refine g_iconst rfl rfl rfl (pc' := 192) ?_
                                  refine g_iload rfl rfl rfl (pc' := 194) ?_
                                  refine g_iload rfl rfl rfl (pc' := 196) ?_
                                  refine g_iadd rfl rfl (pc' := 197) ?_
                                  refine g_imul rfl rfl (pc' := 198) ?_
                                  refine g_iconst rfl rfl rfl (pc' := 199) ?_
                                  refine t_call hT (y := 284) (n := 5) (pc' := 202) rfl rfl (t_vt hT rfl rfl) rfl rfl ⟨(Nat.le_of_ble_eq_true rfl), (Nat.le_of_ble_eq_true rfl), (Nat.le_of_ble_eq_true rfl)⟩ rfl H (tI_elim (fun v23 h22 H hT => ?_))
                                  show gm_G _ 202 _ _ _ _
                                  refine g_if_eq rfl (pc' := 205) (pt := 208) rfl rfl ⟨fun hc => ?_, fun hc => ?_⟩
                                  · have H := H.1 hc
                                    refine g_aload (r := some _) rfl rfl rfl (pc' := 209) ?_
                                    refine g_iload rfl rfl rfl (pc' := 211) ?_
                                    refine g_aload (r := some _) rfl rfl rfl (pc' := 212) ?_
                                    refine t_get (o := 91) rfl hT rfl rfl rfl (pc' := 215) rfl ?_
                                    refine g_iload rfl rfl rfl (pc' := 216) ?_
                                    obtain ⟨n24, hn24, H⟩ := H
                                    refine t_iaload hT (o := 91) (l := 8) rfl rfl rfl hn24 (pc' := 217) rfl ?_
                                    refine g_aload (r := some _) rfl rfl rfl (pc' := 218) ?_
                                    refine t_get (o := 91) rfl hT rfl rfl rfl (pc' := 221) rfl ?_
                                    refine g_iload rfl rfl rfl (pc' := 222) ?_
                                    obtain ⟨n25, hn25, H⟩ := H
                                    refine t_iaload hT (o := 91) (l := 8) rfl rfl rfl hn25 (pc' := 223) rfl ?_
                                    refine g_iload rfl rfl rfl (pc' := 224) ?_
                                    refine g_iload rfl rfl rfl (pc' := 226) ?_
                                    refine g_iload rfl rfl rfl (pc' := 228) ?_
                                    refine t_call hT (y := 466) (n := 7) (pc' := 231) rfl rfl (t_vt hT rfl rfl) rfl rfl ⟨(Nat.le_of_ble_eq_true rfl), (Nat.le_of_ble_eq_true rfl), (Nat.le_of_ble_eq_true rfl)⟩ rfl H (tI_elim (fun v27 h26 H hT => ?_))
                                    show gm_G _ 231 _ _ _ _
                                    refine g_istore rfl rfl rfl (pc' := 233) ?_
                                    refine g_iload rfl rfl rfl (pc' := 235) ?_
                                    refine g_if_ge rfl (pc' := 238) (pt := 243) rfl rfl ⟨fun hc => ?_, fun hc => ?_⟩
                                    · have H := H.1 hc
                                      refine g_aload (r := some _) rfl rfl rfl (pc' := 244) ?_
                                      refine g_iconst rfl rfl rfl (pc' := 245) ?_
                                      refine t_call hT (y := 468) (n := 2) (pc' := 248) rfl rfl (t_vt hT rfl rfl) rfl rfl ⟨(Nat.le_of_ble_eq_true rfl), (Nat.le_of_ble_eq_true rfl), (Nat.le_of_ble_eq_true rfl)⟩ rfl H (tI_elim (fun v29 h28 H hT => ?_))
                                      show gm_G _ 248 _ _ _ _
                                      exact g_ireturn rfl (Or.inl rfl) H
                                    · have H := H.2 hc
                                      refine g_iload rfl rfl rfl (pc' := 240) ?_
                                      refine g_goto rfl (pc' := 248) rfl ?_
                                      exact g_ireturn rfl (Or.inl rfl) H
                                  · have H := H.2 hc
                                    refine g_iconst rfl rfl rfl (pc' := 207) ?_
                                    exact g_ireturn rfl (Or.inl rfl) H
                                · have H := H.2 hc
                                  refine g_iconst rfl rfl rfl (pc' := 182) ?_
                                  exact g_ireturn rfl (Or.inl rfl) H
                              · have H := H.2 hc
                                refine g_iconst rfl rfl rfl (pc' := 158) ?_
                                exact g_ireturn rfl (Or.inl rfl) H
                            · have H := H.2 hc
                              refine g_iconst rfl rfl rfl (pc' := 140) ?_
                              exact g_ireturn rfl (Or.inl rfl) H
                          · have H := H.2 hc
                            refine g_iconst rfl rfl rfl (pc' := 112) ?_
                            exact g_ireturn rfl (Or.inl rfl) H
                      · have H := H.2 hc
                        refine g_iconst rfl rfl rfl (pc' := 87) ?_
                        exact g_ireturn rfl (Or.inl rfl) H
                  · have H := H.2 hc
                    refine g_iconst rfl rfl rfl (pc' := 66) ?_
                    exact g_ireturn rfl (Or.inl rfl) H
  · have H := H.2 hc
    refine g_iconst rfl rfl rfl (pc' := 9) ?_
    exact g_ireturn rfl (Or.inl rfl) H
theorem w_520_0 {m : Nat} {x1 : Int32} {x2 : Int32} {x3 : Int32} {h : hh_T} {Q : Option Value ⊕ Nat → hh_T → Prop} (hT : tw_ok h m) (H : gm_G 520 6 [some (.ref m), some (.int x1), none, some (.int x3), some (.int (x2 / (Int32.ofNat 32)))] [] h Q) : gm_G 520 0 [some (.ref m), some (.int x1), some (.int x2), some (.int x3)] [] h Q := by
  refine g_iload rfl rfl rfl (pc' := 1) ?_
  refine g_iconst rfl rfl rfl (pc' := 3) ?_
  refine g_idiv rfl (by decide) (pc' := 4) rfl ?_
  refine g_istore rfl rfl rfl (pc' := 6) ?_
  exact g_weak (show gm_Lle [some _, some _, none, some _, some _] _ from ⟨rfl, ⟨rfl, ⟨rfl, ⟨rfl, trivial⟩⟩⟩⟩) H
theorem w_520_6 {m : Nat} {x1 : Int32} {x3 : Int32} {x4 : Int32} {h : hh_T} {Q : Option Value ⊕ Nat → hh_T → Prop} (hT : tw_ok h m) (H : (¬ ((Int32.ofNat 32) * x4) < x3 → (Q (.inl (some (.int (Int32.ofNat 0)))) h)) ∧ (((Int32.ofNat 32) * x4) < x3 → (∃ n1, gm_ix (((Int32.ofNat 8) * x1) + x4) n1 12288 ∧ ((¬ (hh_i h (m + 55) n1) < Int32.ofNat 0 → (gm_G 473 0 [some (.ref m), some (.int (hh_i h (m + 55) n1))] [] h (pI (fun v3 h2 => (¬ v3 < Int32.ofNat 0 → (gm_G 520 86 [some (.ref m), some (.int x1), none, some (.int x3), some (.int x4), none, none, some (.int (Int32.ofNat 0))] [] h2 Q)) ∧ (v3 < Int32.ofNat 0 → (Q (.inl (some (.int v3))) h2))) (fun _ _ => False)))) ∧ ((hh_i h (m + 55) n1) < Int32.ofNat 0 → (gm_G 520 37 [some (.ref m), some (.int x1), none, some (.int x3), some (.int x4), none, some (.int (Int32.ofNat 0))] [] h Q)))))) : gm_G 520 6 [some (.ref m), some (.int x1), none, some (.int x3), some (.int x4)] [] h Q := by
  refine g_iconst rfl rfl rfl (pc' := 8) ?_
  refine g_iload rfl rfl rfl (pc' := 10) ?_
  refine g_imul rfl rfl (pc' := 11) ?_
  refine g_iload rfl rfl rfl (pc' := 12) ?_
  refine g_ic_ge rfl (pc' := 15) (pt := 125) rfl rfl ⟨fun hc => ?_, fun hc => ?_⟩
  · have H := H.1 hc
    refine g_iconst rfl rfl rfl (pc' := 126) ?_
    exact g_ireturn rfl (Or.inl rfl) H
  · have H := H.2 hc
    refine g_aload (r := some _) rfl rfl rfl (pc' := 16) ?_
    refine t_get (o := 55) rfl hT rfl rfl rfl (pc' := 19) rfl ?_
    refine g_iconst rfl rfl rfl (pc' := 21) ?_
    refine g_iload rfl rfl rfl (pc' := 22) ?_
    refine g_imul rfl rfl (pc' := 23) ?_
    refine g_iload rfl rfl rfl (pc' := 25) ?_
    refine g_iadd rfl rfl (pc' := 26) ?_
    obtain ⟨n1, hn1, H⟩ := H
    refine t_iaload hT (o := 55) (l := 12288) rfl rfl rfl hn1 (pc' := 27) rfl ?_
    refine g_istore rfl rfl rfl (pc' := 29) ?_
    refine g_iload rfl rfl rfl (pc' := 31) ?_
    refine g_if_ge rfl (pc' := 34) (pt := 67) rfl rfl ⟨fun hc => ?_, fun hc => ?_⟩
    · have H := H.1 hc
      refine g_aload (r := some _) rfl rfl rfl (pc' := 68) ?_
      refine g_iload rfl rfl rfl (pc' := 70) ?_
      refine t_call hT (y := 473) (n := 2) (pc' := 73) rfl rfl (t_vt hT rfl rfl) rfl rfl ⟨(Nat.le_of_ble_eq_true rfl), (Nat.le_of_ble_eq_true rfl), (Nat.le_of_ble_eq_true rfl)⟩ rfl H (tI_elim (fun v3 h2 H hT => ?_))
      show gm_G _ 73 _ _ _ _
      refine g_istore rfl rfl rfl (pc' := 75) ?_
      refine g_iload rfl rfl rfl (pc' := 77) ?_
      refine g_if_ge rfl (pc' := 80) (pt := 83) rfl rfl ⟨fun hc => ?_, fun hc => ?_⟩
      · have H := H.1 hc
        refine g_iconst rfl rfl rfl (pc' := 84) ?_
        refine g_istore rfl rfl rfl (pc' := 86) ?_
        exact g_weak (show gm_Lle [some _, some _, none, some _, some _, none, none, some _] _ from ⟨rfl, ⟨rfl, ⟨rfl, ⟨rfl, ⟨rfl, trivial⟩⟩⟩⟩⟩) H
      · have H := H.2 hc
        refine g_iload rfl rfl rfl (pc' := 82) ?_
        exact g_ireturn rfl (Or.inl rfl) H
    · have H := H.2 hc
      refine g_iconst rfl rfl rfl (pc' := 35) ?_
      refine g_istore rfl rfl rfl (pc' := 37) ?_
      exact g_weak (show gm_Lle [some _, some _, none, some _, some _, none, some _] _ from ⟨rfl, ⟨rfl, ⟨rfl, ⟨rfl, ⟨rfl, trivial⟩⟩⟩⟩⟩) H
theorem w_520_37 {m : Nat} {x1 : Int32} {x3 : Int32} {x4 : Int32} {x6 : Int32} {h : hh_T} {Q : Option Value ⊕ Nat → hh_T → Prop} (hT : tw_ok h m) (H : (¬ x6 < (Int32.ofNat 32) → (gm_G 520 119 [some (.ref m), some (.int x1), none, some (.int x3), some (.int x4)] [] h Q)) ∧ (x6 < (Int32.ofNat 32) → (∃ n1, gm_ix (((Int32.ofNat 32) * x4) + x6) n1 544 ∧ (∀ h2, h2 = hh_wi h (m + 103) n1 ((Int32.ofNat 0).toInt8.toInt32) → (gm_G 520 37 [some (.ref m), some (.int x1), none, some (.int x3), some (.int x4), none, some (.int (x6 + (Int32.ofNat 1)))] [] h2 Q))))) : gm_G 520 37 [some (.ref m), some (.int x1), none, some (.int x3), some (.int x4), none, some (.int x6)] [] h Q := by
  refine g_iload rfl rfl rfl (pc' := 39) ?_
  refine g_iconst rfl rfl rfl (pc' := 41) ?_
  refine g_ic_ge rfl (pc' := 44) (pt := 64) rfl rfl ⟨fun hc => ?_, fun hc => ?_⟩
  · have H := H.1 hc
    refine g_goto rfl (pc' := 119) rfl ?_
    exact g_weak (show gm_Lle [some _, some _, none, some _, some _] _ from ⟨rfl, ⟨rfl, ⟨rfl, ⟨rfl, trivial⟩⟩⟩⟩) H
  · have H := H.2 hc
    refine g_aload (r := some _) rfl rfl rfl (pc' := 45) ?_
    refine t_get (o := 103) rfl hT rfl rfl rfl (pc' := 48) rfl ?_
    refine g_iconst rfl rfl rfl (pc' := 50) ?_
    refine g_iload rfl rfl rfl (pc' := 52) ?_
    refine g_imul rfl rfl (pc' := 53) ?_
    refine g_iload rfl rfl rfl (pc' := 55) ?_
    refine g_iadd rfl rfl (pc' := 56) ?_
    refine g_iconst rfl rfl rfl (pc' := 57) ?_
    obtain ⟨n1, hn1, H⟩ := H
    refine t_bastore hT (o := 103) (l := 544) rfl rfl rfl hn1  (pc' := 58) rfl (fun hT => ?_)
    have H := H _ rfl
    refine g_iinc (c := (Int32.ofNat 1)) rfl rfl rfl rfl rfl (pc' := 61) ?_
    refine g_goto rfl (pc' := 37) rfl ?_
    exact g_weak (show gm_Lle [some _, some _, none, some _, some _, none, some _] _ from ⟨rfl, ⟨rfl, ⟨rfl, ⟨rfl, ⟨rfl, trivial⟩⟩⟩⟩⟩) H
theorem w_520_86 {m : Nat} {x1 : Int32} {x3 : Int32} {x4 : Int32} {x7 : Int32} {h : hh_T} {Q : Option Value ⊕ Nat → hh_T → Prop} (hT : tw_ok h m) (H : (¬ x7 < (Int32.ofNat 32) → (gm_G 520 119 [some (.ref m), some (.int x1), none, some (.int x3), some (.int x4)] [] h Q)) ∧ (x7 < (Int32.ofNat 32) → (∃ n1, gm_ix x7 n1 64 ∧ (∃ n2, gm_ix (((Int32.ofNat 32) * x4) + x7) n2 544 ∧ (∀ h3, h3 = hh_wi h (m + 103) n2 ((hh_i h (m + 29) n1).toInt8.toInt32) → (gm_G 520 86 [some (.ref m), some (.int x1), none, some (.int x3), some (.int x4), none, none, some (.int (x7 + (Int32.ofNat 1)))] [] h3 Q)))))) : gm_G 520 86 [some (.ref m), some (.int x1), none, some (.int x3), some (.int x4), none, none, some (.int x7)] [] h Q := by
  refine g_iload rfl rfl rfl (pc' := 88) ?_
  refine g_iconst rfl rfl rfl (pc' := 90) ?_
  refine g_ic_ge rfl (pc' := 93) (pt := 119) rfl rfl ⟨fun hc => ?_, fun hc => ?_⟩
  · have H := H.1 hc
    exact g_weak (show gm_Lle [some _, some _, none, some _, some _] _ from ⟨rfl, ⟨rfl, ⟨rfl, ⟨rfl, trivial⟩⟩⟩⟩) H
  · have H := H.2 hc
    refine g_aload (r := some _) rfl rfl rfl (pc' := 94) ?_
    refine t_get (o := 103) rfl hT rfl rfl rfl (pc' := 97) rfl ?_
    refine g_iconst rfl rfl rfl (pc' := 99) ?_
    refine g_iload rfl rfl rfl (pc' := 101) ?_
    refine g_imul rfl rfl (pc' := 102) ?_
    refine g_iload rfl rfl rfl (pc' := 104) ?_
    refine g_iadd rfl rfl (pc' := 105) ?_
    refine g_aload (r := some _) rfl rfl rfl (pc' := 106) ?_
    refine t_get (o := 29) rfl hT rfl rfl rfl (pc' := 109) rfl ?_
    refine g_iload rfl rfl rfl (pc' := 111) ?_
    obtain ⟨n1, hn1, H⟩ := H
    refine t_baload hT (o := 29) (l := 64) rfl rfl rfl hn1 (pc' := 112) rfl ?_
    obtain ⟨n2, hn2, H⟩ := H
    refine t_bastore hT (o := 103) (l := 544) rfl rfl rfl hn2  (pc' := 113) rfl (fun hT => ?_)
    have H := H _ rfl
    refine g_iinc (c := (Int32.ofNat 1)) rfl rfl rfl rfl rfl (pc' := 116) ?_
    refine g_goto rfl (pc' := 86) rfl ?_
    exact g_weak (show gm_Lle [some _, some _, none, some _, some _, none, none, some _] _ from ⟨rfl, ⟨rfl, ⟨rfl, ⟨rfl, ⟨rfl, trivial⟩⟩⟩⟩⟩) H
theorem w_520_119 {m : Nat} {x1 : Int32} {x3 : Int32} {x4 : Int32} {h : hh_T} {Q : Option Value ⊕ Nat → hh_T → Prop} (hT : tw_ok h m) (H : gm_G 520 6 [some (.ref m), some (.int x1), none, some (.int x3), some (.int (x4 + (Int32.ofNat 1)))] [] h Q) : gm_G 520 119 [some (.ref m), some (.int x1), none, some (.int x3), some (.int x4)] [] h Q := by
  refine g_iinc (c := (Int32.ofNat 1)) rfl rfl rfl rfl rfl (pc' := 122) ?_
  refine g_goto rfl (pc' := 6) rfl ?_
  exact g_weak (show gm_Lle [some _, some _, none, some _, some _] _ from ⟨rfl, ⟨rfl, ⟨rfl, ⟨rfl, trivial⟩⟩⟩⟩) H
theorem w_521_0 {m : Nat} {x1 : Int32} {h : hh_T} {Q : Option Value ⊕ Nat → hh_T → Prop} (hT : tw_ok h m) (H : ∀ h1, h1 = hh_wi h m 2 (Int32.ofNat 0) → ((¬ (hh_i h1 m 77) = Int32.ofNat 0 → (gm_G 370 0 [some (.ref m), some (.ref (m + 1)), some (.int (Int32.ofNat 0)), some (.int (hh_i h m 2))] [] h1 (pI (fun v3 h2 => (v3 = Int32.ofNat 0 → (Q (.inl (some (.int (Int32.ofInt (-11))))) h2)) ∧ (¬ v3 = Int32.ofNat 0 → (gm_G 372 0 [some (.ref m), some (.ref (m + 1)), some (.int (Int32.ofNat 0)), some (.int (hh_i h m 2))] [] h2 (pI (fun v5 h4 => (¬ v5 < Int32.ofNat 0 → (gm_G 366 0 [some (.ref m), some (.int x1)] [] h4 (pI (fun v7 h6 => (¬ v7 < Int32.ofNat 0 → (gm_G 152 0 [some (.ref m), some (.int x1)] [] h6 (pI (fun v9 h8 => ∃ n10, gm_ix v9 n10 32 ∧ (gm_G 372 0 [some (.ref m), some (.ref (m + 1)), some (.int (Int32.ofNat 0)), some (.int (hh_i h m 2))] [] h8 (pI (fun v12 h11 => gm_G 384 0 [some (.ref m), some (.int (hh_i h8 (m + 63) n10)), some (.ref (m + 1)), some (.int (Int32.ofNat 0)), some (.int v12)] [] h11 (pI (fun v14 h13 => (¬ v14 < Int32.ofNat 0 → (gm_G 106 0 [some (.ref m), some (.int (((Int32.ofNat 16) * (hh_i h8 (m + 63) n10)) + v14)), some (.ref (m + 1)), some (.int v12), some (.int ((hh_i h m 2) - v12))] [] h13 (pI (fun v16 h15 => (¬ v16 < Int32.ofNat 0 → (gm_G 282 0 [some (.ref m), some (.int (((Int32.ofNat 16) * (hh_i h8 (m + 63) n10)) + v14)), some (.int (hh_i h15 m 5)), some (.int (Int32.ofNat 3))] [] h15 (pI (fun v18 h17 => (¬ v18 = Int32.ofNat 0 → (∃ n19, gm_ix (((Int32.ofNat 8) * (((Int32.ofNat 16) * (hh_i h8 (m + 63) n10)) + v14)) + v16) n19 12288 ∧ (gm_G 272 0 [some (.ref m), some (.int v9), some (.int (hh_i h17 (m + 53) n19))] [] h17 (pI (fun v21 h20 => (¬ v21 < Int32.ofNat 0 → (gm_G 439 0 [some (.ref m), some (.int v9), some (.int v14), some (.int v16)] [] h20 (pV (fun h22 => gm_G 468 0 [some (.ref m), some (.int (hh_i h17 (m + 53) n19))] [] h22 (pI (fun v24 h23 => Q (.inl (some (.int v24))) h23) (fun _ _ => False))) (fun _ _ => False)))) ∧ (v21 < Int32.ofNat 0 → (Q (.inl (some (.int (Int32.ofInt (-5))))) h20))) (fun _ _ => False))))) ∧ (v18 = Int32.ofNat 0 → (Q (.inl (some (.int (Int32.ofInt (-6))))) h17))) (fun _ _ => False)))) ∧ (v16 < Int32.ofNat 0 → (Q (.inl (some (.int (Int32.ofInt (-2))))) h15))) (fun _ _ => False)))) ∧ (v14 < Int32.ofNat 0 → (Q (.inl (some (.int v14))) h13))) (fun _ _ => False))) (fun _ _ => False)))) (fun _ _ => False)))) ∧ (v7 < Int32.ofNat 0 → (Q (.inl (some (.int v7))) h6))) (fun _ _ => False)))) ∧ (v5 < Int32.ofNat 0 → (Q (.inl (some (.int (Int32.ofInt (-11))))) h4))) (fun _ _ => False))))) (fun _ _ => False)))) ∧ ((hh_i h1 m 77) = Int32.ofNat 0 → (Q (.inl (some (.int (Int32.ofInt (-9))))) h1)))) : gm_G 521 0 [some (.ref m), some (.int x1)] [] h Q := by
  refine g_aload (r := some _) rfl rfl rfl (pc' := 1) ?_
  refine t_getI rfl hT rfl rfl (pc' := 4) rfl ?_
  refine g_istore rfl rfl rfl (pc' := 5) ?_
  refine g_aload (r := some _) rfl rfl rfl (pc' := 6) ?_
  refine g_iconst rfl rfl rfl (pc' := 7) ?_
  refine t_putI rfl hT rfl rfl  (pc' := 10) rfl (fun hT => ?_)
  have H := H _ rfl
  refine g_aload (r := some _) rfl rfl rfl (pc' := 11) ?_
  refine t_getZ rfl hT rfl rfl (pc' := 14) rfl ?_
  refine g_if_ne rfl (pc' := 17) (pt := 20) rfl rfl ⟨fun hc => ?_, fun hc => ?_⟩
  · have H := H.1 hc
    refine g_aload (r := some _) rfl rfl rfl (pc' := 21) ?_
    refine g_aload (r := some _) rfl rfl rfl (pc' := 22) ?_
    refine t_get (o := 1) rfl hT rfl rfl rfl (pc' := 25) rfl ?_
    refine g_iconst rfl rfl rfl (pc' := 26) ?_
    refine g_iload rfl rfl rfl (pc' := 27) ?_
    refine t_call hT (y := 370) (n := 4) (pc' := 30) rfl rfl (t_vt hT rfl rfl) rfl rfl ⟨(Nat.le_of_ble_eq_true rfl), (Nat.le_of_ble_eq_true rfl), (Nat.le_of_ble_eq_true rfl)⟩ rfl H (tI_elim (fun v3 h2 H hT => ?_))
    show gm_G _ 30 _ _ _ _
    refine g_if_eq rfl (pc' := 33) (pt := 46) rfl rfl ⟨fun hc => ?_, fun hc => ?_⟩
    · have H := H.1 hc
      refine g_iconst rfl rfl rfl (pc' := 48) ?_
      exact g_ireturn rfl (Or.inl rfl) H
    · have H := H.2 hc
      refine g_aload (r := some _) rfl rfl rfl (pc' := 34) ?_
      refine g_aload (r := some _) rfl rfl rfl (pc' := 35) ?_
      refine t_get (o := 1) rfl hT rfl rfl rfl (pc' := 38) rfl ?_
      refine g_iconst rfl rfl rfl (pc' := 39) ?_
      refine g_iload rfl rfl rfl (pc' := 40) ?_
      refine t_call hT (y := 372) (n := 4) (pc' := 43) rfl rfl (t_vt hT rfl rfl) rfl rfl ⟨(Nat.le_of_ble_eq_true rfl), (Nat.le_of_ble_eq_true rfl), (Nat.le_of_ble_eq_true rfl)⟩ rfl H (tI_elim (fun v5 h4 H hT => ?_))
      show gm_G _ 43 _ _ _ _
      refine g_if_ge rfl (pc' := 46) (pt := 49) rfl rfl ⟨fun hc => ?_, fun hc => ?_⟩
      · have H := H.1 hc
        refine g_aload (r := some _) rfl rfl rfl (pc' := 50) ?_
        refine g_iload rfl rfl rfl (pc' := 51) ?_
        refine t_call hT (y := 366) (n := 2) (pc' := 54) rfl rfl (t_vt hT rfl rfl) rfl rfl ⟨(Nat.le_of_ble_eq_true rfl), (Nat.le_of_ble_eq_true rfl), (Nat.le_of_ble_eq_true rfl)⟩ rfl H (tI_elim (fun v7 h6 H hT => ?_))
        show gm_G _ 54 _ _ _ _
        refine g_istore rfl rfl rfl (pc' := 55) ?_
        refine g_iload rfl rfl rfl (pc' := 56) ?_
        refine g_if_ge rfl (pc' := 59) (pt := 61) rfl rfl ⟨fun hc => ?_, fun hc => ?_⟩
        · have H := H.1 hc
          refine g_aload (r := some _) rfl rfl rfl (pc' := 62) ?_
          refine g_iload rfl rfl rfl (pc' := 63) ?_
          refine t_call hT (y := 152) (n := 2) (pc' := 66) rfl rfl (t_vt hT rfl rfl) rfl rfl ⟨(Nat.le_of_ble_eq_true rfl), (Nat.le_of_ble_eq_true rfl), (Nat.le_of_ble_eq_true rfl)⟩ rfl H (tI_elim (fun v9 h8 H hT => ?_))
          show gm_G _ 66 _ _ _ _
          refine g_istore rfl rfl rfl (pc' := 68) ?_
          refine g_aload (r := some _) rfl rfl rfl (pc' := 69) ?_
          refine t_get (o := 63) rfl hT rfl rfl rfl (pc' := 72) rfl ?_
          refine g_iload rfl rfl rfl (pc' := 74) ?_
          obtain ⟨n10, hn10, H⟩ := H
          refine t_iaload hT (o := 63) (l := 32) rfl rfl rfl hn10 (pc' := 75) rfl ?_
          refine g_istore rfl rfl rfl (pc' := 77) ?_
          refine g_aload (r := some _) rfl rfl rfl (pc' := 78) ?_
          refine g_aload (r := some _) rfl rfl rfl (pc' := 79) ?_
          refine t_get (o := 1) rfl hT rfl rfl rfl (pc' := 82) rfl ?_
          refine g_iconst rfl rfl rfl (pc' := 83) ?_
          refine g_iload rfl rfl rfl (pc' := 84) ?_
          refine t_call hT (y := 372) (n := 4) (pc' := 87) rfl rfl (t_vt hT rfl rfl) rfl rfl ⟨(Nat.le_of_ble_eq_true rfl), (Nat.le_of_ble_eq_true rfl), (Nat.le_of_ble_eq_true rfl)⟩ rfl H (tI_elim (fun v12 h11 H hT => ?_))
          show gm_G _ 87 _ _ _ _
          refine g_istore rfl rfl rfl (pc' := 89) ?_
          refine g_aload (r := some _) rfl rfl rfl (pc' := 90) ?_
          refine g_iload rfl rfl rfl (pc' := 92) ?_
          refine g_aload (r := some _) rfl rfl rfl (pc' := 93) ?_
          refine t_get (o := 1) rfl hT rfl rfl rfl (pc' := 96) rfl ?_
          refine g_iconst rfl rfl rfl (pc' := 97) ?_
          refine g_iload rfl rfl rfl (pc' := 99) ?_
          refine t_call hT (y := 384) (n := 5) (pc' := 102) rfl rfl (t_vt hT rfl rfl) rfl rfl ⟨(Nat.le_of_ble_eq_true rfl), (Nat.le_of_ble_eq_true rfl), (Nat.le_of_ble_eq_true rfl)⟩ rfl H (tI_elim (fun v14 h13 H hT => ?_))
          show gm_G _ 102 _ _ _ _
          refine g_istore rfl rfl rfl (pc' := 104) ?_
          refine g_iload rfl rfl rfl (pc' := 106) ?_
          refine g_if_ge rfl (pc' := 109) (pt := 112) rfl rfl ⟨fun hc => ?_, fun hc => ?_⟩
          · have H := H.1 hc
            refine g_iconst rfl rfl rfl (pc' := 114) ?_
            refine g_iload rfl rfl rfl (pc' := 116) ?_
            refine g_imul rfl rfl (pc' := 117) ?_
            refine g_iload rfl rfl rfl (pc' := 119) ?_
            refine g_iadd rfl rfl (pc' := 120) ?_
            refine g_istore rfl rfl rfl (pc' := 122) ?_
            refine g_aload (r := some _) rfl rfl rfl (pc' := 123) ?_
            refine g_iload rfl rfl rfl (pc' := 125) ?_
            refine g_aload (r := some _) rfl rfl rfl (pc' := 126) ?_
            refine t_get (o := 1) rfl hT rfl rfl rfl (pc' := 129) rfl ?_
            refine g_iload rfl rfl rfl (pc' := 131) ?_
            refine g_iload rfl rfl rfl (pc' := 132) ?_
            refine g_iload rfl rfl rfl (pc' := 134) ?_
            refine g_isub rfl rfl (pc' := 135) ?_
            refine t_call hT (y := 106) (n := 5) (pc' := 138) rfl rfl (t_vt hT rfl rfl) rfl rfl ⟨(Nat.le_of_ble_eq_true rfl), (Nat.le_of_ble_eq_true rfl), (Nat.le_of_ble_eq_true rfl)⟩ rfl H (tI_elim (fun v16 h15 H hT => ?_))
            show gm_G _ 138 _ _ _ _
            refine g_istore rfl rfl rfl (pc' := 140) ?_
            refine g_iload rfl rfl rfl (pc' := 142) ?_
            refine g_if_ge rfl (pc' := 145) (pt := 148) rfl rfl ⟨fun hc => ?_, fun hc => ?_⟩
            · have H := H.1 hc
              refine g_aload (r := some _) rfl rfl rfl (pc' := 149) ?_
              refine g_iload rfl rfl rfl (pc' := 151) ?_
              refine g_aload (r := some _) rfl rfl rfl (pc' := 152) ?_
              refine t_getI rfl hT rfl rfl (pc' := 155) rfl ?_
              refine g_iconst rfl rfl rfl (pc' := 156) ?_
              refine t_call hT (y := 282) (n := 4) (pc' := 159) rfl rfl (t_vt hT rfl rfl) rfl rfl ⟨(Nat.le_of_ble_eq_true rfl), (Nat.le_of_ble_eq_true rfl), (Nat.le_of_ble_eq_true rfl)⟩ rfl H (tI_elim (fun v18 h17 H hT => ?_))
              show gm_G _ 159 _ _ _ _
              refine g_if_ne rfl (pc' := 162) (pt := 165) rfl rfl ⟨fun hc => ?_, fun hc => ?_⟩
              · have H := H.1 hc
                refine g_aload (r := some _) rfl rfl rfl (pc' := 166) ?_
                refine t_get (o := 53) rfl hT rfl rfl rfl (pc' := 169) rfl ?_
                refine g_iconst rfl rfl rfl (pc' := 171) ?_
                refine g_iload rfl rfl rfl (pc' := 173) ?_
                refine g_imul rfl rfl (pc' := 174) ?_
                refine g_iload rfl rfl rfl (pc' := 176) ?_
                refine g_iadd rfl rfl (pc' := 177) ?_
                obtain ⟨n19, hn19, H⟩ := H
                refine t_iaload hT (o := 53) (l := 12288) rfl rfl rfl hn19 (pc' := 178) rfl ?_
                refine g_istore rfl rfl rfl (pc' := 180) ?_
                refine g_aload (r := some _) rfl rfl rfl (pc' := 181) ?_
                refine g_iload rfl rfl rfl (pc' := 183) ?_
                refine g_iload rfl rfl rfl (pc' := 185) ?_
                refine t_call hT (y := 272) (n := 3) (pc' := 188) rfl rfl (t_vt hT rfl rfl) rfl rfl ⟨(Nat.le_of_ble_eq_true rfl), (Nat.le_of_ble_eq_true rfl), (Nat.le_of_ble_eq_true rfl)⟩ rfl H (tI_elim (fun v21 h20 H hT => ?_))
                show gm_G _ 188 _ _ _ _
                refine g_if_ge rfl (pc' := 191) (pt := 194) rfl rfl ⟨fun hc => ?_, fun hc => ?_⟩
                · have H := H.1 hc
                  refine g_aload (r := some _) rfl rfl rfl (pc' := 195) ?_
                  refine g_iload rfl rfl rfl (pc' := 197) ?_
                  refine g_iload rfl rfl rfl (pc' := 199) ?_
                  refine g_iload rfl rfl rfl (pc' := 201) ?_
                  refine t_call hT (y := 439) (n := 4) (pc' := 204) rfl rfl (t_vt hT rfl rfl) rfl rfl ⟨(Nat.le_of_ble_eq_true rfl), (Nat.le_of_ble_eq_true rfl), (Nat.le_of_ble_eq_true rfl)⟩ rfl H (tV_elim (fun h22 H hT => ?_))
                  show gm_G _ 204 _ _ _ _
                  refine g_aload (r := some _) rfl rfl rfl (pc' := 205) ?_
                  refine g_iload rfl rfl rfl (pc' := 207) ?_
                  refine t_call hT (y := 468) (n := 2) (pc' := 210) rfl rfl (t_vt hT rfl rfl) rfl rfl ⟨(Nat.le_of_ble_eq_true rfl), (Nat.le_of_ble_eq_true rfl), (Nat.le_of_ble_eq_true rfl)⟩ rfl H (tI_elim (fun v24 h23 H hT => ?_))
                  show gm_G _ 210 _ _ _ _
                  exact g_ireturn rfl (Or.inl rfl) H
                · have H := H.2 hc
                  refine g_iconst rfl rfl rfl (pc' := 193) ?_
                  exact g_ireturn rfl (Or.inl rfl) H
              · have H := H.2 hc
                refine g_iconst rfl rfl rfl (pc' := 164) ?_
                exact g_ireturn rfl (Or.inl rfl) H
            · have H := H.2 hc
              refine g_iconst rfl rfl rfl (pc' := 147) ?_
              exact g_ireturn rfl (Or.inl rfl) H
          · have H := H.2 hc
            refine g_iload rfl rfl rfl (pc' := 111) ?_
            exact g_ireturn rfl (Or.inl rfl) H
        · have H := H.2 hc
          refine g_iload rfl rfl rfl (pc' := 60) ?_
          exact g_ireturn rfl (Or.inl rfl) H
      · have H := H.2 hc
        refine g_iconst rfl rfl rfl (pc' := 48) ?_
        exact g_ireturn rfl (Or.inl rfl) H
  · have H := H.2 hc
    refine g_iconst rfl rfl rfl (pc' := 19) ?_
    exact g_ireturn rfl (Or.inl rfl) H
theorem w_538_0 {m : Nat} {x1 : Int32} {x2 : Int32} {h : hh_T} {Q : Option Value ⊕ Nat → hh_T → Prop} (hT : tw_ok h m) (H : ∃ n1, gm_ix x2 n1 37120 ∧ (∃ n2, gm_ix (x2 + (Int32.ofNat 1)) n2 37120 ∧ (∃ n3, gm_ix (x2 + (Int32.ofNat 2)) n3 37120 ∧ (∃ n4, gm_ix (x2 + (Int32.ofNat 3)) n4 37120 ∧ (∃ n5, gm_ix (x2 + (Int32.ofNat 4)) n5 37120 ∧ (∃ n6, gm_ix (x2 + (Int32.ofNat 5)) n6 37120 ∧ (∃ n7, gm_ix (x2 + (Int32.ofNat 8)) n7 37120 ∧ (∃ n8, gm_ix (x2 + (Int32.ofNat 9)) n8 37120 ∧ (gm_G 538 82 [some (.ref m), some (.int x1), some (.int x2), some (.int (hh_i h (m + 83) n1)), some (.int (hh_i h (m + 83) n2)), some (.int (hh_i h (m + 83) n3)), some (.int (hh_i h (m + 83) n4)), some (.int (hh_i h (m + 83) n5)), some (.int (hh_i h (m + 83) n6)), some (.int (hh_i h (m + 83) n7)), some (.int (hh_i h (m + 83) n8)), some (.int (Int32.ofNat 0))] [] h Q))))))))) : gm_G 538 0 [some (.ref m), some (.int x1), some (.int x2)] [] h Q := by
  refine g_aload (r := some _) rfl rfl rfl (pc' := 1) ?_
  refine t_get (o := 83) rfl hT rfl rfl rfl (pc' := 4) rfl ?_
  refine g_iload rfl rfl rfl (pc' := 5) ?_
  obtain ⟨n1, hn1, H⟩ := H
  refine t_iaload hT (o := 83) (l := 37120) rfl rfl rfl hn1 (pc' := 6) rfl ?_
  refine g_istore rfl rfl rfl (pc' := 7) ?_
  refine g_aload (r := some _) rfl rfl rfl (pc' := 8) ?_
  refine t_get (o := 83) rfl hT rfl rfl rfl (pc' := 11) rfl ?_
  refine g_iload rfl rfl rfl (pc' := 12) ?_
  refine g_iconst rfl rfl rfl (pc' := 13) ?_
  refine g_iadd rfl rfl (pc' := 14) ?_
  obtain ⟨n2, hn2, H⟩ := H
  refine t_iaload hT (o := 83) (l := 37120) rfl rfl rfl hn2 (pc' := 15) rfl ?_
  refine g_istore rfl rfl rfl (pc' := 17) ?_
  refine g_aload (r := some _) rfl rfl rfl (pc' := 18) ?_
  refine t_get (o := 83) rfl hT rfl rfl rfl (pc' := 21) rfl ?_
  refine g_iload rfl rfl rfl (pc' := 22) ?_
  refine g_iconst rfl rfl rfl (pc' := 23) ?_
  refine g_iadd rfl rfl (pc' := 24) ?_
  obtain ⟨n3, hn3, H⟩ := H
  refine t_iaload hT (o := 83) (l := 37120) rfl rfl rfl hn3 (pc' := 25) rfl ?_
  refine g_istore rfl rfl rfl (pc' := 27) ?_
  refine g_aload (r := some _) rfl rfl rfl (pc' := 28) ?_
  refine t_get (o := 83) rfl hT rfl rfl rfl (pc' := 31) rfl ?_
  refine g_iload rfl rfl rfl (pc' := 32) ?_
  refine g_iconst rfl rfl rfl (pc' := 33) ?_
  refine g_iadd rfl rfl (pc' := 34) ?_
  obtain ⟨n4, hn4, H⟩ := H
  refine t_iaload hT (o := 83) (l := 37120) rfl rfl rfl hn4 (pc' := 35) rfl ?_
  refine g_istore rfl rfl rfl (pc' := 37) ?_
  refine g_aload (r := some _) rfl rfl rfl (pc' := 38) ?_
  refine t_get (o := 83) rfl hT rfl rfl rfl (pc' := 41) rfl ?_
  refine g_iload rfl rfl rfl (pc' := 42) ?_
  refine g_iconst rfl rfl rfl (pc' := 43) ?_
  refine g_iadd rfl rfl (pc' := 44) ?_
  obtain ⟨n5, hn5, H⟩ := H
  refine t_iaload hT (o := 83) (l := 37120) rfl rfl rfl hn5 (pc' := 45) rfl ?_
  refine g_istore rfl rfl rfl (pc' := 47) ?_
  refine g_aload (r := some _) rfl rfl rfl (pc' := 48) ?_
  refine t_get (o := 83) rfl hT rfl rfl rfl (pc' := 51) rfl ?_
  refine g_iload rfl rfl rfl (pc' := 52) ?_
  refine g_iconst rfl rfl rfl (pc' := 53) ?_
  refine g_iadd rfl rfl (pc' := 54) ?_
  obtain ⟨n6, hn6, H⟩ := H
  refine t_iaload hT (o := 83) (l := 37120) rfl rfl rfl hn6 (pc' := 55) rfl ?_
  refine g_istore rfl rfl rfl (pc' := 57) ?_
  refine g_aload (r := some _) rfl rfl rfl (pc' := 58) ?_
  refine t_get (o := 83) rfl hT rfl rfl rfl (pc' := 61) rfl ?_
  refine g_iload rfl rfl rfl (pc' := 62) ?_
  refine g_iconst rfl rfl rfl (pc' := 64) ?_
  refine g_iadd rfl rfl (pc' := 65) ?_
  obtain ⟨n7, hn7, H⟩ := H
  refine t_iaload hT (o := 83) (l := 37120) rfl rfl rfl hn7 (pc' := 66) rfl ?_
  refine g_istore rfl rfl rfl (pc' := 68) ?_
  refine g_aload (r := some _) rfl rfl rfl (pc' := 69) ?_
  refine t_get (o := 83) rfl hT rfl rfl rfl (pc' := 72) rfl ?_
  refine g_iload rfl rfl rfl (pc' := 73) ?_
  refine g_iconst rfl rfl rfl (pc' := 75) ?_
  refine g_iadd rfl rfl (pc' := 76) ?_
  obtain ⟨n8, hn8, H⟩ := H
  refine t_iaload hT (o := 83) (l := 37120) rfl rfl rfl hn8 (pc' := 77) rfl ?_
  refine g_istore rfl rfl rfl (pc' := 79) ?_
  refine g_iconst rfl rfl rfl (pc' := 80) ?_
  refine g_istore rfl rfl rfl (pc' := 82) ?_
  exact g_weak (show gm_Lle [some _, some _, some _, some _, some _, some _, some _, some _, some _, some _, some _, some _] _ from ⟨rfl, ⟨rfl, ⟨rfl, ⟨rfl, ⟨rfl, ⟨rfl, ⟨rfl, ⟨rfl, ⟨rfl, ⟨rfl, ⟨rfl, ⟨rfl, trivial⟩⟩⟩⟩⟩⟩⟩⟩⟩⟩⟩⟩) H
theorem w_538_82 {m : Nat} {x1 : Int32} {x2 : Int32} {x3 : Int32} {x4 : Int32} {x5 : Int32} {x6 : Int32} {x7 : Int32} {x8 : Int32} {x9 : Int32} {x10 : Int32} {x11 : Int32} {h : hh_T} {Q : Option Value ⊕ Nat → hh_T → Prop} (hT : tw_ok h m) (H : (¬ x11 < x9 → (gm_G 538 118 [some (.ref m), some (.int x1), some (.int x2), some (.int x3), some (.int x4), some (.int x5), some (.int x6), some (.int x7), some (.int x8), some (.int x9), some (.int x10), some (.int (Int32.ofNat 0))] [] h Q)) ∧ (x11 < x9 → (∃ n1, gm_ix ((x2 + (Int32.ofNat 10)) + x11) n1 37120 ∧ (∃ n2, gm_ix x11 n2 300 ∧ (∀ h3, h3 = hh_wi h (m + 110) n2 (((hh_i h (m + 83) n1).toInt8.toInt32).toInt8.toInt32) → (gm_G 538 82 [some (.ref m), some (.int x1), some (.int x2), some (.int x3), some (.int x4), some (.int x5), some (.int x6), some (.int x7), some (.int x8), some (.int x9), some (.int x10), some (.int (x11 + (Int32.ofNat 1)))] [] h3 Q)))))) : gm_G 538 82 [some (.ref m), some (.int x1), some (.int x2), some (.int x3), some (.int x4), some (.int x5), some (.int x6), some (.int x7), some (.int x8), some (.int x9), some (.int x10), some (.int x11)] [] h Q := by
  refine g_iload rfl rfl rfl (pc' := 84) ?_
  refine g_iload rfl rfl rfl (pc' := 86) ?_
  refine g_ic_ge rfl (pc' := 89) (pt := 115) rfl rfl ⟨fun hc => ?_, fun hc => ?_⟩
  · have H := H.1 hc
    refine g_iconst rfl rfl rfl (pc' := 116) ?_
    refine g_istore rfl rfl rfl (pc' := 118) ?_
    exact g_weak (show gm_Lle [some _, some _, some _, some _, some _, some _, some _, some _, some _, some _, some _, some _] _ from ⟨rfl, ⟨rfl, ⟨rfl, ⟨rfl, ⟨rfl, ⟨rfl, ⟨rfl, ⟨rfl, ⟨rfl, ⟨rfl, ⟨rfl, ⟨rfl, trivial⟩⟩⟩⟩⟩⟩⟩⟩⟩⟩⟩⟩) H
  · have H := H.2 hc
    refine g_aload (r := some _) rfl rfl rfl (pc' := 90) ?_
    refine t_get (o := 110) rfl hT rfl rfl rfl (pc' := 93) rfl ?_
    refine g_iload rfl rfl rfl (pc' := 95) ?_
    refine g_aload (r := some _) rfl rfl rfl (pc' := 96) ?_
    refine t_get (o := 83) rfl hT rfl rfl rfl (pc' := 99) rfl ?_
    refine g_iload rfl rfl rfl (pc' := 100) ?_
    refine g_iconst rfl rfl rfl (pc' := 102) ?_
    refine g_iadd rfl rfl (pc' := 103) ?_
    refine g_iload rfl rfl rfl (pc' := 105) ?_
    refine g_iadd rfl rfl (pc' := 106) ?_
    obtain ⟨n1, hn1, H⟩ := H
    refine t_iaload hT (o := 83) (l := 37120) rfl rfl rfl hn1 (pc' := 107) rfl ?_
    refine g_i2b rfl rfl (pc' := 108) ?_
    obtain ⟨n2, hn2, H⟩ := H
    refine t_bastore hT (o := 110) (l := 300) rfl rfl rfl hn2  (pc' := 109) rfl (fun hT => ?_)
    have H := H _ rfl
    refine g_iinc (c := (Int32.ofNat 1)) rfl rfl rfl rfl rfl (pc' := 112) ?_
    refine g_goto rfl (pc' := 82) rfl ?_
    exact g_weak (show gm_Lle [some _, some _, some _, some _, some _, some _, some _, some _, some _, some _, some _, some _] _ from ⟨rfl, ⟨rfl, ⟨rfl, ⟨rfl, ⟨rfl, ⟨rfl, ⟨rfl, ⟨rfl, ⟨rfl, ⟨rfl, ⟨rfl, ⟨rfl, trivial⟩⟩⟩⟩⟩⟩⟩⟩⟩⟩⟩⟩) H
theorem w_538_118 {m : Nat} {x1 : Int32} {x2 : Int32} {x3 : Int32} {x4 : Int32} {x5 : Int32} {x6 : Int32} {x7 : Int32} {x8 : Int32} {x9 : Int32} {x10 : Int32} {x11 : Int32} {h : hh_T} {Q : Option Value ⊕ Nat → hh_T → Prop} (hT : tw_ok h m) (H : (¬ x11 < x10 → (∃ n1, gm_ix x1 n1 32 ∧ ((¬ x3 = (Int32.ofNat 1) → ((¬ x3 = (Int32.ofNat 2) → ((x3 = (Int32.ofNat 3) → (gm_G 538 354 [some (.ref m), some (.int x1), none, some (.int x3), some (.int x4), some (.int x5), some (.int x6), none, none, some (.int x9), some (.int x10), some (.int (hh_i h (m + 63) n1)), some (.int (((Int32.ofNat 16) * (hh_i h (m + 63) n1)) + x4))] [] h Q)) ∧ (¬ x3 = (Int32.ofNat 3) → ((¬ x3 = (Int32.ofNat 4) → ((¬ x3 = (Int32.ofNat 11) → (∃ n2, gm_ix (((Int32.ofNat 16) * (hh_i h (m + 63) n1)) + x4) n2 1536 ∧ ((¬ (hh_i h (m + 40) n2) = Int32.ofNat 0 → ((¬ x3 = (Int32.ofNat 5) → (gm_G 538 626 [some (.ref m), some (.int x1), none, some (.int x3), some (.int x4), some (.int x5), some (.int x6), some (.int x7), some (.int x8), some (.int x9), none, some (.int (hh_i h (m + 63) n1)), some (.int (((Int32.ofNat 16) * (hh_i h (m + 63) n1)) + x4))] [] h Q)) ∧ (x3 = (Int32.ofNat 5) → (gm_G 434 0 [some (.ref m), some (.int x1), some (.int x4), some (.int x6), some (.int x7)] [] h (pV (fun h3 => gm_G 538 626 [some (.ref m), some (.int x1), none, some (.int x3), some (.int x4), some (.int x5), some (.int x6), some (.int x7), some (.int x8), some (.int x9), none, some (.int (hh_i h (m + 63) n1)), some (.int (((Int32.ofNat 16) * (hh_i h (m + 63) n1)) + x4))] [] h3 Q) (fun _ _ => False)))))) ∧ ((hh_i h (m + 40) n2) = Int32.ofNat 0 → (Q (.inl (some (.int (Int32.ofInt (-1))))) h))))) ∧ (x3 = (Int32.ofNat 11) → ((¬ x6 = (Int32.ofNat 1) → (gm_G 538 594 [] [.int (Int32.ofNat 0), .int (Int32.ofNat 0), .ref (m + 110), .int x4, .int x1, .ref m] h Q)) ∧ (x6 = (Int32.ofNat 1) → (gm_G 538 594 [] [.int (Int32.ofNat 1), .int (Int32.ofNat 0), .ref (m + 110), .int x4, .int x1, .ref m] h Q)))))) ∧ (x3 = (Int32.ofNat 4) → (gm_G 538 354 [some (.ref m), some (.int x1), none, some (.int x3), some (.int x4), some (.int x5), some (.int x6), none, none, some (.int x9), some (.int x10), some (.int (hh_i h (m + 63) n1)), some (.int (((Int32.ofNat 16) * (hh_i h (m + 63) n1)) + x4))] [] h Q)))))) ∧ (x3 = (Int32.ofNat 2) → (∃ n4, gm_ix (((Int32.ofNat 16) * (hh_i h (m + 63) n1)) + x4) n4 1536 ∧ ((¬ (hh_i h (m + 40) n4) = (Int32.ofNat 2) → (Q (.inl (some (.int (Int32.ofInt (-1))))) h)) ∧ ((hh_i h (m + 40) n4) = (Int32.ofNat 2) → (∃ n5, gm_ix (((Int32.ofNat 16) * (hh_i h (m + 63) n1)) + x5) n5 1536 ∧ ((¬ (hh_i h (m + 40) n5) = (Int32.ofNat 1) → (Q (.inl (some (.int (Int32.ofInt (-1))))) h)) ∧ ((hh_i h (m + 40) n5) = (Int32.ofNat 1) → (gm_G 106 0 [some (.ref m), some (.int (((Int32.ofNat 16) * (hh_i h (m + 63) n1)) + x4)), some (.ref (m + 110)), some (.int (Int32.ofNat 0)), some (.int x9)] [] h (pI (fun v7 h6 => (¬ v7 < Int32.ofNat 0 → (Q (.inl (some (.int (Int32.ofInt (-1))))) h6)) ∧ (v7 < Int32.ofNat 0 → (∃ n8, gm_ix (((Int32.ofNat 16) * (hh_i h (m + 63) n1)) + x4) n8 1536 ∧ ((¬ (hh_i h6 (m + 45) n8) = (Int32.ofNat 8) → (gm_G 436 0 [some (.ref m), some (.int x1), some (.int x4), some (.int x5), some (.ref (m + 110)), some (.int (Int32.ofNat 0)), some (.int x9)] [] h6 (pV (fun h9 => Q (.inl (some (.int (Int32.ofNat 0)))) h9) (fun _ _ => False)))) ∧ ((hh_i h6 (m + 45) n8) = (Int32.ofNat 8) → (Q (.inl (some (.int (Int32.ofInt (-1))))) h6)))))) (fun _ _ => False)))))))))))) ∧ (x3 = (Int32.ofNat 1) → (∃ n10, gm_ix (((Int32.ofNat 16) * (hh_i h (m + 63) n1)) + x4) n10 1536 ∧ ((¬ (hh_i h (m + 40) n10) = (Int32.ofNat 2) → (Q (.inl (some (.int (Int32.ofInt (-1))))) h)) ∧ ((hh_i h (m + 40) n10) = (Int32.ofNat 2) → (gm_G 106 0 [some (.ref m), some (.int (((Int32.ofNat 16) * (hh_i h (m + 63) n1)) + x4)), some (.ref (m + 110)), some (.int (Int32.ofNat 0)), some (.int x9)] [] h (pI (fun v12 h11 => (¬ v12 < Int32.ofNat 0 → (Q (.inl (some (.int (Int32.ofInt (-1))))) h11)) ∧ (v12 < Int32.ofNat 0 → (∃ n13, gm_ix (((Int32.ofNat 16) * (hh_i h (m + 63) n1)) + x4) n13 1536 ∧ (((hh_i h11 (m + 45) n13) = (Int32.ofNat 8) → (Q (.inl (some (.int (Int32.ofInt (-1))))) h11)) ∧ (¬ (hh_i h11 (m + 45) n13) = (Int32.ofNat 8) → (∃ n14, gm_ix (((Int32.ofNat 16) * (hh_i h (m + 63) n1)) + x5) n14 1536 ∧ ((¬ Int32.ofNat 0 < (hh_i h11 (m + 40) n14) → (gm_G 437 0 [some (.ref m), some (.int x1), some (.int x4), some (.int x5), some (.int x6), some (.int x7), some (.ref (m + 110)), some (.int (Int32.ofNat 0)), some (.int x9), some (.ref (m + 111)), some (.int (Int32.ofNat 0)), some (.int x10)] [] h11 (pV (fun h15 => Q (.inl (some (.int (Int32.ofNat 0)))) h15) (fun _ _ => False)))) ∧ (Int32.ofNat 0 < (hh_i h11 (m + 40) n14) → (Q (.inl (some (.int (Int32.ofInt (-1))))) h11))))))))) (fun _ _ => False)))))))))) ∧ (x11 < x10 → (∃ n16, gm_ix (((x2 + (Int32.ofNat 10)) + x9) + x11) n16 37120 ∧ (∃ n17, gm_ix x11 n17 64 ∧ (∀ h18, h18 = hh_wi h (m + 111) n17 (((hh_i h (m + 83) n16).toInt8.toInt32).toInt8.toInt32) → (gm_G 538 118 [some (.ref m), some (.int x1), some (.int x2), some (.int x3), some (.int x4), some (.int x5), some (.int x6), some (.int x7), some (.int x8), some (.int x9), some (.int x10), some (.int (x11 + (Int32.ofNat 1)))] [] h18 Q)))))) : gm_G 538 118 [some (.ref m), some (.int x1), some (.int x2), some (.int x3), some (.int x4), some (.int x5), some (.int x6), some (.int x7), some (.int x8), some (.int x9), some (.int x10), some (.int x11)] [] h Q := by
  refine g_iload rfl rfl rfl (pc' := 120) ?_
  refine g_iload rfl rfl rfl (pc' := 122) ?_
  refine g_ic_ge rfl (pc' := 125) (pt := 154) rfl rfl ⟨fun hc => ?_, fun hc => ?_⟩
  · have H := H.1 hc
    refine g_aload (r := some _) rfl rfl rfl (pc' := 155) ?_
    refine t_get (o := 63) rfl hT rfl rfl rfl (pc' := 158) rfl ?_
    refine g_iload rfl rfl rfl (pc' := 159) ?_
    obtain ⟨n1, hn1, H⟩ := H
    refine t_iaload hT (o := 63) (l := 32) rfl rfl rfl hn1 (pc' := 160) rfl ?_
    refine g_istore rfl rfl rfl (pc' := 162) ?_
    refine g_iconst rfl rfl rfl (pc' := 164) ?_
    refine g_iload rfl rfl rfl (pc' := 166) ?_
    refine g_imul rfl rfl (pc' := 167) ?_
    refine g_iload rfl rfl rfl (pc' := 169) ?_
    refine g_iadd rfl rfl (pc' := 170) ?_
    refine g_istore rfl rfl rfl (pc' := 172) ?_
    refine g_iload rfl rfl rfl (pc' := 173) ?_
    refine g_iconst rfl rfl rfl (pc' := 174) ?_
    refine g_ic_ne rfl (pc' := 177) (pt := 263) rfl rfl ⟨fun hc => ?_, fun hc => ?_⟩
    · have H := H.1 hc
      refine g_iload rfl rfl rfl (pc' := 264) ?_
      refine g_iconst rfl rfl rfl (pc' := 265) ?_
      refine g_ic_ne rfl (pc' := 268) (pt := 344) rfl rfl ⟨fun hc => ?_, fun hc => ?_⟩
      · have H := H.1 hc
        refine g_iload rfl rfl rfl (pc' := 345) ?_
        refine g_iconst rfl rfl rfl (pc' := 346) ?_
        refine g_ic_eq rfl (pc' := 349) (pt := 354) rfl rfl ⟨fun hc => ?_, fun hc => ?_⟩
        · have H := H.1 hc
          exact g_weak (show gm_Lle [some _, some _, none, some _, some _, some _, some _, none, none, some _, some _, some _, some _] _ from ⟨rfl, ⟨rfl, ⟨rfl, ⟨rfl, ⟨rfl, ⟨rfl, ⟨rfl, ⟨rfl, ⟨rfl, ⟨rfl, trivial⟩⟩⟩⟩⟩⟩⟩⟩⟩⟩) H
        · have H := H.2 hc
          refine g_iload rfl rfl rfl (pc' := 350) ?_
          refine g_iconst rfl rfl rfl (pc' := 351) ?_
          refine g_ic_ne rfl (pc' := 354) (pt := 568) rfl rfl ⟨fun hc => ?_, fun hc => ?_⟩
          · have H := H.1 hc
            refine g_iload rfl rfl rfl (pc' := 569) ?_
            refine g_iconst rfl rfl rfl (pc' := 571) ?_
            refine g_ic_ne rfl (pc' := 574) (pt := 598) rfl rfl ⟨fun hc => ?_, fun hc => ?_⟩
            · have H := H.1 hc
              refine g_aload (r := some _) rfl rfl rfl (pc' := 599) ?_
              refine t_get (o := 40) rfl hT rfl rfl rfl (pc' := 602) rfl ?_
              refine g_iload rfl rfl rfl (pc' := 604) ?_
              obtain ⟨n2, hn2, H⟩ := H
              refine t_iaload hT (o := 40) (l := 1536) rfl rfl rfl hn2 (pc' := 605) rfl ?_
              refine g_if_ne rfl (pc' := 608) (pt := 610) rfl rfl ⟨fun hc => ?_, fun hc => ?_⟩
              · have H := H.1 hc
                refine g_iload rfl rfl rfl (pc' := 611) ?_
                refine g_iconst rfl rfl rfl (pc' := 612) ?_
                refine g_ic_ne rfl (pc' := 615) (pt := 626) rfl rfl ⟨fun hc => ?_, fun hc => ?_⟩
                · have H := H.1 hc
                  exact g_weak (show gm_Lle [some _, some _, none, some _, some _, some _, some _, some _, some _, some _, none, some _, some _] _ from ⟨rfl, ⟨rfl, ⟨rfl, ⟨rfl, ⟨rfl, ⟨rfl, ⟨rfl, ⟨rfl, ⟨rfl, ⟨rfl, ⟨rfl, trivial⟩⟩⟩⟩⟩⟩⟩⟩⟩⟩⟩) H
                · have H := H.2 hc
                  refine g_aload (r := some _) rfl rfl rfl (pc' := 616) ?_
                  refine g_iload rfl rfl rfl (pc' := 617) ?_
                  refine g_iload rfl rfl rfl (pc' := 619) ?_
                  refine g_iload rfl rfl rfl (pc' := 621) ?_
                  refine g_iload rfl rfl rfl (pc' := 623) ?_
                  refine t_call hT (y := 434) (n := 5) (pc' := 626) rfl rfl (t_vt hT rfl rfl) rfl rfl ⟨(Nat.le_of_ble_eq_true rfl), (Nat.le_of_ble_eq_true rfl), (Nat.le_of_ble_eq_true rfl)⟩ rfl H (tV_elim (fun h3 H hT => ?_))
                  show gm_G _ 626 _ _ _ _
                  exact g_weak (show gm_Lle [some _, some _, none, some _, some _, some _, some _, some _, some _, some _, none, some _, some _] _ from ⟨rfl, ⟨rfl, ⟨rfl, ⟨rfl, ⟨rfl, ⟨rfl, ⟨rfl, ⟨rfl, ⟨rfl, ⟨rfl, ⟨rfl, trivial⟩⟩⟩⟩⟩⟩⟩⟩⟩⟩⟩) H
              · have H := H.2 hc
                refine g_iconst rfl rfl rfl (pc' := 609) ?_
                exact g_ireturn rfl (Or.inl rfl) H
            · have H := H.2 hc
              refine g_aload (r := some _) rfl rfl rfl (pc' := 575) ?_
              refine g_iload rfl rfl rfl (pc' := 576) ?_
              refine g_iload rfl rfl rfl (pc' := 578) ?_
              refine g_aload (r := some _) rfl rfl rfl (pc' := 579) ?_
              refine t_get (o := 110) rfl hT rfl rfl rfl (pc' := 582) rfl ?_
              refine g_iconst rfl rfl rfl (pc' := 583) ?_
              refine g_iload rfl rfl rfl (pc' := 585) ?_
              refine g_iconst rfl rfl rfl (pc' := 586) ?_
              refine g_ic_ne rfl (pc' := 589) (pt := 593) rfl rfl ⟨fun hc => ?_, fun hc => ?_⟩
              · have H := H.1 hc
                refine g_iconst rfl rfl rfl (pc' := 594) ?_
                exact g_weak (show gm_Lle [] _ from trivial) H
              · have H := H.2 hc
                refine g_iconst rfl rfl rfl (pc' := 590) ?_
                refine g_goto rfl (pc' := 594) rfl ?_
                exact g_weak (show gm_Lle [] _ from trivial) H
          · have H := H.2 hc
            exact g_weak (show gm_Lle [some _, some _, none, some _, some _, some _, some _, none, none, some _, some _, some _, some _] _ from ⟨rfl, ⟨rfl, ⟨rfl, ⟨rfl, ⟨rfl, ⟨rfl, ⟨rfl, ⟨rfl, ⟨rfl, ⟨rfl, trivial⟩⟩⟩⟩⟩⟩⟩⟩⟩⟩) H
      · have H := H.2 hc
        refine g_aload (r := some _) rfl rfl rfl (pc' := 269) ?_
        refine t_get (o := 40) rfl hT rfl rfl rfl (pc' := 272) rfl ?_
        refine g_iload rfl rfl rfl (pc' := 274) ?_
        obtain ⟨n4, hn4, H⟩ := H
        refine t_iaload hT (o := 40) (l := 1536) rfl rfl rfl hn4 (pc' := 275) rfl ?_
        refine g_iconst rfl rfl rfl (pc' := 276) ?_
        refine g_ic_ne rfl (pc' := 279) (pt := 324) rfl rfl ⟨fun hc => ?_, fun hc => ?_⟩
        · have H := H.1 hc
          refine g_iconst rfl rfl rfl (pc' := 325) ?_
          exact g_ireturn rfl (Or.inl rfl) H
        · have H := H.2 hc
          refine g_aload (r := some _) rfl rfl rfl (pc' := 280) ?_
          refine t_get (o := 40) rfl hT rfl rfl rfl (pc' := 283) rfl ?_
          refine g_iconst rfl rfl rfl (pc' := 285) ?_
          refine g_iload rfl rfl rfl (pc' := 287) ?_
          refine g_imul rfl rfl (pc' := 288) ?_
          refine g_iload rfl rfl rfl (pc' := 290) ?_
          refine g_iadd rfl rfl (pc' := 291) ?_
          obtain ⟨n5, hn5, H⟩ := H
          refine t_iaload hT (o := 40) (l := 1536) rfl rfl rfl hn5 (pc' := 292) rfl ?_
          refine g_iconst rfl rfl rfl (pc' := 293) ?_
          refine g_ic_ne rfl (pc' := 296) (pt := 324) rfl rfl ⟨fun hc => ?_, fun hc => ?_⟩
          · have H := H.1 hc
            refine g_iconst rfl rfl rfl (pc' := 325) ?_
            exact g_ireturn rfl (Or.inl rfl) H
          · have H := H.2 hc
            refine g_aload (r := some _) rfl rfl rfl (pc' := 297) ?_
            refine g_iload rfl rfl rfl (pc' := 299) ?_
            refine g_aload (r := some _) rfl rfl rfl (pc' := 300) ?_
            refine t_get (o := 110) rfl hT rfl rfl rfl (pc' := 303) rfl ?_
            refine g_iconst rfl rfl rfl (pc' := 304) ?_
            refine g_iload rfl rfl rfl (pc' := 306) ?_
            refine t_call hT (y := 106) (n := 5) (pc' := 309) rfl rfl (t_vt hT rfl rfl) rfl rfl ⟨(Nat.le_of_ble_eq_true rfl), (Nat.le_of_ble_eq_true rfl), (Nat.le_of_ble_eq_true rfl)⟩ rfl H (tI_elim (fun v7 h6 H hT => ?_))
            show gm_G _ 309 _ _ _ _
            refine g_if_ge rfl (pc' := 312) (pt := 324) rfl rfl ⟨fun hc => ?_, fun hc => ?_⟩
            · have H := H.1 hc
              refine g_iconst rfl rfl rfl (pc' := 325) ?_
              exact g_ireturn rfl (Or.inl rfl) H
            · have H := H.2 hc
              refine g_aload (r := some _) rfl rfl rfl (pc' := 313) ?_
              refine t_get (o := 45) rfl hT rfl rfl rfl (pc' := 316) rfl ?_
              refine g_iload rfl rfl rfl (pc' := 318) ?_
              obtain ⟨n8, hn8, H⟩ := H
              refine t_iaload hT (o := 45) (l := 1536) rfl rfl rfl hn8 (pc' := 319) rfl ?_
              refine g_iconst rfl rfl rfl (pc' := 321) ?_
              refine g_ic_ne rfl (pc' := 324) (pt := 326) rfl rfl ⟨fun hc => ?_, fun hc => ?_⟩
              · have H := H.1 hc
                refine g_aload (r := some _) rfl rfl rfl (pc' := 327) ?_
                refine g_iload rfl rfl rfl (pc' := 328) ?_
                refine g_iload rfl rfl rfl (pc' := 330) ?_
                refine g_iload rfl rfl rfl (pc' := 332) ?_
                refine g_aload (r := some _) rfl rfl rfl (pc' := 333) ?_
                refine t_get (o := 110) rfl hT rfl rfl rfl (pc' := 336) rfl ?_
                refine g_iconst rfl rfl rfl (pc' := 337) ?_
                refine g_iload rfl rfl rfl (pc' := 339) ?_
                refine t_call hT (y := 436) (n := 7) (pc' := 342) rfl rfl (t_vt hT rfl rfl) rfl rfl ⟨(Nat.le_of_ble_eq_true rfl), (Nat.le_of_ble_eq_true rfl), (Nat.le_of_ble_eq_true rfl)⟩ rfl H (tV_elim (fun h9 H hT => ?_))
                show gm_G _ 342 _ _ _ _
                refine g_iconst rfl rfl rfl (pc' := 343) ?_
                exact g_ireturn rfl (Or.inl rfl) H
              · have H := H.2 hc
                refine g_iconst rfl rfl rfl (pc' := 325) ?_
                exact g_ireturn rfl (Or.inl rfl) H
    · have H := H.2 hc
      refine g_aload (r := some _) rfl rfl rfl (pc' := 178) ?_
      refine t_get (o := 40) rfl hT rfl rfl rfl (pc' := 181) rfl ?_
      refine g_iload rfl rfl rfl (pc' := 183) ?_
      obtain ⟨n10, hn10, H⟩ := H
      refine t_iaload hT (o := 40) (l := 1536) rfl rfl rfl hn10 (pc' := 184) rfl ?_
      refine g_iconst rfl rfl rfl (pc' := 185) ?_
      refine g_ic_ne rfl (pc' := 188) (pt := 232) rfl rfl ⟨fun hc => ?_, fun hc => ?_⟩
      · have H := H.1 hc
        refine g_iconst rfl rfl rfl (pc' := 233) ?_
        exact g_ireturn rfl (Or.inl rfl) H
      · have H := H.2 hc
        refine g_aload (r := some _) rfl rfl rfl (pc' := 189) ?_
        refine g_iload rfl rfl rfl (pc' := 191) ?_
        refine g_aload (r := some _) rfl rfl rfl (pc' := 192) ?_
        refine t_get (o := 110) rfl hT rfl rfl rfl (pc' := 195) rfl ?_
        refine g_iconst rfl rfl rfl (pc' := 196) ?_
        refine g_iload rfl rfl rfl (pc' := 198) ?_
        refine t_call hT (y := 106) (n := 5) (pc' := 201) rfl rfl (t_vt hT rfl rfl) rfl rfl ⟨(Nat.le_of_ble_eq_true rfl), (Nat.le_of_ble_eq_true rfl), (Nat.le_of_ble_eq_true rfl)⟩ rfl H (tI_elim (fun v12 h11 H hT => ?_))
        show gm_G _ 201 _ _ _ _
        refine g_if_ge rfl (pc' := 204) (pt := 232) rfl rfl ⟨fun hc => ?_, fun hc => ?_⟩
        · have H := H.1 hc
          refine g_iconst rfl rfl rfl (pc' := 233) ?_
          exact g_ireturn rfl (Or.inl rfl) H
        · have H := H.2 hc
          refine g_aload (r := some _) rfl rfl rfl (pc' := 205) ?_
          refine t_get (o := 45) rfl hT rfl rfl rfl (pc' := 208) rfl ?_
          refine g_iload rfl rfl rfl (pc' := 210) ?_
          obtain ⟨n13, hn13, H⟩ := H
          refine t_iaload hT (o := 45) (l := 1536) rfl rfl rfl hn13 (pc' := 211) rfl ?_
          refine g_iconst rfl rfl rfl (pc' := 213) ?_
          refine g_ic_eq rfl (pc' := 216) (pt := 232) rfl rfl ⟨fun hc => ?_, fun hc => ?_⟩
          · have H := H.1 hc
            refine g_iconst rfl rfl rfl (pc' := 233) ?_
            exact g_ireturn rfl (Or.inl rfl) H
          · have H := H.2 hc
            refine g_aload (r := some _) rfl rfl rfl (pc' := 217) ?_
            refine t_get (o := 40) rfl hT rfl rfl rfl (pc' := 220) rfl ?_
            refine g_iconst rfl rfl rfl (pc' := 222) ?_
            refine g_iload rfl rfl rfl (pc' := 224) ?_
            refine g_imul rfl rfl (pc' := 225) ?_
            refine g_iload rfl rfl rfl (pc' := 227) ?_
            refine g_iadd rfl rfl (pc' := 228) ?_
            obtain ⟨n14, hn14, H⟩ := H
            refine t_iaload hT (o := 40) (l := 1536) rfl rfl rfl hn14 (pc' := 229) rfl ?_
            refine g_if_le rfl (pc' := 232) (pt := 234) rfl rfl ⟨fun hc => ?_, fun hc => ?_⟩
            · have H := H.1 hc
              refine g_aload (r := some _) rfl rfl rfl (pc' := 235) ?_
              refine g_iload rfl rfl rfl (pc' := 236) ?_
              refine g_iload rfl rfl rfl (pc' := 238) ?_
              refine g_iload rfl rfl rfl (pc' := 240) ?_
              refine g_iload rfl rfl rfl (pc' := 242) ?_
              refine g_iload rfl rfl rfl (pc' := 244) ?_
              refine g_aload (r := some _) rfl rfl rfl (pc' := 245) ?_
              refine t_get (o := 110) rfl hT rfl rfl rfl (pc' := 248) rfl ?_
              refine g_iconst rfl rfl rfl (pc' := 249) ?_
              refine g_iload rfl rfl rfl (pc' := 251) ?_
              refine g_aload (r := some _) rfl rfl rfl (pc' := 252) ?_
              refine t_get (o := 111) rfl hT rfl rfl rfl (pc' := 255) rfl ?_
              refine g_iconst rfl rfl rfl (pc' := 256) ?_
              refine g_iload rfl rfl rfl (pc' := 258) ?_
              refine t_call hT (y := 437) (n := 12) (pc' := 261) rfl rfl (t_vt hT rfl rfl) rfl rfl ⟨(Nat.le_of_ble_eq_true rfl), (Nat.le_of_ble_eq_true rfl), (Nat.le_of_ble_eq_true rfl)⟩ rfl H (tV_elim (fun h15 H hT => ?_))
              show gm_G _ 261 _ _ _ _
              refine g_iconst rfl rfl rfl (pc' := 262) ?_
              exact g_ireturn rfl (Or.inl rfl) H
            · have H := H.2 hc
              refine g_iconst rfl rfl rfl (pc' := 233) ?_
              exact g_ireturn rfl (Or.inl rfl) H
  · have H := H.2 hc
    refine g_aload (r := some _) rfl rfl rfl (pc' := 126) ?_
    refine t_get (o := 111) rfl hT rfl rfl rfl (pc' := 129) rfl ?_
    refine g_iload rfl rfl rfl (pc' := 131) ?_
    refine g_aload (r := some _) rfl rfl rfl (pc' := 132) ?_
    refine t_get (o := 83) rfl hT rfl rfl rfl (pc' := 135) rfl ?_
    refine g_iload rfl rfl rfl (pc' := 136) ?_
    refine g_iconst rfl rfl rfl (pc' := 138) ?_
    refine g_iadd rfl rfl (pc' := 139) ?_
    refine g_iload rfl rfl rfl (pc' := 141) ?_
    refine g_iadd rfl rfl (pc' := 142) ?_
    refine g_iload rfl rfl rfl (pc' := 144) ?_
    refine g_iadd rfl rfl (pc' := 145) ?_
    obtain ⟨n16, hn16, H⟩ := H
    refine t_iaload hT (o := 83) (l := 37120) rfl rfl rfl hn16 (pc' := 146) rfl ?_
    refine g_i2b rfl rfl (pc' := 147) ?_
    obtain ⟨n17, hn17, H⟩ := H
    refine t_bastore hT (o := 111) (l := 64) rfl rfl rfl hn17  (pc' := 148) rfl (fun hT => ?_)
    have H := H _ rfl
    refine g_iinc (c := (Int32.ofNat 1)) rfl rfl rfl rfl rfl (pc' := 151) ?_
    refine g_goto rfl (pc' := 118) rfl ?_
    exact g_weak (show gm_Lle [some _, some _, some _, some _, some _, some _, some _, some _, some _, some _, some _, some _] _ from ⟨rfl, ⟨rfl, ⟨rfl, ⟨rfl, ⟨rfl, ⟨rfl, ⟨rfl, ⟨rfl, ⟨rfl, ⟨rfl, ⟨rfl, ⟨rfl, trivial⟩⟩⟩⟩⟩⟩⟩⟩⟩⟩⟩⟩) H
theorem w_538_354 {m : Nat} {x1 : Int32} {x3 : Int32} {x4 : Int32} {x5 : Int32} {x6 : Int32} {x9 : Int32} {x10 : Int32} {x11 : Int32} {x12 : Int32} {h : hh_T} {Q : Option Value ⊕ Nat → hh_T → Prop} (hT : tw_ok h m) (H : ∃ n1, gm_ix x12 n1 1536 ∧ ((¬ (hh_i h (m + 40) n1) = (Int32.ofNat 2) → (gm_G 538 382 [some (.ref m), some (.int x1), none, some (.int x3), some (.int x4), some (.int x5), some (.int x6), none, none, none, some (.int x10), some (.int x11), some (.int x12)] [.int (Int32.ofInt (-1))] h Q)) ∧ ((hh_i h (m + 40) n1) = (Int32.ofNat 2) → (gm_G 106 0 [some (.ref m), some (.int x12), some (.ref (m + 110)), some (.int (Int32.ofNat 0)), some (.int x9)] [] h (pI (fun v3 h2 => gm_G 538 382 [some (.ref m), some (.int x1), none, some (.int x3), some (.int x4), some (.int x5), some (.int x6), none, none, none, some (.int x10), some (.int x11), some (.int x12)] [.int v3] h2 Q) (fun _ _ => False)))))) : gm_G 538 354 [some (.ref m), some (.int x1), none, some (.int x3), some (.int x4), some (.int x5), some (.int x6), none, none, some (.int x9), some (.int x10), some (.int x11), some (.int x12)] [] h Q := by
  refine g_aload (r := some _) rfl rfl rfl (pc' := 355) ?_
  refine t_get (o := 40) rfl hT rfl rfl rfl (pc' := 358) rfl ?_
  refine g_iload rfl rfl rfl (pc' := 360) ?_
  obtain ⟨n1, hn1, H⟩ := H
  refine t_iaload hT (o := 40) (l := 1536) rfl rfl rfl hn1 (pc' := 361) rfl ?_
  refine g_iconst rfl rfl rfl (pc' := 362) ?_
  refine g_ic_ne rfl (pc' := 365) (pt := 381) rfl rfl ⟨fun hc => ?_, fun hc => ?_⟩
  · have H := H.1 hc
    refine g_iconst rfl rfl rfl (pc' := 382) ?_
    exact g_weak (show gm_Lle [some _, some _, none, some _, some _, some _, some _, none, none, none, some _, some _, some _] _ from ⟨rfl, ⟨rfl, ⟨rfl, ⟨rfl, ⟨rfl, ⟨rfl, ⟨rfl, ⟨rfl, ⟨rfl, trivial⟩⟩⟩⟩⟩⟩⟩⟩⟩) H
  · have H := H.2 hc
    refine g_aload (r := some _) rfl rfl rfl (pc' := 366) ?_
    refine g_iload rfl rfl rfl (pc' := 368) ?_
    refine g_aload (r := some _) rfl rfl rfl (pc' := 369) ?_
    refine t_get (o := 110) rfl hT rfl rfl rfl (pc' := 372) rfl ?_
    refine g_iconst rfl rfl rfl (pc' := 373) ?_
    refine g_iload rfl rfl rfl (pc' := 375) ?_
    refine t_call hT (y := 106) (n := 5) (pc' := 378) rfl rfl (t_vt hT rfl rfl) rfl rfl ⟨(Nat.le_of_ble_eq_true rfl), (Nat.le_of_ble_eq_true rfl), (Nat.le_of_ble_eq_true rfl)⟩ rfl H (tI_elim (fun v3 h2 H hT => ?_))
    show gm_G _ 378 _ _ _ _
    refine g_goto rfl (pc' := 382) rfl ?_
    exact g_weak (show gm_Lle [some _, some _, none, some _, some _, some _, some _, none, none, none, some _, some _, some _] _ from ⟨rfl, ⟨rfl, ⟨rfl, ⟨rfl, ⟨rfl, ⟨rfl, ⟨rfl, ⟨rfl, ⟨rfl, trivial⟩⟩⟩⟩⟩⟩⟩⟩⟩) H
theorem w_538_382 {m : Nat} {x1 : Int32} {x3 : Int32} {x4 : Int32} {x5 : Int32} {x6 : Int32} {x10 : Int32} {x11 : Int32} {x12 : Int32} {y0 : Int32} {h : hh_T} {Q : Option Value ⊕ Nat → hh_T → Prop} (hT : tw_ok h m) (H : (y0 < Int32.ofNat 0 → (Q (.inl (some (.int (Int32.ofInt (-1))))) h)) ∧ (¬ y0 < Int32.ofNat 0 → (∃ n1, gm_ix (((Int32.ofNat 8) * x12) + y0) n1 12288 ∧ (((hh_i h (m + 53) n1) = x5 → ((¬ x3 = (Int32.ofNat 3) → (∃ n2, gm_ix (((Int32.ofNat 16) * x11) + x6) n2 1536 ∧ ((¬ (hh_i h (m + 40) n2) = (Int32.ofNat 2) → (Q (.inl (some (.int (Int32.ofInt (-1))))) h)) ∧ ((hh_i h (m + 40) n2) = (Int32.ofNat 2) → (gm_G 106 0 [some (.ref m), some (.int (((Int32.ofNat 16) * x11) + x6)), some (.ref (m + 111)), some (.int (Int32.ofNat 0)), some (.int x10)] [] h (pI (fun v4 h3 => (¬ v4 < Int32.ofNat 0 → (Q (.inl (some (.int (Int32.ofInt (-1))))) h3)) ∧ (v4 < Int32.ofNat 0 → ((x6 = x4 → (gm_G 538 516 [some (.ref m), some (.int x1), none, none, some (.int x4), some (.int x5), some (.int x6), none, none, none, some (.int x10), some (.int x11), none, some (.int y0)] [] h3 Q)) ∧ (¬ x6 = x4 → (∃ n5, gm_ix (((Int32.ofNat 16) * x11) + x6) n5 1536 ∧ (((hh_i h3 (m + 45) n5) = (Int32.ofNat 8) → (Q (.inl (some (.int (Int32.ofInt (-1))))) h3)) ∧ (¬ (hh_i h3 (m + 45) n5) = (Int32.ofNat 8) → (gm_G 538 516 [some (.ref m), some (.int x1), none, none, some (.int x4), some (.int x5), some (.int x6), none, none, none, some (.int x10), some (.int x11), none, some (.int y0)] [] h3 Q)))))))) (fun _ _ => False))))))) ∧ (x3 = (Int32.ofNat 3) → (∃ n6, gm_ix (((Int32.ofNat 16) * x11) + x5) n6 1536 ∧ ((¬ (hh_i h (m + 40) n6) = (Int32.ofNat 2) → (gm_G 538 449 [some (.ref m), some (.int x1), none, none, some (.int x4), none, none, none, none, none, none, none, none, some (.int y0)] [] h Q)) ∧ ((hh_i h (m + 40) n6) = (Int32.ofNat 2) → (∃ n7, gm_ix (((Int32.ofNat 16) * x11) + x5) n7 1536 ∧ ((¬ Int32.ofNat 0 < (hh_i h (m + 45) n7) → (gm_G 538 449 [some (.ref m), some (.int x1), none, none, some (.int x4), none, none, none, none, none, none, none, none, some (.int y0)] [] h Q)) ∧ (Int32.ofNat 0 < (hh_i h (m + 45) n7) → (Q (.inl (some (.int (Int32.ofInt (-1))))) h)))))))))) ∧ (¬ (hh_i h (m + 53) n1) = x5 → (Q (.inl (some (.int (Int32.ofInt (-1))))) h)))))) : gm_G 538 382 [some (.ref m), some (.int x1), none, some (.int x3), some (.int x4), some (.int x5), some (.int x6), none, none, none, some (.int x10), some (.int x11), some (.int x12)] [.int y0] h Q := by
  refine g_istore rfl rfl rfl (pc' := 384) ?_
  refine g_iload rfl rfl rfl (pc' := 386) ?_
  refine g_if_lt rfl (pc' := 389) (pt := 407) rfl rfl ⟨fun hc => ?_, fun hc => ?_⟩
  · have H := H.1 hc
    refine g_iconst rfl rfl rfl (pc' := 408) ?_
    exact g_ireturn rfl (Or.inl rfl) H
  · have H := H.2 hc
    refine g_aload (r := some _) rfl rfl rfl (pc' := 390) ?_
    refine t_get (o := 53) rfl hT rfl rfl rfl (pc' := 393) rfl ?_
    refine g_iconst rfl rfl rfl (pc' := 395) ?_
    refine g_iload rfl rfl rfl (pc' := 397) ?_
    refine g_imul rfl rfl (pc' := 398) ?_
    refine g_iload rfl rfl rfl (pc' := 400) ?_
    refine g_iadd rfl rfl (pc' := 401) ?_
    obtain ⟨n1, hn1, H⟩ := H
    refine t_iaload hT (o := 53) (l := 12288) rfl rfl rfl hn1 (pc' := 402) rfl ?_
    refine g_iload rfl rfl rfl (pc' := 404) ?_
    refine g_ic_eq rfl (pc' := 407) (pt := 409) rfl rfl ⟨fun hc => ?_, fun hc => ?_⟩
    · have H := H.1 hc
      refine g_iload rfl rfl rfl (pc' := 410) ?_
      refine g_iconst rfl rfl rfl (pc' := 411) ?_
      refine g_ic_ne rfl (pc' := 414) (pt := 460) rfl rfl ⟨fun hc => ?_, fun hc => ?_⟩
      · have H := H.1 hc
        refine g_iconst rfl rfl rfl (pc' := 462) ?_
        refine g_iload rfl rfl rfl (pc' := 464) ?_
        refine g_imul rfl rfl (pc' := 465) ?_
        refine g_iload rfl rfl rfl (pc' := 467) ?_
        refine g_iadd rfl rfl (pc' := 468) ?_
        refine g_istore rfl rfl rfl (pc' := 470) ?_
        refine g_aload (r := some _) rfl rfl rfl (pc' := 471) ?_
        refine t_get (o := 40) rfl hT rfl rfl rfl (pc' := 474) rfl ?_
        refine g_iload rfl rfl rfl (pc' := 476) ?_
        obtain ⟨n2, hn2, H⟩ := H
        refine t_iaload hT (o := 40) (l := 1536) rfl rfl rfl hn2 (pc' := 477) rfl ?_
        refine g_iconst rfl rfl rfl (pc' := 478) ?_
        refine g_ic_ne rfl (pc' := 481) (pt := 546) rfl rfl ⟨fun hc => ?_, fun hc => ?_⟩
        · have H := H.1 hc
          refine g_iconst rfl rfl rfl (pc' := 547) ?_
          exact g_ireturn rfl (Or.inl rfl) H
        · have H := H.2 hc
          refine g_aload (r := some _) rfl rfl rfl (pc' := 482) ?_
          refine g_iload rfl rfl rfl (pc' := 484) ?_
          refine g_aload (r := some _) rfl rfl rfl (pc' := 485) ?_
          refine t_get (o := 111) rfl hT rfl rfl rfl (pc' := 488) rfl ?_
          refine g_iconst rfl rfl rfl (pc' := 489) ?_
          refine g_iload rfl rfl rfl (pc' := 491) ?_
          refine t_call hT (y := 106) (n := 5) (pc' := 494) rfl rfl (t_vt hT rfl rfl) rfl rfl ⟨(Nat.le_of_ble_eq_true rfl), (Nat.le_of_ble_eq_true rfl), (Nat.le_of_ble_eq_true rfl)⟩ rfl H (tI_elim (fun v4 h3 H hT => ?_))
          show gm_G _ 494 _ _ _ _
          refine g_if_ge rfl (pc' := 497) (pt := 546) rfl rfl ⟨fun hc => ?_, fun hc => ?_⟩
          · have H := H.1 hc
            refine g_iconst rfl rfl rfl (pc' := 547) ?_
            exact g_ireturn rfl (Or.inl rfl) H
          · have H := H.2 hc
            refine g_iload rfl rfl rfl (pc' := 499) ?_
            refine g_iload rfl rfl rfl (pc' := 501) ?_
            refine g_ic_eq rfl (pc' := 504) (pt := 516) rfl rfl ⟨fun hc => ?_, fun hc => ?_⟩
            · have H := H.1 hc
              exact g_weak (show gm_Lle [some _, some _, none, none, some _, some _, some _, none, none, none, some _, some _, none, some _] _ from ⟨rfl, ⟨rfl, ⟨rfl, ⟨rfl, ⟨rfl, ⟨rfl, ⟨rfl, ⟨rfl, trivial⟩⟩⟩⟩⟩⟩⟩⟩) H
            · have H := H.2 hc
              refine g_aload (r := some _) rfl rfl rfl (pc' := 505) ?_
              refine t_get (o := 45) rfl hT rfl rfl rfl (pc' := 508) rfl ?_
              refine g_iload rfl rfl rfl (pc' := 510) ?_
              obtain ⟨n5, hn5, H⟩ := H
              refine t_iaload hT (o := 45) (l := 1536) rfl rfl rfl hn5 (pc' := 511) rfl ?_
              refine g_iconst rfl rfl rfl (pc' := 513) ?_
              refine g_ic_eq rfl (pc' := 516) (pt := 546) rfl rfl ⟨fun hc => ?_, fun hc => ?_⟩
              · have H := H.1 hc
                refine g_iconst rfl rfl rfl (pc' := 547) ?_
                exact g_ireturn rfl (Or.inl rfl) H
              · have H := H.2 hc
                exact g_weak (show gm_Lle [some _, some _, none, none, some _, some _, some _, none, none, none, some _, some _, none, some _] _ from ⟨rfl, ⟨rfl, ⟨rfl, ⟨rfl, ⟨rfl, ⟨rfl, ⟨rfl, ⟨rfl, trivial⟩⟩⟩⟩⟩⟩⟩⟩) H
      · have H := H.2 hc
        refine g_aload (r := some _) rfl rfl rfl (pc' := 415) ?_
        refine t_get (o := 40) rfl hT rfl rfl rfl (pc' := 418) rfl ?_
        refine g_iconst rfl rfl rfl (pc' := 420) ?_
        refine g_iload rfl rfl rfl (pc' := 422) ?_
        refine g_imul rfl rfl (pc' := 423) ?_
        refine g_iload rfl rfl rfl (pc' := 425) ?_
        refine g_iadd rfl rfl (pc' := 426) ?_
        obtain ⟨n6, hn6, H⟩ := H
        refine t_iaload hT (o := 40) (l := 1536) rfl rfl rfl hn6 (pc' := 427) rfl ?_
        refine g_iconst rfl rfl rfl (pc' := 428) ?_
        refine g_ic_ne rfl (pc' := 431) (pt := 449) rfl rfl ⟨fun hc => ?_, fun hc => ?_⟩
        · have H := H.1 hc
          exact g_weak (show gm_Lle [some _, some _, none, none, some _, none, none, none, none, none, none, none, none, some _] _ from ⟨rfl, ⟨rfl, ⟨rfl, ⟨rfl, trivial⟩⟩⟩⟩) H
        · have H := H.2 hc
          refine g_aload (r := some _) rfl rfl rfl (pc' := 432) ?_
          refine t_get (o := 45) rfl hT rfl rfl rfl (pc' := 435) rfl ?_
          refine g_iconst rfl rfl rfl (pc' := 437) ?_
          refine g_iload rfl rfl rfl (pc' := 439) ?_
          refine g_imul rfl rfl (pc' := 440) ?_
          refine g_iload rfl rfl rfl (pc' := 442) ?_
          refine g_iadd rfl rfl (pc' := 443) ?_
          obtain ⟨n7, hn7, H⟩ := H
          refine t_iaload hT (o := 45) (l := 1536) rfl rfl rfl hn7 (pc' := 444) rfl ?_
          refine g_if_le rfl (pc' := 447) (pt := 449) rfl rfl ⟨fun hc => ?_, fun hc => ?_⟩
          · have H := H.1 hc
            exact g_weak (show gm_Lle [some _, some _, none, none, some _, none, none, none, none, none, none, none, none, some _] _ from ⟨rfl, ⟨rfl, ⟨rfl, ⟨rfl, trivial⟩⟩⟩⟩) H
          · have H := H.2 hc
            refine g_iconst rfl rfl rfl (pc' := 448) ?_
            exact g_ireturn rfl (Or.inl rfl) H
    · have H := H.2 hc
      refine g_iconst rfl rfl rfl (pc' := 408) ?_
      exact g_ireturn rfl (Or.inl rfl) H
theorem w_538_449 {m : Nat} {x1 : Int32} {x4 : Int32} {x13 : Int32} {h : hh_T} {Q : Option Value ⊕ Nat → hh_T → Prop} (hT : tw_ok h m) (H : gm_G 439 0 [some (.ref m), some (.int x1), some (.int x4), some (.int x13)] [] h (pV (fun h1 => Q (.inl (some (.int (Int32.ofNat 0)))) h1) (fun _ _ => False))) : gm_G 538 449 [some (.ref m), some (.int x1), none, none, some (.int x4), none, none, none, none, none, none, none, none, some (.int x13)] [] h Q := by
  refine g_aload (r := some _) rfl rfl rfl (pc' := 450) ?_
  refine g_iload rfl rfl rfl (pc' := 451) ?_
  refine g_iload rfl rfl rfl (pc' := 453) ?_
  refine g_iload rfl rfl rfl (pc' := 455) ?_
  refine t_call hT (y := 439) (n := 4) (pc' := 458) rfl rfl (t_vt hT rfl rfl) rfl rfl ⟨(Nat.le_of_ble_eq_true rfl), (Nat.le_of_ble_eq_true rfl), (Nat.le_of_ble_eq_true rfl)⟩ rfl H (tV_elim (fun h1 H hT => ?_))
  show gm_G _ 458 _ _ _ _
  refine g_iconst rfl rfl rfl (pc' := 459) ?_
  exact g_ireturn rfl (Or.inl rfl) H
theorem w_538_516 {m : Nat} {x1 : Int32} {x4 : Int32} {x5 : Int32} {x6 : Int32} {x10 : Int32} {x11 : Int32} {x13 : Int32} {h : hh_T} {Q : Option Value ⊕ Nat → hh_T → Prop} (hT : tw_ok h m) (H : ∃ n1, gm_ix (((Int32.ofNat 16) * x11) + x5) n1 1536 ∧ ((¬ (hh_i h (m + 40) n1) = (Int32.ofNat 2) → (gm_G 538 548 [some (.ref m), some (.int x1), none, none, some (.int x4), none, some (.int x6), none, none, none, some (.int x10), none, none, some (.int x13)] [] h Q)) ∧ ((hh_i h (m + 40) n1) = (Int32.ofNat 2) → (gm_G 118 0 [some (.ref m), some (.int x11), some (.int x6), some (.int x5)] [] h (pI (fun v3 h2 => (v3 = Int32.ofNat 0 → (gm_G 538 548 [some (.ref m), some (.int x1), none, none, some (.int x4), none, some (.int x6), none, none, none, some (.int x10), none, none, some (.int x13)] [] h2 Q)) ∧ (¬ v3 = Int32.ofNat 0 → (Q (.inl (some (.int (Int32.ofInt (-1))))) h2))) (fun _ _ => False)))))) : gm_G 538 516 [some (.ref m), some (.int x1), none, none, some (.int x4), some (.int x5), some (.int x6), none, none, none, some (.int x10), some (.int x11), none, some (.int x13)] [] h Q := by
  refine g_aload (r := some _) rfl rfl rfl (pc' := 517) ?_
  refine t_get (o := 40) rfl hT rfl rfl rfl (pc' := 520) rfl ?_
  refine g_iconst rfl rfl rfl (pc' := 522) ?_
  refine g_iload rfl rfl rfl (pc' := 524) ?_
  refine g_imul rfl rfl (pc' := 525) ?_
  refine g_iload rfl rfl rfl (pc' := 527) ?_
  refine g_iadd rfl rfl (pc' := 528) ?_
  obtain ⟨n1, hn1, H⟩ := H
  refine t_iaload hT (o := 40) (l := 1536) rfl rfl rfl hn1 (pc' := 529) rfl ?_
  refine g_iconst rfl rfl rfl (pc' := 530) ?_
  refine g_ic_ne rfl (pc' := 533) (pt := 548) rfl rfl ⟨fun hc => ?_, fun hc => ?_⟩
  · have H := H.1 hc
    exact g_weak (show gm_Lle [some _, some _, none, none, some _, none, some _, none, none, none, some _, none, none, some _] _ from ⟨rfl, ⟨rfl, ⟨rfl, ⟨rfl, ⟨rfl, ⟨rfl, trivial⟩⟩⟩⟩⟩⟩) H
  · have H := H.2 hc
    refine g_aload (r := some _) rfl rfl rfl (pc' := 534) ?_
    refine g_iload rfl rfl rfl (pc' := 536) ?_
    refine g_iload rfl rfl rfl (pc' := 538) ?_
    refine g_iload rfl rfl rfl (pc' := 540) ?_
    refine t_call hT (y := 118) (n := 4) (pc' := 543) rfl rfl (t_vt hT rfl rfl) rfl rfl ⟨(Nat.le_of_ble_eq_true rfl), (Nat.le_of_ble_eq_true rfl), (Nat.le_of_ble_eq_true rfl)⟩ rfl H (tI_elim (fun v3 h2 H hT => ?_))
    show gm_G _ 543 _ _ _ _
    refine g_if_eq rfl (pc' := 546) (pt := 548) rfl rfl ⟨fun hc => ?_, fun hc => ?_⟩
    · have H := H.1 hc
      exact g_weak (show gm_Lle [some _, some _, none, none, some _, none, some _, none, none, none, some _, none, none, some _] _ from ⟨rfl, ⟨rfl, ⟨rfl, ⟨rfl, ⟨rfl, ⟨rfl, trivial⟩⟩⟩⟩⟩⟩) H
    · have H := H.2 hc
      refine g_iconst rfl rfl rfl (pc' := 547) ?_
      exact g_ireturn rfl (Or.inl rfl) H
theorem w_538_548 {m : Nat} {x1 : Int32} {x4 : Int32} {x6 : Int32} {x10 : Int32} {x13 : Int32} {h : hh_T} {Q : Option Value ⊕ Nat → hh_T → Prop} (hT : tw_ok h m) (H : gm_G 438 0 [some (.ref m), some (.int x1), some (.int x4), some (.int x13), some (.int x6), some (.ref (m + 111)), some (.int (Int32.ofNat 0)), some (.int x10)] [] h (pV (fun h1 => Q (.inl (some (.int (Int32.ofNat 0)))) h1) (fun _ _ => False))) : gm_G 538 548 [some (.ref m), some (.int x1), none, none, some (.int x4), none, some (.int x6), none, none, none, some (.int x10), none, none, some (.int x13)] [] h Q := by
  refine g_aload (r := some _) rfl rfl rfl (pc' := 549) ?_
  refine g_iload rfl rfl rfl (pc' := 550) ?_
  refine g_iload rfl rfl rfl (pc' := 552) ?_
  refine g_iload rfl rfl rfl (pc' := 554) ?_
  refine g_iload rfl rfl rfl (pc' := 556) ?_
  refine g_aload (r := some _) rfl rfl rfl (pc' := 557) ?_
  refine t_get (o := 111) rfl hT rfl rfl rfl (pc' := 560) rfl ?_
  refine g_iconst rfl rfl rfl (pc' := 561) ?_
  refine g_iload rfl rfl rfl (pc' := 563) ?_
  refine t_call hT (y := 438) (n := 8) (pc' := 566) rfl rfl (t_vt hT rfl rfl) rfl rfl ⟨(Nat.le_of_ble_eq_true rfl), (Nat.le_of_ble_eq_true rfl), (Nat.le_of_ble_eq_true rfl)⟩ rfl H (tV_elim (fun h1 H hT => ?_))
  show gm_G _ 566 _ _ _ _
  refine g_iconst rfl rfl rfl (pc' := 567) ?_
  exact g_ireturn rfl (Or.inl rfl) H
theorem w_538_594 {m : Nat} {y0 : Int32} {y1 : Int32} {y3 : Int32} {y4 : Int32} {h : hh_T} {Q : Option Value ⊕ Nat → hh_T → Prop} (hT : tw_ok h m) (H : gm_G 512 0 [some (.ref m), some (.int y4), some (.int y3), some (.ref (m + 110)), some (.int y1), some (.int y0)] [] h (pI (fun v2 h1 => Q (.inl (some (.int v2))) h1) (fun _ _ => False))) : gm_G 538 594 [] [.int y0, .int y1, .ref (m + 110), .int y3, .int y4, .ref m] h Q := by
  refine t_call hT (y := 512) (n := 6) (pc' := 597) rfl rfl (t_vt hT rfl rfl) rfl rfl ⟨(Nat.le_of_ble_eq_true rfl), (Nat.le_of_ble_eq_true rfl), (Nat.le_of_ble_eq_true rfl)⟩ rfl H (tI_elim (fun v2 h1 H hT => ?_))
  show gm_G _ 597 _ _ _ _
  exact g_ireturn rfl (Or.inl rfl) H
theorem w_538_626 {m : Nat} {x1 : Int32} {x3 : Int32} {x4 : Int32} {x5 : Int32} {x6 : Int32} {x7 : Int32} {x8 : Int32} {x9 : Int32} {x11 : Int32} {x12 : Int32} {h : hh_T} {Q : Option Value ⊕ Nat → hh_T → Prop} (hT : tw_ok h m) (H : (¬ x3 = (Int32.ofNat 6) → (gm_G 538 664 [some (.ref m), some (.int x1), none, some (.int x3), some (.int x4), some (.int x5), some (.int x6), some (.int x7), some (.int x8), some (.int x9), none, some (.int x11), some (.int x12)] [] h Q)) ∧ (x3 = (Int32.ofNat 6) → ((¬ x6 < (Int32.ofNat 2) → (gm_G 538 651 [some (.ref m), some (.int x1), none, some (.int x3), some (.int x4), some (.int x5), some (.int x6), some (.int x7), some (.int x8), some (.int x9), none, some (.int x11), some (.int x12)] [] h Q)) ∧ (x6 < (Int32.ofNat 2) → (∃ n1, gm_ix x12 n1 1536 ∧ ((¬ (hh_i h (m + 49) n1) = (Int32.ofNat 4) → (gm_G 538 651 [some (.ref m), some (.int x1), none, some (.int x3), some (.int x4), some (.int x5), some (.int x6), some (.int x7), some (.int x8), some (.int x9), none, some (.int x11), some (.int x12)] [] h Q)) ∧ ((hh_i h (m + 49) n1) = (Int32.ofNat 4) → (Q (.inl (some (.int (Int32.ofInt (-1))))) h)))))))) : gm_G 538 626 [some (.ref m), some (.int x1), none, some (.int x3), some (.int x4), some (.int x5), some (.int x6), some (.int x7), some (.int x8), some (.int x9), none, some (.int x11), some (.int x12)] [] h Q := by
  refine g_iload rfl rfl rfl (pc' := 627) ?_
  refine g_iconst rfl rfl rfl (pc' := 629) ?_
  refine g_ic_ne rfl (pc' := 632) (pt := 664) rfl rfl ⟨fun hc => ?_, fun hc => ?_⟩
  · have H := H.1 hc
    exact g_weak (show gm_Lle [some _, some _, none, some _, some _, some _, some _, some _, some _, some _, none, some _, some _] _ from ⟨rfl, ⟨rfl, ⟨rfl, ⟨rfl, ⟨rfl, ⟨rfl, ⟨rfl, ⟨rfl, ⟨rfl, ⟨rfl, ⟨rfl, trivial⟩⟩⟩⟩⟩⟩⟩⟩⟩⟩⟩) H
  · have H := H.2 hc
    refine g_iload rfl rfl rfl (pc' := 634) ?_
    refine g_iconst rfl rfl rfl (pc' := 635) ?_
    refine g_ic_ge rfl (pc' := 638) (pt := 651) rfl rfl ⟨fun hc => ?_, fun hc => ?_⟩
    · have H := H.1 hc
      exact g_weak (show gm_Lle [some _, some _, none, some _, some _, some _, some _, some _, some _, some _, none, some _, some _] _ from ⟨rfl, ⟨rfl, ⟨rfl, ⟨rfl, ⟨rfl, ⟨rfl, ⟨rfl, ⟨rfl, ⟨rfl, ⟨rfl, ⟨rfl, trivial⟩⟩⟩⟩⟩⟩⟩⟩⟩⟩⟩) H
    · have H := H.2 hc
      refine g_aload (r := some _) rfl rfl rfl (pc' := 639) ?_
      refine t_get (o := 49) rfl hT rfl rfl rfl (pc' := 642) rfl ?_
      refine g_iload rfl rfl rfl (pc' := 644) ?_
      obtain ⟨n1, hn1, H⟩ := H
      refine t_iaload hT (o := 49) (l := 1536) rfl rfl rfl hn1 (pc' := 645) rfl ?_
      refine g_iconst rfl rfl rfl (pc' := 646) ?_
      refine g_ic_ne rfl (pc' := 649) (pt := 651) rfl rfl ⟨fun hc => ?_, fun hc => ?_⟩
      · have H := H.1 hc
        exact g_weak (show gm_Lle [some _, some _, none, some _, some _, some _, some _, some _, some _, some _, none, some _, some _] _ from ⟨rfl, ⟨rfl, ⟨rfl, ⟨rfl, ⟨rfl, ⟨rfl, ⟨rfl, ⟨rfl, ⟨rfl, ⟨rfl, ⟨rfl, trivial⟩⟩⟩⟩⟩⟩⟩⟩⟩⟩⟩) H
      · have H := H.2 hc
        refine g_iconst rfl rfl rfl (pc' := 650) ?_
        exact g_ireturn rfl (Or.inl rfl) H
theorem w_538_651 {m : Nat} {x1 : Int32} {x3 : Int32} {x4 : Int32} {x5 : Int32} {x6 : Int32} {x7 : Int32} {x8 : Int32} {x9 : Int32} {x11 : Int32} {x12 : Int32} {h : hh_T} {Q : Option Value ⊕ Nat → hh_T → Prop} (hT : tw_ok h m) (H : gm_G 435 0 [some (.ref m), some (.int x1), some (.int x4), some (.int x6), some (.int x7), some (.int x8)] [] h (pV (fun h1 => gm_G 538 664 [some (.ref m), some (.int x1), none, some (.int x3), some (.int x4), some (.int x5), some (.int x6), some (.int x7), some (.int x8), some (.int x9), none, some (.int x11), some (.int x12)] [] h1 Q) (fun _ _ => False))) : gm_G 538 651 [some (.ref m), some (.int x1), none, some (.int x3), some (.int x4), some (.int x5), some (.int x6), some (.int x7), some (.int x8), some (.int x9), none, some (.int x11), some (.int x12)] [] h Q := by
  refine g_aload (r := some _) rfl rfl rfl (pc' := 652) ?_
  refine g_iload rfl rfl rfl (pc' := 653) ?_
  refine g_iload rfl rfl rfl (pc' := 655) ?_
  refine g_iload rfl rfl rfl (pc' := 657) ?_
  refine g_iload rfl rfl rfl (pc' := 659) ?_
  refine g_iload rfl rfl rfl (pc' := 661) ?_
  refine t_call hT (y := 435) (n := 6) (pc' := 664) rfl rfl (t_vt hT rfl rfl) rfl rfl ⟨(Nat.le_of_ble_eq_true rfl), (Nat.le_of_ble_eq_true rfl), (Nat.le_of_ble_eq_true rfl)⟩ rfl H (tV_elim (fun h1 H hT => ?_))
  show gm_G _ 664 _ _ _ _
  exact g_weak (show gm_Lle [some _, some _, none, some _, some _, some _, some _, some _, some _, some _, none, some _, some _] _ from ⟨rfl, ⟨rfl, ⟨rfl, ⟨rfl, ⟨rfl, ⟨rfl, ⟨rfl, ⟨rfl, ⟨rfl, ⟨rfl, ⟨rfl, trivial⟩⟩⟩⟩⟩⟩⟩⟩⟩⟩⟩) H
theorem w_538_664 {m : Nat} {x1 : Int32} {x3 : Int32} {x4 : Int32} {x5 : Int32} {x6 : Int32} {x7 : Int32} {x8 : Int32} {x9 : Int32} {x11 : Int32} {x12 : Int32} {h : hh_T} {Q : Option Value ⊕ Nat → hh_T → Prop} (hT : tw_ok h m) (H : (¬ x3 < (Int32.ofNat 7) → (∃ n1, gm_ix x12 n1 1536 ∧ (((hh_i h (m + 40) n1) = (Int32.ofNat 1) → ((¬ x3 = (Int32.ofNat 7) → ((¬ x3 = (Int32.ofNat 8) → ((¬ x3 = (Int32.ofNat 9) → (∃ n2, gm_ix (((Int32.ofNat 16) * x11) + x5) n2 1536 ∧ ((¬ (hh_i h (m + 40) n2) = (Int32.ofNat 1) → (Q (.inl (some (.int (Int32.ofInt (-1))))) h)) ∧ ((hh_i h (m + 40) n2) = (Int32.ofNat 1) → (gm_G 123 0 [some (.ref m), some (.int x12), some (.int (((Int32.ofNat 16) * x11) + x5)), some (.int x6), some (.int x7), some (.int x8)] [] h (pI (fun v4 h3 => (v4 = Int32.ofNat 0 → (gm_G 466 0 [some (.ref m), some (.int x1), some (.int x4), some (.int x5), some (.int x6), some (.int x7), some (.int x8)] [] h3 (pI (fun v6 h5 => Q (.inl (some (.int v6))) h5) (fun _ _ => False)))) ∧ (¬ v4 = Int32.ofNat 0 → (Q (.inl (some (.int (Int32.ofInt (-1))))) h3))) (fun _ _ => False))))))) ∧ (x3 = (Int32.ofNat 9) → (∃ n7, gm_ix x12 n7 1536 ∧ ((x5 < (hh_i h (m + 45) n7) → (∃ n8, gm_ix x12 n8 1536 ∧ ((¬ ((hh_i h (m + 45) n8) - x5) < x6 → (gm_G 538 792 [some (.ref m), some (.int x1), none, none, some (.int x4), some (.int x5)] [.int x6] h Q)) ∧ (((hh_i h (m + 45) n8) - x5) < x6 → (∃ n9, gm_ix x12 n9 1536 ∧ (gm_G 538 792 [some (.ref m), some (.int x1), none, none, some (.int x4), some (.int x5)] [.int ((hh_i h (m + 45) n9) - x5)] h Q)))))) ∧ (¬ x5 < (hh_i h (m + 45) n7) → (gm_G 538 792 [some (.ref m), some (.int x1), none, none, some (.int x4), some (.int x5)] [.int (Int32.ofNat 0)] h Q))))))) ∧ (x3 = (Int32.ofNat 8) → (∃ n10, gm_ix x12 n10 1536 ∧ ((¬ x5 = (hh_i h (m + 45) n10) → (gm_G 510 0 [some (.ref m), some (.int x1), some (.int x4), some (.int x5)] [] h (pI (fun v12 h11 => Q (.inl (some (.int v12))) h11) (fun _ _ => False)))) ∧ (x5 = (hh_i h (m + 45) n10) → (Q (.inl (some (.int (Int32.ofInt (-1))))) h))))))) ∧ (x3 = (Int32.ofNat 7) → (gm_G 513 0 [some (.ref m), some (.int x1), some (.int x4), some (.ref (m + 110)), some (.int (Int32.ofNat 0)), some (.int x9), some (.int x5)] [] h (pI (fun v14 h13 => Q (.inl (some (.int v14))) h13) (fun _ _ => False)))))) ∧ (¬ (hh_i h (m + 40) n1) = (Int32.ofNat 1) → (Q (.inl (some (.int (Int32.ofInt (-1))))) h))))) ∧ (x3 < (Int32.ofNat 7) → (Q (.inl (some (.int (Int32.ofNat 0)))) h))) : gm_G 538 664 [some (.ref m), some (.int x1), none, some (.int x3), some (.int x4), some (.int x5), some (.int x6), some (.int x7), some (.int x8), some (.int x9), none, some (.int x11), some (.int x12)] [] h Q := by
  refine g_iload rfl rfl rfl (pc' := 665) ?_
  refine g_iconst rfl rfl rfl (pc' := 667) ?_
  refine g_ic_ge rfl (pc' := 670) (pt := 672) rfl rfl ⟨fun hc => ?_, fun hc => ?_⟩
  · have H := H.1 hc
    refine g_aload (r := some _) rfl rfl rfl (pc' := 673) ?_
    refine t_get (o := 40) rfl hT rfl rfl rfl (pc' := 676) rfl ?_
    refine g_iload rfl rfl rfl (pc' := 678) ?_
    obtain ⟨n1, hn1, H⟩ := H
    refine t_iaload hT (o := 40) (l := 1536) rfl rfl rfl hn1 (pc' := 679) rfl ?_
    refine g_iconst rfl rfl rfl (pc' := 680) ?_
    refine g_ic_eq rfl (pc' := 683) (pt := 685) rfl rfl ⟨fun hc => ?_, fun hc => ?_⟩
    · have H := H.1 hc
      refine g_iload rfl rfl rfl (pc' := 686) ?_
      refine g_iconst rfl rfl rfl (pc' := 688) ?_
      refine g_ic_ne rfl (pc' := 691) (pt := 708) rfl rfl ⟨fun hc => ?_, fun hc => ?_⟩
      · have H := H.1 hc
        refine g_iload rfl rfl rfl (pc' := 709) ?_
        refine g_iconst rfl rfl rfl (pc' := 711) ?_
        refine g_ic_ne rfl (pc' := 714) (pt := 740) rfl rfl ⟨fun hc => ?_, fun hc => ?_⟩
        · have H := H.1 hc
          refine g_iload rfl rfl rfl (pc' := 741) ?_
          refine g_iconst rfl rfl rfl (pc' := 743) ?_
          refine g_ic_ne rfl (pc' := 746) (pt := 815) rfl rfl ⟨fun hc => ?_, fun hc => ?_⟩
          · have H := H.1 hc
            refine g_aload (r := some _) rfl rfl rfl (pc' := 816) ?_
            refine t_get (o := 40) rfl hT rfl rfl rfl (pc' := 819) rfl ?_
            refine g_iconst rfl rfl rfl (pc' := 821) ?_
            refine g_iload rfl rfl rfl (pc' := 823) ?_
            refine g_imul rfl rfl (pc' := 824) ?_
            refine g_iload rfl rfl rfl (pc' := 826) ?_
            refine g_iadd rfl rfl (pc' := 827) ?_
            obtain ⟨n2, hn2, H⟩ := H
            refine t_iaload hT (o := 40) (l := 1536) rfl rfl rfl hn2 (pc' := 828) rfl ?_
            refine g_iconst rfl rfl rfl (pc' := 829) ?_
            refine g_ic_ne rfl (pc' := 832) (pt := 855) rfl rfl ⟨fun hc => ?_, fun hc => ?_⟩
            · have H := H.1 hc
              refine g_iconst rfl rfl rfl (pc' := 856) ?_
              exact g_ireturn rfl (Or.inl rfl) H
            · have H := H.2 hc
              refine g_aload (r := some _) rfl rfl rfl (pc' := 833) ?_
              refine g_iload rfl rfl rfl (pc' := 835) ?_
              refine g_iconst rfl rfl rfl (pc' := 837) ?_
              refine g_iload rfl rfl rfl (pc' := 839) ?_
              refine g_imul rfl rfl (pc' := 840) ?_
              refine g_iload rfl rfl rfl (pc' := 842) ?_
              refine g_iadd rfl rfl (pc' := 843) ?_
              refine g_iload rfl rfl rfl (pc' := 845) ?_
              refine g_iload rfl rfl rfl (pc' := 847) ?_
              refine g_iload rfl rfl rfl (pc' := 849) ?_
              refine t_call hT (y := 123) (n := 6) (pc' := 852) rfl rfl (t_vt hT rfl rfl) rfl rfl ⟨(Nat.le_of_ble_eq_true rfl), (Nat.le_of_ble_eq_true rfl), (Nat.le_of_ble_eq_true rfl)⟩ rfl H (tI_elim (fun v4 h3 H hT => ?_))
              show gm_G _ 852 _ _ _ _
              refine g_if_eq rfl (pc' := 855) (pt := 857) rfl rfl ⟨fun hc => ?_, fun hc => ?_⟩
              · have H := H.1 hc
                refine g_aload (r := some _) rfl rfl rfl (pc' := 858) ?_
                refine g_iload rfl rfl rfl (pc' := 859) ?_
                refine g_iload rfl rfl rfl (pc' := 861) ?_
                refine g_iload rfl rfl rfl (pc' := 863) ?_
                refine g_iload rfl rfl rfl (pc' := 865) ?_
                refine g_iload rfl rfl rfl (pc' := 867) ?_
                refine g_iload rfl rfl rfl (pc' := 869) ?_
                refine t_call hT (y := 466) (n := 7) (pc' := 872) rfl rfl (t_vt hT rfl rfl) rfl rfl ⟨(Nat.le_of_ble_eq_true rfl), (Nat.le_of_ble_eq_true rfl), (Nat.le_of_ble_eq_true rfl)⟩ rfl H (tI_elim (fun v6 h5 H hT => ?_))
                show gm_G _ 872 _ _ _ _
                exact g_ireturn rfl (Or.inl rfl) H
              · have H := H.2 hc
                refine g_iconst rfl rfl rfl (pc' := 856) ?_
                exact g_ireturn rfl (Or.inl rfl) H
          · have H := H.2 hc
            refine g_iload rfl rfl rfl (pc' := 748) ?_
            refine g_aload (r := some _) rfl rfl rfl (pc' := 749) ?_
            refine t_get (o := 45) rfl hT rfl rfl rfl (pc' := 752) rfl ?_
            refine g_iload rfl rfl rfl (pc' := 754) ?_
            obtain ⟨n7, hn7, H⟩ := H
            refine t_iaload hT (o := 45) (l := 1536) rfl rfl rfl hn7 (pc' := 755) rfl ?_
            refine g_ic_lt rfl (pc' := 758) (pt := 762) rfl rfl ⟨fun hc => ?_, fun hc => ?_⟩
            · have H := H.1 hc
              refine g_aload (r := some _) rfl rfl rfl (pc' := 763) ?_
              refine t_get (o := 45) rfl hT rfl rfl rfl (pc' := 766) rfl ?_
              refine g_iload rfl rfl rfl (pc' := 768) ?_
              obtain ⟨n8, hn8, H⟩ := H
              refine t_iaload hT (o := 45) (l := 1536) rfl rfl rfl hn8 (pc' := 769) rfl ?_
              refine g_iload rfl rfl rfl (pc' := 771) ?_
              refine g_isub rfl rfl (pc' := 772) ?_
              refine g_iload rfl rfl rfl (pc' := 774) ?_
              refine g_ic_ge rfl (pc' := 777) (pt := 790) rfl rfl ⟨fun hc => ?_, fun hc => ?_⟩
              · have H := H.1 hc
                refine g_iload rfl rfl rfl (pc' := 792) ?_
                exact g_weak (show gm_Lle [some _, some _, none, none, some _, some _] _ from ⟨rfl, ⟨rfl, ⟨rfl, ⟨rfl, trivial⟩⟩⟩⟩) H
              · have H := H.2 hc
                refine g_aload (r := some _) rfl rfl rfl (pc' := 778) ?_
                refine t_get (o := 45) rfl hT rfl rfl rfl (pc' := 781) rfl ?_
                refine g_iload rfl rfl rfl (pc' := 783) ?_
                obtain ⟨n9, hn9, H⟩ := H
                refine t_iaload hT (o := 45) (l := 1536) rfl rfl rfl hn9 (pc' := 784) rfl ?_
                refine g_iload rfl rfl rfl (pc' := 786) ?_
                refine g_isub rfl rfl (pc' := 787) ?_
                refine g_goto rfl (pc' := 792) rfl ?_
                exact g_weak (show gm_Lle [some _, some _, none, none, some _, some _] _ from ⟨rfl, ⟨rfl, ⟨rfl, ⟨rfl, trivial⟩⟩⟩⟩) H
            · have H := H.2 hc
              refine g_iconst rfl rfl rfl (pc' := 759) ?_
              refine g_goto rfl (pc' := 792) rfl ?_
              exact g_weak (show gm_Lle [some _, some _, none, none, some _, some _] _ from ⟨rfl, ⟨rfl, ⟨rfl, ⟨rfl, trivial⟩⟩⟩⟩) H
        · have H := H.2 hc
          refine g_iload rfl rfl rfl (pc' := 716) ?_
          refine g_aload (r := some _) rfl rfl rfl (pc' := 717) ?_
          refine t_get (o := 45) rfl hT rfl rfl rfl (pc' := 720) rfl ?_
          refine g_iload rfl rfl rfl (pc' := 722) ?_
          obtain ⟨n10, hn10, H⟩ := H
          refine t_iaload hT (o := 45) (l := 1536) rfl rfl rfl hn10 (pc' := 723) rfl ?_
          refine g_ic_ne rfl (pc' := 726) (pt := 730) rfl rfl ⟨fun hc => ?_, fun hc => ?_⟩
          · have H := H.1 hc
            refine g_aload (r := some _) rfl rfl rfl (pc' := 731) ?_
            refine g_iload rfl rfl rfl (pc' := 732) ?_
            refine g_iload rfl rfl rfl (pc' := 734) ?_
            refine g_iload rfl rfl rfl (pc' := 736) ?_
            refine t_call hT (y := 510) (n := 4) (pc' := 739) rfl rfl (t_vt hT rfl rfl) rfl rfl ⟨(Nat.le_of_ble_eq_true rfl), (Nat.le_of_ble_eq_true rfl), (Nat.le_of_ble_eq_true rfl)⟩ rfl H (tI_elim (fun v12 h11 H hT => ?_))
            show gm_G _ 739 _ _ _ _
            exact g_ireturn rfl (Or.inl rfl) H
          · have H := H.2 hc
            refine g_iconst rfl rfl rfl (pc' := 727) ?_
            refine g_goto rfl (pc' := 739) rfl ?_
            exact g_ireturn rfl (Or.inl rfl) H
      · have H := H.2 hc
        refine g_aload (r := some _) rfl rfl rfl (pc' := 692) ?_
        refine g_iload rfl rfl rfl (pc' := 693) ?_
        refine g_iload rfl rfl rfl (pc' := 695) ?_
        refine g_aload (r := some _) rfl rfl rfl (pc' := 696) ?_
        refine t_get (o := 110) rfl hT rfl rfl rfl (pc' := 699) rfl ?_
        refine g_iconst rfl rfl rfl (pc' := 700) ?_
        refine g_iload rfl rfl rfl (pc' := 702) ?_
        refine g_iload rfl rfl rfl (pc' := 704) ?_
        refine t_call hT (y := 513) (n := 7) (pc' := 707) rfl rfl (t_vt hT rfl rfl) rfl rfl ⟨(Nat.le_of_ble_eq_true rfl), (Nat.le_of_ble_eq_true rfl), (Nat.le_of_ble_eq_true rfl)⟩ rfl H (tI_elim (fun v14 h13 H hT => ?_))
        show gm_G _ 707 _ _ _ _
        exact g_ireturn rfl (Or.inl rfl) H
    · have H := H.2 hc
      refine g_iconst rfl rfl rfl (pc' := 684) ?_
      exact g_ireturn rfl (Or.inl rfl) H
  · have H := H.2 hc
    refine g_iconst rfl rfl rfl (pc' := 671) ?_
    exact g_ireturn rfl (Or.inl rfl) H
theorem w_538_792 {m : Nat} {x1 : Int32} {x4 : Int32} {x5 : Int32} {y0 : Int32} {h : hh_T} {Q : Option Value ⊕ Nat → hh_T → Prop} (hT : tw_ok h m) (H : (¬ y0 = Int32.ofNat 0 → (gm_G 511 0 [some (.ref m), some (.int x1), some (.int x4), some (.int x5), some (.int y0)] [] h (pI (fun v2 h1 => Q (.inl (some (.int v2))) h1) (fun _ _ => False)))) ∧ (y0 = Int32.ofNat 0 → (Q (.inl (some (.int (Int32.ofInt (-1))))) h))) : gm_G 538 792 [some (.ref m), some (.int x1), none, none, some (.int x4), some (.int x5)] [.int y0] h Q := by
  refine g_istore rfl rfl rfl (pc' := 794) ?_
  refine g_iload rfl rfl rfl (pc' := 796) ?_
  refine g_if_ne rfl (pc' := 799) (pt := 803) rfl rfl ⟨fun hc => ?_, fun hc => ?_⟩
  · have H := H.1 hc
    refine g_aload (r := some _) rfl rfl rfl (pc' := 804) ?_
    refine g_iload rfl rfl rfl (pc' := 805) ?_
    refine g_iload rfl rfl rfl (pc' := 807) ?_
    refine g_iload rfl rfl rfl (pc' := 809) ?_
    refine g_iload rfl rfl rfl (pc' := 811) ?_
    refine t_call hT (y := 511) (n := 5) (pc' := 814) rfl rfl (t_vt hT rfl rfl) rfl rfl ⟨(Nat.le_of_ble_eq_true rfl), (Nat.le_of_ble_eq_true rfl), (Nat.le_of_ble_eq_true rfl)⟩ rfl H (tI_elim (fun v2 h1 H hT => ?_))
    show gm_G _ 814 _ _ _ _
    exact g_ireturn rfl (Or.inl rfl) H
  · have H := H.2 hc
    refine g_iconst rfl rfl rfl (pc' := 800) ?_
    refine g_goto rfl (pc' := 814) rfl ?_
    exact g_ireturn rfl (Or.inl rfl) H
theorem w_539_0 {m : Nat} {x1 : Int32} {x2 : Int32} {x3 : Int32} {x4 : Int32} {h : hh_T} {Q : Option Value ⊕ Nat → hh_T → Prop} (hT : tw_ok h m) (H : ∀ h1, h1 = hh_wi h m 2 (Int32.ofNat 0) → ((¬ (hh_i h1 m 77) = Int32.ofNat 0 → ((x2 < Int32.ofNat 0 → (Q (.inl (some (.int (Int32.ofInt (-1))))) h1)) ∧ (¬ x2 < Int32.ofNat 0 → (((Int32.ofNat 3) < x2 → (Q (.inl (some (.int (Int32.ofInt (-1))))) h1)) ∧ (¬ (Int32.ofNat 3) < x2 → ((x3 < Int32.ofNat 0 → (Q (.inl (some (.int (Int32.ofInt (-1))))) h1)) ∧ (¬ x3 < Int32.ofNat 0 → ((¬ (Int32.ofNat 5) < x3 → ((¬ x3 = (Int32.ofNat 1) → (gm_G 539 53 [some (.ref m), some (.int x1), some (.int x2), some (.int x3), some (.int x4), some (.int (hh_i h m 2))] [] h1 Q)) ∧ (x3 = (Int32.ofNat 1) → ((¬ (hh_i h m 2) = (Int32.ofNat 32) → (Q (.inl (some (.int (Int32.ofInt (-11))))) h1)) ∧ ((hh_i h m 2) = (Int32.ofNat 32) → (gm_G 539 53 [some (.ref m), some (.int x1), some (.int x2), some (.int x3), some (.int x4), some (.int (hh_i h m 2))] [] h1 Q)))))) ∧ ((Int32.ofNat 5) < x3 → (Q (.inl (some (.int (Int32.ofInt (-1))))) h1)))))))))) ∧ ((hh_i h1 m 77) = Int32.ofNat 0 → (Q (.inl (some (.int (Int32.ofInt (-9))))) h1)))) : gm_G 539 0 [some (.ref m), some (.int x1), some (.int x2), some (.int x3), some (.int x4)] [] h Q := by
  refine g_aload (r := some _) rfl rfl rfl (pc' := 1) ?_
  refine t_getI rfl hT rfl rfl (pc' := 4) rfl ?_
  refine g_istore rfl rfl rfl (pc' := 6) ?_
  refine g_aload (r := some _) rfl rfl rfl (pc' := 7) ?_
  refine g_iconst rfl rfl rfl (pc' := 8) ?_
  refine t_putI rfl hT rfl rfl  (pc' := 11) rfl (fun hT => ?_)
  have H := H _ rfl
  refine g_aload (r := some _) rfl rfl rfl (pc' := 12) ?_
  refine t_getZ rfl hT rfl rfl (pc' := 15) rfl ?_
  refine g_if_ne rfl (pc' := 18) (pt := 21) rfl rfl ⟨fun hc => ?_, fun hc => ?_⟩
  · have H := H.1 hc
    refine g_iload rfl rfl rfl (pc' := 22) ?_
    refine g_if_lt rfl (pc' := 25) (pt := 39) rfl rfl ⟨fun hc => ?_, fun hc => ?_⟩
    · have H := H.1 hc
      refine g_iconst rfl rfl rfl (pc' := 40) ?_
      exact g_ireturn rfl (Or.inl rfl) H
    · have H := H.2 hc
      refine g_iload rfl rfl rfl (pc' := 26) ?_
      refine g_iconst rfl rfl rfl (pc' := 27) ?_
      refine g_ic_gt rfl (pc' := 30) (pt := 39) rfl rfl ⟨fun hc => ?_, fun hc => ?_⟩
      · have H := H.1 hc
        refine g_iconst rfl rfl rfl (pc' := 40) ?_
        exact g_ireturn rfl (Or.inl rfl) H
      · have H := H.2 hc
        refine g_iload rfl rfl rfl (pc' := 31) ?_
        refine g_if_lt rfl (pc' := 34) (pt := 39) rfl rfl ⟨fun hc => ?_, fun hc => ?_⟩
        · have H := H.1 hc
          refine g_iconst rfl rfl rfl (pc' := 40) ?_
          exact g_ireturn rfl (Or.inl rfl) H
        · have H := H.2 hc
          refine g_iload rfl rfl rfl (pc' := 35) ?_
          refine g_iconst rfl rfl rfl (pc' := 36) ?_
          refine g_ic_le rfl (pc' := 39) (pt := 41) rfl rfl ⟨fun hc => ?_, fun hc => ?_⟩
          · have H := H.1 hc
            refine g_iload rfl rfl rfl (pc' := 42) ?_
            refine g_iconst rfl rfl rfl (pc' := 43) ?_
            refine g_ic_ne rfl (pc' := 46) (pt := 53) rfl rfl ⟨fun hc => ?_, fun hc => ?_⟩
            · have H := H.1 hc
              exact g_weak (show gm_Lle [some _, some _, some _, some _, some _, some _] _ from ⟨rfl, ⟨rfl, ⟨rfl, ⟨rfl, ⟨rfl, ⟨rfl, trivial⟩⟩⟩⟩⟩⟩) H
            · have H := H.2 hc
              refine g_iload rfl rfl rfl (pc' := 48) ?_
              refine g_iconst rfl rfl rfl (pc' := 50) ?_
              refine g_ic_ne rfl (pc' := 53) (pt := 65) rfl rfl ⟨fun hc => ?_, fun hc => ?_⟩
              · have H := H.1 hc
                refine g_iconst rfl rfl rfl (pc' := 67) ?_
                exact g_ireturn rfl (Or.inl rfl) H
              · have H := H.2 hc
                exact g_weak (show gm_Lle [some _, some _, some _, some _, some _, some _] _ from ⟨rfl, ⟨rfl, ⟨rfl, ⟨rfl, ⟨rfl, ⟨rfl, trivial⟩⟩⟩⟩⟩⟩) H
          · have H := H.2 hc
            refine g_iconst rfl rfl rfl (pc' := 40) ?_
            exact g_ireturn rfl (Or.inl rfl) H
  · have H := H.2 hc
    refine g_iconst rfl rfl rfl (pc' := 20) ?_
    exact g_ireturn rfl (Or.inl rfl) H
theorem w_539_53 {m : Nat} {x1 : Int32} {x2 : Int32} {x3 : Int32} {x4 : Int32} {x5 : Int32} {h : hh_T} {Q : Option Value ⊕ Nat → hh_T → Prop} (hT : tw_ok h m) (H : (¬ x3 = (Int32.ofNat 2) → (gm_G 539 68 [some (.ref m), some (.int x1), some (.int x2), some (.int x3), some (.int x4)] [] h Q)) ∧ (x3 = (Int32.ofNat 2) → ((x5 = (Int32.ofNat 64) → (gm_G 539 68 [some (.ref m), some (.int x1), some (.int x2), some (.int x3), some (.int x4)] [] h Q)) ∧ (¬ x5 = (Int32.ofNat 64) → (Q (.inl (some (.int (Int32.ofInt (-11))))) h))))) : gm_G 539 53 [some (.ref m), some (.int x1), some (.int x2), some (.int x3), some (.int x4), some (.int x5)] [] h Q := by
  refine g_iload rfl rfl rfl (pc' := 54) ?_
  refine g_iconst rfl rfl rfl (pc' := 55) ?_
  refine g_ic_ne rfl (pc' := 58) (pt := 68) rfl rfl ⟨fun hc => ?_, fun hc => ?_⟩
  · have H := H.1 hc
    exact g_weak (show gm_Lle [some _, some _, some _, some _, some _] _ from ⟨rfl, ⟨rfl, ⟨rfl, ⟨rfl, ⟨rfl, trivial⟩⟩⟩⟩⟩) H
  · have H := H.2 hc
    refine g_iload rfl rfl rfl (pc' := 60) ?_
    refine g_iconst rfl rfl rfl (pc' := 62) ?_
    refine g_ic_eq rfl (pc' := 65) (pt := 68) rfl rfl ⟨fun hc => ?_, fun hc => ?_⟩
    · have H := H.1 hc
      exact g_weak (show gm_Lle [some _, some _, some _, some _, some _] _ from ⟨rfl, ⟨rfl, ⟨rfl, ⟨rfl, ⟨rfl, trivial⟩⟩⟩⟩⟩) H
    · have H := H.2 hc
      refine g_iconst rfl rfl rfl (pc' := 67) ?_
      exact g_ireturn rfl (Or.inl rfl) H
theorem w_539_68 {m : Nat} {x1 : Int32} {x2 : Int32} {x3 : Int32} {x4 : Int32} {h : hh_T} {Q : Option Value ⊕ Nat → hh_T → Prop} (hT : tw_ok h m) (H : gm_G 152 0 [some (.ref m), some (.int x1)] [] h (pI (fun v2 h1 => (¬ v2 < Int32.ofNat 0 → (∃ n3, gm_ix v2 n3 32 ∧ ((¬ (hh_i h1 (m + 61) n3) = Int32.ofNat 0 → ((¬ x3 < (Int32.ofNat 4) → (gm_G 539 120 [some (.ref m), none, some (.int x2), some (.int x3), some (.int x4), none, some (.int v2)] [] h1 Q)) ∧ (x3 < (Int32.ofNat 4) → ((x4 < Int32.ofNat 0 → (Q (.inl (some (.int (Int32.ofInt (-1))))) h1)) ∧ (¬ x4 < Int32.ofNat 0 → (∃ n4, gm_ix v2 n4 32 ∧ ((x4 < (hh_i h1 (m + 61) n4) → (gm_G 539 120 [some (.ref m), none, some (.int x2), some (.int x3), some (.int x4), none, some (.int v2)] [] h1 Q)) ∧ (¬ x4 < (hh_i h1 (m + 61) n4) → (Q (.inl (some (.int (Int32.ofInt (-1))))) h1))))))))) ∧ ((hh_i h1 (m + 61) n3) = Int32.ofNat 0 → (Q (.inl (some (.int (Int32.ofInt (-10))))) h1))))) ∧ (v2 < Int32.ofNat 0 → (Q (.inl (some (.int (Int32.ofInt (-2))))) h1))) (fun _ _ => False))) : gm_G 539 68 [some (.ref m), some (.int x1), some (.int x2), some (.int x3), some (.int x4)] [] h Q := by
  refine g_aload (r := some _) rfl rfl rfl (pc' := 69) ?_
  refine g_iload rfl rfl rfl (pc' := 70) ?_
  refine t_call hT (y := 152) (n := 2) (pc' := 73) rfl rfl (t_vt hT rfl rfl) rfl rfl ⟨(Nat.le_of_ble_eq_true rfl), (Nat.le_of_ble_eq_true rfl), (Nat.le_of_ble_eq_true rfl)⟩ rfl H (tI_elim (fun v2 h1 H hT => ?_))
  show gm_G _ 73 _ _ _ _
  refine g_istore rfl rfl rfl (pc' := 75) ?_
  refine g_iload rfl rfl rfl (pc' := 77) ?_
  refine g_if_ge rfl (pc' := 80) (pt := 83) rfl rfl ⟨fun hc => ?_, fun hc => ?_⟩
  · have H := H.1 hc
    refine g_aload (r := some _) rfl rfl rfl (pc' := 84) ?_
    refine t_get (o := 61) rfl hT rfl rfl rfl (pc' := 87) rfl ?_
    refine g_iload rfl rfl rfl (pc' := 89) ?_
    obtain ⟨n3, hn3, H⟩ := H
    refine t_iaload hT (o := 61) (l := 32) rfl rfl rfl hn3 (pc' := 90) rfl ?_
    refine g_if_ne rfl (pc' := 93) (pt := 96) rfl rfl ⟨fun hc => ?_, fun hc => ?_⟩
    · have H := H.1 hc
      refine g_iload rfl rfl rfl (pc' := 97) ?_
      refine g_iconst rfl rfl rfl (pc' := 98) ?_
      refine g_ic_ge rfl (pc' := 101) (pt := 120) rfl rfl ⟨fun hc => ?_, fun hc => ?_⟩
      · have H := H.1 hc
        exact g_weak (show gm_Lle [some _, none, some _, some _, some _, none, some _] _ from ⟨rfl, ⟨rfl, ⟨rfl, ⟨rfl, ⟨rfl, trivial⟩⟩⟩⟩⟩) H
      · have H := H.2 hc
        refine g_iload rfl rfl rfl (pc' := 103) ?_
        refine g_if_lt rfl (pc' := 106) (pt := 118) rfl rfl ⟨fun hc => ?_, fun hc => ?_⟩
        · have H := H.1 hc
          refine g_iconst rfl rfl rfl (pc' := 119) ?_
          exact g_ireturn rfl (Or.inl rfl) H
        · have H := H.2 hc
          refine g_iload rfl rfl rfl (pc' := 108) ?_
          refine g_aload (r := some _) rfl rfl rfl (pc' := 109) ?_
          refine t_get (o := 61) rfl hT rfl rfl rfl (pc' := 112) rfl ?_
          refine g_iload rfl rfl rfl (pc' := 114) ?_
          obtain ⟨n4, hn4, H⟩ := H
          refine t_iaload hT (o := 61) (l := 32) rfl rfl rfl hn4 (pc' := 115) rfl ?_
          refine g_ic_lt rfl (pc' := 118) (pt := 120) rfl rfl ⟨fun hc => ?_, fun hc => ?_⟩
          · have H := H.1 hc
            exact g_weak (show gm_Lle [some _, none, some _, some _, some _, none, some _] _ from ⟨rfl, ⟨rfl, ⟨rfl, ⟨rfl, ⟨rfl, trivial⟩⟩⟩⟩⟩) H
          · have H := H.2 hc
            refine g_iconst rfl rfl rfl (pc' := 119) ?_
            exact g_ireturn rfl (Or.inl rfl) H
    · have H := H.2 hc
      refine g_iconst rfl rfl rfl (pc' := 95) ?_
      exact g_ireturn rfl (Or.inl rfl) H
  · have H := H.2 hc
    refine g_iconst rfl rfl rfl (pc' := 82) ?_
    exact g_ireturn rfl (Or.inl rfl) H
theorem w_539_120 {m : Nat} {x2 : Int32} {x3 : Int32} {x4 : Int32} {x6 : Int32} {h : hh_T} {Q : Option Value ⊕ Nat → hh_T → Prop} (hT : tw_ok h m) (H : (x3 < (Int32.ofNat 1) → (gm_G 539 144 [some (.ref m), none, some (.int x2), some (.int x3), some (.int x4), none, some (.int x6)] [] h Q)) ∧ (¬ x3 < (Int32.ofNat 1) → (((Int32.ofNat 3) < x3 → (gm_G 539 144 [some (.ref m), none, some (.int x2), some (.int x3), some (.int x4), none, some (.int x6)] [] h Q)) ∧ (¬ (Int32.ofNat 3) < x3 → (gm_G 297 0 [some (.ref m), some (.int x6), some (.int (Int32.ofNat 3))] [] h (pI (fun v2 h1 => (¬ v2 = (Int32.ofNat 1) → (gm_G 539 144 [some (.ref m), none, some (.int x2), some (.int x3), some (.int x4), none, some (.int x6)] [] h1 Q)) ∧ (v2 = (Int32.ofNat 1) → (Q (.inl (some (.int (Int32.ofInt (-6))))) h1))) (fun _ _ => False))))))) : gm_G 539 120 [some (.ref m), none, some (.int x2), some (.int x3), some (.int x4), none, some (.int x6)] [] h Q := by
  refine g_iload rfl rfl rfl (pc' := 121) ?_
  refine g_iconst rfl rfl rfl (pc' := 122) ?_
  refine g_ic_lt rfl (pc' := 125) (pt := 144) rfl rfl ⟨fun hc => ?_, fun hc => ?_⟩
  · have H := H.1 hc
    exact g_weak (show gm_Lle [some _, none, some _, some _, some _, none, some _] _ from ⟨rfl, ⟨rfl, ⟨rfl, ⟨rfl, ⟨rfl, trivial⟩⟩⟩⟩⟩) H
  · have H := H.2 hc
    refine g_iload rfl rfl rfl (pc' := 126) ?_
    refine g_iconst rfl rfl rfl (pc' := 127) ?_
    refine g_ic_gt rfl (pc' := 130) (pt := 144) rfl rfl ⟨fun hc => ?_, fun hc => ?_⟩
    · have H := H.1 hc
      exact g_weak (show gm_Lle [some _, none, some _, some _, some _, none, some _] _ from ⟨rfl, ⟨rfl, ⟨rfl, ⟨rfl, ⟨rfl, trivial⟩⟩⟩⟩⟩) H
    · have H := H.2 hc
      refine g_aload (r := some _) rfl rfl rfl (pc' := 131) ?_
      refine g_iload rfl rfl rfl (pc' := 133) ?_
      refine g_iconst rfl rfl rfl (pc' := 134) ?_
      refine t_call hT (y := 297) (n := 3) (pc' := 137) rfl rfl (t_vt hT rfl rfl) rfl rfl ⟨(Nat.le_of_ble_eq_true rfl), (Nat.le_of_ble_eq_true rfl), (Nat.le_of_ble_eq_true rfl)⟩ rfl H (tI_elim (fun v2 h1 H hT => ?_))
      show gm_G _ 137 _ _ _ _
      refine g_iconst rfl rfl rfl (pc' := 138) ?_
      refine g_ic_ne rfl (pc' := 141) (pt := 144) rfl rfl ⟨fun hc => ?_, fun hc => ?_⟩
      · have H := H.1 hc
        exact g_weak (show gm_Lle [some _, none, some _, some _, some _, none, some _] _ from ⟨rfl, ⟨rfl, ⟨rfl, ⟨rfl, ⟨rfl, trivial⟩⟩⟩⟩⟩) H
      · have H := H.2 hc
        refine g_iconst rfl rfl rfl (pc' := 143) ?_
        exact g_ireturn rfl (Or.inl rfl) H
theorem w_539_144 {m : Nat} {x2 : Int32} {x3 : Int32} {x4 : Int32} {x6 : Int32} {h : hh_T} {Q : Option Value ⊕ Nat → hh_T → Prop} (hT : tw_ok h m) (H : gm_G 539 150 [some (.ref m), none, some (.int x2), some (.int x3), some (.int x4), none, some (.int x6), some (.int (Int32.ofNat 0)), some (.int (Int32.ofNat 0))] [] h Q) : gm_G 539 144 [some (.ref m), none, some (.int x2), some (.int x3), some (.int x4), none, some (.int x6)] [] h Q := by
  refine g_iconst rfl rfl rfl (pc' := 145) ?_
  refine g_istore rfl rfl rfl (pc' := 147) ?_
  refine g_iconst rfl rfl rfl (pc' := 148) ?_
  refine g_istore rfl rfl rfl (pc' := 150) ?_
  exact g_weak (show gm_Lle [some _, none, some _, some _, some _, none, some _, some _, some _] _ from ⟨rfl, ⟨rfl, ⟨rfl, ⟨rfl, ⟨rfl, ⟨rfl, ⟨rfl, trivial⟩⟩⟩⟩⟩⟩⟩) H
theorem w_539_150 {m : Nat} {x2 : Int32} {x3 : Int32} {x4 : Int32} {x6 : Int32} {x7 : Int32} {x8 : Int32} {h : hh_T} {Q : Option Value ⊕ Nat → hh_T → Prop} (hT : tw_ok h m) (H : (¬ x8 < (Int32.ofNat 4) → ((x3 < (Int32.ofNat 1) → (gm_G 539 214 [some (.ref m), none, some (.int x2), some (.int x3), some (.int x4), none, some (.int x6)] [] h Q)) ∧ (¬ x3 < (Int32.ofNat 1) → (((Int32.ofNat 4) < x3 → (gm_G 539 214 [some (.ref m), none, some (.int x2), some (.int x3), some (.int x4), none, some (.int x6)] [] h Q)) ∧ (¬ (Int32.ofNat 4) < x3 → ((x7 = Int32.ofNat 0 → (gm_G 539 214 [some (.ref m), none, some (.int x2), some (.int x3), some (.int x4), none, some (.int x6)] [] h Q)) ∧ (¬ x7 = Int32.ofNat 0 → (Q (.inl (some (.int (Int32.ofInt (-5))))) h)))))))) ∧ (x8 < (Int32.ofNat 4) → ((¬ x7 = Int32.ofNat 0 → (gm_G 539 183 [some (.ref m), none, some (.int x2), some (.int x3), some (.int x4), none, some (.int x6), none, some (.int x8)] [] h Q)) ∧ (x7 = Int32.ofNat 0 → ((x8 = x2 → (gm_G 539 187 [some (.ref m), none, some (.int x2), some (.int x3), some (.int x4), none, some (.int x6), none, some (.int x8)] [] h Q)) ∧ (¬ x8 = x2 → (∃ n1, gm_ix (((Int32.ofNat 8) * x8) + x6) n1 32 ∧ (((hh_i h (m + 116) n1) = Int32.ofNat 0 → (gm_G 539 187 [some (.ref m), none, some (.int x2), some (.int x3), some (.int x4), none, some (.int x6), none, some (.int x8)] [] h Q)) ∧ (¬ (hh_i h (m + 116) n1) = Int32.ofNat 0 → (gm_G 539 183 [some (.ref m), none, some (.int x2), some (.int x3), some (.int x4), none, some (.int x6), none, some (.int x8)] [] h Q)))))))))) : gm_G 539 150 [some (.ref m), none, some (.int x2), some (.int x3), some (.int x4), none, some (.int x6), some (.int x7), some (.int x8)] [] h Q := by
  refine g_iload rfl rfl rfl (pc' := 152) ?_
  refine g_iconst rfl rfl rfl (pc' := 153) ?_
  refine g_ic_ge rfl (pc' := 156) (pt := 196) rfl rfl ⟨fun hc => ?_, fun hc => ?_⟩
  · have H := H.1 hc
    refine g_iload rfl rfl rfl (pc' := 197) ?_
    refine g_iconst rfl rfl rfl (pc' := 198) ?_
    refine g_ic_lt rfl (pc' := 201) (pt := 214) rfl rfl ⟨fun hc => ?_, fun hc => ?_⟩
    · have H := H.1 hc
      exact g_weak (show gm_Lle [some _, none, some _, some _, some _, none, some _] _ from ⟨rfl, ⟨rfl, ⟨rfl, ⟨rfl, ⟨rfl, trivial⟩⟩⟩⟩⟩) H
    · have H := H.2 hc
      refine g_iload rfl rfl rfl (pc' := 202) ?_
      refine g_iconst rfl rfl rfl (pc' := 203) ?_
      refine g_ic_gt rfl (pc' := 206) (pt := 214) rfl rfl ⟨fun hc => ?_, fun hc => ?_⟩
      · have H := H.1 hc
        exact g_weak (show gm_Lle [some _, none, some _, some _, some _, none, some _] _ from ⟨rfl, ⟨rfl, ⟨rfl, ⟨rfl, ⟨rfl, trivial⟩⟩⟩⟩⟩) H
      · have H := H.2 hc
        refine g_iload rfl rfl rfl (pc' := 208) ?_
        refine g_if_eq rfl (pc' := 211) (pt := 214) rfl rfl ⟨fun hc => ?_, fun hc => ?_⟩
        · have H := H.1 hc
          exact g_weak (show gm_Lle [some _, none, some _, some _, some _, none, some _] _ from ⟨rfl, ⟨rfl, ⟨rfl, ⟨rfl, ⟨rfl, trivial⟩⟩⟩⟩⟩) H
        · have H := H.2 hc
          refine g_iconst rfl rfl rfl (pc' := 213) ?_
          exact g_ireturn rfl (Or.inl rfl) H
  · have H := H.2 hc
    refine g_iload rfl rfl rfl (pc' := 158) ?_
    refine g_if_ne rfl (pc' := 161) (pt := 183) rfl rfl ⟨fun hc => ?_, fun hc => ?_⟩
    · have H := H.1 hc
      exact g_weak (show gm_Lle [some _, none, some _, some _, some _, none, some _, none, some _] _ from ⟨rfl, ⟨rfl, ⟨rfl, ⟨rfl, ⟨rfl, ⟨rfl, trivial⟩⟩⟩⟩⟩⟩) H
    · have H := H.2 hc
      refine g_iload rfl rfl rfl (pc' := 163) ?_
      refine g_iload rfl rfl rfl (pc' := 164) ?_
      refine g_ic_eq rfl (pc' := 167) (pt := 187) rfl rfl ⟨fun hc => ?_, fun hc => ?_⟩
      · have H := H.1 hc
        exact g_weak (show gm_Lle [some _, none, some _, some _, some _, none, some _, none, some _] _ from ⟨rfl, ⟨rfl, ⟨rfl, ⟨rfl, ⟨rfl, ⟨rfl, trivial⟩⟩⟩⟩⟩⟩) H
      · have H := H.2 hc
        refine g_aload (r := some _) rfl rfl rfl (pc' := 168) ?_
        refine t_get (o := 116) rfl hT rfl rfl rfl (pc' := 171) rfl ?_
        refine g_iconst rfl rfl rfl (pc' := 173) ?_
        refine g_iload rfl rfl rfl (pc' := 175) ?_
        refine g_imul rfl rfl (pc' := 176) ?_
        refine g_iload rfl rfl rfl (pc' := 178) ?_
        refine g_iadd rfl rfl (pc' := 179) ?_
        obtain ⟨n1, hn1, H⟩ := H
        refine t_zaload hT (o := 116) (l := 32) rfl rfl rfl hn1 (pc' := 180) rfl ?_
        refine g_if_eq rfl (pc' := 183) (pt := 187) rfl rfl ⟨fun hc => ?_, fun hc => ?_⟩
        · have H := H.1 hc
          exact g_weak (show gm_Lle [some _, none, some _, some _, some _, none, some _, none, some _] _ from ⟨rfl, ⟨rfl, ⟨rfl, ⟨rfl, ⟨rfl, ⟨rfl, trivial⟩⟩⟩⟩⟩⟩) H
        · have H := H.2 hc
          exact g_weak (show gm_Lle [some _, none, some _, some _, some _, none, some _, none, some _] _ from ⟨rfl, ⟨rfl, ⟨rfl, ⟨rfl, ⟨rfl, ⟨rfl, trivial⟩⟩⟩⟩⟩⟩) H
theorem w_539_183 {m : Nat} {x2 : Int32} {x3 : Int32} {x4 : Int32} {x6 : Int32} {x8 : Int32} {h : hh_T} {Q : Option Value ⊕ Nat → hh_T → Prop} (hT : tw_ok h m) (H : gm_G 539 188 [some (.ref m), none, some (.int x2), some (.int x3), some (.int x4), none, some (.int x6), none, some (.int x8)] [.int (Int32.ofNat 1)] h Q) : gm_G 539 183 [some (.ref m), none, some (.int x2), some (.int x3), some (.int x4), none, some (.int x6), none, some (.int x8)] [] h Q := by
  refine g_iconst rfl rfl rfl (pc' := 184) ?_
  refine g_goto rfl (pc' := 188) rfl ?_
  exact g_weak (show gm_Lle [some _, none, some _, some _, some _, none, some _, none, some _] _ from ⟨rfl, ⟨rfl, ⟨rfl, ⟨rfl, ⟨rfl, ⟨rfl, trivial⟩⟩⟩⟩⟩⟩) H
theorem w_539_187 {m : Nat} {x2 : Int32} {x3 : Int32} {x4 : Int32} {x6 : Int32} {x8 : Int32} {h : hh_T} {Q : Option Value ⊕ Nat → hh_T → Prop} (hT : tw_ok h m) (H : gm_G 539 188 [some (.ref m), none, some (.int x2), some (.int x3), some (.int x4), none, some (.int x6), none, some (.int x8)] [.int (Int32.ofNat 0)] h Q) : gm_G 539 187 [some (.ref m), none, some (.int x2), some (.int x3), some (.int x4), none, some (.int x6), none, some (.int x8)] [] h Q := by
  refine g_iconst rfl rfl rfl (pc' := 188) ?_
  exact g_weak (show gm_Lle [some _, none, some _, some _, some _, none, some _, none, some _] _ from ⟨rfl, ⟨rfl, ⟨rfl, ⟨rfl, ⟨rfl, ⟨rfl, trivial⟩⟩⟩⟩⟩⟩) H
theorem w_539_188 {m : Nat} {x2 : Int32} {x3 : Int32} {x4 : Int32} {x6 : Int32} {x8 : Int32} {y0 : Int32} {h : hh_T} {Q : Option Value ⊕ Nat → hh_T → Prop} (hT : tw_ok h m) (H : gm_G 539 150 [some (.ref m), none, some (.int x2), some (.int x3), some (.int x4), none, some (.int x6), some (.int y0), some (.int (x8 + (Int32.ofNat 1)))] [] h Q) : gm_G 539 188 [some (.ref m), none, some (.int x2), some (.int x3), some (.int x4), none, some (.int x6), none, some (.int x8)] [.int y0] h Q := by
  refine g_istore rfl rfl rfl (pc' := 190) ?_
  refine g_iinc (c := (Int32.ofNat 1)) rfl rfl rfl rfl rfl (pc' := 193) ?_
  refine g_goto rfl (pc' := 150) rfl ?_
  exact g_weak (show gm_Lle [some _, none, some _, some _, some _, none, some _, some _, some _] _ from ⟨rfl, ⟨rfl, ⟨rfl, ⟨rfl, ⟨rfl, ⟨rfl, ⟨rfl, trivial⟩⟩⟩⟩⟩⟩⟩) H
theorem w_539_214 {m : Nat} {x2 : Int32} {x3 : Int32} {x4 : Int32} {x6 : Int32} {h : hh_T} {Q : Option Value ⊕ Nat → hh_T → Prop} (hT : tw_ok h m) (H : (x3 < (Int32.ofNat 4) → (∃ n1, gm_ix x6 n1 32 ∧ ((x3 = Int32.ofNat 0 → (gm_G 539 292 [some (.ref m), none, none, some (.int x3), some (.int x4), none, some (.int x6), none, some (.int ((Int32.ofNat 16) * (hh_i h (m + 63) n1)))] [] h Q)) ∧ (¬ x3 = Int32.ofNat 0 → ((¬ x3 = (Int32.ofNat 2) → (gm_G 539 321 [some (.ref m), none, none, some (.int x3), some (.int x4), none, some (.int x6)] [] h Q)) ∧ (x3 = (Int32.ofNat 2) → (gm_G 539 292 [some (.ref m), none, none, some (.int x3), some (.int x4), none, some (.int x6), none, some (.int ((Int32.ofNat 16) * (hh_i h (m + 63) n1)))] [] h Q))))))) ∧ (¬ x3 < (Int32.ofNat 4) → (∃ n2, gm_ix (((Int32.ofNat 8) * x2) + x6) n2 32 ∧ ((¬ x3 = (Int32.ofNat 4) → (gm_G 539 254 [none, none, none, some (.int x3), none, none, none, none, some (.int (hh_i h (m + 116) n2))] [.int (Int32.ofNat 0), .int (((Int32.ofNat 8) * x2) + x6), .ref (m + 116)] h Q)) ∧ (x3 = (Int32.ofNat 4) → (gm_G 539 254 [none, none, none, some (.int x3), none, none, none, none, some (.int (hh_i h (m + 116) n2))] [.int (Int32.ofNat 1), .int (((Int32.ofNat 8) * x2) + x6), .ref (m + 116)] h Q)))))) : gm_G 539 214 [some (.ref m), none, some (.int x2), some (.int x3), some (.int x4), none, some (.int x6)] [] h Q := by
  refine g_iload rfl rfl rfl (pc' := 215) ?_
  refine g_iconst rfl rfl rfl (pc' := 216) ?_
  refine g_ic_lt rfl (pc' := 219) (pt := 271) rfl rfl ⟨fun hc => ?_, fun hc => ?_⟩
  · have H := H.1 hc
    refine g_iconst rfl rfl rfl (pc' := 273) ?_
    refine g_aload (r := some _) rfl rfl rfl (pc' := 274) ?_
    refine t_get (o := 63) rfl hT rfl rfl rfl (pc' := 277) rfl ?_
    refine g_iload rfl rfl rfl (pc' := 279) ?_
    obtain ⟨n1, hn1, H⟩ := H
    refine t_iaload hT (o := 63) (l := 32) rfl rfl rfl hn1 (pc' := 280) rfl ?_
    refine g_imul rfl rfl (pc' := 281) ?_
    refine g_istore rfl rfl rfl (pc' := 283) ?_
    refine g_iload rfl rfl rfl (pc' := 284) ?_
    refine g_if_eq rfl (pc' := 287) (pt := 292) rfl rfl ⟨fun hc => ?_, fun hc => ?_⟩
    · have H := H.1 hc
      exact g_weak (show gm_Lle [some _, none, none, some _, some _, none, some _, none, some _] _ from ⟨rfl, ⟨rfl, ⟨rfl, ⟨rfl, ⟨rfl, trivial⟩⟩⟩⟩⟩) H
    · have H := H.2 hc
      refine g_iload rfl rfl rfl (pc' := 288) ?_
      refine g_iconst rfl rfl rfl (pc' := 289) ?_
      refine g_ic_ne rfl (pc' := 292) (pt := 321) rfl rfl ⟨fun hc => ?_, fun hc => ?_⟩
      · have H := H.1 hc
        exact g_weak (show gm_Lle [some _, none, none, some _, some _, none, some _] _ from ⟨rfl, ⟨rfl, ⟨rfl, ⟨rfl, trivial⟩⟩⟩⟩) H
      · have H := H.2 hc
        exact g_weak (show gm_Lle [some _, none, none, some _, some _, none, some _, none, some _] _ from ⟨rfl, ⟨rfl, ⟨rfl, ⟨rfl, ⟨rfl, trivial⟩⟩⟩⟩⟩) H
  · have H := H.2 hc
    refine g_aload (r := some _) rfl rfl rfl (pc' := 220) ?_
    refine t_get (o := 116) rfl hT rfl rfl rfl (pc' := 223) rfl ?_
    refine g_iconst rfl rfl rfl (pc' := 225) ?_
    refine g_iload rfl rfl rfl (pc' := 226) ?_
    refine g_imul rfl rfl (pc' := 227) ?_
    refine g_iload rfl rfl rfl (pc' := 229) ?_
    refine g_iadd rfl rfl (pc' := 230) ?_
    obtain ⟨n2, hn2, H⟩ := H
    refine t_zaload hT (o := 116) (l := 32) rfl rfl rfl hn2 (pc' := 231) rfl ?_
    refine g_istore rfl rfl rfl (pc' := 233) ?_
    refine g_aload (r := some _) rfl rfl rfl (pc' := 234) ?_
    refine t_get (o := 116) rfl hT rfl rfl rfl (pc' := 237) rfl ?_
    refine g_iconst rfl rfl rfl (pc' := 239) ?_
    refine g_iload rfl rfl rfl (pc' := 240) ?_
    refine g_imul rfl rfl (pc' := 241) ?_
    refine g_iload rfl rfl rfl (pc' := 243) ?_
    refine g_iadd rfl rfl (pc' := 244) ?_
    refine g_iload rfl rfl rfl (pc' := 245) ?_
    refine g_iconst rfl rfl rfl (pc' := 246) ?_
    refine g_ic_ne rfl (pc' := 249) (pt := 253) rfl rfl ⟨fun hc => ?_, fun hc => ?_⟩
    · have H := H.1 hc
      refine g_iconst rfl rfl rfl (pc' := 254) ?_
      exact g_weak (show gm_Lle [none, none, none, some _, none, none, none, none, some _] _ from ⟨rfl, ⟨rfl, trivial⟩⟩) H
    · have H := H.2 hc
      refine g_iconst rfl rfl rfl (pc' := 250) ?_
      refine g_goto rfl (pc' := 254) rfl ?_
      exact g_weak (show gm_Lle [none, none, none, some _, none, none, none, none, some _] _ from ⟨rfl, ⟨rfl, trivial⟩⟩) H
theorem w_539_254 {m : Nat} {x3 : Int32} {x8 : Int32} {y0 : Int32} {y1 : Int32} {h : hh_T} {Q : Option Value ⊕ Nat → hh_T → Prop} (hT : tw_ok h m) (H : ∃ n1, gm_ix y1 n1 32 ∧ ((y0 = 0 ∨ y0 = 1) ∧ (∀ h2, h2 = hh_wi h (m + 116) n1 y0 → ((¬ x3 = (Int32.ofNat 5) → (Q (.inl (some (.int (Int32.ofNat 0)))) h2)) ∧ (x3 = (Int32.ofNat 5) → ((x8 = Int32.ofNat 0 → (Q (.inl (some (.int (Int32.ofNat 0)))) h2)) ∧ (¬ x8 = Int32.ofNat 0 → (Q (.inl (some (.int (Int32.ofNat 1)))) h2)))))))) : gm_G 539 254 [none, none, none, some (.int x3), none, none, none, none, some (.int x8)] [.int y0, .int y1, .ref (m + 116)] h Q := by
  obtain ⟨n1, hn1, H⟩ := H
  obtain ⟨Hz, H⟩ := H
  refine t_zastore hT (o := 116) (l := 32) rfl rfl rfl hn1 Hz (pc' := 255) rfl (fun hT => ?_)
  have H := H _ rfl
  refine g_iload rfl rfl rfl (pc' := 256) ?_
  refine g_iconst rfl rfl rfl (pc' := 257) ?_
  refine g_ic_ne rfl (pc' := 260) (pt := 269) rfl rfl ⟨fun hc => ?_, fun hc => ?_⟩
  · have H := H.1 hc
    refine g_iconst rfl rfl rfl (pc' := 270) ?_
    exact g_ireturn rfl (Or.inl rfl) H
  · have H := H.2 hc
    refine g_iload rfl rfl rfl (pc' := 262) ?_
    refine g_if_eq rfl (pc' := 265) (pt := 269) rfl rfl ⟨fun hc => ?_, fun hc => ?_⟩
    · have H := H.1 hc
      refine g_iconst rfl rfl rfl (pc' := 270) ?_
      exact g_ireturn rfl (Or.inl rfl) H
    · have H := H.2 hc
      refine g_iconst rfl rfl rfl (pc' := 266) ?_
      refine g_goto rfl (pc' := 270) rfl ?_
      exact g_ireturn rfl (Or.inl rfl) H
theorem w_539_292 {m : Nat} {x3 : Int32} {x4 : Int32} {x6 : Int32} {x8 : Int32} {h : hh_T} {Q : Option Value ⊕ Nat → hh_T → Prop} (hT : tw_ok h m) (H : gm_G 520 0 [some (.ref m), some (.int x8), some (.int ((Int32.ofNat 32) * x4)), some (.int (((Int32.ofNat 32) * x4) + (Int32.ofNat 32)))] [] h (pI (fun v2 h1 => (¬ v2 < Int32.ofNat 0 → (gm_G 539 321 [some (.ref m), none, none, some (.int x3), some (.int x4), none, some (.int x6)] [] h1 Q)) ∧ (v2 < Int32.ofNat 0 → (Q (.inl (some (.int v2))) h1))) (fun _ _ => False))) : gm_G 539 292 [some (.ref m), none, none, some (.int x3), some (.int x4), none, some (.int x6), none, some (.int x8)] [] h Q := by
  refine g_aload (r := some _) rfl rfl rfl (pc' := 293) ?_
  refine g_iload rfl rfl rfl (pc' := 295) ?_
  refine g_iconst rfl rfl rfl (pc' := 297) ?_
  refine g_iload rfl rfl rfl (pc' := 299) ?_
  refine g_imul rfl rfl (pc' := 300) ?_
  refine g_iconst rfl rfl rfl (pc' := 302) ?_
  refine g_iload rfl rfl rfl (pc' := 304) ?_
  refine g_imul rfl rfl (pc' := 305) ?_
  refine g_iconst rfl rfl rfl (pc' := 307) ?_
  refine g_iadd rfl rfl (pc' := 308) ?_
  refine t_call hT (y := 520) (n := 4) (pc' := 311) rfl rfl (t_vt hT rfl rfl) rfl rfl ⟨(Nat.le_of_ble_eq_true rfl), (Nat.le_of_ble_eq_true rfl), (Nat.le_of_ble_eq_true rfl)⟩ rfl H (tI_elim (fun v2 h1 H hT => ?_))
  show gm_G _ 311 _ _ _ _
  refine g_istore rfl rfl rfl (pc' := 313) ?_
  refine g_iload rfl rfl rfl (pc' := 315) ?_
  refine g_if_ge rfl (pc' := 318) (pt := 321) rfl rfl ⟨fun hc => ?_, fun hc => ?_⟩
  · have H := H.1 hc
    exact g_weak (show gm_Lle [some _, none, none, some _, some _, none, some _] _ from ⟨rfl, ⟨rfl, ⟨rfl, ⟨rfl, trivial⟩⟩⟩⟩) H
  · have H := H.2 hc
    refine g_iload rfl rfl rfl (pc' := 320) ?_
    exact g_ireturn rfl (Or.inl rfl) H
theorem w_539_321 {m : Nat} {x3 : Int32} {x4 : Int32} {x6 : Int32} {h : hh_T} {Q : Option Value ⊕ Nat → hh_T → Prop} (hT : tw_ok h m) (H : (¬ x3 = Int32.ofNat 0 → ((¬ x3 = (Int32.ofNat 2) → (gm_G 539 424 [some (.ref m), none, none, some (.int x3), some (.int x4), none, some (.int x6)] [] h Q)) ∧ (x3 = (Int32.ofNat 2) → (gm_G 539 378 [some (.ref m), none, none, some (.int x3), some (.int x4), none, some (.int x6), none, none, some (.int (Int32.ofNat 0))] [] h Q)))) ∧ (x3 = Int32.ofNat 0 → (gm_G 539 328 [some (.ref m), none, none, none, some (.int x4), none, none, none, none, some (.int (Int32.ofNat 0))] [] h Q))) : gm_G 539 321 [some (.ref m), none, none, some (.int x3), some (.int x4), none, some (.int x6)] [] h Q := by
  refine g_iload rfl rfl rfl (pc' := 322) ?_
  refine g_if_ne rfl (pc' := 325) (pt := 370) rfl rfl ⟨fun hc => ?_, fun hc => ?_⟩
  · have H := H.1 hc
    refine g_iload rfl rfl rfl (pc' := 371) ?_
    refine g_iconst rfl rfl rfl (pc' := 372) ?_
    refine g_ic_ne rfl (pc' := 375) (pt := 424) rfl rfl ⟨fun hc => ?_, fun hc => ?_⟩
    · have H := H.1 hc
      exact g_weak (show gm_Lle [some _, none, none, some _, some _, none, some _] _ from ⟨rfl, ⟨rfl, ⟨rfl, ⟨rfl, trivial⟩⟩⟩⟩) H
    · have H := H.2 hc
      refine g_iconst rfl rfl rfl (pc' := 376) ?_
      refine g_istore rfl rfl rfl (pc' := 378) ?_
      exact g_weak (show gm_Lle [some _, none, none, some _, some _, none, some _, none, none, some _] _ from ⟨rfl, ⟨rfl, ⟨rfl, ⟨rfl, ⟨rfl, trivial⟩⟩⟩⟩⟩) H
  · have H := H.2 hc
    refine g_iconst rfl rfl rfl (pc' := 326) ?_
    refine g_istore rfl rfl rfl (pc' := 328) ?_
    exact g_weak (show gm_Lle [some _, none, none, none, some _, none, none, none, none, some _] _ from ⟨rfl, ⟨rfl, ⟨rfl, trivial⟩⟩⟩) H
theorem w_539_328 {m : Nat} {x4 : Int32} {x9 : Int32} {h : hh_T} {Q : Option Value ⊕ Nat → hh_T → Prop} (hT : tw_ok h m) (H : (¬ x9 < (Int32.ofNat 32) → (∀ h1, h1 = hh_wi h m 3 (Int32.ofNat 32) → (Q (.inl (some (.int (Int32.ofNat 32)))) h1))) ∧ (x9 < (Int32.ofNat 32) → (∃ n2, gm_ix (((Int32.ofNat 32) * x4) + x9) n2 544 ∧ (∃ n3, gm_ix x9 n3 512 ∧ (∀ h4, h4 = hh_wi h (m + 2) n3 ((hh_i h (m + 103) n2).toInt8.toInt32) → (gm_G 539 328 [some (.ref m), none, none, none, some (.int x4), none, none, none, none, some (.int (x9 + (Int32.ofNat 1)))] [] h4 Q)))))) : gm_G 539 328 [some (.ref m), none, none, none, some (.int x4), none, none, none, none, some (.int x9)] [] h Q := by
  refine g_iload rfl rfl rfl (pc' := 330) ?_
  refine g_iconst rfl rfl rfl (pc' := 332) ?_
  refine g_ic_ge rfl (pc' := 335) (pt := 361) rfl rfl ⟨fun hc => ?_, fun hc => ?_⟩
  · have H := H.1 hc
    refine g_aload (r := some _) rfl rfl rfl (pc' := 362) ?_
    refine g_iconst rfl rfl rfl (pc' := 364) ?_
    refine t_putI rfl hT rfl rfl  (pc' := 367) rfl (fun hT => ?_)
    have H := H _ rfl
    refine g_iconst rfl rfl rfl (pc' := 369) ?_
    exact g_ireturn rfl (Or.inl rfl) H
  · have H := H.2 hc
    refine g_aload (r := some _) rfl rfl rfl (pc' := 336) ?_
    refine t_get (o := 2) rfl hT rfl rfl rfl (pc' := 339) rfl ?_
    refine g_iload rfl rfl rfl (pc' := 341) ?_
    refine g_aload (r := some _) rfl rfl rfl (pc' := 342) ?_
    refine t_get (o := 103) rfl hT rfl rfl rfl (pc' := 345) rfl ?_
    refine g_iconst rfl rfl rfl (pc' := 347) ?_
    refine g_iload rfl rfl rfl (pc' := 349) ?_
    refine g_imul rfl rfl (pc' := 350) ?_
    refine g_iload rfl rfl rfl (pc' := 352) ?_
    refine g_iadd rfl rfl (pc' := 353) ?_
    obtain ⟨n2, hn2, H⟩ := H
    refine t_baload hT (o := 103) (l := 544) rfl rfl rfl hn2 (pc' := 354) rfl ?_
    obtain ⟨n3, hn3, H⟩ := H
    refine t_bastore hT (o := 2) (l := 512) rfl rfl rfl hn3  (pc' := 355) rfl (fun hT => ?_)
    have H := H _ rfl
    refine g_iinc (c := (Int32.ofNat 1)) rfl rfl rfl rfl rfl (pc' := 358) ?_
    refine g_goto rfl (pc' := 328) rfl ?_
    exact g_weak (show gm_Lle [some _, none, none, none, some _, none, none, none, none, some _] _ from ⟨rfl, ⟨rfl, ⟨rfl, trivial⟩⟩⟩) H
theorem w_539_378 {m : Nat} {x3 : Int32} {x4 : Int32} {x6 : Int32} {x9 : Int32} {h : hh_T} {Q : Option Value ⊕ Nat → hh_T → Prop} (hT : tw_ok h m) (H : (¬ x9 < (Int32.ofNat 32) → (gm_G 539 414 [some (.ref m), none, none, some (.int x3), some (.int x4), none, some (.int x6), none, none, some (.int x9)] [] h Q)) ∧ (x9 < (Int32.ofNat 32) → (∃ n1, gm_ix (((Int32.ofNat 32) * x4) + x9) n1 544 ∧ (∃ n2, gm_ix x9 n2 320 ∧ ((¬ (hh_i h (m + 103) n1) = (hh_i h (m + 1) n2) → (gm_G 539 414 [some (.ref m), none, none, some (.int x3), some (.int x4), none, some (.int x6), none, none, some (.int x9)] [] h Q)) ∧ ((hh_i h (m + 103) n1) = (hh_i h (m + 1) n2) → (gm_G 539 378 [some (.ref m), none, none, some (.int x3), some (.int x4), none, some (.int x6), none, none, some (.int (x9 + (Int32.ofNat 1)))] [] h Q))))))) : gm_G 539 378 [some (.ref m), none, none, some (.int x3), some (.int x4), none, some (.int x6), none, none, some (.int x9)] [] h Q := by
  refine g_iload rfl rfl rfl (pc' := 380) ?_
  refine g_iconst rfl rfl rfl (pc' := 382) ?_
  refine g_ic_ge rfl (pc' := 385) (pt := 414) rfl rfl ⟨fun hc => ?_, fun hc => ?_⟩
  · have H := H.1 hc
    exact g_weak (show gm_Lle [some _, none, none, some _, some _, none, some _, none, none, some _] _ from ⟨rfl, ⟨rfl, ⟨rfl, ⟨rfl, ⟨rfl, trivial⟩⟩⟩⟩⟩) H
  · have H := H.2 hc
    refine g_aload (r := some _) rfl rfl rfl (pc' := 386) ?_
    refine t_get (o := 103) rfl hT rfl rfl rfl (pc' := 389) rfl ?_
    refine g_iconst rfl rfl rfl (pc' := 391) ?_
    refine g_iload rfl rfl rfl (pc' := 393) ?_
    refine g_imul rfl rfl (pc' := 394) ?_
    refine g_iload rfl rfl rfl (pc' := 396) ?_
    refine g_iadd rfl rfl (pc' := 397) ?_
    obtain ⟨n1, hn1, H⟩ := H
    refine t_baload hT (o := 103) (l := 544) rfl rfl rfl hn1 (pc' := 398) rfl ?_
    refine g_aload (r := some _) rfl rfl rfl (pc' := 399) ?_
    refine t_get (o := 1) rfl hT rfl rfl rfl (pc' := 402) rfl ?_
    refine g_iload rfl rfl rfl (pc' := 404) ?_
    obtain ⟨n2, hn2, H⟩ := H
    refine t_baload hT (o := 1) (l := 320) rfl rfl rfl hn2 (pc' := 405) rfl ?_
    refine g_ic_ne rfl (pc' := 408) (pt := 414) rfl rfl ⟨fun hc => ?_, fun hc => ?_⟩
    · have H := H.1 hc
      exact g_weak (show gm_Lle [some _, none, none, some _, some _, none, some _, none, none, some _] _ from ⟨rfl, ⟨rfl, ⟨rfl, ⟨rfl, ⟨rfl, trivial⟩⟩⟩⟩⟩) H
    · have H := H.2 hc
      refine g_iinc (c := (Int32.ofNat 1)) rfl rfl rfl rfl rfl (pc' := 411) ?_
      refine g_goto rfl (pc' := 378) rfl ?_
      exact g_weak (show gm_Lle [some _, none, none, some _, some _, none, some _, none, none, some _] _ from ⟨rfl, ⟨rfl, ⟨rfl, ⟨rfl, ⟨rfl, trivial⟩⟩⟩⟩⟩) H
theorem w_539_414 {m : Nat} {x3 : Int32} {x4 : Int32} {x6 : Int32} {x9 : Int32} {h : hh_T} {Q : Option Value ⊕ Nat → hh_T → Prop} (hT : tw_ok h m) (H : (¬ x9 < (Int32.ofNat 32) → (gm_G 539 424 [some (.ref m), none, none, some (.int x3), some (.int x4), none, some (.int x6)] [] h Q)) ∧ (x9 < (Int32.ofNat 32) → (Q (.inl (some (.int x9))) h))) : gm_G 539 414 [some (.ref m), none, none, some (.int x3), some (.int x4), none, some (.int x6), none, none, some (.int x9)] [] h Q := by
  refine g_iload rfl rfl rfl (pc' := 416) ?_
  refine g_iconst rfl rfl rfl (pc' := 418) ?_
  refine g_ic_ge rfl (pc' := 421) (pt := 424) rfl rfl ⟨fun hc => ?_, fun hc => ?_⟩
  · have H := H.1 hc
    exact g_weak (show gm_Lle [some _, none, none, some _, some _, none, some _] _ from ⟨rfl, ⟨rfl, ⟨rfl, ⟨rfl, trivial⟩⟩⟩⟩) H
  · have H := H.2 hc
    refine g_iload rfl rfl rfl (pc' := 423) ?_
    exact g_ireturn rfl (Or.inl rfl) H
theorem w_539_424 {m : Nat} {x3 : Int32} {x4 : Int32} {x6 : Int32} {h : hh_T} {Q : Option Value ⊕ Nat → hh_T → Prop} (hT : tw_ok h m) (H : (¬ x3 = (Int32.ofNat 2) → (gm_G 539 444 [some (.ref m), none, none, some (.int x3)] [.int (Int32.ofNat 0), .ref (m + 1), .int x4, .int x6, .ref m] h Q)) ∧ (x3 = (Int32.ofNat 2) → (gm_G 539 444 [some (.ref m), none, none, some (.int x3)] [.int (Int32.ofNat 32), .ref (m + 1), .int x4, .int x6, .ref m] h Q))) : gm_G 539 424 [some (.ref m), none, none, some (.int x3), some (.int x4), none, some (.int x6)] [] h Q := by
  refine g_aload (r := some _) rfl rfl rfl (pc' := 425) ?_
  refine g_iload rfl rfl rfl (pc' := 427) ?_
  refine g_iload rfl rfl rfl (pc' := 429) ?_
  refine g_aload (r := some _) rfl rfl rfl (pc' := 430) ?_
  refine t_get (o := 1) rfl hT rfl rfl rfl (pc' := 433) rfl ?_
  refine g_iload rfl rfl rfl (pc' := 434) ?_
  refine g_iconst rfl rfl rfl (pc' := 435) ?_
  refine g_ic_ne rfl (pc' := 438) (pt := 443) rfl rfl ⟨fun hc => ?_, fun hc => ?_⟩
  · have H := H.1 hc
    refine g_iconst rfl rfl rfl (pc' := 444) ?_
    exact g_weak (show gm_Lle [some _, none, none, some _] _ from ⟨rfl, ⟨rfl, trivial⟩⟩) H
  · have H := H.2 hc
    refine g_iconst rfl rfl rfl (pc' := 440) ?_
    refine g_goto rfl (pc' := 444) rfl ?_
    exact g_weak (show gm_Lle [some _, none, none, some _] _ from ⟨rfl, ⟨rfl, trivial⟩⟩) H
theorem w_539_444 {m : Nat} {x3 : Int32} {y0 : Int32} {y2 : Int32} {y3 : Int32} {h : hh_T} {Q : Option Value ⊕ Nat → hh_T → Prop} (hT : tw_ok h m) (H : (¬ x3 = (Int32.ofNat 3) → (gm_G 539 454 [some (.ref m), none, none, some (.int x3)] [.int (Int32.ofNat 0), .int y0, .ref (m + 1), .int y2, .int y3, .ref m] h Q)) ∧ (x3 = (Int32.ofNat 3) → (gm_G 539 454 [some (.ref m), none, none, some (.int x3)] [.int (Int32.ofNat 1), .int y0, .ref (m + 1), .int y2, .int y3, .ref m] h Q))) : gm_G 539 444 [some (.ref m), none, none, some (.int x3)] [.int y0, .ref (m + 1), .int y2, .int y3, .ref m] h Q := by
  refine g_iload rfl rfl rfl (pc' := 445) ?_
  refine g_iconst rfl rfl rfl (pc' := 446) ?_
  refine g_ic_ne rfl (pc' := 449) (pt := 453) rfl rfl ⟨fun hc => ?_, fun hc => ?_⟩
  · have H := H.1 hc
    refine g_iconst rfl rfl rfl (pc' := 454) ?_
    exact g_weak (show gm_Lle [some _, none, none, some _] _ from ⟨rfl, ⟨rfl, trivial⟩⟩) H
  · have H := H.2 hc
    refine g_iconst rfl rfl rfl (pc' := 450) ?_
    refine g_goto rfl (pc' := 454) rfl ?_
    exact g_weak (show gm_Lle [some _, none, none, some _] _ from ⟨rfl, ⟨rfl, trivial⟩⟩) H
theorem w_539_454 {m : Nat} {x3 : Int32} {y0 : Int32} {y1 : Int32} {y3 : Int32} {y4 : Int32} {h : hh_T} {Q : Option Value ⊕ Nat → hh_T → Prop} (hT : tw_ok h m) (H : gm_G 512 0 [some (.ref m), some (.int y4), some (.int y3), some (.ref (m + 1)), some (.int y1), some (.int y0)] [] h (pI (fun v2 h1 => (¬ v2 < Int32.ofNat 0 → ((¬ x3 = (Int32.ofNat 2) → (gm_G 539 481 [] [.int (Int32.ofNat 0), .ref m] h1 Q)) ∧ (x3 = (Int32.ofNat 2) → (gm_G 539 481 [] [.int (Int32.ofNat 32), .ref m] h1 Q)))) ∧ (v2 < Int32.ofNat 0 → (Q (.inl (some (.int v2))) h1))) (fun _ _ => False))) : gm_G 539 454 [some (.ref m), none, none, some (.int x3)] [.int y0, .int y1, .ref (m + 1), .int y3, .int y4, .ref m] h Q := by
  refine t_call hT (y := 512) (n := 6) (pc' := 457) rfl rfl (t_vt hT rfl rfl) rfl rfl ⟨(Nat.le_of_ble_eq_true rfl), (Nat.le_of_ble_eq_true rfl), (Nat.le_of_ble_eq_true rfl)⟩ rfl H (tI_elim (fun v2 h1 H hT => ?_))
  show gm_G _ 457 _ _ _ _
  refine g_istore rfl rfl rfl (pc' := 459) ?_
  refine g_iload rfl rfl rfl (pc' := 461) ?_
  refine g_if_ge rfl (pc' := 464) (pt := 469) rfl rfl ⟨fun hc => ?_, fun hc => ?_⟩
  · have H := H.1 hc
    refine g_aload (r := some _) rfl rfl rfl (pc' := 470) ?_
    refine g_iload rfl rfl rfl (pc' := 471) ?_
    refine g_iconst rfl rfl rfl (pc' := 472) ?_
    refine g_ic_ne rfl (pc' := 475) (pt := 480) rfl rfl ⟨fun hc => ?_, fun hc => ?_⟩
    · have H := H.1 hc
      refine g_iconst rfl rfl rfl (pc' := 481) ?_
      exact g_weak (show gm_Lle [] _ from trivial) H
    · have H := H.2 hc
      refine g_iconst rfl rfl rfl (pc' := 477) ?_
      refine g_goto rfl (pc' := 481) rfl ?_
      exact g_weak (show gm_Lle [] _ from trivial) H
  · have H := H.2 hc
    refine g_iload rfl rfl rfl (pc' := 466) ?_
    refine g_goto rfl (pc' := 484) rfl ?_
    exact g_ireturn rfl (Or.inl rfl) H
theorem w_539_481 {m : Nat} {y0 : Int32} {h : hh_T} {Q : Option Value ⊕ Nat → hh_T → Prop} (hT : tw_ok h m) (H : gm_G 468 0 [some (.ref m), some (.int y0)] [] h (pI (fun v2 h1 => Q (.inl (some (.int v2))) h1) (fun _ _ => False))) : gm_G 539 481 [] [.int y0, .ref m] h Q := by
  refine t_call hT (y := 468) (n := 2) (pc' := 484) rfl rfl (t_vt hT rfl rfl) rfl rfl ⟨(Nat.le_of_ble_eq_true rfl), (Nat.le_of_ble_eq_true rfl), (Nat.le_of_ble_eq_true rfl)⟩ rfl H (tI_elim (fun v2 h1 H hT => ?_))
  show gm_G _ 484 _ _ _ _
  exact g_ireturn rfl (Or.inl rfl) H
theorem w_540_0 {m : Nat} {x1 : Int32} {x2 : Int32} {h : hh_T} {Q : Option Value ⊕ Nat → hh_T → Prop} (hT : tw_ok h m) (H : (¬ (hh_i h m 77) = Int32.ofNat 0 → (gm_G 138 0 [some (.int x1)] [] h (pI (fun v2 h1 => (¬ v2 = Int32.ofNat 0 → (Q (.inl (some (.int (Int32.ofInt (-1))))) h1)) ∧ (v2 = Int32.ofNat 0 → ((x2 < Int32.ofNat 0 → (Q (.inl (some (.int (Int32.ofInt (-1))))) h1)) ∧ (¬ x2 < Int32.ofNat 0 → ((¬ (Int32.ofNat 256) < x2 → (∃ n3, gm_ix x1 n3 8 ∧ ((¬ (hh_i h1 (m + 88) n3) = Int32.ofNat 0 → (∃ n4, gm_ix x1 n4 8 ∧ ((¬ ((hh_i h1 (m + 92) n4) &&& (Int32.ofNat 2)) = Int32.ofNat 0 → (∃ n5, gm_ix x1 n5 8 ∧ (gm_G 152 0 [some (.ref m), some (.int ((hh_i h1 (m + 90) n5) / (Int32.ofNat 2)))] [] h1 (pI (fun v7 h6 => gm_G 297 0 [some (.ref m), some (.int v7), some (.int (Int32.ofNat 3))] [] h6 (pI (fun v9 h8 => (¬ v9 = (Int32.ofNat 1) → (gm_G 377 0 [some (.ref m), some (.int x1)] [] h8 (pI (fun v11 h10 => ∃ n12, gm_ix v11 n12 1536 ∧ ((¬ x2 < (hh_i h10 (m + 45) n12) → (gm_G 540 108 [some (.ref m), some (.int x1), some (.int x2), some (.int v7), some (.int (hh_i h10 (m + 45) n12))] [.int (hh_i h10 (m + 45) n12), .int x1, .ref m] h10 Q)) ∧ (x2 < (hh_i h10 (m + 45) n12) → (gm_G 540 108 [some (.ref m), some (.int x1), some (.int x2), some (.int v7), some (.int (hh_i h10 (m + 45) n12))] [.int x2, .int x1, .ref m] h10 Q)))) (fun _ _ => False)))) ∧ (v9 = (Int32.ofNat 1) → (Q (.inl (some (.int (Int32.ofInt (-6))))) h8))) (fun _ _ => False))) (fun _ _ => False))))) ∧ (((hh_i h1 (m + 92) n4) &&& (Int32.ofNat 2)) = Int32.ofNat 0 → (Q (.inl (some (.int (Int32.ofInt (-6))))) h1))))) ∧ ((hh_i h1 (m + 88) n3) = Int32.ofNat 0 → (Q (.inl (some (.int (Int32.ofInt (-2))))) h1))))) ∧ ((Int32.ofNat 256) < x2 → (Q (.inl (some (.int (Int32.ofInt (-1))))) h1))))))) (fun _ _ => False)))) ∧ ((hh_i h m 77) = Int32.ofNat 0 → (Q (.inl (some (.int (Int32.ofInt (-9))))) h))) : gm_G 540 0 [some (.ref m), some (.int x1), some (.int x2)] [] h Q := by
  refine g_aload (r := some _) rfl rfl rfl (pc' := 1) ?_
  refine t_getZ rfl hT rfl rfl (pc' := 4) rfl ?_
  refine g_if_ne rfl (pc' := 7) (pt := 10) rfl rfl ⟨fun hc => ?_, fun hc => ?_⟩
  · have H := H.1 hc
    refine g_iload rfl rfl rfl (pc' := 11) ?_
    refine t_call hT (y := 138) (n := 1) (pc' := 14) rfl rfl (fun _ => rfl) rfl rfl ⟨(Nat.le_of_ble_eq_true rfl), (Nat.le_of_ble_eq_true rfl), (Nat.le_of_ble_eq_true rfl)⟩ rfl H (tI_elim (fun v2 h1 H hT => ?_))
    show gm_G _ 14 _ _ _ _
    refine g_if_ne rfl (pc' := 17) (pt := 28) rfl rfl ⟨fun hc => ?_, fun hc => ?_⟩
    · have H := H.1 hc
      refine g_iconst rfl rfl rfl (pc' := 29) ?_
      exact g_ireturn rfl (Or.inl rfl) H
    · have H := H.2 hc
      refine g_iload rfl rfl rfl (pc' := 18) ?_
      refine g_if_lt rfl (pc' := 21) (pt := 28) rfl rfl ⟨fun hc => ?_, fun hc => ?_⟩
      · have H := H.1 hc
        refine g_iconst rfl rfl rfl (pc' := 29) ?_
        exact g_ireturn rfl (Or.inl rfl) H
      · have H := H.2 hc
        refine g_iload rfl rfl rfl (pc' := 22) ?_
        refine g_iconst rfl rfl rfl (pc' := 25) ?_
        refine g_ic_le rfl (pc' := 28) (pt := 30) rfl rfl ⟨fun hc => ?_, fun hc => ?_⟩
        · have H := H.1 hc
          refine g_aload (r := some _) rfl rfl rfl (pc' := 31) ?_
          refine t_get (o := 88) rfl hT rfl rfl rfl (pc' := 34) rfl ?_
          refine g_iload rfl rfl rfl (pc' := 35) ?_
          obtain ⟨n3, hn3, H⟩ := H
          refine t_zaload hT (o := 88) (l := 8) rfl rfl rfl hn3 (pc' := 36) rfl ?_
          refine g_if_ne rfl (pc' := 39) (pt := 42) rfl rfl ⟨fun hc => ?_, fun hc => ?_⟩
          · have H := H.1 hc
            refine g_aload (r := some _) rfl rfl rfl (pc' := 43) ?_
            refine t_get (o := 92) rfl hT rfl rfl rfl (pc' := 46) rfl ?_
            refine g_iload rfl rfl rfl (pc' := 47) ?_
            obtain ⟨n4, hn4, H⟩ := H
            refine t_iaload hT (o := 92) (l := 8) rfl rfl rfl hn4 (pc' := 48) rfl ?_
            refine g_iconst rfl rfl rfl (pc' := 49) ?_
            refine g_iand rfl rfl (pc' := 50) ?_
            refine g_if_ne rfl (pc' := 53) (pt := 56) rfl rfl ⟨fun hc => ?_, fun hc => ?_⟩
            · have H := H.1 hc
              refine g_aload (r := some _) rfl rfl rfl (pc' := 57) ?_
              refine g_aload (r := some _) rfl rfl rfl (pc' := 58) ?_
              refine t_get (o := 90) rfl hT rfl rfl rfl (pc' := 61) rfl ?_
              refine g_iload rfl rfl rfl (pc' := 62) ?_
              obtain ⟨n5, hn5, H⟩ := H
              refine t_iaload hT (o := 90) (l := 8) rfl rfl rfl hn5 (pc' := 63) rfl ?_
              refine g_iconst rfl rfl rfl (pc' := 64) ?_
              refine g_idiv rfl (by decide) (pc' := 65) rfl ?_
              refine t_call hT (y := 152) (n := 2) (pc' := 68) rfl rfl (t_vt hT rfl rfl) rfl rfl ⟨(Nat.le_of_ble_eq_true rfl), (Nat.le_of_ble_eq_true rfl), (Nat.le_of_ble_eq_true rfl)⟩ rfl H (tI_elim (fun v7 h6 H hT => ?_))
              show gm_G _ 68 _ _ _ _
              refine g_istore rfl rfl rfl (pc' := 69) ?_
              refine g_aload (r := some _) rfl rfl rfl (pc' := 70) ?_
              refine g_iload rfl rfl rfl (pc' := 71) ?_
              refine g_iconst rfl rfl rfl (pc' := 72) ?_
              refine t_call hT (y := 297) (n := 3) (pc' := 75) rfl rfl (t_vt hT rfl rfl) rfl rfl ⟨(Nat.le_of_ble_eq_true rfl), (Nat.le_of_ble_eq_true rfl), (Nat.le_of_ble_eq_true rfl)⟩ rfl H (tI_elim (fun v9 h8 H hT => ?_))
              show gm_G _ 75 _ _ _ _
              refine g_iconst rfl rfl rfl (pc' := 76) ?_
              refine g_ic_ne rfl (pc' := 79) (pt := 82) rfl rfl ⟨fun hc => ?_, fun hc => ?_⟩
              · have H := H.1 hc
                refine g_aload (r := some _) rfl rfl rfl (pc' := 83) ?_
                refine t_get (o := 45) rfl hT rfl rfl rfl (pc' := 86) rfl ?_
                refine g_aload (r := some _) rfl rfl rfl (pc' := 87) ?_
                refine g_iload rfl rfl rfl (pc' := 88) ?_
                refine t_call hT (y := 377) (n := 2) (pc' := 91) rfl rfl (t_vt hT rfl rfl) rfl rfl ⟨(Nat.le_of_ble_eq_true rfl), (Nat.le_of_ble_eq_true rfl), (Nat.le_of_ble_eq_true rfl)⟩ rfl H (tI_elim (fun v11 h10 H hT => ?_))
                show gm_G _ 91 _ _ _ _
                obtain ⟨n12, hn12, H⟩ := H
                refine t_iaload hT (o := 45) (l := 1536) rfl rfl rfl hn12 (pc' := 92) rfl ?_
                refine g_istore rfl rfl rfl (pc' := 94) ?_
                refine g_aload (r := some _) rfl rfl rfl (pc' := 95) ?_
                refine g_iload rfl rfl rfl (pc' := 96) ?_
                refine g_iload rfl rfl rfl (pc' := 97) ?_
                refine g_iload rfl rfl rfl (pc' := 99) ?_
                refine g_ic_ge rfl (pc' := 102) (pt := 106) rfl rfl ⟨fun hc => ?_, fun hc => ?_⟩
                · have H := H.1 hc
                  refine g_iload rfl rfl rfl (pc' := 108) ?_
                  exact g_weak (show gm_Lle [some _, some _, some _, some _, some _] _ from ⟨rfl, ⟨rfl, ⟨rfl, ⟨rfl, ⟨rfl, trivial⟩⟩⟩⟩⟩) H
                · have H := H.2 hc
                  refine g_iload rfl rfl rfl (pc' := 103) ?_
                  refine g_goto rfl (pc' := 108) rfl ?_
                  exact g_weak (show gm_Lle [some _, some _, some _, some _, some _] _ from ⟨rfl, ⟨rfl, ⟨rfl, ⟨rfl, ⟨rfl, trivial⟩⟩⟩⟩⟩) H
              · have H := H.2 hc
                refine g_iconst rfl rfl rfl (pc' := 81) ?_
                exact g_ireturn rfl (Or.inl rfl) H
            · have H := H.2 hc
              refine g_iconst rfl rfl rfl (pc' := 55) ?_
              exact g_ireturn rfl (Or.inl rfl) H
          · have H := H.2 hc
            refine g_iconst rfl rfl rfl (pc' := 41) ?_
            exact g_ireturn rfl (Or.inl rfl) H
        · have H := H.2 hc
          refine g_iconst rfl rfl rfl (pc' := 29) ?_
          exact g_ireturn rfl (Or.inl rfl) H
  · have H := H.2 hc
    refine g_iconst rfl rfl rfl (pc' := 9) ?_
    exact g_ireturn rfl (Or.inl rfl) H
theorem w_540_108 {m : Nat} {x1 : Int32} {x2 : Int32} {x3 : Int32} {x4 : Int32} {y0 : Int32} {y1 : Int32} {h : hh_T} {Q : Option Value ⊕ Nat → hh_T → Prop} (hT : tw_ok h m) (H : (¬ x2 < x4 → (gm_G 540 120 [some (.ref m), some (.int x1), some (.int x2), some (.int x3), some (.int x4)] [.int x2, .int y0, .int y1, .ref m] h Q)) ∧ (x2 < x4 → (gm_G 540 120 [some (.ref m), some (.int x1), some (.int x2), some (.int x3), some (.int x4)] [.int x4, .int y0, .int y1, .ref m] h Q))) : gm_G 540 108 [some (.ref m), some (.int x1), some (.int x2), some (.int x3), some (.int x4)] [.int y0, .int y1, .ref m] h Q := by
  refine g_iload rfl rfl rfl (pc' := 109) ?_
  refine g_iload rfl rfl rfl (pc' := 111) ?_
  refine g_ic_ge rfl (pc' := 114) (pt := 119) rfl rfl ⟨fun hc => ?_, fun hc => ?_⟩
  · have H := H.1 hc
    refine g_iload rfl rfl rfl (pc' := 120) ?_
    exact g_weak (show gm_Lle [some _, some _, some _, some _, some _] _ from ⟨rfl, ⟨rfl, ⟨rfl, ⟨rfl, ⟨rfl, trivial⟩⟩⟩⟩⟩) H
  · have H := H.2 hc
    refine g_iload rfl rfl rfl (pc' := 116) ?_
    refine g_goto rfl (pc' := 120) rfl ?_
    exact g_weak (show gm_Lle [some _, some _, some _, some _, some _] _ from ⟨rfl, ⟨rfl, ⟨rfl, ⟨rfl, ⟨rfl, trivial⟩⟩⟩⟩⟩) H
theorem w_540_120 {m : Nat} {x1 : Int32} {x2 : Int32} {x3 : Int32} {x4 : Int32} {y0 : Int32} {y1 : Int32} {y2 : Int32} {h : hh_T} {Q : Option Value ⊕ Nat → hh_T → Prop} (hT : tw_ok h m) (H : gm_G 284 0 [some (.ref m), some (.int y2), some (.int y1), some (.int y0), some (.int (Int32.ofNat 1))] [] h (pI (fun v2 h1 => (v2 = Int32.ofNat 0 → ((¬ x2 = x4 → (∃ n3, gm_ix x1 n3 8 ∧ (gm_G 510 0 [some (.ref m), some (.int x3), some (.int (hh_i h1 (m + 91) n3)), some (.int x2)] [] h1 (pI (fun v5 h4 => (¬ v5 < Int32.ofNat 0 → (gm_G 468 0 [some (.ref m), some (.int (Int32.ofNat 0))] [] h4 (pI (fun v7 h6 => Q (.inl (some (.int v7))) h6) (fun _ _ => False)))) ∧ (v5 < Int32.ofNat 0 → (Q (.inl (some (.int v5))) h4))) (fun _ _ => False))))) ∧ (x2 = x4 → (Q (.inl (some (.int (Int32.ofNat 0)))) h1)))) ∧ (¬ v2 = Int32.ofNat 0 → (Q (.inl (some (.int (Int32.ofInt (-5))))) h1))) (fun _ _ => False))) : gm_G 540 120 [some (.ref m), some (.int x1), some (.int x2), some (.int x3), some (.int x4)] [.int y0, .int y1, .int y2, .ref m] h Q := by
  refine g_iconst rfl rfl rfl (pc' := 121) ?_
  refine t_call hT (y := 284) (n := 5) (pc' := 124) rfl rfl (t_vt hT rfl rfl) rfl rfl ⟨(Nat.le_of_ble_eq_true rfl), (Nat.le_of_ble_eq_true rfl), (Nat.le_of_ble_eq_true rfl)⟩ rfl H (tI_elim (fun v2 h1 H hT => ?_))
  show gm_G _ 124 _ _ _ _
  refine g_if_eq rfl (pc' := 127) (pt := 130) rfl rfl ⟨fun hc => ?_, fun hc => ?_⟩
  · have H := H.1 hc
    refine g_iload rfl rfl rfl (pc' := 131) ?_
    refine g_iload rfl rfl rfl (pc' := 133) ?_
    refine g_ic_ne rfl (pc' := 136) (pt := 138) rfl rfl ⟨fun hc => ?_, fun hc => ?_⟩
    · have H := H.1 hc
      refine g_aload (r := some _) rfl rfl rfl (pc' := 139) ?_
      refine g_iload rfl rfl rfl (pc' := 140) ?_
      refine g_aload (r := some _) rfl rfl rfl (pc' := 141) ?_
      refine t_get (o := 91) rfl hT rfl rfl rfl (pc' := 144) rfl ?_
      refine g_iload rfl rfl rfl (pc' := 145) ?_
      obtain ⟨n3, hn3, H⟩ := H
      refine t_iaload hT (o := 91) (l := 8) rfl rfl rfl hn3 (pc' := 146) rfl ?_
      refine g_iload rfl rfl rfl (pc' := 147) ?_
      refine t_call hT (y := 510) (n := 4) (pc' := 150) rfl rfl (t_vt hT rfl rfl) rfl rfl ⟨(Nat.le_of_ble_eq_true rfl), (Nat.le_of_ble_eq_true rfl), (Nat.le_of_ble_eq_true rfl)⟩ rfl H (tI_elim (fun v5 h4 H hT => ?_))
      show gm_G _ 150 _ _ _ _
      refine g_istore rfl rfl rfl (pc' := 152) ?_
      refine g_iload rfl rfl rfl (pc' := 154) ?_
      refine g_if_ge rfl (pc' := 157) (pt := 162) rfl rfl ⟨fun hc => ?_, fun hc => ?_⟩
      · have H := H.1 hc
        refine g_aload (r := some _) rfl rfl rfl (pc' := 163) ?_
        refine g_iconst rfl rfl rfl (pc' := 164) ?_
        refine t_call hT (y := 468) (n := 2) (pc' := 167) rfl rfl (t_vt hT rfl rfl) rfl rfl ⟨(Nat.le_of_ble_eq_true rfl), (Nat.le_of_ble_eq_true rfl), (Nat.le_of_ble_eq_true rfl)⟩ rfl H (tI_elim (fun v7 h6 H hT => ?_))
        show gm_G _ 167 _ _ _ _
        exact g_ireturn rfl (Or.inl rfl) H
      · have H := H.2 hc
        refine g_iload rfl rfl rfl (pc' := 159) ?_
        refine g_goto rfl (pc' := 167) rfl ?_
        exact g_ireturn rfl (Or.inl rfl) H
    · have H := H.2 hc
      refine g_iconst rfl rfl rfl (pc' := 137) ?_
      exact g_ireturn rfl (Or.inl rfl) H
  · have H := H.2 hc
    refine g_iconst rfl rfl rfl (pc' := 129) ?_
    exact g_ireturn rfl (Or.inl rfl) H
theorem w_541_0 {m : Nat} {x1 : Int32} {x2 : Int32} {x3 : Int32} {h : hh_T} {Q : Option Value ⊕ Nat → hh_T → Prop} (hT : tw_ok h m) (H : (¬ (hh_i h m 77) = Int32.ofNat 0 → (gm_G 138 0 [some (.int x1)] [] h (pI (fun v2 h1 => (¬ v2 = Int32.ofNat 0 → (Q (.inl (some (.int (Int32.ofInt (-1))))) h1)) ∧ (v2 = Int32.ofNat 0 → ((x2 < Int32.ofNat 0 → (Q (.inl (some (.int (Int32.ofInt (-1))))) h1)) ∧ (¬ x2 < Int32.ofNat 0 → (((Int32.ofNat 255) < x2 → (Q (.inl (some (.int (Int32.ofInt (-1))))) h1)) ∧ (¬ (Int32.ofNat 255) < x2 → ((x3 < (Int32.ofNat 1) → (Q (.inl (some (.int (Int32.ofInt (-1))))) h1)) ∧ (¬ x3 < (Int32.ofNat 1) → ((¬ (Int32.ofNat 256) < x3 → (∃ n3, gm_ix x1 n3 8 ∧ ((¬ (hh_i h1 (m + 88) n3) = Int32.ofNat 0 → (∃ n4, gm_ix x1 n4 8 ∧ ((¬ ((hh_i h1 (m + 92) n4) &&& (Int32.ofNat 2)) = Int32.ofNat 0 → (∃ n5, gm_ix x1 n5 8 ∧ (gm_G 152 0 [some (.ref m), some (.int ((hh_i h1 (m + 90) n5) / (Int32.ofNat 2)))] [] h1 (pI (fun v7 h6 => gm_G 297 0 [some (.ref m), some (.int v7), some (.int (Int32.ofNat 3))] [] h6 (pI (fun v9 h8 => (¬ v9 = (Int32.ofNat 1) → (gm_G 377 0 [some (.ref m), some (.int x1)] [] h8 (pI (fun v11 h10 => ∃ n12, gm_ix v11 n12 1536 ∧ ((x2 < (hh_i h10 (m + 45) n12) → ((¬ ((hh_i h10 (m + 45) n12) - x2) < x3 → (gm_G 541 134 [some (.ref m), some (.int x1), some (.int x2), none, some (.int v7)] [.int x3] h10 Q)) ∧ (((hh_i h10 (m + 45) n12) - x2) < x3 → (gm_G 541 134 [some (.ref m), some (.int x1), some (.int x2), none, some (.int v7)] [.int ((hh_i h10 (m + 45) n12) - x2)] h10 Q)))) ∧ (¬ x2 < (hh_i h10 (m + 45) n12) → (gm_G 541 134 [some (.ref m), some (.int x1), some (.int x2), none, some (.int v7)] [.int (Int32.ofNat 0)] h10 Q)))) (fun _ _ => False)))) ∧ (v9 = (Int32.ofNat 1) → (Q (.inl (some (.int (Int32.ofInt (-6))))) h8))) (fun _ _ => False))) (fun _ _ => False))))) ∧ (((hh_i h1 (m + 92) n4) &&& (Int32.ofNat 2)) = Int32.ofNat 0 → (Q (.inl (some (.int (Int32.ofInt (-6))))) h1))))) ∧ ((hh_i h1 (m + 88) n3) = Int32.ofNat 0 → (Q (.inl (some (.int (Int32.ofInt (-2))))) h1))))) ∧ ((Int32.ofNat 256) < x3 → (Q (.inl (some (.int (Int32.ofInt (-1))))) h1))))))))))) (fun _ _ => False)))) ∧ ((hh_i h m 77) = Int32.ofNat 0 → (Q (.inl (some (.int (Int32.ofInt (-9))))) h))) : gm_G 541 0 [some (.ref m), some (.int x1), some (.int x2), some (.int x3)] [] h Q := by
  refine g_aload (r := some _) rfl rfl rfl (pc' := 1) ?_
  refine t_getZ rfl hT rfl rfl (pc' := 4) rfl ?_
  refine g_if_ne rfl (pc' := 7) (pt := 10) rfl rfl ⟨fun hc => ?_, fun hc => ?_⟩
  · have H := H.1 hc
    refine g_iload rfl rfl rfl (pc' := 11) ?_
    refine t_call hT (y := 138) (n := 1) (pc' := 14) rfl rfl (fun _ => rfl) rfl rfl ⟨(Nat.le_of_ble_eq_true rfl), (Nat.le_of_ble_eq_true rfl), (Nat.le_of_ble_eq_true rfl)⟩ rfl H (tI_elim (fun v2 h1 H hT => ?_))
    show gm_G _ 14 _ _ _ _
    refine g_if_ne rfl (pc' := 17) (pt := 40) rfl rfl ⟨fun hc => ?_, fun hc => ?_⟩
    · have H := H.1 hc
      refine g_iconst rfl rfl rfl (pc' := 41) ?_
      exact g_ireturn rfl (Or.inl rfl) H
    · have H := H.2 hc
      refine g_iload rfl rfl rfl (pc' := 18) ?_
      refine g_if_lt rfl (pc' := 21) (pt := 40) rfl rfl ⟨fun hc => ?_, fun hc => ?_⟩
      · have H := H.1 hc
        refine g_iconst rfl rfl rfl (pc' := 41) ?_
        exact g_ireturn rfl (Or.inl rfl) H
      · have H := H.2 hc
        refine g_iload rfl rfl rfl (pc' := 22) ?_
        refine g_iconst rfl rfl rfl (pc' := 25) ?_
        refine g_ic_gt rfl (pc' := 28) (pt := 40) rfl rfl ⟨fun hc => ?_, fun hc => ?_⟩
        · have H := H.1 hc
          refine g_iconst rfl rfl rfl (pc' := 41) ?_
          exact g_ireturn rfl (Or.inl rfl) H
        · have H := H.2 hc
          refine g_iload rfl rfl rfl (pc' := 29) ?_
          refine g_iconst rfl rfl rfl (pc' := 30) ?_
          refine g_ic_lt rfl (pc' := 33) (pt := 40) rfl rfl ⟨fun hc => ?_, fun hc => ?_⟩
          · have H := H.1 hc
            refine g_iconst rfl rfl rfl (pc' := 41) ?_
            exact g_ireturn rfl (Or.inl rfl) H
          · have H := H.2 hc
            refine g_iload rfl rfl rfl (pc' := 34) ?_
            refine g_iconst rfl rfl rfl (pc' := 37) ?_
            refine g_ic_le rfl (pc' := 40) (pt := 42) rfl rfl ⟨fun hc => ?_, fun hc => ?_⟩
            · have H := H.1 hc
              refine g_aload (r := some _) rfl rfl rfl (pc' := 43) ?_
              refine t_get (o := 88) rfl hT rfl rfl rfl (pc' := 46) rfl ?_
              refine g_iload rfl rfl rfl (pc' := 47) ?_
              obtain ⟨n3, hn3, H⟩ := H
              refine t_zaload hT (o := 88) (l := 8) rfl rfl rfl hn3 (pc' := 48) rfl ?_
              refine g_if_ne rfl (pc' := 51) (pt := 54) rfl rfl ⟨fun hc => ?_, fun hc => ?_⟩
              · have H := H.1 hc
                refine g_aload (r := some _) rfl rfl rfl (pc' := 55) ?_
                refine t_get (o := 92) rfl hT rfl rfl rfl (pc' := 58) rfl ?_
                refine g_iload rfl rfl rfl (pc' := 59) ?_
                obtain ⟨n4, hn4, H⟩ := H
                refine t_iaload hT (o := 92) (l := 8) rfl rfl rfl hn4 (pc' := 60) rfl ?_
                refine g_iconst rfl rfl rfl (pc' := 61) ?_
                refine g_iand rfl rfl (pc' := 62) ?_
                refine g_if_ne rfl (pc' := 65) (pt := 68) rfl rfl ⟨fun hc => ?_, fun hc => ?_⟩
                · have H := H.1 hc
                  refine g_aload (r := some _) rfl rfl rfl (pc' := 69) ?_
                  refine g_aload (r := some _) rfl rfl rfl (pc' := 70) ?_
                  refine t_get (o := 90) rfl hT rfl rfl rfl (pc' := 73) rfl ?_
                  refine g_iload rfl rfl rfl (pc' := 74) ?_
                  obtain ⟨n5, hn5, H⟩ := H
                  refine t_iaload hT (o := 90) (l := 8) rfl rfl rfl hn5 (pc' := 75) rfl ?_
                  refine g_iconst rfl rfl rfl (pc' := 76) ?_
                  refine g_idiv rfl (by decide) (pc' := 77) rfl ?_
                  refine t_call hT (y := 152) (n := 2) (pc' := 80) rfl rfl (t_vt hT rfl rfl) rfl rfl ⟨(Nat.le_of_ble_eq_true rfl), (Nat.le_of_ble_eq_true rfl), (Nat.le_of_ble_eq_true rfl)⟩ rfl H (tI_elim (fun v7 h6 H hT => ?_))
                  show gm_G _ 80 _ _ _ _
                  refine g_istore rfl rfl rfl (pc' := 82) ?_
                  refine g_aload (r := some _) rfl rfl rfl (pc' := 83) ?_
                  refine g_iload rfl rfl rfl (pc' := 85) ?_
                  refine g_iconst rfl rfl rfl (pc' := 86) ?_
                  refine t_call hT (y := 297) (n := 3) (pc' := 89) rfl rfl (t_vt hT rfl rfl) rfl rfl ⟨(Nat.le_of_ble_eq_true rfl), (Nat.le_of_ble_eq_true rfl), (Nat.le_of_ble_eq_true rfl)⟩ rfl H (tI_elim (fun v9 h8 H hT => ?_))
                  show gm_G _ 89 _ _ _ _
                  refine g_iconst rfl rfl rfl (pc' := 90) ?_
                  refine g_ic_ne rfl (pc' := 93) (pt := 96) rfl rfl ⟨fun hc => ?_, fun hc => ?_⟩
                  · have H := H.1 hc
                    refine g_aload (r := some _) rfl rfl rfl (pc' := 97) ?_
                    refine t_get (o := 45) rfl hT rfl rfl rfl (pc' := 100) rfl ?_
                    refine g_aload (r := some _) rfl rfl rfl (pc' := 101) ?_
                    refine g_iload rfl rfl rfl (pc' := 102) ?_
                    refine t_call hT (y := 377) (n := 2) (pc' := 105) rfl rfl (t_vt hT rfl rfl) rfl rfl ⟨(Nat.le_of_ble_eq_true rfl), (Nat.le_of_ble_eq_true rfl), (Nat.le_of_ble_eq_true rfl)⟩ rfl H (tI_elim (fun v11 h10 H hT => ?_))
                    show gm_G _ 105 _ _ _ _
                    obtain ⟨n12, hn12, H⟩ := H
                    refine t_iaload hT (o := 45) (l := 1536) rfl rfl rfl hn12 (pc' := 106) rfl ?_
                    refine g_istore rfl rfl rfl (pc' := 108) ?_
                    refine g_iload rfl rfl rfl (pc' := 109) ?_
                    refine g_iload rfl rfl rfl (pc' := 111) ?_
                    refine g_ic_lt rfl (pc' := 114) (pt := 118) rfl rfl ⟨fun hc => ?_, fun hc => ?_⟩
                    · have H := H.1 hc
                      refine g_iload rfl rfl rfl (pc' := 120) ?_
                      refine g_iload rfl rfl rfl (pc' := 121) ?_
                      refine g_isub rfl rfl (pc' := 122) ?_
                      refine g_iload rfl rfl rfl (pc' := 123) ?_
                      refine g_ic_ge rfl (pc' := 126) (pt := 133) rfl rfl ⟨fun hc => ?_, fun hc => ?_⟩
                      · have H := H.1 hc
                        refine g_iload rfl rfl rfl (pc' := 134) ?_
                        exact g_weak (show gm_Lle [some _, some _, some _, none, some _] _ from ⟨rfl, ⟨rfl, ⟨rfl, ⟨rfl, trivial⟩⟩⟩⟩) H
                      · have H := H.2 hc
                        refine g_iload rfl rfl rfl (pc' := 128) ?_
                        refine g_iload rfl rfl rfl (pc' := 129) ?_
                        refine g_isub rfl rfl (pc' := 130) ?_
                        refine g_goto rfl (pc' := 134) rfl ?_
                        exact g_weak (show gm_Lle [some _, some _, some _, none, some _] _ from ⟨rfl, ⟨rfl, ⟨rfl, ⟨rfl, trivial⟩⟩⟩⟩) H
                    · have H := H.2 hc
                      refine g_iconst rfl rfl rfl (pc' := 115) ?_
                      refine g_goto rfl (pc' := 134) rfl ?_
                      exact g_weak (show gm_Lle [some _, some _, some _, none, some _] _ from ⟨rfl, ⟨rfl, ⟨rfl, ⟨rfl, trivial⟩⟩⟩⟩) H
                  · have H := H.2 hc
                    refine g_iconst rfl rfl rfl (pc' := 95) ?_
                    exact g_ireturn rfl (Or.inl rfl) H
                · have H := H.2 hc
                  refine g_iconst rfl rfl rfl (pc' := 67) ?_
                  exact g_ireturn rfl (Or.inl rfl) H
              · have H := H.2 hc
                refine g_iconst rfl rfl rfl (pc' := 53) ?_
                exact g_ireturn rfl (Or.inl rfl) H
            · have H := H.2 hc
              refine g_iconst rfl rfl rfl (pc' := 41) ?_
              exact g_ireturn rfl (Or.inl rfl) H
  · have H := H.2 hc
    refine g_iconst rfl rfl rfl (pc' := 9) ?_
    exact g_ireturn rfl (Or.inl rfl) H
theorem w_541_134 {m : Nat} {x1 : Int32} {x2 : Int32} {x4 : Int32} {y0 : Int32} {h : hh_T} {Q : Option Value ⊕ Nat → hh_T → Prop} (hT : tw_ok h m) (H : gm_G 284 0 [some (.ref m), some (.int x1), some (.int x2), some (.int (x2 + y0)), some (.int (Int32.ofNat 1))] [] h (pI (fun v2 h1 => (v2 = Int32.ofNat 0 → ((¬ y0 = Int32.ofNat 0 → (∃ n3, gm_ix x1 n3 8 ∧ (gm_G 511 0 [some (.ref m), some (.int x4), some (.int (hh_i h1 (m + 91) n3)), some (.int x2), some (.int y0)] [] h1 (pI (fun v5 h4 => (¬ v5 < Int32.ofNat 0 → (gm_G 468 0 [some (.ref m), some (.int y0)] [] h4 (pI (fun v7 h6 => Q (.inl (some (.int v7))) h6) (fun _ _ => False)))) ∧ (v5 < Int32.ofNat 0 → (Q (.inl (some (.int v5))) h4))) (fun _ _ => False))))) ∧ (y0 = Int32.ofNat 0 → (Q (.inl (some (.int (Int32.ofNat 0)))) h1)))) ∧ (¬ v2 = Int32.ofNat 0 → (Q (.inl (some (.int (Int32.ofInt (-5))))) h1))) (fun _ _ => False))) : gm_G 541 134 [some (.ref m), some (.int x1), some (.int x2), none, some (.int x4)] [.int y0] h Q := by
  refine g_istore rfl rfl rfl (pc' := 136) ?_
  refine g_aload (r := some _) rfl rfl rfl (pc' := 137) ?_
  refine g_iload rfl rfl rfl (pc' := 138) ?_
  refine g_iload rfl rfl rfl (pc' := 139) ?_
  refine g_iload rfl rfl rfl (pc' := 140) ?_
  refine g_iload rfl rfl rfl (pc' := 142) ?_
  refine g_iadd rfl rfl (pc' := 143) ?_
  refine g_iconst rfl rfl rfl (pc' := 144) ?_
  refine t_call hT (y := 284) (n := 5) (pc' := 147) rfl rfl (t_vt hT rfl rfl) rfl rfl ⟨(Nat.le_of_ble_eq_true rfl), (Nat.le_of_ble_eq_true rfl), (Nat.le_of_ble_eq_true rfl)⟩ rfl H (tI_elim (fun v2 h1 H hT => ?_))
  show gm_G _ 147 _ _ _ _
  refine g_if_eq rfl (pc' := 150) (pt := 153) rfl rfl ⟨fun hc => ?_, fun hc => ?_⟩
  · have H := H.1 hc
    refine g_iload rfl rfl rfl (pc' := 155) ?_
    refine g_if_ne rfl (pc' := 158) (pt := 160) rfl rfl ⟨fun hc => ?_, fun hc => ?_⟩
    · have H := H.1 hc
      refine g_aload (r := some _) rfl rfl rfl (pc' := 161) ?_
      refine g_iload rfl rfl rfl (pc' := 163) ?_
      refine g_aload (r := some _) rfl rfl rfl (pc' := 164) ?_
      refine t_get (o := 91) rfl hT rfl rfl rfl (pc' := 167) rfl ?_
      refine g_iload rfl rfl rfl (pc' := 168) ?_
      obtain ⟨n3, hn3, H⟩ := H
      refine t_iaload hT (o := 91) (l := 8) rfl rfl rfl hn3 (pc' := 169) rfl ?_
      refine g_iload rfl rfl rfl (pc' := 170) ?_
      refine g_iload rfl rfl rfl (pc' := 172) ?_
      refine t_call hT (y := 511) (n := 5) (pc' := 175) rfl rfl (t_vt hT rfl rfl) rfl rfl ⟨(Nat.le_of_ble_eq_true rfl), (Nat.le_of_ble_eq_true rfl), (Nat.le_of_ble_eq_true rfl)⟩ rfl H (tI_elim (fun v5 h4 H hT => ?_))
      show gm_G _ 175 _ _ _ _
      refine g_istore rfl rfl rfl (pc' := 177) ?_
      refine g_iload rfl rfl rfl (pc' := 179) ?_
      refine g_if_ge rfl (pc' := 182) (pt := 187) rfl rfl ⟨fun hc => ?_, fun hc => ?_⟩
      · have H := H.1 hc
        refine g_aload (r := some _) rfl rfl rfl (pc' := 188) ?_
        refine g_iload rfl rfl rfl (pc' := 190) ?_
        refine t_call hT (y := 468) (n := 2) (pc' := 193) rfl rfl (t_vt hT rfl rfl) rfl rfl ⟨(Nat.le_of_ble_eq_true rfl), (Nat.le_of_ble_eq_true rfl), (Nat.le_of_ble_eq_true rfl)⟩ rfl H (tI_elim (fun v7 h6 H hT => ?_))
        show gm_G _ 193 _ _ _ _
        exact g_ireturn rfl (Or.inl rfl) H
      · have H := H.2 hc
        refine g_iload rfl rfl rfl (pc' := 184) ?_
        refine g_goto rfl (pc' := 193) rfl ?_
        exact g_ireturn rfl (Or.inl rfl) H
    · have H := H.2 hc
      refine g_iconst rfl rfl rfl (pc' := 159) ?_
      exact g_ireturn rfl (Or.inl rfl) H
  · have H := H.2 hc
    refine g_iconst rfl rfl rfl (pc' := 152) ?_
    exact g_ireturn rfl (Or.inl rfl) H
theorem w_542_0 {m : Nat} {x1 : Int32} {x2 : Int32} {h : hh_T} {Q : Option Value ⊕ Nat → hh_T → Prop} (hT : tw_ok h m) (H : ∀ h1, h1 = hh_wi h m 2 (Int32.ofNat 0) → ((¬ (hh_i h1 m 77) = Int32.ofNat 0 → (((x2 &&& (Int32.ofNat 1)) = Int32.ofNat 0 → (gm_G 542 31 [some (.ref m), some (.int x1), some (.int x2), some (.int (hh_i h m 2))] [.int (Int32.ofNat 0)] h1 Q)) ∧ (¬ (x2 &&& (Int32.ofNat 1)) = Int32.ofNat 0 → (gm_G 542 31 [some (.ref m), some (.int x1), some (.int x2), some (.int (hh_i h m 2))] [.int (Int32.ofNat 1)] h1 Q)))) ∧ ((hh_i h1 m 77) = Int32.ofNat 0 → (Q (.inl (some (.int (Int32.ofInt (-9))))) h1)))) : gm_G 542 0 [some (.ref m), some (.int x1), some (.int x2)] [] h Q := by
  refine g_aload (r := some _) rfl rfl rfl (pc' := 1) ?_
  refine t_getI rfl hT rfl rfl (pc' := 4) rfl ?_
  refine g_istore rfl rfl rfl (pc' := 5) ?_
  refine g_aload (r := some _) rfl rfl rfl (pc' := 6) ?_
  refine g_iconst rfl rfl rfl (pc' := 7) ?_
  refine t_putI rfl hT rfl rfl  (pc' := 10) rfl (fun hT => ?_)
  have H := H _ rfl
  refine g_aload (r := some _) rfl rfl rfl (pc' := 11) ?_
  refine t_getZ rfl hT rfl rfl (pc' := 14) rfl ?_
  refine g_if_ne rfl (pc' := 17) (pt := 20) rfl rfl ⟨fun hc => ?_, fun hc => ?_⟩
  · have H := H.1 hc
    refine g_iload rfl rfl rfl (pc' := 21) ?_
    refine g_iconst rfl rfl rfl (pc' := 22) ?_
    refine g_iand rfl rfl (pc' := 23) ?_
    refine g_if_eq rfl (pc' := 26) (pt := 30) rfl rfl ⟨fun hc => ?_, fun hc => ?_⟩
    · have H := H.1 hc
      refine g_iconst rfl rfl rfl (pc' := 31) ?_
      exact g_weak (show gm_Lle [some _, some _, some _, some _] _ from ⟨rfl, ⟨rfl, ⟨rfl, ⟨rfl, trivial⟩⟩⟩⟩) H
    · have H := H.2 hc
      refine g_iconst rfl rfl rfl (pc' := 27) ?_
      refine g_goto rfl (pc' := 31) rfl ?_
      exact g_weak (show gm_Lle [some _, some _, some _, some _] _ from ⟨rfl, ⟨rfl, ⟨rfl, ⟨rfl, trivial⟩⟩⟩⟩) H
  · have H := H.2 hc
    refine g_iconst rfl rfl rfl (pc' := 19) ?_
    exact g_ireturn rfl (Or.inl rfl) H
theorem w_542_31 {m : Nat} {x1 : Int32} {x2 : Int32} {x3 : Int32} {y0 : Int32} {h : hh_T} {Q : Option Value ⊕ Nat → hh_T → Prop} (hT : tw_ok h m) (H : ((x2 &&& (Int32.ofNat 2)) = Int32.ofNat 0 → (gm_G 542 44 [some (.ref m), some (.int x1), some (.int x2), some (.int x3), some (.int y0)] [.int (Int32.ofNat 0)] h Q)) ∧ (¬ (x2 &&& (Int32.ofNat 2)) = Int32.ofNat 0 → (gm_G 542 44 [some (.ref m), some (.int x1), some (.int x2), some (.int x3), some (.int y0)] [.int (Int32.ofNat 1)] h Q))) : gm_G 542 31 [some (.ref m), some (.int x1), some (.int x2), some (.int x3)] [.int y0] h Q := by
  refine g_istore rfl rfl rfl (pc' := 33) ?_
  refine g_iload rfl rfl rfl (pc' := 34) ?_
  refine g_iconst rfl rfl rfl (pc' := 35) ?_
  refine g_iand rfl rfl (pc' := 36) ?_
  refine g_if_eq rfl (pc' := 39) (pt := 43) rfl rfl ⟨fun hc => ?_, fun hc => ?_⟩
  · have H := H.1 hc
    refine g_iconst rfl rfl rfl (pc' := 44) ?_
    exact g_weak (show gm_Lle [some _, some _, some _, some _, some _] _ from ⟨rfl, ⟨rfl, ⟨rfl, ⟨rfl, ⟨rfl, trivial⟩⟩⟩⟩⟩) H
  · have H := H.2 hc
    refine g_iconst rfl rfl rfl (pc' := 40) ?_
    refine g_goto rfl (pc' := 44) rfl ?_
    exact g_weak (show gm_Lle [some _, some _, some _, some _, some _] _ from ⟨rfl, ⟨rfl, ⟨rfl, ⟨rfl, ⟨rfl, trivial⟩⟩⟩⟩⟩) H
theorem w_542_44 {m : Nat} {x1 : Int32} {x2 : Int32} {x3 : Int32} {x4 : Int32} {y0 : Int32} {h : hh_T} {Q : Option Value ⊕ Nat → hh_T → Prop} (hT : tw_ok h m) (H : (x2 < (Int32.ofNat 1) → (Q (.inl (some (.int (Int32.ofInt (-1))))) h)) ∧ (¬ x2 < (Int32.ofNat 1) → (((Int32.ofNat 127) < x2 → (Q (.inl (some (.int (Int32.ofInt (-1))))) h)) ∧ (¬ (Int32.ofNat 127) < x2 → ((¬ x4 = Int32.ofNat 0 → (gm_G 542 67 [some (.ref m), some (.int x1), some (.int x2), some (.int x3), some (.int x4), some (.int y0)] [] h Q)) ∧ (x4 = Int32.ofNat 0 → ((y0 = Int32.ofNat 0 → (Q (.inl (some (.int (Int32.ofInt (-1))))) h)) ∧ (¬ y0 = Int32.ofNat 0 → (gm_G 542 67 [some (.ref m), some (.int x1), some (.int x2), some (.int x3), some (.int x4), some (.int y0)] [] h Q))))))))) : gm_G 542 44 [some (.ref m), some (.int x1), some (.int x2), some (.int x3), some (.int x4)] [.int y0] h Q := by
  refine g_istore rfl rfl rfl (pc' := 46) ?_
  refine g_iload rfl rfl rfl (pc' := 47) ?_
  refine g_iconst rfl rfl rfl (pc' := 48) ?_
  refine g_ic_lt rfl (pc' := 51) (pt := 88) rfl rfl ⟨fun hc => ?_, fun hc => ?_⟩
  · have H := H.1 hc
    refine g_iconst rfl rfl rfl (pc' := 89) ?_
    exact g_ireturn rfl (Or.inl rfl) H
  · have H := H.2 hc
    refine g_iload rfl rfl rfl (pc' := 52) ?_
    refine g_iconst rfl rfl rfl (pc' := 54) ?_
    refine g_ic_gt rfl (pc' := 57) (pt := 88) rfl rfl ⟨fun hc => ?_, fun hc => ?_⟩
    · have H := H.1 hc
      refine g_iconst rfl rfl rfl (pc' := 89) ?_
      exact g_ireturn rfl (Or.inl rfl) H
    · have H := H.2 hc
      refine g_iload rfl rfl rfl (pc' := 59) ?_
      refine g_if_ne rfl (pc' := 62) (pt := 67) rfl rfl ⟨fun hc => ?_, fun hc => ?_⟩
      · have H := H.1 hc
        exact g_weak (show gm_Lle [some _, some _, some _, some _, some _, some _] _ from ⟨rfl, ⟨rfl, ⟨rfl, ⟨rfl, ⟨rfl, ⟨rfl, trivial⟩⟩⟩⟩⟩⟩) H
      · have H := H.2 hc
        refine g_iload rfl rfl rfl (pc' := 64) ?_
        refine g_if_eq rfl (pc' := 67) (pt := 88) rfl rfl ⟨fun hc => ?_, fun hc => ?_⟩
        · have H := H.1 hc
          refine g_iconst rfl rfl rfl (pc' := 89) ?_
          exact g_ireturn rfl (Or.inl rfl) H
        · have H := H.2 hc
          exact g_weak (show gm_Lle [some _, some _, some _, some _, some _, some _] _ from ⟨rfl, ⟨rfl, ⟨rfl, ⟨rfl, ⟨rfl, ⟨rfl, trivial⟩⟩⟩⟩⟩⟩) H
