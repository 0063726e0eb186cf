/-! STAGE 2, 5: the twin, label by label (printed) -/
theorem w_470_45 {m : Nat} {x3 : Int32} {h : hh_T} {Q : Option Value ⊕ Nat → hh_T → Prop} (hT : tw_ok h m) (H : (¬ x3 < (Int32.ofNat 8) → (gm_G 470 66 [some (.ref m), none, none, some (.int (Int32.ofNat 0))] [] h Q)) ∧ (x3 < (Int32.ofNat 8) → (∃ n1, gm_ix x3 n1 8 ∧ (∀ h2, h2 = hh_wi h (m + 5) n1 (Int32.ofInt (-1)) → (gm_G 470 45 [some (.ref m), none, none, some (.int (x3 + (Int32.ofNat 1)))] [] h2 Q))))) : gm_G 470 45 [some (.ref m), none, none, some (.int x3)] [] h Q := by
  refine g_iload rfl rfl rfl (pc' := 46) ?_
  refine g_iconst rfl rfl rfl (pc' := 48) ?_
  refine g_ic_ge rfl (pc' := 51) (pt := 64) rfl rfl ⟨fun hc => ?_, fun hc => ?_⟩
  · have H := H.1 hc
    refine g_iconst rfl rfl rfl (pc' := 65) ?_
    refine g_istore rfl rfl rfl (pc' := 66) ?_
    exact g_weak (show gm_Lle [some _, none, none, some _] _ from ⟨rfl, ⟨rfl, trivial⟩⟩) H
  · have H := H.2 hc
    refine g_aload (r := some _) rfl rfl rfl (pc' := 52) ?_
    refine t_get (o := 5) rfl hT rfl rfl rfl (pc' := 55) rfl ?_
    refine g_iload rfl rfl rfl (pc' := 56) ?_
    refine g_iconst rfl rfl rfl (pc' := 57) ?_
    obtain ⟨n1, hn1, H⟩ := H
    refine t_iastore hT (o := 5) (l := 8) rfl rfl rfl hn1  (pc' := 58) rfl (fun hT => ?_)
    have H := H _ rfl
    refine g_iinc (c := (Int32.ofNat 1)) rfl rfl rfl rfl rfl (pc' := 61) ?_
    refine g_goto rfl (pc' := 45) rfl ?_
    exact g_weak (show gm_Lle [some _, none, none, some _] _ from ⟨rfl, ⟨rfl, trivial⟩⟩) H
theorem w_470_66 {m : Nat} {x3 : Int32} {h : hh_T} {Q : Option Value ⊕ Nat → hh_T → Prop} (hT : tw_ok h m) (H : (¬ x3 < (hh_i h m 19) → (gm_G 470 220 [some (.ref m), none, none, some (.int (Int32.ofNat 0))] [] h Q)) ∧ (x3 < (hh_i h m 19) → (∃ n1, gm_ix x3 n1 3 ∧ (∃ n2, gm_ix x3 n2 3 ∧ (∀ h3, h3 = hh_wi h (m + 11) n2 (hh_i h (m + 105) n1) → (∃ n4, gm_ix x3 n4 3 ∧ (∃ n5, gm_ix x3 n5 3 ∧ (∀ h6, h6 = hh_wi h3 (m + 12) n5 (hh_i h3 (m + 106) n4) → (∃ n7, gm_ix x3 n7 3 ∧ (∃ n8, gm_ix x3 n8 3 ∧ (∀ h9, h9 = hh_wi h6 (m + 13) n8 (hh_i h6 (m + 107) n7) → (∃ n10, gm_ix x3 n10 3 ∧ (∀ h11, h11 = hh_wi h9 (m + 14) n10 (Int32.ofNat 64) → (gm_G 470 121 [some (.ref m), none, none, some (.int x3), some (.int (Int32.ofNat 0))] [] h11 Q)))))))))))))) : gm_G 470 66 [some (.ref m), none, none, some (.int x3)] [] h Q := by
  refine g_iload rfl rfl rfl (pc' := 67) ?_
  refine g_aload (r := some _) rfl rfl rfl (pc' := 68) ?_
  refine t_getI rfl hT rfl rfl (pc' := 71) rfl ?_
  refine g_ic_ge rfl (pc' := 74) (pt := 218) rfl rfl ⟨fun hc => ?_, fun hc => ?_⟩
  · have H := H.1 hc
    refine g_iconst rfl rfl rfl (pc' := 219) ?_
    refine g_istore rfl rfl rfl (pc' := 220) ?_
    exact g_weak (show gm_Lle [some _, none, none, some _] _ from ⟨rfl, ⟨rfl, trivial⟩⟩) H
  · have H := H.2 hc
    refine g_aload (r := some _) rfl rfl rfl (pc' := 75) ?_
    refine t_get (o := 11) rfl hT rfl rfl rfl (pc' := 78) rfl ?_
    refine g_iload rfl rfl rfl (pc' := 79) ?_
    refine g_aload (r := some _) rfl rfl rfl (pc' := 80) ?_
    refine t_get (o := 105) rfl hT rfl rfl rfl (pc' := 83) rfl ?_
    refine g_iload rfl rfl rfl (pc' := 84) ?_
    obtain ⟨n1, hn1, H⟩ := H
    refine t_iaload hT (o := 105) (l := 3) rfl rfl rfl hn1 (pc' := 85) rfl ?_
    obtain ⟨n2, hn2, H⟩ := H
    refine t_iastore hT (o := 11) (l := 3) rfl rfl rfl hn2  (pc' := 86) rfl (fun hT => ?_)
    have H := H _ rfl
    refine g_aload (r := some _) rfl rfl rfl (pc' := 87) ?_
    refine t_get (o := 12) rfl hT rfl rfl rfl (pc' := 90) rfl ?_
    refine g_iload rfl rfl rfl (pc' := 91) ?_
    refine g_aload (r := some _) rfl rfl rfl (pc' := 92) ?_
    refine t_get (o := 106) rfl hT rfl rfl rfl (pc' := 95) rfl ?_
    refine g_iload rfl rfl rfl (pc' := 96) ?_
    obtain ⟨n4, hn4, H⟩ := H
    refine t_iaload hT (o := 106) (l := 3) rfl rfl rfl hn4 (pc' := 97) rfl ?_
    obtain ⟨n5, hn5, H⟩ := H
    refine t_iastore hT (o := 12) (l := 3) rfl rfl rfl hn5  (pc' := 98) rfl (fun hT => ?_)
    have H := H _ rfl
    refine g_aload (r := some _) rfl rfl rfl (pc' := 99) ?_
    refine t_get (o := 13) rfl hT rfl rfl rfl (pc' := 102) rfl ?_
    refine g_iload rfl rfl rfl (pc' := 103) ?_
    refine g_aload (r := some _) rfl rfl rfl (pc' := 104) ?_
    refine t_get (o := 107) rfl hT rfl rfl rfl (pc' := 107) rfl ?_
    refine g_iload rfl rfl rfl (pc' := 108) ?_
    obtain ⟨n7, hn7, H⟩ := H
    refine t_iaload hT (o := 107) (l := 3) rfl rfl rfl hn7 (pc' := 109) rfl ?_
    obtain ⟨n8, hn8, H⟩ := H
    refine t_iastore hT (o := 13) (l := 3) rfl rfl rfl hn8  (pc' := 110) rfl (fun hT => ?_)
    have H := H _ rfl
    refine g_aload (r := some _) rfl rfl rfl (pc' := 111) ?_
    refine t_get (o := 14) rfl hT rfl rfl rfl (pc' := 114) rfl ?_
    refine g_iload rfl rfl rfl (pc' := 115) ?_
    refine g_iconst rfl rfl rfl (pc' := 117) ?_
    obtain ⟨n10, hn10, H⟩ := H
    refine t_iastore hT (o := 14) (l := 3) rfl rfl rfl hn10  (pc' := 118) rfl (fun hT => ?_)
    have H := H _ rfl
    refine g_iconst rfl rfl rfl (pc' := 119) ?_
    refine g_istore rfl rfl rfl (pc' := 121) ?_
    exact g_weak (show gm_Lle [some _, none, none, some _, some _] _ from ⟨rfl, ⟨rfl, ⟨rfl, trivial⟩⟩⟩) H
theorem w_470_121 {m : Nat} {x3 : Int32} {x4 : Int32} {h : hh_T} {Q : Option Value ⊕ Nat → hh_T → Prop} (hT : tw_ok h m) (H : ∃ n1, gm_ix x3 n1 3 ∧ ((¬ x4 < (hh_i h (m + 13) n1) → (gm_G 470 66 [some (.ref m), none, none, some (.int (x3 + (Int32.ofNat 1)))] [] h Q)) ∧ (x4 < (hh_i h (m + 13) n1) → (∃ n2, gm_ix (((Int32.ofNat 6) * x3) + x4) n2 18 ∧ (∃ n3, gm_ix (((Int32.ofNat 6) * x3) + x4) n3 18 ∧ (∀ h4, h4 = hh_wi h (m + 15) n3 (hh_i h (m + 108) n2) → (∃ n5, gm_ix (hh_i h (m + 108) n2) n5 8 ∧ (∀ h6, h6 = hh_wi h4 (m + 5) n5 x3 → (∃ n7, gm_ix (hh_i h (m + 108) n2) n7 8 ∧ (∃ n8, gm_ix x3 n8 3 ∧ ((¬ (hh_i h6 (m + 4) n7) < (hh_i h6 (m + 14) n8) → (∃ n9, gm_ix x3 n9 3 ∧ (gm_G 470 205 [some (.ref m), none, none, some (.int x3), some (.int x4)] [.int (hh_i h6 (m + 14) n9), .int x3, .ref (m + 14)] h6 Q))) ∧ ((hh_i h6 (m + 4) n7) < (hh_i h6 (m + 14) n8) → (∃ n10, gm_ix (hh_i h (m + 108) n2) n10 8 ∧ (gm_G 470 205 [some (.ref m), none, none, some (.int x3), some (.int x4)] [.int (hh_i h6 (m + 4) n10), .int x3, .ref (m + 14)] h6 Q)))))))))))))) : gm_G 470 121 [some (.ref m), none, none, some (.int x3), some (.int x4)] [] h Q := by
  refine g_iload rfl rfl rfl (pc' := 123) ?_
  refine g_aload (r := some _) rfl rfl rfl (pc' := 124) ?_
  refine t_get (o := 13) rfl hT rfl rfl rfl (pc' := 127) rfl ?_
  refine g_iload rfl rfl rfl (pc' := 128) ?_
  obtain ⟨n1, hn1, H⟩ := H
  refine t_iaload hT (o := 13) (l := 3) rfl rfl rfl hn1 (pc' := 129) rfl ?_
  refine g_ic_ge rfl (pc' := 132) (pt := 212) rfl rfl ⟨fun hc => ?_, fun hc => ?_⟩
  · have H := H.1 hc
    refine g_iinc (c := (Int32.ofNat 1)) rfl rfl rfl rfl rfl (pc' := 215) ?_
    refine g_goto rfl (pc' := 66) rfl ?_
    exact g_weak (show gm_Lle [some _, none, none, some _] _ from ⟨rfl, ⟨rfl, trivial⟩⟩) H
  · have H := H.2 hc
    refine g_aload (r := some _) rfl rfl rfl (pc' := 133) ?_
    refine t_get (o := 108) rfl hT rfl rfl rfl (pc' := 136) rfl ?_
    refine g_iconst rfl rfl rfl (pc' := 138) ?_
    refine g_iload rfl rfl rfl (pc' := 139) ?_
    refine g_imul rfl rfl (pc' := 140) ?_
    refine g_iload rfl rfl rfl (pc' := 142) ?_
    refine g_iadd rfl rfl (pc' := 143) ?_
    obtain ⟨n2, hn2, H⟩ := H
    refine t_iaload hT (o := 108) (l := 18) rfl rfl rfl hn2 (pc' := 144) rfl ?_
    refine g_istore rfl rfl rfl (pc' := 146) ?_
    refine g_aload (r := some _) rfl rfl rfl (pc' := 147) ?_
    refine t_get (o := 15) rfl hT rfl rfl rfl (pc' := 150) rfl ?_
    refine g_iconst rfl rfl rfl (pc' := 152) ?_
    refine g_iload rfl rfl rfl (pc' := 153) ?_
    refine g_imul rfl rfl (pc' := 154) ?_
    refine g_iload rfl rfl rfl (pc' := 156) ?_
    refine g_iadd rfl rfl (pc' := 157) ?_
    refine g_iload rfl rfl rfl (pc' := 159) ?_
    obtain ⟨n3, hn3, H⟩ := H
    refine t_iastore hT (o := 15) (l := 18) rfl rfl rfl hn3  (pc' := 160) rfl (fun hT => ?_)
    have H := H _ rfl
    refine g_aload (r := some _) rfl rfl rfl (pc' := 161) ?_
    refine t_get (o := 5) rfl hT rfl rfl rfl (pc' := 164) rfl ?_
    refine g_iload rfl rfl rfl (pc' := 166) ?_
    refine g_iload rfl rfl rfl (pc' := 167) ?_
    obtain ⟨n5, hn5, H⟩ := H
    refine t_iastore hT (o := 5) (l := 8) rfl rfl rfl hn5  (pc' := 168) rfl (fun hT => ?_)
    have H := H _ rfl
    refine g_aload (r := some _) rfl rfl rfl (pc' := 169) ?_
    refine t_get (o := 14) rfl hT rfl rfl rfl (pc' := 172) rfl ?_
    refine g_iload rfl rfl rfl (pc' := 173) ?_
    refine g_aload (r := some _) rfl rfl rfl (pc' := 174) ?_
    refine t_get (o := 4) rfl hT rfl rfl rfl (pc' := 177) rfl ?_
    refine g_iload rfl rfl rfl (pc' := 179) ?_
    obtain ⟨n7, hn7, H⟩ := H
    refine t_iaload hT (o := 4) (l := 8) rfl rfl rfl hn7 (pc' := 180) rfl ?_
    refine g_aload (r := some _) rfl rfl rfl (pc' := 181) ?_
    refine t_get (o := 14) rfl hT rfl rfl rfl (pc' := 184) rfl ?_
    refine g_iload rfl rfl rfl (pc' := 185) ?_
    obtain ⟨n8, hn8, H⟩ := H
    refine t_iaload hT (o := 14) (l := 3) rfl rfl rfl hn8 (pc' := 186) rfl ?_
    refine g_ic_ge rfl (pc' := 189) (pt := 199) rfl rfl ⟨fun hc => ?_, fun hc => ?_⟩
    · have H := H.1 hc
      refine g_aload (r := some _) rfl rfl rfl (pc' := 200) ?_
      refine t_get (o := 14) rfl hT rfl rfl rfl (pc' := 203) rfl ?_
      refine g_iload rfl rfl rfl (pc' := 204) ?_
      obtain ⟨n9, hn9, H⟩ := H
      refine t_iaload hT (o := 14) (l := 3) rfl rfl rfl hn9 (pc' := 205) rfl ?_
      exact g_weak (show gm_Lle [some _, none, none, some _, some _] _ from ⟨rfl, ⟨rfl, ⟨rfl, trivial⟩⟩⟩) H
    · have H := H.2 hc
      refine g_aload (r := some _) rfl rfl rfl (pc' := 190) ?_
      refine t_get (o := 4) rfl hT rfl rfl rfl (pc' := 193) rfl ?_
      refine g_iload rfl rfl rfl (pc' := 195) ?_
      obtain ⟨n10, hn10, H⟩ := H
      refine t_iaload hT (o := 4) (l := 8) rfl rfl rfl hn10 (pc' := 196) rfl ?_
      refine g_goto rfl (pc' := 205) rfl ?_
      exact g_weak (show gm_Lle [some _, none, none, some _, some _] _ from ⟨rfl, ⟨rfl, ⟨rfl, trivial⟩⟩⟩) H
theorem w_470_205 {m : Nat} {x3 : Int32} {x4 : Int32} {y0 : Int32} {y1 : Int32} {h : hh_T} {Q : Option Value ⊕ Nat → hh_T → Prop} (hT : tw_ok h m) (H : ∃ n1, gm_ix y1 n1 3 ∧ (∀ h2, h2 = hh_wi h (m + 14) n1 y0 → (gm_G 470 121 [some (.ref m), none, none, some (.int x3), some (.int (x4 + (Int32.ofNat 1)))] [] h2 Q))) : gm_G 470 205 [some (.ref m), none, none, some (.int x3), some (.int x4)] [.int y0, .int y1, .ref (m + 14)] h Q := by
  obtain ⟨n1, hn1, H⟩ := H
  refine t_iastore hT (o := 14) (l := 3) rfl rfl rfl hn1  (pc' := 206) rfl (fun hT => ?_)
  have H := H _ rfl
  refine g_iinc (c := (Int32.ofNat 1)) rfl rfl rfl rfl rfl (pc' := 209) ?_
  refine g_goto rfl (pc' := 121) rfl ?_
  exact g_weak (show gm_Lle [some _, none, none, some _, some _] _ from ⟨rfl, ⟨rfl, ⟨rfl, trivial⟩⟩⟩) H
theorem w_470_220 {m : Nat} {x3 : Int32} {h : hh_T} {Q : Option Value ⊕ Nat → hh_T → Prop} (hT : tw_ok h m) (H : (¬ x3 < (Int32.ofNat 512) → (∀ h1, h1 = hh_wi h m 76 (Int32.ofNat 1) → (∀ h2, h2 = hh_wi h1 m 77 (Int32.ofNat 1) → (∀ h3, h3 = hh_wi h2 m 99 (Int32.ofNat 0) → (∀ h4, h4 = hh_wi h3 m 100 (Int32.ofNat 0) → (gm_G 470 262 [some (.ref m), none, none, some (.int (Int32.ofNat 0))] [] h4 Q)))))) ∧ (x3 < (Int32.ofNat 512) → (∃ n5, gm_ix x3 n5 512 ∧ (∀ h6, h6 = hh_wi h (m + 9) n5 (Int32.ofNat 0) → (gm_G 470 220 [some (.ref m), none, none, some (.int (x3 + (Int32.ofNat 1)))] [] h6 Q))))) : gm_G 470 220 [some (.ref m), none, none, some (.int x3)] [] h Q := by
  refine g_iload rfl rfl rfl (pc' := 221) ?_
  refine g_iconst rfl rfl rfl (pc' := 224) ?_
  refine g_ic_ge rfl (pc' := 227) (pt := 240) rfl rfl ⟨fun hc => ?_, fun hc => ?_⟩
  · have H := H.1 hc
    refine g_aload (r := some _) rfl rfl rfl (pc' := 241) ?_
    refine g_iconst rfl rfl rfl (pc' := 242) ?_
    refine t_putZ rfl hT rfl rfl (by decide) (pc' := 245) rfl (fun hT => ?_)
    have H := H _ rfl
    refine g_aload (r := some _) rfl rfl rfl (pc' := 246) ?_
    refine g_iconst rfl rfl rfl (pc' := 247) ?_
    refine t_putZ rfl hT rfl rfl (by decide) (pc' := 250) rfl (fun hT => ?_)
    have H := H _ rfl
    refine g_aload (r := some _) rfl rfl rfl (pc' := 251) ?_
    refine g_iconst rfl rfl rfl (pc' := 252) ?_
    refine t_putI rfl hT rfl rfl  (pc' := 255) rfl (fun hT => ?_)
    have H := H _ rfl
    refine g_aload (r := some _) rfl rfl rfl (pc' := 256) ?_
    refine g_iconst rfl rfl rfl (pc' := 257) ?_
    refine t_putI rfl hT rfl rfl  (pc' := 260) rfl (fun hT => ?_)
    have H := H _ rfl
    refine g_iconst rfl rfl rfl (pc' := 261) ?_
    refine g_istore rfl rfl rfl (pc' := 262) ?_
    exact g_weak (show gm_Lle [some _, none, none, some _] _ from ⟨rfl, ⟨rfl, trivial⟩⟩) H
  · have H := H.2 hc
    refine g_aload (r := some _) rfl rfl rfl (pc' := 228) ?_
    refine t_get (o := 9) rfl hT rfl rfl rfl (pc' := 231) rfl ?_
    refine g_iload rfl rfl rfl (pc' := 232) ?_
    refine g_iconst rfl rfl rfl (pc' := 233) ?_
    obtain ⟨n5, hn5, H⟩ := H
    refine t_zastore hT (o := 9) (l := 512) rfl rfl rfl hn5 (by decide) (pc' := 234) rfl (fun hT => ?_)
    have H := H _ rfl
    refine g_iinc (c := (Int32.ofNat 1)) rfl rfl rfl rfl rfl (pc' := 237) ?_
    refine g_goto rfl (pc' := 220) rfl ?_
    exact g_weak (show gm_Lle [some _, none, none, some _] _ from ⟨rfl, ⟨rfl, trivial⟩⟩) H
theorem w_470_262 {m : Nat} {x3 : Int32} {h : hh_T} {Q : Option Value ⊕ Nat → hh_T → Prop} (hT : tw_ok h m) (H : (¬ x3 < (Int32.ofNat 8) → (∀ h1, h1 = hh_wi h m 139 (Int32.ofInt (-1)) → (gm_G 470 295 [some (.ref m), none, none, some (.int (Int32.ofNat 0))] [] h1 Q))) ∧ (x3 < (Int32.ofNat 8) → (∃ n2, gm_ix x3 n2 8 ∧ (∀ h3, h3 = hh_wi h (m + 80) n2 (Int32.ofNat 0) → (∃ n4, gm_ix x3 n4 8 ∧ (∀ h5, h5 = hh_wi h3 (m + 81) n4 (Int32.ofNat 0) → (gm_G 470 262 [some (.ref m), none, none, some (.int (x3 + (Int32.ofNat 1)))] [] h5 Q))))))) : gm_G 470 262 [some (.ref m), none, none, some (.int x3)] [] h Q := by
  refine g_iload rfl rfl rfl (pc' := 263) ?_
  refine g_iconst rfl rfl rfl (pc' := 265) ?_
  refine g_ic_ge rfl (pc' := 268) (pt := 288) rfl rfl ⟨fun hc => ?_, fun hc => ?_⟩
  · have H := H.1 hc
    refine g_aload (r := some _) rfl rfl rfl (pc' := 289) ?_
    refine g_iconst rfl rfl rfl (pc' := 290) ?_
    refine t_putI rfl hT rfl rfl  (pc' := 293) rfl (fun hT => ?_)
    have H := H _ rfl
    refine g_iconst rfl rfl rfl (pc' := 294) ?_
    refine g_istore rfl rfl rfl (pc' := 295) ?_
    exact g_weak (show gm_Lle [some _, none, none, some _] _ from ⟨rfl, ⟨rfl, trivial⟩⟩) H
  · have H := H.2 hc
    refine g_aload (r := some _) rfl rfl rfl (pc' := 269) ?_
    refine t_get (o := 80) rfl hT rfl rfl rfl (pc' := 272) rfl ?_
    refine g_iload rfl rfl rfl (pc' := 273) ?_
    refine g_iconst rfl rfl rfl (pc' := 274) ?_
    obtain ⟨n2, hn2, H⟩ := H
    refine t_iastore hT (o := 80) (l := 8) rfl rfl rfl hn2  (pc' := 275) rfl (fun hT => ?_)
    have H := H _ rfl
    refine g_aload (r := some _) rfl rfl rfl (pc' := 276) ?_
    refine t_get (o := 81) rfl hT rfl rfl rfl (pc' := 279) rfl ?_
    refine g_iload rfl rfl rfl (pc' := 280) ?_
    refine g_iconst rfl rfl rfl (pc' := 281) ?_
    obtain ⟨n4, hn4, H⟩ := H
    refine t_iastore hT (o := 81) (l := 8) rfl rfl rfl hn4  (pc' := 282) rfl (fun hT => ?_)
    have H := H _ rfl
    refine g_iinc (c := (Int32.ofNat 1)) rfl rfl rfl rfl rfl (pc' := 285) ?_
    refine g_goto rfl (pc' := 262) rfl ?_
    exact g_weak (show gm_Lle [some _, none, none, some _] _ from ⟨rfl, ⟨rfl, trivial⟩⟩) H
theorem w_470_295 {m : Nat} {x3 : Int32} {h : hh_T} {Q : Option Value ⊕ Nat → hh_T → Prop} (hT : tw_ok h m) (H : (¬ x3 < (Int32.ofNat 8) → (gm_G 470 316 [some (.ref m), none, none, some (.int (Int32.ofNat 0))] [] h Q)) ∧ (x3 < (Int32.ofNat 8) → (∃ n1, gm_ix x3 n1 32 ∧ (∀ h2, h2 = hh_wi h (m + 59) n1 (Int32.ofInt (-1)) → (gm_G 470 295 [some (.ref m), none, none, some (.int (x3 + (Int32.ofNat 1)))] [] h2 Q))))) : gm_G 470 295 [some (.ref m), none, none, some (.int x3)] [] h Q := by
  refine g_iload rfl rfl rfl (pc' := 296) ?_
  refine g_iconst rfl rfl rfl (pc' := 298) ?_
  refine g_ic_ge rfl (pc' := 301) (pt := 314) rfl rfl ⟨fun hc => ?_, fun hc => ?_⟩
  · have H := H.1 hc
    refine g_iconst rfl rfl rfl (pc' := 315) ?_
    refine g_istore rfl rfl rfl (pc' := 316) ?_
    exact g_weak (show gm_Lle [some _, none, none, some _] _ from ⟨rfl, ⟨rfl, trivial⟩⟩) H
  · have H := H.2 hc
    refine g_aload (r := some _) rfl rfl rfl (pc' := 302) ?_
    refine t_get (o := 59) rfl hT rfl rfl rfl (pc' := 305) rfl ?_
    refine g_iload rfl rfl rfl (pc' := 306) ?_
    refine g_iconst rfl rfl rfl (pc' := 307) ?_
    obtain ⟨n1, hn1, H⟩ := H
    refine t_iastore hT (o := 59) (l := 32) rfl rfl rfl hn1  (pc' := 308) rfl (fun hT => ?_)
    have H := H _ rfl
    refine g_iinc (c := (Int32.ofNat 1)) rfl rfl rfl rfl rfl (pc' := 311) ?_
    refine g_goto rfl (pc' := 295) rfl ?_
    exact g_weak (show gm_Lle [some _, none, none, some _] _ from ⟨rfl, ⟨rfl, trivial⟩⟩) H
theorem w_470_316 {m : Nat} {x3 : Int32} {h : hh_T} {Q : Option Value ⊕ Nat → hh_T → Prop} (hT : tw_ok h m) (H : (¬ x3 < (Int32.ofNat 12) → (∀ h1, h1 = hh_wi h (m + 76) 0 (Int32.ofNat 1) → (∀ h2, h2 = hh_wi h1 (m + 77) 0 (Int32.ofNat 0) → (gm_G 134 0 [some (.ref m), some (.int (Int32.ofNat 0)), some (.int (Int32.ofNat 0)), some (.int (Int32.ofInt (-2))), some (.int (Int32.ofNat 0)), some (.int (Int32.ofInt (-1)))] [] h2 (pV (fun h3 => ∀ h4, h4 = hh_wi h3 (m + 64) 0 (Int32.ofNat 0) → (gm_G 292 0 [some (.ref m), some (.int (Int32.ofNat 0)), some (.int (Int32.ofNat 0))] [] h4 (pV (fun h5 => ∀ h6, h6 = hh_wi h5 (m + 63) 0 (Int32.ofNat 0) → (gm_G 422 0 [some (.ref m)] [] h6 (pV (fun h7 => gm_G 440 0 [some (.ref m)] [] h7 (pI (fun v9 h8 => (¬ v9 < Int32.ofNat 0 → (Q (.inl (some (.int (hh_i h8 m 19)))) h8)) ∧ (v9 < Int32.ofNat 0 → (Q (.inl (some (.int v9))) h8))) (fun _ _ => False))) (fun _ _ => False)))) (fun _ _ => False)))) (fun _ _ => False)))))) ∧ (x3 < (Int32.ofNat 12) → (∃ n10, gm_ix x3 n10 48 ∧ (∀ h11, h11 = hh_wi h (m + 69) n10 (Int32.ofInt (-1)) → (gm_G 470 316 [some (.ref m), none, none, some (.int (x3 + (Int32.ofNat 1)))] [] h11 Q))))) : gm_G 470 316 [some (.ref m), none, none, some (.int x3)] [] h Q := by
  refine g_iload rfl rfl rfl (pc' := 317) ?_
  refine g_iconst rfl rfl rfl (pc' := 319) ?_
  refine g_ic_ge rfl (pc' := 322) (pt := 335) rfl rfl ⟨fun hc => ?_, fun hc => ?_⟩
  · have H := H.1 hc
    refine g_aload (r := some _) rfl rfl rfl (pc' := 336) ?_
    refine t_get (o := 76) rfl hT rfl rfl rfl (pc' := 339) rfl ?_
    refine g_iconst rfl rfl rfl (pc' := 340) ?_
    refine g_iconst rfl rfl rfl (pc' := 341) ?_
    refine t_iastore hT (o := 76) (l := 4) rfl rfl rfl ⟨rfl, by decide, by decide⟩  (pc' := 342) rfl (fun hT => ?_)
    have H := H _ rfl
    refine g_aload (r := some _) rfl rfl rfl (pc' := 343) ?_
    refine t_get (o := 77) rfl hT rfl rfl rfl (pc' := 346) rfl ?_
    refine g_iconst rfl rfl rfl (pc' := 347) ?_
    refine g_iconst rfl rfl rfl (pc' := 348) ?_
    refine t_iastore hT (o := 77) (l := 4) rfl rfl rfl ⟨rfl, by decide, by decide⟩  (pc' := 349) rfl (fun hT => ?_)
    have H := H _ rfl
    refine g_aload (r := some _) rfl rfl rfl (pc' := 350) ?_
    refine g_iconst rfl rfl rfl (pc' := 351) ?_
    refine g_iconst rfl rfl rfl (pc' := 352) ?_
    refine g_iconst rfl rfl rfl (pc' := 354) ?_
    refine g_iconst rfl rfl rfl (pc' := 355) ?_
    refine g_iconst rfl rfl rfl (pc' := 356) ?_
    refine t_call hT (y := 134) (n := 6) (pc' := 359) rfl rfl (t_vt hT rfl rfl) rfl rfl ⟨(Nat.le_of_ble_eq_true rfl), (Nat.le_of_ble_eq_true rfl), (Nat.le_of_ble_eq_true rfl)⟩ rfl H (tV_elim (fun h3 H hT => ?_))
    show gm_G _ 359 _ _ _ _
    refine g_aload (r := some _) rfl rfl rfl (pc' := 360) ?_
    refine t_get (o := 64) rfl hT rfl rfl rfl (pc' := 363) rfl ?_
    refine g_iconst rfl rfl rfl (pc' := 364) ?_
    refine g_iconst rfl rfl rfl (pc' := 365) ?_
    refine t_iastore hT (o := 64) (l := 32) rfl rfl rfl ⟨rfl, by decide, by decide⟩  (pc' := 366) rfl (fun hT => ?_)
    have H := H _ rfl
    refine g_aload (r := some _) rfl rfl rfl (pc' := 367) ?_
    refine g_iconst rfl rfl rfl (pc' := 368) ?_
    refine g_iconst rfl rfl rfl (pc' := 369) ?_
    refine t_call hT (y := 292) (n := 3) (pc' := 372) rfl rfl (t_vt hT rfl rfl) rfl rfl ⟨(Nat.le_of_ble_eq_true rfl), (Nat.le_of_ble_eq_true rfl), (Nat.le_of_ble_eq_true rfl)⟩ rfl H (tV_elim (fun h5 H hT => ?_))
    show gm_G _ 372 _ _ _ _
    refine g_aload (r := some _) rfl rfl rfl (pc' := 373) ?_
    refine t_get (o := 63) rfl hT rfl rfl rfl (pc' := 376) rfl ?_
    refine g_iconst rfl rfl rfl (pc' := 377) ?_
    refine g_iconst rfl rfl rfl (pc' := 378) ?_
    refine t_iastore hT (o := 63) (l := 32) rfl rfl rfl ⟨rfl, by decide, by decide⟩  (pc' := 379) rfl (fun hT => ?_)
    have H := H _ rfl
    refine g_aload (r := some _) rfl rfl rfl (pc' := 380) ?_
    refine t_call hT (y := 422) (n := 1) (pc' := 383) rfl rfl (t_vt hT rfl rfl) rfl rfl ⟨(Nat.le_of_ble_eq_true rfl), (Nat.le_of_ble_eq_true rfl), (Nat.le_of_ble_eq_true rfl)⟩ rfl H (tV_elim (fun h7 H hT => ?_))
    show gm_G _ 383 _ _ _ _
    refine g_aload (r := some _) rfl rfl rfl (pc' := 384) ?_
    refine t_call hT (y := 440) (n := 1) (pc' := 387) rfl rfl (t_vt hT rfl rfl) rfl rfl ⟨(Nat.le_of_ble_eq_true rfl), (Nat.le_of_ble_eq_true rfl), (Nat.le_of_ble_eq_true rfl)⟩ rfl H (tI_elim (fun v9 h8 H hT => ?_))
    show gm_G _ 387 _ _ _ _
    refine g_istore rfl rfl rfl (pc' := 388) ?_
    refine g_iload rfl rfl rfl (pc' := 389) ?_
    refine g_if_ge rfl (pc' := 392) (pt := 396) rfl rfl ⟨fun hc => ?_, fun hc => ?_⟩
    · have H := H.1 hc
      refine g_aload (r := some _) rfl rfl rfl (pc' := 397) ?_
      refine t_getI rfl hT rfl rfl (pc' := 400) rfl ?_
      exact g_ireturn rfl (Or.inl rfl) H
    · have H := H.2 hc
      refine g_iload rfl rfl rfl (pc' := 393) ?_
      refine g_goto rfl (pc' := 400) rfl ?_
      exact g_ireturn rfl (Or.inl rfl) H
  · have H := H.2 hc
    refine g_aload (r := some _) rfl rfl rfl (pc' := 323) ?_
    refine t_get (o := 69) rfl hT rfl rfl rfl (pc' := 326) rfl ?_
    refine g_iload rfl rfl rfl (pc' := 327) ?_
    refine g_iconst rfl rfl rfl (pc' := 328) ?_
    obtain ⟨n10, hn10, H⟩ := H
    refine t_iastore hT (o := 69) (l := 48) rfl rfl rfl hn10  (pc' := 329) rfl (fun hT => ?_)
    have H := H _ rfl
    refine g_iinc (c := (Int32.ofNat 1)) rfl rfl rfl rfl rfl (pc' := 332) ?_
    refine g_goto rfl (pc' := 316) rfl ?_
    exact g_weak (show gm_Lle [some _, none, none, some _] _ from ⟨rfl, ⟨rfl, trivial⟩⟩) H
theorem w_471_0 {m : Nat} {x1 : Int32} {h : hh_T} {Q : Option Value ⊕ Nat → hh_T → Prop} (hT : tw_ok h m) (H : (¬ (hh_i h m 77) = Int32.ofNat 0 → (gm_G 152 0 [some (.ref m), some (.int x1)] [] h (pI (fun v2 h1 => (¬ v2 < Int32.ofNat 0 → (∃ n3, gm_ix v2 n3 32 ∧ ((¬ (hh_i h1 (m + 62) n3) < Int32.ofNat 0 → (∃ n4, gm_ix v2 n4 32 ∧ (gm_G 153 0 [some (.ref m), some (.int (hh_i h1 (m + 62) n4))] [] h1 (pI (fun v6 h5 => ∃ n7, gm_ix v6 n7 48 ∧ (gm_G 152 0 [some (.ref m), some (.int (hh_i h5 (m + 70) n7))] [] h5 (pI (fun v9 h8 => ∃ n10, gm_ix v6 n10 48 ∧ (gm_G 471 75 [some (.ref m), some (.int x1), some (.int v2), none, some (.int (hh_i h5 (m + 70) n7)), some (.int v9), some (.int ((hh_i h8 (m + 71) n10) + (Int32.ofNat 1))), some (.int (Int32.ofNat 0))] [] h8 Q)) (fun _ _ => False)))) (fun _ _ => False))))) ∧ ((hh_i h1 (m + 62) n3) < Int32.ofNat 0 → (Q (.inl (some (.int (Int32.ofInt (-10))))) h1))))) ∧ (v2 < Int32.ofNat 0 → (Q (.inl (some (.int (Int32.ofInt (-2))))) h1))) (fun _ _ => False)))) ∧ ((hh_i h m 77) = Int32.ofNat 0 → (Q (.inl (some (.int (Int32.ofInt (-9))))) h))) : gm_G 471 0 [some (.ref m), some (.int x1)] [] h Q := by
  refine g_aload (r := some _) rfl rfl rfl (pc' := 1) ?_
  refine t_getZ rfl hT rfl rfl (pc' := 4) rfl ?_
  refine g_if_ne rfl (pc' := 7) (pt := 10) rfl rfl ⟨fun hc => ?_, fun hc => ?_⟩
  · have H := H.1 hc
    refine g_aload (r := some _) rfl rfl rfl (pc' := 11) ?_
    refine g_iload rfl rfl rfl (pc' := 12) ?_
    refine t_call hT (y := 152) (n := 2) (pc' := 15) rfl rfl (t_vt hT rfl rfl) rfl rfl ⟨(Nat.le_of_ble_eq_true rfl), (Nat.le_of_ble_eq_true rfl), (Nat.le_of_ble_eq_true rfl)⟩ rfl H (tI_elim (fun v2 h1 H hT => ?_))
    show gm_G _ 15 _ _ _ _
    refine g_istore rfl rfl rfl (pc' := 16) ?_
    refine g_iload rfl rfl rfl (pc' := 17) ?_
    refine g_if_ge rfl (pc' := 20) (pt := 23) rfl rfl ⟨fun hc => ?_, fun hc => ?_⟩
    · have H := H.1 hc
      refine g_aload (r := some _) rfl rfl rfl (pc' := 24) ?_
      refine t_get (o := 62) rfl hT rfl rfl rfl (pc' := 27) rfl ?_
      refine g_iload rfl rfl rfl (pc' := 28) ?_
      obtain ⟨n3, hn3, H⟩ := H
      refine t_iaload hT (o := 62) (l := 32) rfl rfl rfl hn3 (pc' := 29) rfl ?_
      refine g_if_ge rfl (pc' := 32) (pt := 35) rfl rfl ⟨fun hc => ?_, fun hc => ?_⟩
      · have H := H.1 hc
        refine g_aload (r := some _) rfl rfl rfl (pc' := 36) ?_
        refine g_aload (r := some _) rfl rfl rfl (pc' := 37) ?_
        refine t_get (o := 62) rfl hT rfl rfl rfl (pc' := 40) rfl ?_
        refine g_iload rfl rfl rfl (pc' := 41) ?_
        obtain ⟨n4, hn4, H⟩ := H
        refine t_iaload hT (o := 62) (l := 32) rfl rfl rfl hn4 (pc' := 42) rfl ?_
        refine t_call hT (y := 153) (n := 2) (pc' := 45) rfl rfl (t_vt hT rfl rfl) rfl rfl ⟨(Nat.le_of_ble_eq_true rfl), (Nat.le_of_ble_eq_true rfl), (Nat.le_of_ble_eq_true rfl)⟩ rfl H (tI_elim (fun v6 h5 H hT => ?_))
        show gm_G _ 45 _ _ _ _
        refine g_istore rfl rfl rfl (pc' := 46) ?_
        refine g_aload (r := some _) rfl rfl rfl (pc' := 47) ?_
        refine t_get (o := 70) rfl hT rfl rfl rfl (pc' := 50) rfl ?_
        refine g_iload rfl rfl rfl (pc' := 51) ?_
        obtain ⟨n7, hn7, H⟩ := H
        refine t_iaload hT (o := 70) (l := 48) rfl rfl rfl hn7 (pc' := 52) rfl ?_
        refine g_istore rfl rfl rfl (pc' := 54) ?_
        refine g_aload (r := some _) rfl rfl rfl (pc' := 55) ?_
        refine g_iload rfl rfl rfl (pc' := 57) ?_
        refine t_call hT (y := 152) (n := 2) (pc' := 60) rfl rfl (t_vt hT rfl rfl) rfl rfl ⟨(Nat.le_of_ble_eq_true rfl), (Nat.le_of_ble_eq_true rfl), (Nat.le_of_ble_eq_true rfl)⟩ rfl H (tI_elim (fun v9 h8 H hT => ?_))
        show gm_G _ 60 _ _ _ _
        refine g_istore rfl rfl rfl (pc' := 62) ?_
        refine g_aload (r := some _) rfl rfl rfl (pc' := 63) ?_
        refine t_get (o := 71) rfl hT rfl rfl rfl (pc' := 66) rfl ?_
        refine g_iload rfl rfl rfl (pc' := 67) ?_
        obtain ⟨n10, hn10, H⟩ := H
        refine t_iaload hT (o := 71) (l := 48) rfl rfl rfl hn10 (pc' := 68) rfl ?_
        refine g_iconst rfl rfl rfl (pc' := 69) ?_
        refine g_iadd rfl rfl (pc' := 70) ?_
        refine g_istore rfl rfl rfl (pc' := 72) ?_
        refine g_iconst rfl rfl rfl (pc' := 73) ?_
        refine g_istore rfl rfl rfl (pc' := 75) ?_
        exact g_weak (show gm_Lle [some _, some _, some _, none, some _, some _, some _, some _] _ from ⟨rfl, ⟨rfl, ⟨rfl, ⟨rfl, ⟨rfl, ⟨rfl, ⟨rfl, trivial⟩⟩⟩⟩⟩⟩⟩) H
      · have H := H.2 hc
        refine g_iconst rfl rfl rfl (pc' := 34) ?_
        exact g_ireturn rfl (Or.inl rfl) H
    · have H := H.2 hc
      refine g_iconst rfl rfl rfl (pc' := 22) ?_
      exact g_ireturn rfl (Or.inl rfl) H
  · have H := H.2 hc
    refine g_iconst rfl rfl rfl (pc' := 9) ?_
    exact g_ireturn rfl (Or.inl rfl) H
theorem w_471_75 {m : Nat} {x1 : Int32} {x2 : Int32} {x4 : Int32} {x5 : Int32} {x6 : Int32} {x7 : Int32} {h : hh_T} {Q : Option Value ⊕ Nat → hh_T → Prop} (hT : tw_ok h m) (H : (¬ x7 < x6 → (gm_G 471 128 [some (.ref m), some (.int x1), some (.int x2), none, some (.int x4), some (.int x5), some (.int x6), some (.int (Int32.ofNat 0))] [] h Q)) ∧ (x7 < x6 → (gm_G 154 0 [some (.ref m), some (.int x4), some (.int x7)] [] h (pI (fun v2 h1 => ∃ n3, gm_ix v2 n3 48 ∧ (gm_G 155 0 [some (.ref m), some (.int x1), some (.ref (m + 68)), some (.int ((Int32.ofNat 8) * v2)), some (.int (hh_i h1 (m + 75) n3))] [] h1 (pI (fun v5 h4 => (v5 < Int32.ofNat 0 → (gm_G 471 75 [some (.ref m), some (.int x1), some (.int x2), none, some (.int x4), some (.int x5), some (.int x6), some (.int (x7 + (Int32.ofNat 1)))] [] h4 Q)) ∧ (¬ v5 < Int32.ofNat 0 → (Q (.inl (some (.int (Int32.ofInt (-4))))) h4))) (fun _ _ => False)))) (fun _ _ => False))))) : gm_G 471 75 [some (.ref m), some (.int x1), some (.int x2), none, some (.int x4), some (.int x5), some (.int x6), some (.int x7)] [] h Q := by
  refine g_iload rfl rfl rfl (pc' := 77) ?_
  refine g_iload rfl rfl rfl (pc' := 79) ?_
  refine g_ic_ge rfl (pc' := 82) (pt := 125) rfl rfl ⟨fun hc => ?_, fun hc => ?_⟩
  · have H := H.1 hc
    refine g_iconst rfl rfl rfl (pc' := 126) ?_
    refine g_istore rfl rfl rfl (pc' := 128) ?_
    exact g_weak (show gm_Lle [some _, some _, some _, none, some _, some _, some _, some _] _ from ⟨rfl, ⟨rfl, ⟨rfl, ⟨rfl, ⟨rfl, ⟨rfl, ⟨rfl, trivial⟩⟩⟩⟩⟩⟩⟩) H
  · have H := H.2 hc
    refine g_aload (r := some _) rfl rfl rfl (pc' := 83) ?_
    refine g_iload rfl rfl rfl (pc' := 85) ?_
    refine g_iload rfl rfl rfl (pc' := 87) ?_
    refine t_call hT (y := 154) (n := 3) (pc' := 90) rfl rfl (t_vt hT rfl rfl) rfl rfl ⟨(Nat.le_of_ble_eq_true rfl), (Nat.le_of_ble_eq_true rfl), (Nat.le_of_ble_eq_true rfl)⟩ rfl H (tI_elim (fun v2 h1 H hT => ?_))
    show gm_G _ 90 _ _ _ _
    refine g_istore rfl rfl rfl (pc' := 92) ?_
    refine g_aload (r := some _) rfl rfl rfl (pc' := 93) ?_
    refine g_iload rfl rfl rfl (pc' := 94) ?_
    refine g_aload (r := some _) rfl rfl rfl (pc' := 95) ?_
    refine t_get (o := 68) rfl hT rfl rfl rfl (pc' := 98) rfl ?_
    refine g_iconst rfl rfl rfl (pc' := 100) ?_
    refine g_iload rfl rfl rfl (pc' := 102) ?_
    refine g_imul rfl rfl (pc' := 103) ?_
    refine g_aload (r := some _) rfl rfl rfl (pc' := 104) ?_
    refine t_get (o := 75) rfl hT rfl rfl rfl (pc' := 107) rfl ?_
    refine g_iload rfl rfl rfl (pc' := 109) ?_
    obtain ⟨n3, hn3, H⟩ := H
    refine t_iaload hT (o := 75) (l := 48) rfl rfl rfl hn3 (pc' := 110) rfl ?_
    refine t_call hT (y := 155) (n := 5) (pc' := 113) rfl rfl (t_vt hT rfl rfl) rfl rfl ⟨(Nat.le_of_ble_eq_true rfl), (Nat.le_of_ble_eq_true rfl), (Nat.le_of_ble_eq_true rfl)⟩ rfl H (tI_elim (fun v5 h4 H hT => ?_))
    show gm_G _ 113 _ _ _ _
    refine g_if_lt rfl (pc' := 116) (pt := 119) rfl rfl ⟨fun hc => ?_, fun hc => ?_⟩
    · have H := H.1 hc
      refine g_iinc (c := (Int32.ofNat 1)) rfl rfl rfl rfl rfl (pc' := 122) ?_
      refine g_goto rfl (pc' := 75) rfl ?_
      exact g_weak (show gm_Lle [some _, some _, some _, none, some _, some _, some _, some _] _ from ⟨rfl, ⟨rfl, ⟨rfl, ⟨rfl, ⟨rfl, ⟨rfl, ⟨rfl, trivial⟩⟩⟩⟩⟩⟩⟩) H
    · have H := H.2 hc
      refine g_iconst rfl rfl rfl (pc' := 118) ?_
      exact g_ireturn rfl (Or.inl rfl) H
theorem w_471_128 {m : Nat} {x1 : Int32} {x2 : Int32} {x4 : Int32} {x5 : Int32} {x6 : Int32} {x7 : Int32} {h : hh_T} {Q : Option Value ⊕ Nat → hh_T → Prop} (hT : tw_ok h m) (H : (¬ x7 < (Int32.ofNat 12) → (gm_G 471 177 [some (.ref m), some (.int x1), some (.int x2), none, some (.int x4), some (.int x5), some (.int x6), some (.int (Int32.ofNat 0))] [] h Q)) ∧ (x7 < (Int32.ofNat 12) → (∃ n1, gm_ix x7 n1 48 ∧ (((hh_i h (m + 69) n1) < Int32.ofNat 0 → (gm_G 471 168 [some (.ref m), some (.int x1), some (.int x2), none, some (.int x4), some (.int x5), some (.int x6), some (.int x7)] [] h Q)) ∧ (¬ (hh_i h (m + 69) n1) < Int32.ofNat 0 → (∃ n2, gm_ix x7 n2 48 ∧ ((¬ (hh_i h (m + 70) n2) = x1 → (gm_G 471 168 [some (.ref m), some (.int x1), some (.int x2), none, some (.int x4), some (.int x5), some (.int x6), some (.int x7)] [] h Q)) ∧ ((hh_i h (m + 70) n2) = x1 → (∃ n3, gm_ix x7 n3 48 ∧ (∃ n4, gm_ix x7 n4 48 ∧ (∀ h5, h5 = hh_wi h (m + 71) n4 ((hh_i h (m + 71) n3) + x6) → (gm_G 471 168 [some (.ref m), some (.int x1), some (.int x2), none, some (.int x4), some (.int x5), some (.int x6), some (.int x7)] [] h5 Q)))))))))))) : gm_G 471 128 [some (.ref m), some (.int x1), some (.int x2), none, some (.int x4), some (.int x5), some (.int x6), some (.int x7)] [] h Q := by
  refine g_iload rfl rfl rfl (pc' := 130) ?_
  refine g_iconst rfl rfl rfl (pc' := 132) ?_
  refine g_ic_ge rfl (pc' := 135) (pt := 174) rfl rfl ⟨fun hc => ?_, fun hc => ?_⟩
  · have H := H.1 hc
    refine g_iconst rfl rfl rfl (pc' := 175) ?_
    refine g_istore rfl rfl rfl (pc' := 177) ?_
    exact g_weak (show gm_Lle [some _, some _, some _, none, some _, some _, some _, some _] _ from ⟨rfl, ⟨rfl, ⟨rfl, ⟨rfl, ⟨rfl, ⟨rfl, ⟨rfl, trivial⟩⟩⟩⟩⟩⟩⟩) H
  · have H := H.2 hc
    refine g_aload (r := some _) rfl rfl rfl (pc' := 136) ?_
    refine t_get (o := 69) rfl hT rfl rfl rfl (pc' := 139) rfl ?_
    refine g_iload rfl rfl rfl (pc' := 141) ?_
    obtain ⟨n1, hn1, H⟩ := H
    refine t_iaload hT (o := 69) (l := 48) rfl rfl rfl hn1 (pc' := 142) rfl ?_
    refine g_if_lt rfl (pc' := 145) (pt := 168) rfl rfl ⟨fun hc => ?_, fun hc => ?_⟩
    · have H := H.1 hc
      exact g_weak (show gm_Lle [some _, some _, some _, none, some _, some _, some _, some _] _ from ⟨rfl, ⟨rfl, ⟨rfl, ⟨rfl, ⟨rfl, ⟨rfl, ⟨rfl, trivial⟩⟩⟩⟩⟩⟩⟩) H
    · have H := H.2 hc
      refine g_aload (r := some _) rfl rfl rfl (pc' := 146) ?_
      refine t_get (o := 70) rfl hT rfl rfl rfl (pc' := 149) rfl ?_
      refine g_iload rfl rfl rfl (pc' := 151) ?_
      obtain ⟨n2, hn2, H⟩ := H
      refine t_iaload hT (o := 70) (l := 48) rfl rfl rfl hn2 (pc' := 152) rfl ?_
      refine g_iload rfl rfl rfl (pc' := 153) ?_
      refine g_ic_ne rfl (pc' := 156) (pt := 168) rfl rfl ⟨fun hc => ?_, fun hc => ?_⟩
      · have H := H.1 hc
        exact g_weak (show gm_Lle [some _, some _, some _, none, some _, some _, some _, some _] _ from ⟨rfl, ⟨rfl, ⟨rfl, ⟨rfl, ⟨rfl, ⟨rfl, ⟨rfl, trivial⟩⟩⟩⟩⟩⟩⟩) H
      · have H := H.2 hc
        refine g_aload (r := some _) rfl rfl rfl (pc' := 157) ?_
        refine t_get (o := 71) rfl hT rfl rfl rfl (pc' := 160) rfl ?_
        refine g_iload rfl rfl rfl (pc' := 162) ?_
        refine g_dup2_a rfl (pc' := 163) rfl ?_
        obtain ⟨n3, hn3, H⟩ := H
        refine t_iaload hT (o := 71) (l := 48) rfl rfl rfl hn3 (pc' := 164) rfl ?_
        refine g_iload rfl rfl rfl (pc' := 166) ?_
        refine g_iadd rfl rfl (pc' := 167) ?_
        obtain ⟨n4, hn4, H⟩ := H
        refine t_iastore hT (o := 71) (l := 48) rfl rfl rfl hn4  (pc' := 168) rfl (fun hT => ?_)
        have H := H _ rfl
        exact g_weak (show gm_Lle [some _, some _, some _, none, some _, some _, some _, some _] _ from ⟨rfl, ⟨rfl, ⟨rfl, ⟨rfl, ⟨rfl, ⟨rfl, ⟨rfl, trivial⟩⟩⟩⟩⟩⟩⟩) H
theorem w_471_168 {m : Nat} {x1 : Int32} {x2 : Int32} {x4 : Int32} {x5 : Int32} {x6 : Int32} {x7 : Int32} {h : hh_T} {Q : Option Value ⊕ Nat → hh_T → Prop} (hT : tw_ok h m) (H : gm_G 471 128 [some (.ref m), some (.int x1), some (.int x2), none, some (.int x4), some (.int x5), some (.int x6), some (.int (x7 + (Int32.ofNat 1)))] [] h Q) : gm_G 471 168 [some (.ref m), some (.int x1), some (.int x2), none, some (.int x4), some (.int x5), some (.int x6), some (.int x7)] [] h Q := by
  refine g_iinc (c := (Int32.ofNat 1)) rfl rfl rfl rfl rfl (pc' := 171) ?_
  refine g_goto rfl (pc' := 128) rfl ?_
  exact g_weak (show gm_Lle [some _, some _, some _, none, some _, some _, some _, some _] _ from ⟨rfl, ⟨rfl, ⟨rfl, ⟨rfl, ⟨rfl, ⟨rfl, ⟨rfl, trivial⟩⟩⟩⟩⟩⟩⟩) H
theorem w_471_177 {m : Nat} {x1 : Int32} {x2 : Int32} {x4 : Int32} {x5 : Int32} {x6 : Int32} {x7 : Int32} {h : hh_T} {Q : Option Value ⊕ Nat → hh_T → Prop} (hT : tw_ok h m) (H : (¬ x7 < (Int32.ofNat 12) → (∃ n1, gm_ix x2 n1 32 ∧ (∃ n2, gm_ix x5 n2 32 ∧ (∃ n3, gm_ix x2 n3 32 ∧ (∀ h4, h4 = hh_wi h (m + 62) n3 (hh_i h (m + 62) n2) → (∃ n5, gm_ix x5 n5 32 ∧ (∀ h6, h6 = hh_wi h4 (m + 62) n5 (hh_i h (m + 62) n1) → (gm_G 440 0 [some (.ref m)] [] h6 (pI (fun v8 h7 => (¬ v8 < Int32.ofNat 0 → (Q (.inl (some (.int x6))) h7)) ∧ (v8 < Int32.ofNat 0 → (Q (.inl (some (.int v8))) h7))) (fun _ _ => False)))))))))) ∧ (x7 < (Int32.ofNat 12) → (∃ n9, gm_ix x7 n9 48 ∧ (((hh_i h (m + 69) n9) < Int32.ofNat 0 → (gm_G 471 244 [some (.ref m), some (.int x1), some (.int x2), none, some (.int x4), some (.int x5), some (.int x6), some (.int x7)] [] h Q)) ∧ (¬ (hh_i h (m + 69) n9) < Int32.ofNat 0 → (∃ n10, gm_ix x7 n10 48 ∧ (((hh_i h (m + 70) n10) = x4 → (∃ n11, gm_ix x7 n11 48 ∧ ((¬ (hh_i h (m + 71) n11) < x6 → (∃ n12, gm_ix x7 n12 48 ∧ (∃ n13, gm_ix x7 n13 48 ∧ (∀ h14, h14 = hh_wi h (m + 71) n13 ((hh_i h (m + 71) n12) - x6) → (gm_G 471 244 [some (.ref m), some (.int x1), some (.int x2), none, some (.int x4), some (.int x5), some (.int x6), some (.int x7)] [] h14 Q))))) ∧ ((hh_i h (m + 71) n11) < x6 → (∃ n15, gm_ix x7 n15 48 ∧ (∀ h16, h16 = hh_wi h (m + 70) n15 x1 → (gm_G 471 244 [some (.ref m), some (.int x1), some (.int x2), none, some (.int x4), some (.int x5), some (.int x6), some (.int x7)] [] h16 Q))))))) ∧ (¬ (hh_i h (m + 70) n10) = x4 → (gm_G 471 244 [some (.ref m), some (.int x1), some (.int x2), none, some (.int x4), some (.int x5), some (.int x6), some (.int x7)] [] h Q))))))))) : gm_G 471 177 [some (.ref m), some (.int x1), some (.int x2), none, some (.int x4), some (.int x5), some (.int x6), some (.int x7)] [] h Q := by
  refine g_iload rfl rfl rfl (pc' := 179) ?_
  refine g_iconst rfl rfl rfl (pc' := 181) ?_
  refine g_ic_ge rfl (pc' := 184) (pt := 250) rfl rfl ⟨fun hc => ?_, fun hc => ?_⟩
  · have H := H.1 hc
    refine g_aload (r := some _) rfl rfl rfl (pc' := 251) ?_
    refine t_get (o := 62) rfl hT rfl rfl rfl (pc' := 254) rfl ?_
    refine g_iload rfl rfl rfl (pc' := 255) ?_
    obtain ⟨n1, hn1, H⟩ := H
    refine t_iaload hT (o := 62) (l := 32) rfl rfl rfl hn1 (pc' := 256) rfl ?_
    refine g_istore rfl rfl rfl (pc' := 258) ?_
    refine g_aload (r := some _) rfl rfl rfl (pc' := 259) ?_
    refine t_get (o := 62) rfl hT rfl rfl rfl (pc' := 262) rfl ?_
    refine g_iload rfl rfl rfl (pc' := 263) ?_
    refine g_aload (r := some _) rfl rfl rfl (pc' := 264) ?_
    refine t_get (o := 62) rfl hT rfl rfl rfl (pc' := 267) rfl ?_
    refine g_iload rfl rfl rfl (pc' := 269) ?_
    obtain ⟨n2, hn2, H⟩ := H
    refine t_iaload hT (o := 62) (l := 32) rfl rfl rfl hn2 (pc' := 270) rfl ?_
    obtain ⟨n3, hn3, H⟩ := H
    refine t_iastore hT (o := 62) (l := 32) rfl rfl rfl hn3  (pc' := 271) rfl (fun hT => ?_)
    have H := H _ rfl
    refine g_aload (r := some _) rfl rfl rfl (pc' := 272) ?_
    refine t_get (o := 62) rfl hT rfl rfl rfl (pc' := 275) rfl ?_
    refine g_iload rfl rfl rfl (pc' := 277) ?_
    refine g_iload rfl rfl rfl (pc' := 279) ?_
    obtain ⟨n5, hn5, H⟩ := H
    refine t_iastore hT (o := 62) (l := 32) rfl rfl rfl hn5  (pc' := 280) rfl (fun hT => ?_)
    have H := H _ rfl
    refine g_aload (r := some _) rfl rfl rfl (pc' := 281) ?_
    refine t_call hT (y := 440) (n := 1) (pc' := 284) rfl rfl (t_vt hT rfl rfl) rfl rfl ⟨(Nat.le_of_ble_eq_true rfl), (Nat.le_of_ble_eq_true rfl), (Nat.le_of_ble_eq_true rfl)⟩ rfl H (tI_elim (fun v8 h7 H hT => ?_))
    show gm_G _ 284 _ _ _ _
    refine g_istore rfl rfl rfl (pc' := 286) ?_
    refine g_iload rfl rfl rfl (pc' := 288) ?_
    refine g_if_ge rfl (pc' := 291) (pt := 296) rfl rfl ⟨fun hc => ?_, fun hc => ?_⟩
    · have H := H.1 hc
      refine g_iload rfl rfl rfl (pc' := 298) ?_
      exact g_ireturn rfl (Or.inl rfl) H
    · have H := H.2 hc
      refine g_iload rfl rfl rfl (pc' := 293) ?_
      refine g_goto rfl (pc' := 298) rfl ?_
      exact g_ireturn rfl (Or.inl rfl) H
  · have H := H.2 hc
    refine g_aload (r := some _) rfl rfl rfl (pc' := 185) ?_
    refine t_get (o := 69) rfl hT rfl rfl rfl (pc' := 188) rfl ?_
    refine g_iload rfl rfl rfl (pc' := 190) ?_
    obtain ⟨n9, hn9, H⟩ := H
    refine t_iaload hT (o := 69) (l := 48) rfl rfl rfl hn9 (pc' := 191) rfl ?_
    refine g_if_lt rfl (pc' := 194) (pt := 244) rfl rfl ⟨fun hc => ?_, fun hc => ?_⟩
    · have H := H.1 hc
      exact g_weak (show gm_Lle [some _, some _, some _, none, some _, some _, some _, some _] _ from ⟨rfl, ⟨rfl, ⟨rfl, ⟨rfl, ⟨rfl, ⟨rfl, ⟨rfl, trivial⟩⟩⟩⟩⟩⟩⟩) H
    · have H := H.2 hc
      refine g_aload (r := some _) rfl rfl rfl (pc' := 195) ?_
      refine t_get (o := 70) rfl hT rfl rfl rfl (pc' := 198) rfl ?_
      refine g_iload rfl rfl rfl (pc' := 200) ?_
      obtain ⟨n10, hn10, H⟩ := H
      refine t_iaload hT (o := 70) (l := 48) rfl rfl rfl hn10 (pc' := 201) rfl ?_
      refine g_iload rfl rfl rfl (pc' := 203) ?_
      refine g_ic_eq rfl (pc' := 206) (pt := 209) rfl rfl ⟨fun hc => ?_, fun hc => ?_⟩
      · have H := H.1 hc
        refine g_aload (r := some _) rfl rfl rfl (pc' := 210) ?_
        refine t_get (o := 71) rfl hT rfl rfl rfl (pc' := 213) rfl ?_
        refine g_iload rfl rfl rfl (pc' := 215) ?_
        obtain ⟨n11, hn11, H⟩ := H
        refine t_iaload hT (o := 71) (l := 48) rfl rfl rfl hn11 (pc' := 216) rfl ?_
        refine g_iload rfl rfl rfl (pc' := 218) ?_
        refine g_ic_ge rfl (pc' := 221) (pt := 232) rfl rfl ⟨fun hc => ?_, fun hc => ?_⟩
        · have H := H.1 hc
          refine g_aload (r := some _) rfl rfl rfl (pc' := 233) ?_
          refine t_get (o := 71) rfl hT rfl rfl rfl (pc' := 236) rfl ?_
          refine g_iload rfl rfl rfl (pc' := 238) ?_
          refine g_dup2_a rfl (pc' := 239) rfl ?_
          obtain ⟨n12, hn12, H⟩ := H
          refine t_iaload hT (o := 71) (l := 48) rfl rfl rfl hn12 (pc' := 240) rfl ?_
          refine g_iload rfl rfl rfl (pc' := 242) ?_
          refine g_isub rfl rfl (pc' := 243) ?_
          obtain ⟨n13, hn13, H⟩ := H
          refine t_iastore hT (o := 71) (l := 48) rfl rfl rfl hn13  (pc' := 244) rfl (fun hT => ?_)
          have H := H _ rfl
          exact g_weak (show gm_Lle [some _, some _, some _, none, some _, some _, some _, some _] _ from ⟨rfl, ⟨rfl, ⟨rfl, ⟨rfl, ⟨rfl, ⟨rfl, ⟨rfl, trivial⟩⟩⟩⟩⟩⟩⟩) H
        · have H := H.2 hc
          refine g_aload (r := some _) rfl rfl rfl (pc' := 222) ?_
          refine t_get (o := 70) rfl hT rfl rfl rfl (pc' := 225) rfl ?_
          refine g_iload rfl rfl rfl (pc' := 227) ?_
          refine g_iload rfl rfl rfl (pc' := 228) ?_
          obtain ⟨n15, hn15, H⟩ := H
          refine t_iastore hT (o := 70) (l := 48) rfl rfl rfl hn15  (pc' := 229) rfl (fun hT => ?_)
          have H := H _ rfl
          refine g_goto rfl (pc' := 244) rfl ?_
          exact g_weak (show gm_Lle [some _, some _, some _, none, some _, some _, some _, some _] _ from ⟨rfl, ⟨rfl, ⟨rfl, ⟨rfl, ⟨rfl, ⟨rfl, ⟨rfl, trivial⟩⟩⟩⟩⟩⟩⟩) H
      · have H := H.2 hc
        refine g_goto rfl (pc' := 244) rfl ?_
        exact g_weak (show gm_Lle [some _, some _, some _, none, some _, some _, some _, some _] _ from ⟨rfl, ⟨rfl, ⟨rfl, ⟨rfl, ⟨rfl, ⟨rfl, ⟨rfl, trivial⟩⟩⟩⟩⟩⟩⟩) H
theorem w_471_244 {m : Nat} {x1 : Int32} {x2 : Int32} {x4 : Int32} {x5 : Int32} {x6 : Int32} {x7 : Int32} {h : hh_T} {Q : Option Value ⊕ Nat → hh_T → Prop} (hT : tw_ok h m) (H : gm_G 471 177 [some (.ref m), some (.int x1), some (.int x2), none, some (.int x4), some (.int x5), some (.int x6), some (.int (x7 + (Int32.ofNat 1)))] [] h Q) : gm_G 471 244 [some (.ref m), some (.int x1), some (.int x2), none, some (.int x4), some (.int x5), some (.int x6), some (.int x7)] [] h Q := by
  refine g_iinc (c := (Int32.ofNat 1)) rfl rfl rfl rfl rfl (pc' := 247) ?_
  refine g_goto rfl (pc' := 177) rfl ?_
  exact g_weak (show gm_Lle [some _, some _, some _, none, some _, some _, some _, some _] _ from ⟨rfl, ⟨rfl, ⟨rfl, ⟨rfl, ⟨rfl, ⟨rfl, ⟨rfl, trivial⟩⟩⟩⟩⟩⟩⟩) H
theorem w_472_0 {m : Nat} {x1 : Int32} {x2 : Int32} {x3 : Int32} {h : hh_T} {Q : Option Value ⊕ Nat → hh_T → Prop} (hT : tw_ok h m) (H : (¬ (hh_i h m 77) = Int32.ofNat 0 → ((x2 < (Int32.ofInt (-1)) → (Q (.inl (some (.int (Int32.ofInt (-1))))) h)) ∧ (¬ x2 < (Int32.ofInt (-1)) → (((Int32.ofNat 7) < x2 → (Q (.inl (some (.int (Int32.ofInt (-1))))) h)) ∧ (¬ (Int32.ofNat 7) < x2 → ((x3 < (Int32.ofInt (-1)) → (Q (.inl (some (.int (Int32.ofInt (-1))))) h)) ∧ (¬ x3 < (Int32.ofInt (-1)) → ((¬ (Int32.ofNat 100000) < x3 → (gm_G 152 0 [some (.ref m), some (.int x1)] [] h (pI (fun v2 h1 => (¬ v2 < Int32.ofNat 0 → (∃ n3, gm_ix ((((Int32.ofNat 9) * v2) + (Int32.ofNat 1)) + x2) n3 288 ∧ (∀ h4, h4 = hh_wi h1 (m + 66) n3 x3 → (gm_G 440 0 [some (.ref m)] [] h4 (pI (fun v6 h5 => (¬ v6 < Int32.ofNat 0 → (Q (.inl (some (.int (Int32.ofNat 0)))) h5)) ∧ (v6 < Int32.ofNat 0 → (Q (.inl (some (.int v6))) h5))) (fun _ _ => False)))))) ∧ (v2 < Int32.ofNat 0 → (Q (.inl (some (.int (Int32.ofInt (-2))))) h1))) (fun _ _ => False)))) ∧ ((Int32.ofNat 100000) < x3 → (Q (.inl (some (.int (Int32.ofInt (-1))))) h)))))))))) ∧ ((hh_i h m 77) = Int32.ofNat 0 → (Q (.inl (some (.int (Int32.ofInt (-9))))) h))) : gm_G 472 0 [some (.ref m), some (.int x1), some (.int x2), some (.int x3)] [] h Q := by
  refine g_aload (r := some _) rfl rfl rfl (pc' := 1) ?_
  refine t_getZ rfl hT rfl rfl (pc' := 4) rfl ?_
  refine g_if_ne rfl (pc' := 7) (pt := 10) rfl rfl ⟨fun hc => ?_, fun hc => ?_⟩
  · have H := H.1 hc
    refine g_iload rfl rfl rfl (pc' := 11) ?_
    refine g_iconst rfl rfl rfl (pc' := 12) ?_
    refine g_ic_lt rfl (pc' := 15) (pt := 33) rfl rfl ⟨fun hc => ?_, fun hc => ?_⟩
    · have H := H.1 hc
      refine g_iconst rfl rfl rfl (pc' := 34) ?_
      exact g_ireturn rfl (Or.inl rfl) H
    · have H := H.2 hc
      refine g_iload rfl rfl rfl (pc' := 16) ?_
      refine g_iconst rfl rfl rfl (pc' := 18) ?_
      refine g_ic_gt rfl (pc' := 21) (pt := 33) rfl rfl ⟨fun hc => ?_, fun hc => ?_⟩
      · have H := H.1 hc
        refine g_iconst rfl rfl rfl (pc' := 34) ?_
        exact g_ireturn rfl (Or.inl rfl) H
      · have H := H.2 hc
        refine g_iload rfl rfl rfl (pc' := 22) ?_
        refine g_iconst rfl rfl rfl (pc' := 23) ?_
        refine g_ic_lt rfl (pc' := 26) (pt := 33) rfl rfl ⟨fun hc => ?_, fun hc => ?_⟩
        · have H := H.1 hc
          refine g_iconst rfl rfl rfl (pc' := 34) ?_
          exact g_ireturn rfl (Or.inl rfl) H
        · have H := H.2 hc
          refine g_iload rfl rfl rfl (pc' := 27) ?_
          refine g_iconst rfl rfl rfl (pc' := 30) ?_
          refine g_ic_le rfl (pc' := 33) (pt := 35) rfl rfl ⟨fun hc => ?_, fun hc => ?_⟩
          · have H := H.1 hc
            refine g_aload (r := some _) rfl rfl rfl (pc' := 36) ?_
            refine g_iload rfl rfl rfl (pc' := 37) ?_
            refine t_call hT (y := 152) (n := 2) (pc' := 40) rfl rfl (t_vt hT rfl rfl) rfl rfl ⟨(Nat.le_of_ble_eq_true rfl), (Nat.le_of_ble_eq_true rfl), (Nat.le_of_ble_eq_true rfl)⟩ rfl H (tI_elim (fun v2 h1 H hT => ?_))
            show gm_G _ 40 _ _ _ _
            refine g_istore rfl rfl rfl (pc' := 42) ?_
            refine g_iload rfl rfl rfl (pc' := 44) ?_
            refine g_if_ge rfl (pc' := 47) (pt := 50) rfl rfl ⟨fun hc => ?_, fun hc => ?_⟩
            · have H := H.1 hc
              refine g_aload (r := some _) rfl rfl rfl (pc' := 51) ?_
              refine t_get (o := 66) rfl hT rfl rfl rfl (pc' := 54) rfl ?_
              refine g_iconst rfl rfl rfl (pc' := 56) ?_
              refine g_iload rfl rfl rfl (pc' := 58) ?_
              refine g_imul rfl rfl (pc' := 59) ?_
              refine g_iconst rfl rfl rfl (pc' := 60) ?_
              refine g_iadd rfl rfl (pc' := 61) ?_
              refine g_iload rfl rfl rfl (pc' := 62) ?_
              refine g_iadd rfl rfl (pc' := 63) ?_
              refine g_iload rfl rfl rfl (pc' := 64) ?_
              obtain ⟨n3, hn3, H⟩ := H
              refine t_iastore hT (o := 66) (l := 288) rfl rfl rfl hn3  (pc' := 65) rfl (fun hT => ?_)
              have H := H _ rfl
              refine g_aload (r := some _) rfl rfl rfl (pc' := 66) ?_
              refine t_call hT (y := 440) (n := 1) (pc' := 69) rfl rfl (t_vt hT rfl rfl) rfl rfl ⟨(Nat.le_of_ble_eq_true rfl), (Nat.le_of_ble_eq_true rfl), (Nat.le_of_ble_eq_true rfl)⟩ rfl H (tI_elim (fun v6 h5 H hT => ?_))
              show gm_G _ 69 _ _ _ _
              refine g_istore rfl rfl rfl (pc' := 71) ?_
              refine g_iload rfl rfl rfl (pc' := 73) ?_
              refine g_if_ge rfl (pc' := 76) (pt := 81) rfl rfl ⟨fun hc => ?_, fun hc => ?_⟩
              · have H := H.1 hc
                refine g_iconst rfl rfl rfl (pc' := 82) ?_
                exact g_ireturn rfl (Or.inl rfl) H
              · have H := H.2 hc
                refine g_iload rfl rfl rfl (pc' := 78) ?_
                refine g_goto rfl (pc' := 82) rfl ?_
                exact g_ireturn rfl (Or.inl rfl) H
            · have H := H.2 hc
              refine g_iconst rfl rfl rfl (pc' := 49) ?_
              exact g_ireturn rfl (Or.inl rfl) H
          · have H := H.2 hc
            refine g_iconst rfl rfl rfl (pc' := 34) ?_
            exact g_ireturn rfl (Or.inl rfl) H
  · have H := H.2 hc
    refine g_iconst rfl rfl rfl (pc' := 9) ?_
    exact g_ireturn rfl (Or.inl rfl) H
theorem w_473_0 {m : Nat} {x1 : Int32} {h : hh_T} {Q : Option Value ⊕ Nat → hh_T → Prop} (hT : tw_ok h m) (H : gm_G 116 0 [some (.ref m), some (.int x1)] [] h (pI (fun v2 h1 => (v2 = Int32.ofNat 0 → (gm_G 473 15 [some (.ref m), some (.int x1)] [] h1 Q)) ∧ (¬ v2 = Int32.ofNat 0 → ((¬ v2 = (Int32.ofNat 1) → (gm_G 441 0 [some (.ref m), some (.int x1)] [] h1 (pI (fun v4 h3 => (v4 = (Int32.ofInt (-12)) → (gm_G 473 91 [some (.ref m), some (.int x1), some (.int v2), some (.int v4)] [] h3 Q)) ∧ (¬ v4 = (Int32.ofInt (-12)) → (∀ h5, h5 = hh_wi h3 m 48 ((hh_i h3 m 48) + (Int32.ofNat 1)) → (gm_G 473 91 [some (.ref m), some (.int x1), some (.int v2), some (.int v4)] [] h5 Q)))) (fun _ _ => False)))) ∧ (v2 = (Int32.ofNat 1) → (gm_G 473 15 [some (.ref m), some (.int x1)] [] h1 Q))))) (fun _ _ => False))) : gm_G 473 0 [some (.ref m), some (.int x1)] [] h Q := by
  refine g_aload (r := some _) rfl rfl rfl (pc' := 1) ?_
  refine g_iload rfl rfl rfl (pc' := 2) ?_
  refine t_call hT (y := 116) (n := 2) (pc' := 5) rfl rfl (t_vt hT rfl rfl) rfl rfl ⟨(Nat.le_of_ble_eq_true rfl), (Nat.le_of_ble_eq_true rfl), (Nat.le_of_ble_eq_true rfl)⟩ rfl H (tI_elim (fun v2 h1 H hT => ?_))
  show gm_G _ 5 _ _ _ _
  refine g_istore rfl rfl rfl (pc' := 6) ?_
  refine g_iload rfl rfl rfl (pc' := 7) ?_
  refine g_if_eq rfl (pc' := 10) (pt := 15) rfl rfl ⟨fun hc => ?_, fun hc => ?_⟩
  · have H := H.1 hc
    exact g_weak (show gm_Lle [some _, some _] _ from ⟨rfl, ⟨rfl, trivial⟩⟩) H
  · have H := H.2 hc
    refine g_iload rfl rfl rfl (pc' := 11) ?_
    refine g_iconst rfl rfl rfl (pc' := 12) ?_
    refine g_ic_ne rfl (pc' := 15) (pt := 69) rfl rfl ⟨fun hc => ?_, fun hc => ?_⟩
    · have H := H.1 hc
      refine g_aload (r := some _) rfl rfl rfl (pc' := 70) ?_
      refine g_iload rfl rfl rfl (pc' := 71) ?_
      refine t_call hT (y := 441) (n := 2) (pc' := 74) rfl rfl (t_vt hT rfl rfl) rfl rfl ⟨(Nat.le_of_ble_eq_true rfl), (Nat.le_of_ble_eq_true rfl), (Nat.le_of_ble_eq_true rfl)⟩ rfl H (tI_elim (fun v4 h3 H hT => ?_))
      show gm_G _ 74 _ _ _ _
      refine g_istore rfl rfl rfl (pc' := 75) ?_
      refine g_iload rfl rfl rfl (pc' := 76) ?_
      refine g_iconst rfl rfl rfl (pc' := 78) ?_
      refine g_ic_eq rfl (pc' := 81) (pt := 91) rfl rfl ⟨fun hc => ?_, fun hc => ?_⟩
      · have H := H.1 hc
        exact g_weak (show gm_Lle [some _, some _, some _, some _] _ from ⟨rfl, ⟨rfl, ⟨rfl, ⟨rfl, trivial⟩⟩⟩⟩) H
      · have H := H.2 hc
        refine g_aload (r := some _) rfl rfl rfl (pc' := 82) ?_
        refine g_dup_a (r := some _) rfl rfl (pc' := 83) ?_
        refine t_getI rfl hT rfl rfl (pc' := 86) rfl ?_
        refine g_iconst rfl rfl rfl (pc' := 87) ?_
        refine g_iadd rfl rfl (pc' := 88) ?_
        refine t_putI rfl hT rfl rfl  (pc' := 91) rfl (fun hT => ?_)
        have H := H _ rfl
        exact g_weak (show gm_Lle [some _, some _, some _, some _] _ from ⟨rfl, ⟨rfl, ⟨rfl, ⟨rfl, trivial⟩⟩⟩⟩) H
    · have H := H.2 hc
      exact g_weak (show gm_Lle [some _, some _] _ from ⟨rfl, ⟨rfl, trivial⟩⟩) H
theorem w_473_15 {m : Nat} {x1 : Int32} {h : hh_T} {Q : Option Value ⊕ Nat → hh_T → Prop} (hT : tw_ok h m) (H : ∀ h1, h1 = hh_wi h m 47 ((hh_i h m 47) + (Int32.ofNat 1)) → (gm_G 129 0 [some (.ref m), some (.int x1)] [] h1 (pV (fun h2 => gm_G 97 0 [some (.ref m), some (.int (Int32.ofNat 1)), some (.int x1)] [] h2 (pV (fun h3 => gm_G 473 38 [some (.ref m), some (.int x1), none, some (.int (Int32.ofNat 0))] [] h3 Q) (fun _ _ => False))) (fun _ _ => False)))) : gm_G 473 15 [some (.ref m), some (.int x1)] [] h Q := by
  refine g_aload (r := some _) rfl rfl rfl (pc' := 16) ?_
  refine g_dup_a (r := some _) rfl rfl (pc' := 17) ?_
  refine t_getI rfl hT rfl rfl (pc' := 20) rfl ?_
  refine g_iconst rfl rfl rfl (pc' := 21) ?_
  refine g_iadd rfl rfl (pc' := 22) ?_
  refine t_putI rfl hT rfl rfl  (pc' := 25) rfl (fun hT => ?_)
  have H := H _ rfl
  refine g_aload (r := some _) rfl rfl rfl (pc' := 26) ?_
  refine g_iload rfl rfl rfl (pc' := 27) ?_
  refine t_call hT (y := 129) (n := 2) (pc' := 30) rfl rfl (t_vt hT rfl rfl) rfl rfl ⟨(Nat.le_of_ble_eq_true rfl), (Nat.le_of_ble_eq_true rfl), (Nat.le_of_ble_eq_true rfl)⟩ rfl H (tV_elim (fun h2 H hT => ?_))
  show gm_G _ 30 _ _ _ _
  refine g_aload (r := some _) rfl rfl rfl (pc' := 31) ?_
  refine g_iconst rfl rfl rfl (pc' := 32) ?_
  refine g_iload rfl rfl rfl (pc' := 33) ?_
  refine t_call hT (y := 97) (n := 3) (pc' := 36) rfl rfl (t_vt hT rfl rfl) rfl rfl ⟨(Nat.le_of_ble_eq_true rfl), (Nat.le_of_ble_eq_true rfl), (Nat.le_of_ble_eq_true rfl)⟩ rfl H (tV_elim (fun h3 H hT => ?_))
  show gm_G _ 36 _ _ _ _
  refine g_iconst rfl rfl rfl (pc' := 37) ?_
  refine g_istore rfl rfl rfl (pc' := 38) ?_
  exact g_weak (show gm_Lle [some _, some _, none, some _] _ from ⟨rfl, ⟨rfl, ⟨rfl, trivial⟩⟩⟩) H
theorem w_473_38 {m : Nat} {x1 : Int32} {x3 : Int32} {h : hh_T} {Q : Option Value ⊕ Nat → hh_T → Prop} (hT : tw_ok h m) (H : (¬ x3 < (Int32.ofNat 32) → (Q (.inl (some (.int (Int32.ofNat 0)))) h)) ∧ (x3 < (Int32.ofNat 32) → (∃ n1, gm_ix (((Int32.ofNat 32) * x1) + x3) n1 20480 ∧ (∃ n2, gm_ix x3 n2 64 ∧ (∀ h3, h3 = hh_wi h (m + 29) n2 ((hh_i h (m + 36) n1).toInt8.toInt32) → (gm_G 473 38 [some (.ref m), some (.int x1), none, some (.int (x3 + (Int32.ofNat 1)))] [] h3 Q)))))) : gm_G 473 38 [some (.ref m), some (.int x1), none, some (.int x3)] [] h Q := by
  refine g_iload rfl rfl rfl (pc' := 39) ?_
  refine g_iconst rfl rfl rfl (pc' := 41) ?_
  refine g_ic_ge rfl (pc' := 44) (pt := 67) rfl rfl ⟨fun hc => ?_, fun hc => ?_⟩
  · have H := H.1 hc
    refine g_iconst rfl rfl rfl (pc' := 68) ?_
    exact g_ireturn rfl (Or.inl rfl) H
  · have H := H.2 hc
    refine g_aload (r := some _) rfl rfl rfl (pc' := 45) ?_
    refine t_get (o := 29) rfl hT rfl rfl rfl (pc' := 48) rfl ?_
    refine g_iload rfl rfl rfl (pc' := 49) ?_
    refine g_aload (r := some _) rfl rfl rfl (pc' := 50) ?_
    refine t_get (o := 36) rfl hT rfl rfl rfl (pc' := 53) rfl ?_
    refine g_iconst rfl rfl rfl (pc' := 55) ?_
    refine g_iload rfl rfl rfl (pc' := 56) ?_
    refine g_imul rfl rfl (pc' := 57) ?_
    refine g_iload rfl rfl rfl (pc' := 58) ?_
    refine g_iadd rfl rfl (pc' := 59) ?_
    obtain ⟨n1, hn1, H⟩ := H
    refine t_baload hT (o := 36) (l := 20480) rfl rfl rfl hn1 (pc' := 60) rfl ?_
    obtain ⟨n2, hn2, H⟩ := H
    refine t_bastore hT (o := 29) (l := 64) rfl rfl rfl hn2  (pc' := 61) rfl (fun hT => ?_)
    have H := H _ rfl
    refine g_iinc (c := (Int32.ofNat 1)) rfl rfl rfl rfl rfl (pc' := 64) ?_
    refine g_goto rfl (pc' := 38) rfl ?_
    exact g_weak (show gm_Lle [some _, some _, none, some _] _ from ⟨rfl, ⟨rfl, ⟨rfl, trivial⟩⟩⟩) H
theorem w_473_91 {m : Nat} {x1 : Int32} {x2 : Int32} {x3 : Int32} {h : hh_T} {Q : Option Value ⊕ Nat → hh_T → Prop} (hT : tw_ok h m) (H : (x3 = Int32.ofNat 0 → (gm_G 473 100 [some (.ref m), some (.int x1), some (.int x2), none, some (.int (Int32.ofNat 0))] [] h Q)) ∧ (¬ x3 = Int32.ofNat 0 → (Q (.inl (some (.int x3))) h))) : gm_G 473 91 [some (.ref m), some (.int x1), some (.int x2), some (.int x3)] [] h Q := by
  refine g_iload rfl rfl rfl (pc' := 92) ?_
  refine g_if_eq rfl (pc' := 95) (pt := 97) rfl rfl ⟨fun hc => ?_, fun hc => ?_⟩
  · have H := H.1 hc
    refine g_iconst rfl rfl rfl (pc' := 98) ?_
    refine g_istore rfl rfl rfl (pc' := 100) ?_
    exact g_weak (show gm_Lle [some _, some _, some _, none, some _] _ from ⟨rfl, ⟨rfl, ⟨rfl, ⟨rfl, trivial⟩⟩⟩⟩) H
  · have H := H.2 hc
    refine g_iload rfl rfl rfl (pc' := 96) ?_
    exact g_ireturn rfl (Or.inl rfl) H
theorem w_473_100 {m : Nat} {x1 : Int32} {x2 : Int32} {x4 : Int32} {h : hh_T} {Q : Option Value ⊕ Nat → hh_T → Prop} (hT : tw_ok h m) (H : (¬ x4 < (Int32.ofNat 32) → ((¬ x2 = (Int32.ofNat 2) → ((¬ x2 = (Int32.ofNat 3) → ((¬ ((hh_i h (m + 33) 0) + (hh_i h (m + 33) 2)) = (Int32.ofNat 6) → ((((((hh_i h (m + 33) 0) + (hh_i h (m + 33) 1)) + (hh_i h (m + 33) 2)) + (hh_i h (m + 33) 3)) < (Int32.ofNat 6) → (gm_G 473 393 [some (.ref m), some (.int x1)] [] h Q)) ∧ (¬ ((((hh_i h (m + 33) 0) + (hh_i h (m + 33) 1)) + (hh_i h (m + 33) 2)) + (hh_i h (m + 33) 3)) < (Int32.ofNat 6) → ((¬ ((((hh_i h (m + 33) 0) + (hh_i h (m + 33) 1)) + (hh_i h (m + 33) 2)) + (hh_i h (m + 33) 3)) = (Int32.ofNat 12) → (gm_G 473 388 [some (.ref m), some (.int x1)] [] h Q)) ∧ (((((hh_i h (m + 33) 0) + (hh_i h (m + 33) 1)) + (hh_i h (m + 33) 2)) + (hh_i h (m + 33) 3)) = (Int32.ofNat 12) → (gm_G 293 0 [some (.ref m), some (.int (Int32.ofNat 3))] [] h (pI (fun v2 h1 => gm_G 473 388 [some (.ref m), some (.int x1)] [] h1 Q) (fun _ _ => False)))))))) ∧ (((hh_i h (m + 33) 0) + (hh_i h (m + 33) 2)) = (Int32.ofNat 6) → ((¬ Int32.ofNat 0 < (hh_i h (m + 33) 2) → (gm_G 293 0 [some (.ref m), some (.int (Int32.ofNat 0))] [] h (pI (fun v4 h3 => gm_G 473 393 [some (.ref m), some (.int x1)] [] h3 Q) (fun _ _ => False)))) ∧ (Int32.ofNat 0 < (hh_i h (m + 33) 2) → (gm_G 293 0 [some (.ref m), some (.int (Int32.ofNat 2))] [] h (pI (fun v6 h5 => gm_G 375 0 [some (.ref m), some (.int (Int32.ofNat 0))] [] h5 (pV (fun h7 => gm_G 473 393 [some (.ref m), some (.int x1)] [] h7 Q) (fun _ _ => False))) (fun _ _ => False)))))))) ∧ (x2 = (Int32.ofNat 3) → ((hh_i h (m + 33) 3) ≠ 0 ∧ ((¬ (Int32.ofNat 1) < ((hh_i h (m + 33) 2) / (hh_i h (m + 33) 3)) → (gm_G 473 243 [some (.ref m), some (.int x1)] [.int (Int32.ofNat 1)] h Q)) ∧ ((Int32.ofNat 1) < ((hh_i h (m + 33) 2) / (hh_i h (m + 33) 3)) → ((hh_i h (m + 33) 3) ≠ 0 ∧ (gm_G 473 243 [some (.ref m), some (.int x1)] [.int ((hh_i h (m + 33) 2) / (hh_i h (m + 33) 3))] h Q)))))))) ∧ (x2 = (Int32.ofNat 2) → ((hh_i h (m + 33) 2) ≠ 0 ∧ ((¬ (Int32.ofNat 1) < ((hh_i h (m + 33) 3) / (hh_i h (m + 33) 2)) → (gm_G 473 171 [some (.ref m), some (.int x1)] [.int (Int32.ofNat 1)] h Q)) ∧ ((Int32.ofNat 1) < ((hh_i h (m + 33) 3) / (hh_i h (m + 33) 2)) → ((hh_i h (m + 33) 2) ≠ 0 ∧ (gm_G 473 171 [some (.ref m), some (.int x1)] [.int ((hh_i h (m + 33) 3) / (hh_i h (m + 33) 2))] h Q)))))))) ∧ (x4 < (Int32.ofNat 32) → (∃ n8, gm_ix x4 n8 64 ∧ (∃ n9, gm_ix (((Int32.ofNat 32) * x1) + x4) n9 20480 ∧ (∀ h10, h10 = hh_wi h (m + 36) n9 ((hh_i h (m + 29) n8).toInt8.toInt32) → (gm_G 473 100 [some (.ref m), some (.int x1), some (.int x2), none, some (.int (x4 + (Int32.ofNat 1)))] [] h10 Q)))))) : gm_G 473 100 [some (.ref m), some (.int x1), some (.int x2), none, some (.int x4)] [] h Q := by
  refine g_iload rfl rfl rfl (pc' := 102) ?_
  refine g_iconst rfl rfl rfl (pc' := 104) ?_
  refine g_ic_ge rfl (pc' := 107) (pt := 132) rfl rfl ⟨fun hc => ?_, fun hc => ?_⟩
  · have H := H.1 hc
    refine g_aload (r := some _) rfl rfl rfl (pc' := 133) ?_
    refine t_get (o := 33) rfl hT rfl rfl rfl (pc' := 136) rfl ?_
    refine g_iconst rfl rfl rfl (pc' := 137) ?_
    refine t_iaload hT (o := 33) (l := 4) rfl rfl rfl ⟨rfl, by decide, by decide⟩ (pc' := 138) rfl ?_
    refine g_istore rfl rfl rfl (pc' := 140) ?_
    refine g_aload (r := some _) rfl rfl rfl (pc' := 141) ?_
    refine t_get (o := 33) rfl hT rfl rfl rfl (pc' := 144) rfl ?_
    refine g_iconst rfl rfl rfl (pc' := 145) ?_
    refine t_iaload hT (o := 33) (l := 4) rfl rfl rfl ⟨rfl, by decide, by decide⟩ (pc' := 146) rfl ?_
    refine g_istore rfl rfl rfl (pc' := 148) ?_
    refine g_iload rfl rfl rfl (pc' := 149) ?_
    refine g_iconst rfl rfl rfl (pc' := 150) ?_
    refine g_ic_ne rfl (pc' := 153) (pt := 220) rfl rfl ⟨fun hc => ?_, fun hc => ?_⟩
    · have H := H.1 hc
      refine g_iload rfl rfl rfl (pc' := 221) ?_
      refine g_iconst rfl rfl rfl (pc' := 222) ?_
      refine g_ic_ne rfl (pc' := 225) (pt := 289) rfl rfl ⟨fun hc => ?_, fun hc => ?_⟩
      · have H := H.1 hc
        refine g_aload (r := some _) rfl rfl rfl (pc' := 290) ?_
        refine t_get (o := 33) rfl hT rfl rfl rfl (pc' := 293) rfl ?_
        refine g_iconst rfl rfl rfl (pc' := 294) ?_
        refine t_iaload hT (o := 33) (l := 4) rfl rfl rfl ⟨rfl, by decide, by decide⟩ (pc' := 295) rfl ?_
        refine g_iload rfl rfl rfl (pc' := 297) ?_
        refine g_iadd rfl rfl (pc' := 298) ?_
        refine g_iconst rfl rfl rfl (pc' := 300) ?_
        refine g_ic_ne rfl (pc' := 303) (pt := 333) rfl rfl ⟨fun hc => ?_, fun hc => ?_⟩
        · have H := H.1 hc
          refine g_aload (r := some _) rfl rfl rfl (pc' := 334) ?_
          refine t_get (o := 33) rfl hT rfl rfl rfl (pc' := 337) rfl ?_
          refine g_iconst rfl rfl rfl (pc' := 338) ?_
          refine t_iaload hT (o := 33) (l := 4) rfl rfl rfl ⟨rfl, by decide, by decide⟩ (pc' := 339) rfl ?_
          refine g_aload (r := some _) rfl rfl rfl (pc' := 340) ?_
          refine t_get (o := 33) rfl hT rfl rfl rfl (pc' := 343) rfl ?_
          refine g_iconst rfl rfl rfl (pc' := 344) ?_
          refine t_iaload hT (o := 33) (l := 4) rfl rfl rfl ⟨rfl, by decide, by decide⟩ (pc' := 345) rfl ?_
          refine g_iadd rfl rfl (pc' := 346) ?_
          refine g_iload rfl rfl rfl (pc' := 348) ?_
          refine g_iadd rfl rfl (pc' := 349) ?_
          refine g_iload rfl rfl rfl (pc' := 351) ?_
          refine g_iadd rfl rfl (pc' := 352) ?_
          refine g_iconst rfl rfl rfl (pc' := 354) ?_
          refine g_ic_lt rfl (pc' := 357) (pt := 393) rfl rfl ⟨fun hc => ?_, fun hc => ?_⟩
          · have H := H.1 hc
            exact g_weak (show gm_Lle [some _, some _] _ from ⟨rfl, ⟨rfl, trivial⟩⟩) H
          · have H := H.2 hc
            refine g_aload (r := some _) rfl rfl rfl (pc' := 358) ?_
            refine t_get (o := 33) rfl hT rfl rfl rfl (pc' := 361) rfl ?_
            refine g_iconst rfl rfl rfl (pc' := 362) ?_
            refine t_iaload hT (o := 33) (l := 4) rfl rfl rfl ⟨rfl, by decide, by decide⟩ (pc' := 363) rfl ?_
            refine g_aload (r := some _) rfl rfl rfl (pc' := 364) ?_
            refine t_get (o := 33) rfl hT rfl rfl rfl (pc' := 367) rfl ?_
            refine g_iconst rfl rfl rfl (pc' := 368) ?_
            refine t_iaload hT (o := 33) (l := 4) rfl rfl rfl ⟨rfl, by decide, by decide⟩ (pc' := 369) rfl ?_
            refine g_iadd rfl rfl (pc' := 370) ?_
            refine g_iload rfl rfl rfl (pc' := 372) ?_
            refine g_iadd rfl rfl (pc' := 373) ?_
            refine g_iload rfl rfl rfl (pc' := 375) ?_
            refine g_iadd rfl rfl (pc' := 376) ?_
            refine g_iconst rfl rfl rfl (pc' := 378) ?_
            refine g_ic_ne rfl (pc' := 381) (pt := 388) rfl rfl ⟨fun hc => ?_, fun hc => ?_⟩
            · have H := H.1 hc
              exact g_weak (show gm_Lle [some _, some _] _ from ⟨rfl, ⟨rfl, trivial⟩⟩) H
            · have H := H.2 hc
              refine g_aload (r := some _) rfl rfl rfl (pc' := 382) ?_
              refine g_iconst rfl rfl rfl (pc' := 383) ?_
              refine t_call hT (y := 293) (n := 2) (pc' := 386) rfl rfl (t_vt hT rfl rfl) rfl rfl ⟨(Nat.le_of_ble_eq_true rfl), (Nat.le_of_ble_eq_true rfl), (Nat.le_of_ble_eq_true rfl)⟩ rfl H (tI_elim (fun v2 h1 H hT => ?_))
              show gm_G _ 386 _ _ _ _
              refine g_istore rfl rfl rfl (pc' := 388) ?_
              exact g_weak (show gm_Lle [some _, some _] _ from ⟨rfl, ⟨rfl, trivial⟩⟩) H
        · have H := H.2 hc
          refine g_iload rfl rfl rfl (pc' := 305) ?_
          refine g_if_le rfl (pc' := 308) (pt := 323) rfl rfl ⟨fun hc => ?_, fun hc => ?_⟩
          · have H := H.1 hc
            refine g_aload (r := some _) rfl rfl rfl (pc' := 324) ?_
            refine g_iconst rfl rfl rfl (pc' := 325) ?_
            refine t_call hT (y := 293) (n := 2) (pc' := 328) rfl rfl (t_vt hT rfl rfl) rfl rfl ⟨(Nat.le_of_ble_eq_true rfl), (Nat.le_of_ble_eq_true rfl), (Nat.le_of_ble_eq_true rfl)⟩ rfl H (tI_elim (fun v4 h3 H hT => ?_))
            show gm_G _ 328 _ _ _ _
            refine g_istore rfl rfl rfl (pc' := 330) ?_
            refine g_goto rfl (pc' := 393) rfl ?_
            exact g_weak (show gm_Lle [some _, some _] _ from ⟨rfl, ⟨rfl, trivial⟩⟩) H
          · have H := H.2 hc
            refine g_aload (r := some _) rfl rfl rfl (pc' := 309) ?_
            refine g_iconst rfl rfl rfl (pc' := 310) ?_
            refine t_call hT (y := 293) (n := 2) (pc' := 313) rfl rfl (t_vt hT rfl rfl) rfl rfl ⟨(Nat.le_of_ble_eq_true rfl), (Nat.le_of_ble_eq_true rfl), (Nat.le_of_ble_eq_true rfl)⟩ rfl H (tI_elim (fun v6 h5 H hT => ?_))
            show gm_G _ 313 _ _ _ _
            refine g_istore rfl rfl rfl (pc' := 315) ?_
            refine g_aload (r := some _) rfl rfl rfl (pc' := 316) ?_
            refine g_iconst rfl rfl rfl (pc' := 317) ?_
            refine t_call hT (y := 375) (n := 2) (pc' := 320) rfl rfl (t_vt hT rfl rfl) rfl rfl ⟨(Nat.le_of_ble_eq_true rfl), (Nat.le_of_ble_eq_true rfl), (Nat.le_of_ble_eq_true rfl)⟩ rfl H (tV_elim (fun h7 H hT => ?_))
            show gm_G _ 320 _ _ _ _
            refine g_goto rfl (pc' := 393) rfl ?_
            exact g_weak (show gm_Lle [some _, some _] _ from ⟨rfl, ⟨rfl, trivial⟩⟩) H
      · have H := H.2 hc
        refine g_iload rfl rfl rfl (pc' := 227) ?_
        refine g_iload rfl rfl rfl (pc' := 229) ?_
        obtain ⟨Hp, H⟩ := H
        refine g_idiv rfl Hp (pc' := 230) rfl ?_
        refine g_iconst rfl rfl rfl (pc' := 231) ?_
        refine g_ic_le rfl (pc' := 234) (pt := 242) rfl rfl ⟨fun hc => ?_, fun hc => ?_⟩
        · have H := H.1 hc
          refine g_iconst rfl rfl rfl (pc' := 243) ?_
          exact g_weak (show gm_Lle [some _, some _] _ from ⟨rfl, ⟨rfl, trivial⟩⟩) H
        · have H := H.2 hc
          refine g_iload rfl rfl rfl (pc' := 236) ?_
          refine g_iload rfl rfl rfl (pc' := 238) ?_
          obtain ⟨Hp, H⟩ := H
          refine g_idiv rfl Hp (pc' := 239) rfl ?_
          refine g_goto rfl (pc' := 243) rfl ?_
          exact g_weak (show gm_Lle [some _, some _] _ from ⟨rfl, ⟨rfl, trivial⟩⟩) H
    · have H := H.2 hc
      refine g_iload rfl rfl rfl (pc' := 155) ?_
      refine g_iload rfl rfl rfl (pc' := 157) ?_
      obtain ⟨Hp, H⟩ := H
      refine g_idiv rfl Hp (pc' := 158) rfl ?_
      refine g_iconst rfl rfl rfl (pc' := 159) ?_
      refine g_ic_le rfl (pc' := 162) (pt := 170) rfl rfl ⟨fun hc => ?_, fun hc => ?_⟩
      · have H := H.1 hc
        refine g_iconst rfl rfl rfl (pc' := 171) ?_
        exact g_weak (show gm_Lle [some _, some _] _ from ⟨rfl, ⟨rfl, trivial⟩⟩) H
      · have H := H.2 hc
        refine g_iload rfl rfl rfl (pc' := 164) ?_
        refine g_iload rfl rfl rfl (pc' := 166) ?_
        obtain ⟨Hp, H⟩ := H
        refine g_idiv rfl Hp (pc' := 167) rfl ?_
        refine g_goto rfl (pc' := 171) rfl ?_
        exact g_weak (show gm_Lle [some _, some _] _ from ⟨rfl, ⟨rfl, trivial⟩⟩) H
  · have H := H.2 hc
    refine g_aload (r := some _) rfl rfl rfl (pc' := 108) ?_
    refine t_get (o := 36) rfl hT rfl rfl rfl (pc' := 111) rfl ?_
    refine g_iconst rfl rfl rfl (pc' := 113) ?_
    refine g_iload rfl rfl rfl (pc' := 114) ?_
    refine g_imul rfl rfl (pc' := 115) ?_
    refine g_iload rfl rfl rfl (pc' := 117) ?_
    refine g_iadd rfl rfl (pc' := 118) ?_
    refine g_aload (r := some _) rfl rfl rfl (pc' := 119) ?_
    refine t_get (o := 29) rfl hT rfl rfl rfl (pc' := 122) rfl ?_
    refine g_iload rfl rfl rfl (pc' := 124) ?_
    obtain ⟨n8, hn8, H⟩ := H
    refine t_baload hT (o := 29) (l := 64) rfl rfl rfl hn8 (pc' := 125) rfl ?_
    obtain ⟨n9, hn9, H⟩ := H
    refine t_bastore hT (o := 36) (l := 20480) rfl rfl rfl hn9  (pc' := 126) rfl (fun hT => ?_)
    have H := H _ rfl
    refine g_iinc (c := (Int32.ofNat 1)) rfl rfl rfl rfl rfl (pc' := 129) ?_
    refine g_goto rfl (pc' := 100) rfl ?_
    exact g_weak (show gm_Lle [some _, some _, some _, none, some _] _ from ⟨rfl, ⟨rfl, ⟨rfl, ⟨rfl, trivial⟩⟩⟩⟩) H
theorem w_473_171 {m : Nat} {x1 : Int32} {y0 : Int32} {h : hh_T} {Q : Option Value ⊕ Nat → hh_T → Prop} (hT : tw_ok h m) (H : (¬ (Int32.ofNat 6) < ((hh_i h m 46) + y0) → (gm_G 473 198 [some (.ref m), some (.int x1)] [.int ((hh_i h m 46) + y0), .ref m] h Q)) ∧ ((Int32.ofNat 6) < ((hh_i h m 46) + y0) → (gm_G 473 198 [some (.ref m), some (.int x1)] [.int (Int32.ofNat 6), .ref m] h Q))) : gm_G 473 171 [some (.ref m), some (.int x1)] [.int y0] h Q := by
  refine g_istore rfl rfl rfl (pc' := 173) ?_
  refine g_aload (r := some _) rfl rfl rfl (pc' := 174) ?_
  refine g_aload (r := some _) rfl rfl rfl (pc' := 175) ?_
  refine t_getI rfl hT rfl rfl (pc' := 178) rfl ?_
  refine g_iload rfl rfl rfl (pc' := 180) ?_
  refine g_iadd rfl rfl (pc' := 181) ?_
  refine g_iconst rfl rfl rfl (pc' := 183) ?_
  refine g_ic_le rfl (pc' := 186) (pt := 191) rfl rfl ⟨fun hc => ?_, fun hc => ?_⟩
  · have H := H.1 hc
    refine g_aload (r := some _) rfl rfl rfl (pc' := 192) ?_
    refine t_getI rfl hT rfl rfl (pc' := 195) rfl ?_
    refine g_iload rfl rfl rfl (pc' := 197) ?_
    refine g_iadd rfl rfl (pc' := 198) ?_
    exact g_weak (show gm_Lle [some _, some _] _ from ⟨rfl, ⟨rfl, trivial⟩⟩) H
  · have H := H.2 hc
    refine g_iconst rfl rfl rfl (pc' := 188) ?_
    refine g_goto rfl (pc' := 198) rfl ?_
    exact g_weak (show gm_Lle [some _, some _] _ from ⟨rfl, ⟨rfl, trivial⟩⟩) H
theorem w_473_198 {m : Nat} {x1 : Int32} {y0 : Int32} {h : hh_T} {Q : Option Value ⊕ Nat → hh_T → Prop} (hT : tw_ok h m) (H : ∀ h1, h1 = hh_wi h m 46 y0 → (gm_G 375 0 [some (.ref m), some (.int (Int32.ofNat 0))] [] h1 (pV (fun h2 => gm_G 129 0 [some (.ref m), some (.int x1)] [] h2 (pV (fun h3 => gm_G 97 0 [some (.ref m), some (.int (Int32.ofNat 1)), some (.int x1)] [] h3 (pV (fun h4 => Q (.inl (some (.int (Int32.ofNat 0)))) h4) (fun _ _ => False))) (fun _ _ => False))) (fun _ _ => False)))) : gm_G 473 198 [some (.ref m), some (.int x1)] [.int y0, .ref m] h Q := by
  refine t_putI rfl hT rfl rfl  (pc' := 201) rfl (fun hT => ?_)
  have H := H _ rfl
  refine g_aload (r := some _) rfl rfl rfl (pc' := 202) ?_
  refine g_iconst rfl rfl rfl (pc' := 203) ?_
  refine t_call hT (y := 375) (n := 2) (pc' := 206) rfl rfl (t_vt hT rfl rfl) rfl rfl ⟨(Nat.le_of_ble_eq_true rfl), (Nat.le_of_ble_eq_true rfl), (Nat.le_of_ble_eq_true rfl)⟩ rfl H (tV_elim (fun h2 H hT => ?_))
  show gm_G _ 206 _ _ _ _
  refine g_aload (r := some _) rfl rfl rfl (pc' := 207) ?_
  refine g_iload rfl rfl rfl (pc' := 208) ?_
  refine t_call hT (y := 129) (n := 2) (pc' := 211) rfl rfl (t_vt hT rfl rfl) rfl rfl ⟨(Nat.le_of_ble_eq_true rfl), (Nat.le_of_ble_eq_true rfl), (Nat.le_of_ble_eq_true rfl)⟩ rfl H (tV_elim (fun h3 H hT => ?_))
  show gm_G _ 211 _ _ _ _
  refine g_aload (r := some _) rfl rfl rfl (pc' := 212) ?_
  refine g_iconst rfl rfl rfl (pc' := 213) ?_
  refine g_iload rfl rfl rfl (pc' := 214) ?_
  refine t_call hT (y := 97) (n := 3) (pc' := 217) rfl rfl (t_vt hT rfl rfl) rfl rfl ⟨(Nat.le_of_ble_eq_true rfl), (Nat.le_of_ble_eq_true rfl), (Nat.le_of_ble_eq_true rfl)⟩ rfl H (tV_elim (fun h4 H hT => ?_))
  show gm_G _ 217 _ _ _ _
  refine g_goto rfl (pc' := 399) rfl ?_
  refine g_iconst rfl rfl rfl (pc' := 400) ?_
  exact g_ireturn rfl (Or.inl rfl) H
theorem w_473_243 {m : Nat} {x1 : Int32} {y0 : Int32} {h : hh_T} {Q : Option Value ⊕ Nat → hh_T → Prop} (hT : tw_ok h m) (H : (¬ ((hh_i h m 46) - y0) < Int32.ofNat 0 → (gm_G 473 267 [some (.ref m), some (.int x1)] [.int ((hh_i h m 46) - y0), .ref m] h Q)) ∧ (((hh_i h m 46) - y0) < Int32.ofNat 0 → (gm_G 473 267 [some (.ref m), some (.int x1)] [.int (Int32.ofNat 0), .ref m] h Q))) : gm_G 473 243 [some (.ref m), some (.int x1)] [.int y0] h Q := by
  refine g_istore rfl rfl rfl (pc' := 245) ?_
  refine g_aload (r := some _) rfl rfl rfl (pc' := 246) ?_
  refine g_aload (r := some _) rfl rfl rfl (pc' := 247) ?_
  refine t_getI rfl hT rfl rfl (pc' := 250) rfl ?_
  refine g_iload rfl rfl rfl (pc' := 252) ?_
  refine g_isub rfl rfl (pc' := 253) ?_
  refine g_if_ge rfl (pc' := 256) (pt := 260) rfl rfl ⟨fun hc => ?_, fun hc => ?_⟩
  · have H := H.1 hc
    refine g_aload (r := some _) rfl rfl rfl (pc' := 261) ?_
    refine t_getI rfl hT rfl rfl (pc' := 264) rfl ?_
    refine g_iload rfl rfl rfl (pc' := 266) ?_
    refine g_isub rfl rfl (pc' := 267) ?_
    exact g_weak (show gm_Lle [some _, some _] _ from ⟨rfl, ⟨rfl, trivial⟩⟩) H
  · have H := H.2 hc
    refine g_iconst rfl rfl rfl (pc' := 257) ?_
    refine g_goto rfl (pc' := 267) rfl ?_
    exact g_weak (show gm_Lle [some _, some _] _ from ⟨rfl, ⟨rfl, trivial⟩⟩) H
theorem w_473_267 {m : Nat} {x1 : Int32} {y0 : Int32} {h : hh_T} {Q : Option Value ⊕ Nat → hh_T → Prop} (hT : tw_ok h m) (H : ∀ h1, h1 = hh_wi h m 46 y0 → (gm_G 375 0 [some (.ref m), some (.int (Int32.ofNat 1))] [] h1 (pV (fun h2 => gm_G 129 0 [some (.ref m), some (.int x1)] [] h2 (pV (fun h3 => gm_G 97 0 [some (.ref m), some (.int (Int32.ofNat 1)), some (.int x1)] [] h3 (pV (fun h4 => Q (.inl (some (.int (Int32.ofNat 0)))) h4) (fun _ _ => False))) (fun _ _ => False))) (fun _ _ => False)))) : gm_G 473 267 [some (.ref m), some (.int x1)] [.int y0, .ref m] h Q := by
  refine t_putI rfl hT rfl rfl  (pc' := 270) rfl (fun hT => ?_)
  have H := H _ rfl
  refine g_aload (r := some _) rfl rfl rfl (pc' := 271) ?_
  refine g_iconst rfl rfl rfl (pc' := 272) ?_
  refine t_call hT (y := 375) (n := 2) (pc' := 275) rfl rfl (t_vt hT rfl rfl) rfl rfl ⟨(Nat.le_of_ble_eq_true rfl), (Nat.le_of_ble_eq_true rfl), (Nat.le_of_ble_eq_true rfl)⟩ rfl H (tV_elim (fun h2 H hT => ?_))
  show gm_G _ 275 _ _ _ _
  refine g_aload (r := some _) rfl rfl rfl (pc' := 276) ?_
  refine g_iload rfl rfl rfl (pc' := 277) ?_
  refine t_call hT (y := 129) (n := 2) (pc' := 280) rfl rfl (t_vt hT rfl rfl) rfl rfl ⟨(Nat.le_of_ble_eq_true rfl), (Nat.le_of_ble_eq_true rfl), (Nat.le_of_ble_eq_true rfl)⟩ rfl H (tV_elim (fun h3 H hT => ?_))
  show gm_G _ 280 _ _ _ _
  refine g_aload (r := some _) rfl rfl rfl (pc' := 281) ?_
  refine g_iconst rfl rfl rfl (pc' := 282) ?_
  refine g_iload rfl rfl rfl (pc' := 283) ?_
  refine t_call hT (y := 97) (n := 3) (pc' := 286) rfl rfl (t_vt hT rfl rfl) rfl rfl ⟨(Nat.le_of_ble_eq_true rfl), (Nat.le_of_ble_eq_true rfl), (Nat.le_of_ble_eq_true rfl)⟩ rfl H (tV_elim (fun h4 H hT => ?_))
  show gm_G _ 286 _ _ _ _
  refine g_goto rfl (pc' := 399) rfl ?_
  refine g_iconst rfl rfl rfl (pc' := 400) ?_
  exact g_ireturn rfl (Or.inl rfl) H
theorem w_473_388 {m : Nat} {x1 : Int32} {h : hh_T} {Q : Option Value ⊕ Nat → hh_T → Prop} (hT : tw_ok h m) (H : gm_G 375 0 [some (.ref m), some (.int (Int32.ofNat 0))] [] h (pV (fun h1 => gm_G 473 393 [some (.ref m), some (.int x1)] [] h1 Q) (fun _ _ => False))) : gm_G 473 388 [some (.ref m), some (.int x1)] [] h Q := by
  refine g_aload (r := some _) rfl rfl rfl (pc' := 389) ?_
  refine g_iconst rfl rfl rfl (pc' := 390) ?_
  refine t_call hT (y := 375) (n := 2) (pc' := 393) rfl rfl (t_vt hT rfl rfl) rfl rfl ⟨(Nat.le_of_ble_eq_true rfl), (Nat.le_of_ble_eq_true rfl), (Nat.le_of_ble_eq_true rfl)⟩ rfl H (tV_elim (fun h1 H hT => ?_))
  show gm_G _ 393 _ _ _ _
  exact g_weak (show gm_Lle [some _, some _] _ from ⟨rfl, ⟨rfl, trivial⟩⟩) H
theorem w_473_393 {m : Nat} {x1 : Int32} {h : hh_T} {Q : Option Value ⊕ Nat → hh_T → Prop} (hT : tw_ok h m) (H : gm_G 97 0 [some (.ref m), some (.int (Int32.ofNat 0)), some (.int x1)] [] h (pV (fun h1 => Q (.inl (some (.int (Int32.ofNat 0)))) h1) (fun _ _ => False))) : gm_G 473 393 [some (.ref m), some (.int x1)] [] h Q := by
  refine g_aload (r := some _) rfl rfl rfl (pc' := 394) ?_
  refine g_iconst rfl rfl rfl (pc' := 395) ?_
  refine g_iload rfl rfl rfl (pc' := 396) ?_
  refine t_call hT (y := 97) (n := 3) (pc' := 399) rfl rfl (t_vt hT rfl rfl) rfl rfl ⟨(Nat.le_of_ble_eq_true rfl), (Nat.le_of_ble_eq_true rfl), (Nat.le_of_ble_eq_true rfl)⟩ rfl H (tV_elim (fun h1 H hT => ?_))
  show gm_G _ 399 _ _ _ _
  refine g_iconst rfl rfl rfl (pc' := 400) ?_
  exact g_ireturn rfl (Or.inl rfl) H
theorem w_474_0 {m : Nat} {x1 : Int32} {x2 : Int32} {h : hh_T} {Q : Option Value ⊕ Nat → hh_T → Prop} (hT : tw_ok h m) (H : (¬ (hh_i h m 77) = Int32.ofNat 0 → ((x1 < Int32.ofNat 0 → (Q (.inl (some (.int (Int32.ofInt (-1))))) h)) ∧ (¬ x1 < Int32.ofNat 0 → ((¬ (Int32.ofNat 1) < x1 → (∃ n1, gm_ix x1 n1 2 ∧ ((¬ (hh_i h (m + 115) n1) = Int32.ofNat 0 → (gm_G 474 39 [some (.ref m), some (.int x1), some (.int x2), some (.int ((Int32.ofNat 6100) * x1))] [] h Q)) ∧ ((hh_i h (m + 115) n1) = Int32.ofNat 0 → (Q (.inl (some (.int (Int32.ofInt (-2))))) h))))) ∧ ((Int32.ofNat 1) < x1 → (Q (.inl (some (.int (Int32.ofInt (-1))))) h)))))) ∧ ((hh_i h m 77) = Int32.ofNat 0 → (Q (.inl (some (.int (Int32.ofInt (-9))))) h))) : gm_G 474 0 [some (.ref m), some (.int x1), some (.int x2)] [] h Q := by
  refine g_aload (r := some _) rfl rfl rfl (pc' := 1) ?_
  refine t_getZ rfl hT rfl rfl (pc' := 4) rfl ?_
  refine g_if_ne rfl (pc' := 7) (pt := 10) rfl rfl ⟨fun hc => ?_, fun hc => ?_⟩
  · have H := H.1 hc
    refine g_iload rfl rfl rfl (pc' := 11) ?_
    refine g_if_lt rfl (pc' := 14) (pt := 19) rfl rfl ⟨fun hc => ?_, fun hc => ?_⟩
    · have H := H.1 hc
      refine g_iconst rfl rfl rfl (pc' := 20) ?_
      exact g_ireturn rfl (Or.inl rfl) H
    · have H := H.2 hc
      refine g_iload rfl rfl rfl (pc' := 15) ?_
      refine g_iconst rfl rfl rfl (pc' := 16) ?_
      refine g_ic_le rfl (pc' := 19) (pt := 21) rfl rfl ⟨fun hc => ?_, fun hc => ?_⟩
      · have H := H.1 hc
        refine g_aload (r := some _) rfl rfl rfl (pc' := 22) ?_
        refine t_get (o := 115) rfl hT rfl rfl rfl (pc' := 25) rfl ?_
        refine g_iload rfl rfl rfl (pc' := 26) ?_
        obtain ⟨n1, hn1, H⟩ := H
        refine t_iaload hT (o := 115) (l := 2) rfl rfl rfl hn1 (pc' := 27) rfl ?_
        refine g_if_ne rfl (pc' := 30) (pt := 33) rfl rfl ⟨fun hc => ?_, fun hc => ?_⟩
        · have H := H.1 hc
          refine g_iconst rfl rfl rfl (pc' := 36) ?_
          refine g_iload rfl rfl rfl (pc' := 37) ?_
          refine g_imul rfl rfl (pc' := 38) ?_
          refine g_istore rfl rfl rfl (pc' := 39) ?_
          exact g_weak (show gm_Lle [some _, some _, some _, some _] _ from ⟨rfl, ⟨rfl, ⟨rfl, ⟨rfl, trivial⟩⟩⟩⟩) H
        · have H := H.2 hc
          refine g_iconst rfl rfl rfl (pc' := 32) ?_
          exact g_ireturn rfl (Or.inl rfl) H
      · have H := H.2 hc
        refine g_iconst rfl rfl rfl (pc' := 20) ?_
        exact g_ireturn rfl (Or.inl rfl) H
  · have H := H.2 hc
    refine g_iconst rfl rfl rfl (pc' := 9) ?_
    exact g_ireturn rfl (Or.inl rfl) H
theorem w_474_39 {m : Nat} {x1 : Int32} {x2 : Int32} {x3 : Int32} {h : hh_T} {Q : Option Value ⊕ Nat → hh_T → Prop} (hT : tw_ok h m) (H : ∃ n1, gm_ix x1 n1 2 ∧ ((¬ x3 < (((Int32.ofNat 6100) * x1) + (hh_i h (m + 115) n1)) → (gm_G 152 0 [some (.ref m), some (.int x2)] [] h (pI (fun v3 h2 => (¬ v3 < Int32.ofNat 0 → (∀ h4, h4 = hh_wi h2 m 147 (((Int32.ofNat 6100) * x1) + (Int32.ofNat 2)) → (gm_G 114 0 [some (.ref m)] [] h4 (pI (fun v6 h5 => gm_G 114 0 [some (.ref m)] [] h5 (pI (fun v8 h7 => (¬ v8 = (Int32.ofNat 1) → (gm_G 474 122 [some (.ref m), none, some (.int x2), some (.int v3), some (.int v6)] [.int (Int32.ofNat 0)] h7 Q)) ∧ (v8 = (Int32.ofNat 1) → (gm_G 474 122 [some (.ref m), none, some (.int x2), some (.int v3), some (.int v6)] [.int (Int32.ofNat 1)] h7 Q))) (fun _ _ => False))) (fun _ _ => False))))) ∧ (v3 < Int32.ofNat 0 → (Q (.inl (some (.int (Int32.ofInt (-2))))) h2))) (fun _ _ => False)))) ∧ (x3 < (((Int32.ofNat 6100) * x1) + (hh_i h (m + 115) n1)) → (∃ n9, gm_ix x3 n9 12200 ∧ (∃ n10, gm_ix x3 n10 12200 ∧ (((hh_i h (m + 112) n9) = (hh_i h (m + 113) n10) → (gm_G 474 39 [some (.ref m), some (.int x1), some (.int x2), some (.int (x3 + (Int32.ofNat 1)))] [] h Q)) ∧ (¬ (hh_i h (m + 112) n9) = (hh_i h (m + 113) n10) → (Q (.inl (some (.int (Int32.ofInt (-11))))) h)))))))) : gm_G 474 39 [some (.ref m), some (.int x1), some (.int x2), some (.int x3)] [] h Q := by
  refine g_iload rfl rfl rfl (pc' := 40) ?_
  refine g_iconst rfl rfl rfl (pc' := 43) ?_
  refine g_iload rfl rfl rfl (pc' := 44) ?_
  refine g_imul rfl rfl (pc' := 45) ?_
  refine g_aload (r := some _) rfl rfl rfl (pc' := 46) ?_
  refine t_get (o := 115) rfl hT rfl rfl rfl (pc' := 49) rfl ?_
  refine g_iload rfl rfl rfl (pc' := 50) ?_
  obtain ⟨n1, hn1, H⟩ := H
  refine t_iaload hT (o := 115) (l := 2) rfl rfl rfl hn1 (pc' := 51) rfl ?_
  refine g_iadd rfl rfl (pc' := 52) ?_
  refine g_ic_ge rfl (pc' := 55) (pt := 79) rfl rfl ⟨fun hc => ?_, fun hc => ?_⟩
  · have H := H.1 hc
    refine g_aload (r := some _) rfl rfl rfl (pc' := 80) ?_
    refine g_iload rfl rfl rfl (pc' := 81) ?_
    refine t_call hT (y := 152) (n := 2) (pc' := 84) rfl rfl (t_vt hT rfl rfl) rfl rfl ⟨(Nat.le_of_ble_eq_true rfl), (Nat.le_of_ble_eq_true rfl), (Nat.le_of_ble_eq_true rfl)⟩ rfl H (tI_elim (fun v3 h2 H hT => ?_))
    show gm_G _ 84 _ _ _ _
    refine g_istore rfl rfl rfl (pc' := 85) ?_
    refine g_iload rfl rfl rfl (pc' := 86) ?_
    refine g_if_ge rfl (pc' := 89) (pt := 92) rfl rfl ⟨fun hc => ?_, fun hc => ?_⟩
    · have H := H.1 hc
      refine g_aload (r := some _) rfl rfl rfl (pc' := 93) ?_
      refine g_iconst rfl rfl rfl (pc' := 96) ?_
      refine g_iload rfl rfl rfl (pc' := 97) ?_
      refine g_imul rfl rfl (pc' := 98) ?_
      refine g_iconst rfl rfl rfl (pc' := 99) ?_
      refine g_iadd rfl rfl (pc' := 100) ?_
      refine t_putI rfl hT rfl rfl  (pc' := 103) rfl (fun hT => ?_)
      have H := H _ rfl
      refine g_aload (r := some _) rfl rfl rfl (pc' := 104) ?_
      refine t_call hT (y := 114) (n := 1) (pc' := 107) rfl rfl (t_vt hT rfl rfl) rfl rfl ⟨(Nat.le_of_ble_eq_true rfl), (Nat.le_of_ble_eq_true rfl), (Nat.le_of_ble_eq_true rfl)⟩ rfl H (tI_elim (fun v6 h5 H hT => ?_))
      show gm_G _ 107 _ _ _ _
      refine g_istore rfl rfl rfl (pc' := 109) ?_
      refine g_aload (r := some _) rfl rfl rfl (pc' := 110) ?_
      refine t_call hT (y := 114) (n := 1) (pc' := 113) rfl rfl (t_vt hT rfl rfl) rfl rfl ⟨(Nat.le_of_ble_eq_true rfl), (Nat.le_of_ble_eq_true rfl), (Nat.le_of_ble_eq_true rfl)⟩ rfl H (tI_elim (fun v8 h7 H hT => ?_))
      show gm_G _ 113 _ _ _ _
      refine g_iconst rfl rfl rfl (pc' := 114) ?_
      refine g_ic_ne rfl (pc' := 117) (pt := 121) rfl rfl ⟨fun hc => ?_, fun hc => ?_⟩
      · have H := H.1 hc
        refine g_iconst rfl rfl rfl (pc' := 122) ?_
        exact g_weak (show gm_Lle [some _, none, some _, some _, some _] _ from ⟨rfl, ⟨rfl, ⟨rfl, ⟨rfl, trivial⟩⟩⟩⟩) H
      · have H := H.2 hc
        refine g_iconst rfl rfl rfl (pc' := 118) ?_
        refine g_goto rfl (pc' := 122) rfl ?_
        exact g_weak (show gm_Lle [some _, none, some _, some _, some _] _ from ⟨rfl, ⟨rfl, ⟨rfl, ⟨rfl, trivial⟩⟩⟩⟩) H
    · have H := H.2 hc
      refine g_iconst rfl rfl rfl (pc' := 91) ?_
      exact g_ireturn rfl (Or.inl rfl) H
  · have H := H.2 hc
    refine g_aload (r := some _) rfl rfl rfl (pc' := 56) ?_
    refine t_get (o := 112) rfl hT rfl rfl rfl (pc' := 59) rfl ?_
    refine g_iload rfl rfl rfl (pc' := 60) ?_
    obtain ⟨n9, hn9, H⟩ := H
    refine t_baload hT (o := 112) (l := 12200) rfl rfl rfl hn9 (pc' := 61) rfl ?_
    refine g_aload (r := some _) rfl rfl rfl (pc' := 62) ?_
    refine t_get (o := 113) rfl hT rfl rfl rfl (pc' := 65) rfl ?_
    refine g_iload rfl rfl rfl (pc' := 66) ?_
    obtain ⟨n10, hn10, H⟩ := H
    refine t_baload hT (o := 113) (l := 12200) rfl rfl rfl hn10 (pc' := 67) rfl ?_
    refine g_ic_eq rfl (pc' := 70) (pt := 73) rfl rfl ⟨fun hc => ?_, fun hc => ?_⟩
    · have H := H.1 hc
      refine g_iinc (c := (Int32.ofNat 1)) rfl rfl rfl rfl rfl (pc' := 76) ?_
      refine g_goto rfl (pc' := 39) rfl ?_
      exact g_weak (show gm_Lle [some _, some _, some _, some _] _ from ⟨rfl, ⟨rfl, ⟨rfl, ⟨rfl, trivial⟩⟩⟩⟩) H
    · have H := H.2 hc
      refine g_iconst rfl rfl rfl (pc' := 72) ?_
      exact g_ireturn rfl (Or.inl rfl) H
theorem w_474_122 {m : Nat} {x2 : Int32} {x3 : Int32} {x4 : Int32} {y0 : Int32} {h : hh_T} {Q : Option Value ⊕ Nat → hh_T → Prop} (hT : tw_ok h m) (H : gm_G 281 0 [some (.ref m), some (.int (Int32.ofNat 4))] [] h (pI (fun v2 h1 => gm_G 281 0 [some (.ref m), some (.int (Int32.ofNat 4))] [] h1 (pI (fun v4 h3 => gm_G 114 0 [some (.ref m)] [] h3 (pI (fun v6 h5 => ∀ h7, h7 = hh_wi h5 m 147 ((hh_i h5 m 147) + v6) → (∃ n8, gm_ix x3 n8 32 ∧ ((x4 = (hh_i h7 (m + 61) n8) → (gm_G 125 0 [some (.ref m), some (.int ((Int32.ofNat 2) * x2))] [] h7 (pI (fun v10 h9 => (v10 = Int32.ofNat 0 → (gm_G 156 0 [some (.ref m), some (.int x2)] [] h9 (pI (fun v12 h11 => (¬ y0 = Int32.ofNat 0 → (gm_G 474 208 [some (.ref m), none, some (.int x2), some (.int x3), none, some (.int y0), some (.int v2), some (.int v4), some (.int v6), some (.int (hh_i h5 m 147)), some (.int v12)] [] h11 Q)) ∧ (y0 = Int32.ofNat 0 → ((¬ Int32.ofNat 0 < v12 → (gm_G 474 208 [some (.ref m), none, some (.int x2), some (.int x3), none, some (.int y0), some (.int v2), some (.int v4), some (.int v6), some (.int (hh_i h5 m 147)), some (.int v12)] [] h11 Q)) ∧ (Int32.ofNat 0 < v12 → (Q (.inl (some (.int (Int32.ofInt (-5))))) h11))))) (fun _ _ => False)))) ∧ (¬ v10 = Int32.ofNat 0 → (Q (.inl (some (.int (Int32.ofInt (-5))))) h9))) (fun _ _ => False)))) ∧ (¬ x4 = (hh_i h7 (m + 61) n8) → (Q (.inl (some (.int (Int32.ofInt (-10))))) h7))))) (fun _ _ => False))) (fun _ _ => False))) (fun _ _ => False))) : gm_G 474 122 [some (.ref m), none, some (.int x2), some (.int x3), some (.int x4)] [.int y0] h Q := by
  refine g_istore rfl rfl rfl (pc' := 124) ?_
  refine g_aload (r := some _) rfl rfl rfl (pc' := 125) ?_
  refine g_iconst rfl rfl rfl (pc' := 126) ?_
  refine t_call hT (y := 281) (n := 2) (pc' := 129) rfl rfl (t_vt hT rfl rfl) rfl rfl ⟨(Nat.le_of_ble_eq_true rfl), (Nat.le_of_ble_eq_true rfl), (Nat.le_of_ble_eq_true rfl)⟩ rfl H (tI_elim (fun v2 h1 H hT => ?_))
  show gm_G _ 129 _ _ _ _
  refine g_istore rfl rfl rfl (pc' := 131) ?_
  refine g_aload (r := some _) rfl rfl rfl (pc' := 132) ?_
  refine g_iconst rfl rfl rfl (pc' := 133) ?_
  refine t_call hT (y := 281) (n := 2) (pc' := 136) rfl rfl (t_vt hT rfl rfl) rfl rfl ⟨(Nat.le_of_ble_eq_true rfl), (Nat.le_of_ble_eq_true rfl), (Nat.le_of_ble_eq_true rfl)⟩ rfl H (tI_elim (fun v4 h3 H hT => ?_))
  show gm_G _ 136 _ _ _ _
  refine g_istore rfl rfl rfl (pc' := 138) ?_
  refine g_aload (r := some _) rfl rfl rfl (pc' := 139) ?_
  refine t_call hT (y := 114) (n := 1) (pc' := 142) rfl rfl (t_vt hT rfl rfl) rfl rfl ⟨(Nat.le_of_ble_eq_true rfl), (Nat.le_of_ble_eq_true rfl), (Nat.le_of_ble_eq_true rfl)⟩ rfl H (tI_elim (fun v6 h5 H hT => ?_))
  show gm_G _ 142 _ _ _ _
  refine g_istore rfl rfl rfl (pc' := 144) ?_
  refine g_aload (r := some _) rfl rfl rfl (pc' := 145) ?_
  refine t_getI rfl hT rfl rfl (pc' := 148) rfl ?_
  refine g_istore rfl rfl rfl (pc' := 150) ?_
  refine g_aload (r := some _) rfl rfl rfl (pc' := 151) ?_
  refine g_dup_a (r := some _) rfl rfl (pc' := 152) ?_
  refine t_getI rfl hT rfl rfl (pc' := 155) rfl ?_
  refine g_iload rfl rfl rfl (pc' := 157) ?_
  refine g_iadd rfl rfl (pc' := 158) ?_
  refine t_putI rfl hT rfl rfl  (pc' := 161) rfl (fun hT => ?_)
  have H := H _ rfl
  refine g_iload rfl rfl rfl (pc' := 163) ?_
  refine g_aload (r := some _) rfl rfl rfl (pc' := 164) ?_
  refine t_get (o := 61) rfl hT rfl rfl rfl (pc' := 167) rfl ?_
  refine g_iload rfl rfl rfl (pc' := 168) ?_
  obtain ⟨n8, hn8, H⟩ := H
  refine t_iaload hT (o := 61) (l := 32) rfl rfl rfl hn8 (pc' := 169) rfl ?_
  refine g_ic_eq rfl (pc' := 172) (pt := 175) rfl rfl ⟨fun hc => ?_, fun hc => ?_⟩
  · have H := H.1 hc
    refine g_aload (r := some _) rfl rfl rfl (pc' := 176) ?_
    refine g_iconst rfl rfl rfl (pc' := 177) ?_
    refine g_iload rfl rfl rfl (pc' := 178) ?_
    refine g_imul rfl rfl (pc' := 179) ?_
    refine t_call hT (y := 125) (n := 2) (pc' := 182) rfl rfl (t_vt hT rfl rfl) rfl rfl ⟨(Nat.le_of_ble_eq_true rfl), (Nat.le_of_ble_eq_true rfl), (Nat.le_of_ble_eq_true rfl)⟩ rfl H (tI_elim (fun v10 h9 H hT => ?_))
    show gm_G _ 182 _ _ _ _
    refine g_if_eq rfl (pc' := 185) (pt := 188) rfl rfl ⟨fun hc => ?_, fun hc => ?_⟩
    · have H := H.1 hc
      refine g_aload (r := some _) rfl rfl rfl (pc' := 189) ?_
      refine g_iload rfl rfl rfl (pc' := 190) ?_
      refine t_call hT (y := 156) (n := 2) (pc' := 193) rfl rfl (t_vt hT rfl rfl) rfl rfl ⟨(Nat.le_of_ble_eq_true rfl), (Nat.le_of_ble_eq_true rfl), (Nat.le_of_ble_eq_true rfl)⟩ rfl H (tI_elim (fun v12 h11 H hT => ?_))
      show gm_G _ 193 _ _ _ _
      refine g_istore rfl rfl rfl (pc' := 195) ?_
      refine g_iload rfl rfl rfl (pc' := 197) ?_
      refine g_if_ne rfl (pc' := 200) (pt := 208) rfl rfl ⟨fun hc => ?_, fun hc => ?_⟩
      · have H := H.1 hc
        exact g_weak (show gm_Lle [some _, none, some _, some _, none, some _, some _, some _, some _, some _, some _] _ from ⟨rfl, ⟨rfl, ⟨rfl, ⟨rfl, ⟨rfl, ⟨rfl, ⟨rfl, ⟨rfl, ⟨rfl, trivial⟩⟩⟩⟩⟩⟩⟩⟩⟩) H
      · have H := H.2 hc
        refine g_iload rfl rfl rfl (pc' := 202) ?_
        refine g_if_le rfl (pc' := 205) (pt := 208) rfl rfl ⟨fun hc => ?_, fun hc => ?_⟩
        · have H := H.1 hc
          exact g_weak (show gm_Lle [some _, none, some _, some _, none, some _, some _, some _, some _, some _, some _] _ from ⟨rfl, ⟨rfl, ⟨rfl, ⟨rfl, ⟨rfl, ⟨rfl, ⟨rfl, ⟨rfl, ⟨rfl, trivial⟩⟩⟩⟩⟩⟩⟩⟩⟩) H
        · have H := H.2 hc
          refine g_iconst rfl rfl rfl (pc' := 207) ?_
          exact g_ireturn rfl (Or.inl rfl) H
    · have H := H.2 hc
      refine g_iconst rfl rfl rfl (pc' := 187) ?_
      exact g_ireturn rfl (Or.inl rfl) H
  · have H := H.2 hc
    refine g_iconst rfl rfl rfl (pc' := 174) ?_
    exact g_ireturn rfl (Or.inl rfl) H
theorem w_474_208 {m : Nat} {x2 : Int32} {x3 : Int32} {x5 : Int32} {x6 : Int32} {x7 : Int32} {x8 : Int32} {x9 : Int32} {x10 : Int32} {h : hh_T} {Q : Option Value ⊕ Nat → hh_T → Prop} (hT : tw_ok h m) (H : (x5 = Int32.ofNat 0 → (gm_G 474 240 [some (.ref m), none, some (.int x2), some (.int x3), none, some (.int x5), none, some (.int x7), some (.int x8), some (.int x9), some (.int x10)] [] h Q)) ∧ (¬ x5 = Int32.ofNat 0 → ((x10 = Int32.ofNat 0 → (Q (.inl (some (.int (Int32.ofInt (-10))))) h)) ∧ (¬ x10 = Int32.ofNat 0 → (gm_G 154 0 [some (.ref m), some (.int x2), some (.int (x10 - (Int32.ofNat 1)))] [] h (pI (fun v2 h1 => ∃ n3, gm_ix v2 n3 48 ∧ (((hh_i h1 (m + 73) n3) = x6 → (gm_G 474 240 [some (.ref m), none, some (.int x2), some (.int x3), none, some (.int x5), none, some (.int x7), some (.int x8), some (.int x9), some (.int x10)] [] h1 Q)) ∧ (¬ (hh_i h1 (m + 73) n3) = x6 → (Q (.inl (some (.int (Int32.ofInt (-10))))) h1)))) (fun _ _ => False))))))) : gm_G 474 208 [some (.ref m), none, some (.int x2), some (.int x3), none, some (.int x5), some (.int x6), some (.int x7), some (.int x8), some (.int x9), some (.int x10)] [] h Q := by
  refine g_iload rfl rfl rfl (pc' := 210) ?_
  refine g_if_eq rfl (pc' := 213) (pt := 240) rfl rfl ⟨fun hc => ?_, fun hc => ?_⟩
  · have H := H.1 hc
    exact g_weak (show gm_Lle [some _, none, some _, some _, none, some _, none, some _, some _, some _, some _] _ from ⟨rfl, ⟨rfl, ⟨rfl, ⟨rfl, ⟨rfl, ⟨rfl, ⟨rfl, ⟨rfl, trivial⟩⟩⟩⟩⟩⟩⟩⟩) H
  · have H := H.2 hc
    refine g_iload rfl rfl rfl (pc' := 215) ?_
    refine g_if_eq rfl (pc' := 218) (pt := 237) rfl rfl ⟨fun hc => ?_, fun hc => ?_⟩
    · have H := H.1 hc
      refine g_iconst rfl rfl rfl (pc' := 239) ?_
      exact g_ireturn rfl (Or.inl rfl) H
    · have H := H.2 hc
      refine g_aload (r := some _) rfl rfl rfl (pc' := 219) ?_
      refine t_get (o := 73) rfl hT rfl rfl rfl (pc' := 222) rfl ?_
      refine g_aload (r := some _) rfl rfl rfl (pc' := 223) ?_
      refine g_iload rfl rfl rfl (pc' := 224) ?_
      refine g_iload rfl rfl rfl (pc' := 226) ?_
      refine g_iconst rfl rfl rfl (pc' := 227) ?_
      refine g_isub rfl rfl (pc' := 228) ?_
      refine t_call hT (y := 154) (n := 3) (pc' := 231) rfl rfl (t_vt hT rfl rfl) rfl rfl ⟨(Nat.le_of_ble_eq_true rfl), (Nat.le_of_ble_eq_true rfl), (Nat.le_of_ble_eq_true rfl)⟩ rfl H (tI_elim (fun v2 h1 H hT => ?_))
      show gm_G _ 231 _ _ _ _
      obtain ⟨n3, hn3, H⟩ := H
      refine t_iaload hT (o := 73) (l := 48) rfl rfl rfl hn3 (pc' := 232) rfl ?_
      refine g_iload rfl rfl rfl (pc' := 234) ?_
      refine g_ic_eq rfl (pc' := 237) (pt := 240) rfl rfl ⟨fun hc => ?_, fun hc => ?_⟩
      · have H := H.1 hc
        exact g_weak (show gm_Lle [some _, none, some _, some _, none, some _, none, some _, some _, some _, some _] _ from ⟨rfl, ⟨rfl, ⟨rfl, ⟨rfl, ⟨rfl, ⟨rfl, ⟨rfl, ⟨rfl, trivial⟩⟩⟩⟩⟩⟩⟩⟩) H
      · have H := H.2 hc
        refine g_iconst rfl rfl rfl (pc' := 239) ?_
        exact g_ireturn rfl (Or.inl rfl) H
theorem w_474_240 {m : Nat} {x2 : Int32} {x3 : Int32} {x5 : Int32} {x7 : Int32} {x8 : Int32} {x9 : Int32} {x10 : Int32} {h : hh_T} {Q : Option Value ⊕ Nat → hh_T → Prop} (hT : tw_ok h m) (H : gm_G 155 0 [some (.ref m), some (.int x2), some (.ref (m + 112)), some (.int x9), some (.int x8)] [] h (pI (fun v2 h1 => (v2 < Int32.ofNat 0 → (gm_G 113 0 [some (.ref m)] [] h1 (pI (fun v4 h3 => (¬ v4 < Int32.ofNat 0 → (gm_G 421 0 [some (.ref m)] [] h3 (pV (fun h5 => gm_G 403 0 [some (.ref m)] [] h5 (pI (fun v7 h6 => (x5 = Int32.ofNat 0 → (gm_G 474 316 [some (.ref m), none, some (.int x2), some (.int x3), none, none, none, some (.int x7), some (.int x8), some (.int x9), none, none, some (.int v7), some (.int (Int32.ofNat 0))] [] h6 Q)) ∧ (¬ x5 = Int32.ofNat 0 → (gm_G 154 0 [some (.ref m), some (.int x2), some (.int (x10 - (Int32.ofNat 1)))] [] h6 (pI (fun v9 h8 => ∃ n10, gm_ix v9 n10 48 ∧ (gm_G 276 0 [some (.ref m), some (.int (hh_i h8 (m + 74) n10)), some (.int v7)] [] h8 (pV (fun h11 => gm_G 474 341 [some (.ref m), none, some (.int x2), some (.int x3), none, none, none, some (.int x7), some (.int x8), some (.int x9), none, none, some (.int v7)] [] h11 Q) (fun _ _ => False)))) (fun _ _ => False))))) (fun _ _ => False))) (fun _ _ => False)))) ∧ (v4 < Int32.ofNat 0 → (Q (.inl (some (.int (Int32.ofInt (-3))))) h3))) (fun _ _ => False)))) ∧ (¬ v2 < Int32.ofNat 0 → (Q (.inl (some (.int (Int32.ofInt (-4))))) h1))) (fun _ _ => False))) : gm_G 474 240 [some (.ref m), none, some (.int x2), some (.int x3), none, some (.int x5), none, some (.int x7), some (.int x8), some (.int x9), some (.int x10)] [] h Q := by
  refine g_aload (r := some _) rfl rfl rfl (pc' := 241) ?_
  refine g_iload rfl rfl rfl (pc' := 242) ?_
  refine g_aload (r := some _) rfl rfl rfl (pc' := 243) ?_
  refine t_get (o := 112) rfl hT rfl rfl rfl (pc' := 246) rfl ?_
  refine g_iload rfl rfl rfl (pc' := 248) ?_
  refine g_iload rfl rfl rfl (pc' := 250) ?_
  refine t_call hT (y := 155) (n := 5) (pc' := 253) rfl rfl (t_vt hT rfl rfl) rfl rfl ⟨(Nat.le_of_ble_eq_true rfl), (Nat.le_of_ble_eq_true rfl), (Nat.le_of_ble_eq_true rfl)⟩ rfl H (tI_elim (fun v2 h1 H hT => ?_))
  show gm_G _ 253 _ _ _ _
  refine g_if_lt rfl (pc' := 256) (pt := 259) rfl rfl ⟨fun hc => ?_, fun hc => ?_⟩
  · have H := H.1 hc
    refine g_aload (r := some _) rfl rfl rfl (pc' := 260) ?_
    refine t_call hT (y := 113) (n := 1) (pc' := 263) rfl rfl (t_vt hT rfl rfl) rfl rfl ⟨(Nat.le_of_ble_eq_true rfl), (Nat.le_of_ble_eq_true rfl), (Nat.le_of_ble_eq_true rfl)⟩ rfl H (tI_elim (fun v4 h3 H hT => ?_))
    show gm_G _ 263 _ _ _ _
    refine g_if_ge rfl (pc' := 266) (pt := 269) rfl rfl ⟨fun hc => ?_, fun hc => ?_⟩
    · have H := H.1 hc
      refine g_aload (r := some _) rfl rfl rfl (pc' := 270) ?_
      refine t_getI rfl hT rfl rfl (pc' := 273) rfl ?_
      refine g_istore rfl rfl rfl (pc' := 275) ?_
      refine g_aload (r := some _) rfl rfl rfl (pc' := 276) ?_
      refine t_call hT (y := 421) (n := 1) (pc' := 279) rfl rfl (t_vt hT rfl rfl) rfl rfl ⟨(Nat.le_of_ble_eq_true rfl), (Nat.le_of_ble_eq_true rfl), (Nat.le_of_ble_eq_true rfl)⟩ rfl H (tV_elim (fun h5 H hT => ?_))
      show gm_G _ 279 _ _ _ _
      refine g_aload (r := some _) rfl rfl rfl (pc' := 280) ?_
      refine t_call hT (y := 403) (n := 1) (pc' := 283) rfl rfl (t_vt hT rfl rfl) rfl rfl ⟨(Nat.le_of_ble_eq_true rfl), (Nat.le_of_ble_eq_true rfl), (Nat.le_of_ble_eq_true rfl)⟩ rfl H (tI_elim (fun v7 h6 H hT => ?_))
      show gm_G _ 283 _ _ _ _
      refine g_istore rfl rfl rfl (pc' := 285) ?_
      refine g_iload rfl rfl rfl (pc' := 287) ?_
      refine g_if_eq rfl (pc' := 290) (pt := 313) rfl rfl ⟨fun hc => ?_, fun hc => ?_⟩
      · have H := H.1 hc
        refine g_iconst rfl rfl rfl (pc' := 314) ?_
        refine g_istore rfl rfl rfl (pc' := 316) ?_
        exact g_weak (show gm_Lle [some _, none, some _, some _, none, none, none, some _, some _, some _, none, none, some _, some _] _ from ⟨rfl, ⟨rfl, ⟨rfl, ⟨rfl, ⟨rfl, ⟨rfl, ⟨rfl, ⟨rfl, trivial⟩⟩⟩⟩⟩⟩⟩⟩) H
      · have H := H.2 hc
        refine g_aload (r := some _) rfl rfl rfl (pc' := 291) ?_
        refine g_aload (r := some _) rfl rfl rfl (pc' := 292) ?_
        refine t_get (o := 74) rfl hT rfl rfl rfl (pc' := 295) rfl ?_
        refine g_aload (r := some _) rfl rfl rfl (pc' := 296) ?_
        refine g_iload rfl rfl rfl (pc' := 297) ?_
        refine g_iload rfl rfl rfl (pc' := 299) ?_
        refine g_iconst rfl rfl rfl (pc' := 300) ?_
        refine g_isub rfl rfl (pc' := 301) ?_
        refine t_call hT (y := 154) (n := 3) (pc' := 304) rfl rfl (t_vt hT rfl rfl) rfl rfl ⟨(Nat.le_of_ble_eq_true rfl), (Nat.le_of_ble_eq_true rfl), (Nat.le_of_ble_eq_true rfl)⟩ rfl H (tI_elim (fun v9 h8 H hT => ?_))
        show gm_G _ 304 _ _ _ _
        obtain ⟨n10, hn10, H⟩ := H
        refine t_iaload hT (o := 74) (l := 48) rfl rfl rfl hn10 (pc' := 305) rfl ?_
        refine g_iload rfl rfl rfl (pc' := 307) ?_
        refine t_call hT (y := 276) (n := 3) (pc' := 310) rfl rfl (t_vt hT rfl rfl) rfl rfl ⟨(Nat.le_of_ble_eq_true rfl), (Nat.le_of_ble_eq_true rfl), (Nat.le_of_ble_eq_true rfl)⟩ rfl H (tV_elim (fun h11 H hT => ?_))
        show gm_G _ 310 _ _ _ _
        refine g_goto rfl (pc' := 341) rfl ?_
        exact g_weak (show gm_Lle [some _, none, some _, some _, none, none, none, some _, some _, some _, none, none, some _] _ from ⟨rfl, ⟨rfl, ⟨rfl, ⟨rfl, ⟨rfl, ⟨rfl, ⟨rfl, trivial⟩⟩⟩⟩⟩⟩⟩) H
    · have H := H.2 hc
      refine g_iconst rfl rfl rfl (pc' := 268) ?_
      exact g_ireturn rfl (Or.inl rfl) H
  · have H := H.2 hc
    refine g_iconst rfl rfl rfl (pc' := 258) ?_
    exact g_ireturn rfl (Or.inl rfl) H
theorem w_474_316 {m : Nat} {x2 : Int32} {x3 : Int32} {x7 : Int32} {x8 : Int32} {x9 : Int32} {x12 : Int32} {x13 : Int32} {h : hh_T} {Q : Option Value ⊕ Nat → hh_T → Prop} (hT : tw_ok h m) (H : (¬ x13 < (Int32.ofNat 16) → (gm_G 474 341 [some (.ref m), none, some (.int x2), some (.int x3), none, none, none, some (.int x7), some (.int x8), some (.int x9), none, none, some (.int x12)] [] h Q)) ∧ (x13 < (Int32.ofNat 16) → (gm_G 95 0 [some (.ref m), some (.int (((Int32.ofNat 16) * x12) + x13))] [] h (pV (fun h1 => gm_G 474 316 [some (.ref m), none, some (.int x2), some (.int x3), none, none, none, some (.int x7), some (.int x8), some (.int x9), none, none, some (.int x12), some (.int (x13 + (Int32.ofNat 1)))] [] h1 Q) (fun _ _ => False))))) : gm_G 474 316 [some (.ref m), none, some (.int x2), some (.int x3), none, none, none, some (.int x7), some (.int x8), some (.int x9), none, none, some (.int x12), some (.int x13)] [] h Q := by
  refine g_iload rfl rfl rfl (pc' := 318) ?_
  refine g_iconst rfl rfl rfl (pc' := 320) ?_
  refine g_ic_ge rfl (pc' := 323) (pt := 341) rfl rfl ⟨fun hc => ?_, fun hc => ?_⟩
  · have H := H.1 hc
    exact g_weak (show gm_Lle [some _, none, some _, some _, none, none, none, some _, some _, some _, none, none, some _] _ from ⟨rfl, ⟨rfl, ⟨rfl, ⟨rfl, ⟨rfl, ⟨rfl, ⟨rfl, trivial⟩⟩⟩⟩⟩⟩⟩) H
  · have H := H.2 hc
    refine g_aload (r := some _) rfl rfl rfl (pc' := 324) ?_
    refine g_iconst rfl rfl rfl (pc' := 326) ?_
    refine g_iload rfl rfl rfl (pc' := 328) ?_
    refine g_imul rfl rfl (pc' := 329) ?_
    refine g_iload rfl rfl rfl (pc' := 331) ?_
    refine g_iadd rfl rfl (pc' := 332) ?_
    refine t_call hT (y := 95) (n := 2) (pc' := 335) rfl rfl (t_vt hT rfl rfl) rfl rfl ⟨(Nat.le_of_ble_eq_true rfl), (Nat.le_of_ble_eq_true rfl), (Nat.le_of_ble_eq_true rfl)⟩ rfl H (tV_elim (fun h1 H hT => ?_))
    show gm_G _ 335 _ _ _ _
    refine g_iinc (c := (Int32.ofNat 1)) rfl rfl rfl rfl rfl (pc' := 338) ?_
    refine g_goto rfl (pc' := 316) rfl ?_
    exact g_weak (show gm_Lle [some _, none, some _, some _, none, none, none, some _, some _, some _, none, none, some _, some _] _ from ⟨rfl, ⟨rfl, ⟨rfl, ⟨rfl, ⟨rfl, ⟨rfl, ⟨rfl, ⟨rfl, trivial⟩⟩⟩⟩⟩⟩⟩⟩) H
theorem w_474_341 {m : Nat} {x2 : Int32} {x3 : Int32} {x7 : Int32} {x8 : Int32} {x9 : Int32} {x12 : Int32} {h : hh_T} {Q : Option Value ⊕ Nat → hh_T → Prop} (hT : tw_ok h m) (H : gm_G 418 0 [some (.ref m), some (.int x12), some (.int x3)] [] h (pI (fun v2 h1 => (¬ v2 = Int32.ofNat 0 → (gm_G 424 0 [some (.ref m)] [] h1 (pI (fun v4 h3 => (¬ v4 = Int32.ofNat 0 → (∃ n5, gm_ix x3 n5 32 ∧ (∀ h6, h6 = hh_wi h3 (m + 63) n5 x12 → (∀ h7, h7 = hh_wi h6 m 41 (Int32.ofNat 0) → (gm_G 103 0 [some (.ref m), some (.int x2)] [] h7 (pV (fun h8 => gm_G 291 0 [some (.ref m), some (.int x3), some (.int x7), some (.ref (m + 112)), some (.int x9), some (.int x8)] [] h8 (pI (fun v10 h9 => ∃ n11, gm_ix v10 n11 48 ∧ (gm_G 440 0 [some (.ref m)] [] h9 (pI (fun v13 h12 => (¬ v13 < Int32.ofNat 0 → (∀ h14, h14 = hh_wi h12 m 42 ((hh_i h12 m 42) + (hh_i h6 m 43)) → (Q (.inl (some (.int (hh_i h9 (m + 69) n11)))) h14))) ∧ (v13 < Int32.ofNat 0 → (Q (.inl (some (.int v13))) h12))) (fun _ _ => False)))) (fun _ _ => False))) (fun _ _ => False))))))) ∧ (v4 = Int32.ofNat 0 → (Q (.inl (some (.int (Int32.ofInt (-12))))) h3))) (fun _ _ => False)))) ∧ (v2 = Int32.ofNat 0 → (∀ h15, h15 = hh_wi h1 m 41 (Int32.ofNat 0) → (Q (.inl (some (.int (Int32.ofInt (-7))))) h15)))) (fun _ _ => False))) : gm_G 474 341 [some (.ref m), none, some (.int x2), some (.int x3), none, none, none, some (.int x7), some (.int x8), some (.int x9), none, none, some (.int x12)] [] h Q := by
  refine g_aload (r := some _) rfl rfl rfl (pc' := 342) ?_
  refine g_iload rfl rfl rfl (pc' := 344) ?_
  refine g_iload rfl rfl rfl (pc' := 345) ?_
  refine t_call hT (y := 418) (n := 3) (pc' := 348) rfl rfl (t_vt hT rfl rfl) rfl rfl ⟨(Nat.le_of_ble_eq_true rfl), (Nat.le_of_ble_eq_true rfl), (Nat.le_of_ble_eq_true rfl)⟩ rfl H (tI_elim (fun v2 h1 H hT => ?_))
  show gm_G _ 348 _ _ _ _
  refine g_if_ne rfl (pc' := 351) (pt := 359) rfl rfl ⟨fun hc => ?_, fun hc => ?_⟩
  · have H := H.1 hc
    refine g_aload (r := some _) rfl rfl rfl (pc' := 360) ?_
    refine t_call hT (y := 424) (n := 1) (pc' := 363) rfl rfl (t_vt hT rfl rfl) rfl rfl ⟨(Nat.le_of_ble_eq_true rfl), (Nat.le_of_ble_eq_true rfl), (Nat.le_of_ble_eq_true rfl)⟩ rfl H (tI_elim (fun v4 h3 H hT => ?_))
    show gm_G _ 363 _ _ _ _
    refine g_if_ne rfl (pc' := 366) (pt := 369) rfl rfl ⟨fun hc => ?_, fun hc => ?_⟩
    · have H := H.1 hc
      refine g_aload (r := some _) rfl rfl rfl (pc' := 370) ?_
      refine t_get (o := 63) rfl hT rfl rfl rfl (pc' := 373) rfl ?_
      refine g_iload rfl rfl rfl (pc' := 374) ?_
      refine g_iload rfl rfl rfl (pc' := 376) ?_
      obtain ⟨n5, hn5, H⟩ := H
      refine t_iastore hT (o := 63) (l := 32) rfl rfl rfl hn5  (pc' := 377) rfl (fun hT => ?_)
      have H := H _ rfl
      refine g_aload (r := some _) rfl rfl rfl (pc' := 378) ?_
      refine t_getI rfl hT rfl rfl (pc' := 381) rfl ?_
      refine g_istore rfl rfl rfl (pc' := 383) ?_
      refine g_aload (r := some _) rfl rfl rfl (pc' := 384) ?_
      refine g_iconst rfl rfl rfl (pc' := 385) ?_
      refine t_putI rfl hT rfl rfl  (pc' := 388) rfl (fun hT => ?_)
      have H := H _ rfl
      refine g_aload (r := some _) rfl rfl rfl (pc' := 389) ?_
      refine g_iload rfl rfl rfl (pc' := 390) ?_
      refine t_call hT (y := 103) (n := 2) (pc' := 393) rfl rfl (t_vt hT rfl rfl) rfl rfl ⟨(Nat.le_of_ble_eq_true rfl), (Nat.le_of_ble_eq_true rfl), (Nat.le_of_ble_eq_true rfl)⟩ rfl H (tV_elim (fun h8 H hT => ?_))
      show gm_G _ 393 _ _ _ _
      refine g_aload (r := some _) rfl rfl rfl (pc' := 394) ?_
      refine t_get (o := 69) rfl hT rfl rfl rfl (pc' := 397) rfl ?_
      refine g_aload (r := some _) rfl rfl rfl (pc' := 398) ?_
      refine g_iload rfl rfl rfl (pc' := 399) ?_
      refine g_iload rfl rfl rfl (pc' := 401) ?_
      refine g_aload (r := some _) rfl rfl rfl (pc' := 402) ?_
      refine t_get (o := 112) rfl hT rfl rfl rfl (pc' := 405) rfl ?_
      refine g_iload rfl rfl rfl (pc' := 407) ?_
      refine g_iload rfl rfl rfl (pc' := 409) ?_
      refine t_call hT (y := 291) (n := 6) (pc' := 412) rfl rfl (t_vt hT rfl rfl) rfl rfl ⟨(Nat.le_of_ble_eq_true rfl), (Nat.le_of_ble_eq_true rfl), (Nat.le_of_ble_eq_true rfl)⟩ rfl H (tI_elim (fun v10 h9 H hT => ?_))
      show gm_G _ 412 _ _ _ _
      obtain ⟨n11, hn11, H⟩ := H
      refine t_iaload hT (o := 69) (l := 48) rfl rfl rfl hn11 (pc' := 413) rfl ?_
      refine g_istore rfl rfl rfl (pc' := 415) ?_
      refine g_aload (r := some _) rfl rfl rfl (pc' := 416) ?_
      refine t_call hT (y := 440) (n := 1) (pc' := 419) rfl rfl (t_vt hT rfl rfl) rfl rfl ⟨(Nat.le_of_ble_eq_true rfl), (Nat.le_of_ble_eq_true rfl), (Nat.le_of_ble_eq_true rfl)⟩ rfl H (tI_elim (fun v13 h12 H hT => ?_))
      show gm_G _ 419 _ _ _ _
      refine g_istore rfl rfl rfl (pc' := 421) ?_
      refine g_iload rfl rfl rfl (pc' := 423) ?_
      refine g_if_ge rfl (pc' := 426) (pt := 429) rfl rfl ⟨fun hc => ?_, fun hc => ?_⟩
      · have H := H.1 hc
        refine g_aload (r := some _) rfl rfl rfl (pc' := 430) ?_
        refine g_dup_a (r := some _) rfl rfl (pc' := 431) ?_
        refine t_getI rfl hT rfl rfl (pc' := 434) rfl ?_
        refine g_iload rfl rfl rfl (pc' := 436) ?_
        refine g_iadd rfl rfl (pc' := 437) ?_
        refine t_putI rfl hT rfl rfl  (pc' := 440) rfl (fun hT => ?_)
        have H := H _ rfl
        refine g_iload rfl rfl rfl (pc' := 442) ?_
        exact g_ireturn rfl (Or.inl rfl) H
      · have H := H.2 hc
        refine g_iload rfl rfl rfl (pc' := 428) ?_
        exact g_ireturn rfl (Or.inl rfl) H
    · have H := H.2 hc
      refine g_iconst rfl rfl rfl (pc' := 368) ?_
      exact g_ireturn rfl (Or.inl rfl) H
  · have H := H.2 hc
    refine g_aload (r := some _) rfl rfl rfl (pc' := 352) ?_
    refine g_iconst rfl rfl rfl (pc' := 353) ?_
    refine t_putI rfl hT rfl rfl  (pc' := 356) rfl (fun hT => ?_)
    have H := H _ rfl
    refine g_iconst rfl rfl rfl (pc' := 358) ?_
    exact g_ireturn rfl (Or.inl rfl) H
theorem w_475_0 {m : Nat} {x1 : Int32} {x2 : Int32} {h : hh_T} {Q : Option Value ⊕ Nat → hh_T → Prop} (hT : tw_ok h m) (H : ∀ h1, h1 = hh_wi h m 2 (Int32.ofNat 0) → ((¬ (hh_i h1 m 77) = Int32.ofNat 0 → ((¬ x1 = Int32.ofNat 0 → (gm_G 285 0 [some (.ref m), some (.ref (m + 1)), some (.int (Int32.ofNat 0)), some (.int (hh_i h m 2))] [] h1 (pI (fun v3 h2 => (¬ v3 = Int32.ofNat 0 → (gm_G 152 0 [some (.ref m), some (.int x1)] [] h2 (pI (fun v5 h4 => gm_G 152 0 [some (.ref m), some (.int x2)] [] h4 (pI (fun v7 h6 => (v5 < Int32.ofNat 0 → (Q (.inl (some (.int (Int32.ofInt (-2))))) h6)) ∧ (¬ v5 < Int32.ofNat 0 → ((¬ v7 < Int32.ofNat 0 → (∃ n8, gm_ix v7 n8 32 ∧ ((¬ Int32.ofNat 0 < (hh_i h6 (m + 61) n8) → (gm_G 287 0 [some (.ref m), some (.int x2), some (.int x1)] [] h6 (pI (fun v10 h9 => (v10 = Int32.ofNat 0 → (gm_G 94 0 [some (.ref m), some (.int x2), some (.ref (m + 1)), some (.int (Int32.ofNat 0)), some (.int (hh_i h m 2))] [] h9 (pI (fun v12 h11 => (v12 < Int32.ofNat 0 → (gm_G 475 122 [some (.ref m), none, some (.int x2), some (.int (hh_i h m 2)), some (.int v5)] [] h11 Q)) ∧ (¬ v12 < Int32.ofNat 0 → ((v12 = v5 → (gm_G 475 122 [some (.ref m), none, some (.int x2), some (.int (hh_i h m 2)), some (.int v5)] [] h11 Q)) ∧ (¬ v12 = v5 → (Q (.inl (some (.int (Int32.ofInt (-4))))) h11))))) (fun _ _ => False)))) ∧ (¬ v10 = Int32.ofNat 0 → (Q (.inl (some (.int (Int32.ofInt (-5))))) h9))) (fun _ _ => False)))) ∧ (Int32.ofNat 0 < (hh_i h6 (m + 61) n8) → (Q (.inl (some (.int (Int32.ofInt (-10))))) h6))))) ∧ (v7 < Int32.ofNat 0 → (Q (.inl (some (.int (Int32.ofInt (-2))))) h6))))) (fun _ _ => False))) (fun _ _ => False)))) ∧ (v3 = Int32.ofNat 0 → (Q (.inl (some (.int (Int32.ofInt (-11))))) h2))) (fun _ _ => False)))) ∧ (x1 = Int32.ofNat 0 → (Q (.inl (some (.int (Int32.ofInt (-1))))) h1)))) ∧ ((hh_i h1 m 77) = Int32.ofNat 0 → (Q (.inl (some (.int (Int32.ofInt (-9))))) h1)))) : gm_G 475 0 [some (.ref m), some (.int x1), some (.int x2)] [] h Q := by
  refine g_aload (r := some _) rfl rfl rfl (pc' := 1) ?_
  refine t_getI rfl hT rfl rfl (pc' := 4) rfl ?_
  refine g_istore rfl rfl rfl (pc' := 5) ?_
  refine g_aload (r := some _) rfl rfl rfl (pc' := 6) ?_
  refine g_iconst rfl rfl rfl (pc' := 7) ?_
  refine t_putI rfl hT rfl rfl  (pc' := 10) rfl (fun hT => ?_)
  have H := H _ rfl
  refine g_aload (r := some _) rfl rfl rfl (pc' := 11) ?_
  refine t_getZ rfl hT rfl rfl (pc' := 14) rfl ?_
  refine g_if_ne rfl (pc' := 17) (pt := 20) rfl rfl ⟨fun hc => ?_, fun hc => ?_⟩
  · have H := H.1 hc
    refine g_iload rfl rfl rfl (pc' := 21) ?_
    refine g_if_ne rfl (pc' := 24) (pt := 26) rfl rfl ⟨fun hc => ?_, fun hc => ?_⟩
    · have H := H.1 hc
      refine g_aload (r := some _) rfl rfl rfl (pc' := 27) ?_
      refine g_aload (r := some _) rfl rfl rfl (pc' := 28) ?_
      refine t_get (o := 1) rfl hT rfl rfl rfl (pc' := 31) rfl ?_
      refine g_iconst rfl rfl rfl (pc' := 32) ?_
      refine g_iload rfl rfl rfl (pc' := 33) ?_
      refine t_call hT (y := 285) (n := 4) (pc' := 36) rfl rfl (t_vt hT rfl rfl) rfl rfl ⟨(Nat.le_of_ble_eq_true rfl), (Nat.le_of_ble_eq_true rfl), (Nat.le_of_ble_eq_true rfl)⟩ rfl H (tI_elim (fun v3 h2 H hT => ?_))
      show gm_G _ 36 _ _ _ _
      refine g_if_ne rfl (pc' := 39) (pt := 42) rfl rfl ⟨fun hc => ?_, fun hc => ?_⟩
      · have H := H.1 hc
        refine g_aload (r := some _) rfl rfl rfl (pc' := 43) ?_
        refine g_iload rfl rfl rfl (pc' := 44) ?_
        refine t_call hT (y := 152) (n := 2) (pc' := 47) rfl rfl (t_vt hT rfl rfl) rfl rfl ⟨(Nat.le_of_ble_eq_true rfl), (Nat.le_of_ble_eq_true rfl), (Nat.le_of_ble_eq_true rfl)⟩ rfl H (tI_elim (fun v5 h4 H hT => ?_))
        show gm_G _ 47 _ _ _ _
        refine g_istore rfl rfl rfl (pc' := 49) ?_
        refine g_aload (r := some _) rfl rfl rfl (pc' := 50) ?_
        refine g_iload rfl rfl rfl (pc' := 51) ?_
        refine t_call hT (y := 152) (n := 2) (pc' := 54) rfl rfl (t_vt hT rfl rfl) rfl rfl ⟨(Nat.le_of_ble_eq_true rfl), (Nat.le_of_ble_eq_true rfl), (Nat.le_of_ble_eq_true rfl)⟩ rfl H (tI_elim (fun v7 h6 H hT => ?_))
        show gm_G _ 54 _ _ _ _
        refine g_istore rfl rfl rfl (pc' := 56) ?_
        refine g_iload rfl rfl rfl (pc' := 58) ?_
        refine g_if_lt rfl (pc' := 61) (pt := 66) rfl rfl ⟨fun hc => ?_, fun hc => ?_⟩
        · have H := H.1 hc
          refine g_iconst rfl rfl rfl (pc' := 68) ?_
          exact g_ireturn rfl (Or.inl rfl) H
        · have H := H.2 hc
          refine g_iload rfl rfl rfl (pc' := 63) ?_
          refine g_if_ge rfl (pc' := 66) (pt := 69) rfl rfl ⟨fun hc => ?_, fun hc => ?_⟩
          · have H := H.1 hc
            refine g_aload (r := some _) rfl rfl rfl (pc' := 70) ?_
            refine t_get (o := 61) rfl hT rfl rfl rfl (pc' := 73) rfl ?_
            refine g_iload rfl rfl rfl (pc' := 75) ?_
            obtain ⟨n8, hn8, H⟩ := H
            refine t_iaload hT (o := 61) (l := 32) rfl rfl rfl hn8 (pc' := 76) rfl ?_
            refine g_if_le rfl (pc' := 79) (pt := 82) rfl rfl ⟨fun hc => ?_, fun hc => ?_⟩
            · have H := H.1 hc
              refine g_aload (r := some _) rfl rfl rfl (pc' := 83) ?_
              refine g_iload rfl rfl rfl (pc' := 84) ?_
              refine g_iload rfl rfl rfl (pc' := 85) ?_
              refine t_call hT (y := 287) (n := 3) (pc' := 88) rfl rfl (t_vt hT rfl rfl) rfl rfl ⟨(Nat.le_of_ble_eq_true rfl), (Nat.le_of_ble_eq_true rfl), (Nat.le_of_ble_eq_true rfl)⟩ rfl H (tI_elim (fun v10 h9 H hT => ?_))
              show gm_G _ 88 _ _ _ _
              refine g_if_eq rfl (pc' := 91) (pt := 94) rfl rfl ⟨fun hc => ?_, fun hc => ?_⟩
              · have H := H.1 hc
                refine g_aload (r := some _) rfl rfl rfl (pc' := 95) ?_
                refine g_iload rfl rfl rfl (pc' := 96) ?_
                refine g_aload (r := some _) rfl rfl rfl (pc' := 97) ?_
                refine t_get (o := 1) rfl hT rfl rfl rfl (pc' := 100) rfl ?_
                refine g_iconst rfl rfl rfl (pc' := 101) ?_
                refine g_iload rfl rfl rfl (pc' := 102) ?_
                refine t_call hT (y := 94) (n := 5) (pc' := 105) rfl rfl (t_vt hT rfl rfl) rfl rfl ⟨(Nat.le_of_ble_eq_true rfl), (Nat.le_of_ble_eq_true rfl), (Nat.le_of_ble_eq_true rfl)⟩ rfl H (tI_elim (fun v12 h11 H hT => ?_))
                show gm_G _ 105 _ _ _ _
                refine g_istore rfl rfl rfl (pc' := 107) ?_
                refine g_iload rfl rfl rfl (pc' := 109) ?_
                refine g_if_lt rfl (pc' := 112) (pt := 122) rfl rfl ⟨fun hc => ?_, fun hc => ?_⟩
                · have H := H.1 hc
                  exact g_weak (show gm_Lle [some _, none, some _, some _, some _] _ from ⟨rfl, ⟨rfl, ⟨rfl, ⟨rfl, trivial⟩⟩⟩⟩) H
                · have H := H.2 hc
                  refine g_iload rfl rfl rfl (pc' := 114) ?_
                  refine g_iload rfl rfl rfl (pc' := 116) ?_
                  refine g_ic_eq rfl (pc' := 119) (pt := 122) rfl rfl ⟨fun hc => ?_, fun hc => ?_⟩
                  · have H := H.1 hc
                    exact g_weak (show gm_Lle [some _, none, some _, some _, some _] _ from ⟨rfl, ⟨rfl, ⟨rfl, ⟨rfl, trivial⟩⟩⟩⟩) H
                  · have H := H.2 hc
                    refine g_iconst rfl rfl rfl (pc' := 121) ?_
                    exact g_ireturn rfl (Or.inl rfl) H
              · have H := H.2 hc
                refine g_iconst rfl rfl rfl (pc' := 93) ?_
                exact g_ireturn rfl (Or.inl rfl) H
            · have H := H.2 hc
              refine g_iconst rfl rfl rfl (pc' := 81) ?_
              exact g_ireturn rfl (Or.inl rfl) H
          · have H := H.2 hc
            refine g_iconst rfl rfl rfl (pc' := 68) ?_
            exact g_ireturn rfl (Or.inl rfl) H
      · have H := H.2 hc
        refine g_iconst rfl rfl rfl (pc' := 41) ?_
        exact g_ireturn rfl (Or.inl rfl) H
    · have H := H.2 hc
      refine g_iconst rfl rfl rfl (pc' := 25) ?_
      exact g_ireturn rfl (Or.inl rfl) H
  · have H := H.2 hc
    refine g_iconst rfl rfl rfl (pc' := 19) ?_
    exact g_ireturn rfl (Or.inl rfl) H
theorem w_475_122 {m : Nat} {x2 : Int32} {x3 : Int32} {x4 : Int32} {h : hh_T} {Q : Option Value ⊕ Nat → hh_T → Prop} (hT : tw_ok h m) (H : ∃ n1, gm_ix x4 n1 32 ∧ (∀ h2, h2 = hh_wi h (m + 60) n1 x2 → (gm_G 133 0 [some (.ref m), some (.int x4), some (.ref (m + 1)), some (.int (Int32.ofNat 0)), some (.int x3)] [] h2 (pV (fun h3 => gm_G 440 0 [some (.ref m)] [] h3 (pI (fun v5 h4 => (¬ v5 < Int32.ofNat 0 → (Q (.inl (some (.int (Int32.ofNat 0)))) h4)) ∧ (v5 < Int32.ofNat 0 → (Q (.inl (some (.int v5))) h4))) (fun _ _ => False))) (fun _ _ => False))))) : gm_G 475 122 [some (.ref m), none, some (.int x2), some (.int x3), some (.int x4)] [] h Q := by
  refine g_aload (r := some _) rfl rfl rfl (pc' := 123) ?_
  refine t_get (o := 60) rfl hT rfl rfl rfl (pc' := 126) rfl ?_
  refine g_iload rfl rfl rfl (pc' := 128) ?_
  refine g_iload rfl rfl rfl (pc' := 129) ?_
  obtain ⟨n1, hn1, H⟩ := H
  refine t_iastore hT (o := 60) (l := 32) rfl rfl rfl hn1  (pc' := 130) rfl (fun hT => ?_)
  have H := H _ rfl
  refine g_aload (r := some _) rfl rfl rfl (pc' := 131) ?_
  refine g_iload rfl rfl rfl (pc' := 133) ?_
  refine g_aload (r := some _) rfl rfl rfl (pc' := 134) ?_
  refine t_get (o := 1) rfl hT rfl rfl rfl (pc' := 137) rfl ?_
  refine g_iconst rfl rfl rfl (pc' := 138) ?_
  refine g_iload rfl rfl rfl (pc' := 139) ?_
  refine t_call hT (y := 133) (n := 5) (pc' := 142) rfl rfl (t_vt hT rfl rfl) rfl rfl ⟨(Nat.le_of_ble_eq_true rfl), (Nat.le_of_ble_eq_true rfl), (Nat.le_of_ble_eq_true rfl)⟩ rfl H (tV_elim (fun h3 H hT => ?_))
  show gm_G _ 142 _ _ _ _
  refine g_aload (r := some _) rfl rfl rfl (pc' := 143) ?_
  refine t_call hT (y := 440) (n := 1) (pc' := 146) rfl rfl (t_vt hT rfl rfl) rfl rfl ⟨(Nat.le_of_ble_eq_true rfl), (Nat.le_of_ble_eq_true rfl), (Nat.le_of_ble_eq_true rfl)⟩ rfl H (tI_elim (fun v5 h4 H hT => ?_))
  show gm_G _ 146 _ _ _ _
  refine g_istore rfl rfl rfl (pc' := 148) ?_
  refine g_iload rfl rfl rfl (pc' := 150) ?_
  refine g_if_ge rfl (pc' := 153) (pt := 158) rfl rfl ⟨fun hc => ?_, fun hc => ?_⟩
  · have H := H.1 hc
    refine g_iconst rfl rfl rfl (pc' := 159) ?_
    exact g_ireturn rfl (Or.inl rfl) H
  · have H := H.2 hc
    refine g_iload rfl rfl rfl (pc' := 155) ?_
    refine g_goto rfl (pc' := 159) rfl ?_
    exact g_ireturn rfl (Or.inl rfl) H
theorem w_476_0 {m : Nat} {x1 : Int32} {h : hh_T} {Q : Option Value ⊕ Nat → hh_T → Prop} (hT : tw_ok h m) (H : (¬ (hh_i h m 77) = Int32.ofNat 0 → (gm_G 152 0 [some (.ref m), some (.int x1)] [] h (pI (fun v2 h1 => (¬ v2 < Int32.ofNat 0 → (gm_G 156 0 [some (.ref m), some (.int x1)] [] h1 (pI (fun v4 h3 => (¬ v4 = Int32.ofNat 0 → (gm_G 125 0 [some (.ref m), some (.int ((Int32.ofNat 2) * x1))] [] h3 (pI (fun v6 h5 => (v6 = Int32.ofNat 0 → (gm_G 154 0 [some (.ref m), some (.int x1), some (.int (v4 - (Int32.ofNat 1)))] [] h5 (pI (fun v8 h7 => ∃ n9, gm_ix v8 n9 48 ∧ (∃ n10, gm_ix v2 n10 32 ∧ (∀ h11, h11 = hh_wi h7 (m + 63) n10 (hh_i h7 (m + 74) n9) → (gm_G 103 0 [some (.ref m), some (.int x1)] [] h11 (pV (fun h12 => ∃ n13, gm_ix v8 n13 48 ∧ (gm_G 440 0 [some (.ref m)] [] h12 (pI (fun v15 h14 => (¬ v15 < Int32.ofNat 0 → (Q (.inl (some (.int (hh_i h12 (m + 69) n13)))) h14)) ∧ (v15 < Int32.ofNat 0 → (Q (.inl (some (.int v15))) h14))) (fun _ _ => False)))) (fun _ _ => False)))))) (fun _ _ => False)))) ∧ (¬ v6 = Int32.ofNat 0 → (Q (.inl (some (.int (Int32.ofInt (-5))))) h5))) (fun _ _ => False)))) ∧ (v4 = Int32.ofNat 0 → (Q (.inl (some (.int (Int32.ofInt (-2))))) h3))) (fun _ _ => False)))) ∧ (v2 < Int32.ofNat 0 → (Q (.inl (some (.int (Int32.ofInt (-2))))) h1))) (fun _ _ => False)))) ∧ ((hh_i h m 77) = Int32.ofNat 0 → (Q (.inl (some (.int (Int32.ofInt (-9))))) h))) : gm_G 476 0 [some (.ref m), some (.int x1)] [] h Q := by
  refine g_aload (r := some _) rfl rfl rfl (pc' := 1) ?_
  refine t_getZ rfl hT rfl rfl (pc' := 4) rfl ?_
  refine g_if_ne rfl (pc' := 7) (pt := 10) rfl rfl ⟨fun hc => ?_, fun hc => ?_⟩
  · have H := H.1 hc
    refine g_aload (r := some _) rfl rfl rfl (pc' := 11) ?_
    refine g_iload rfl rfl rfl (pc' := 12) ?_
    refine t_call hT (y := 152) (n := 2) (pc' := 15) rfl rfl (t_vt hT rfl rfl) rfl rfl ⟨(Nat.le_of_ble_eq_true rfl), (Nat.le_of_ble_eq_true rfl), (Nat.le_of_ble_eq_true rfl)⟩ rfl H (tI_elim (fun v2 h1 H hT => ?_))
    show gm_G _ 15 _ _ _ _
    refine g_istore rfl rfl rfl (pc' := 16) ?_
    refine g_iload rfl rfl rfl (pc' := 17) ?_
    refine g_if_ge rfl (pc' := 20) (pt := 23) rfl rfl ⟨fun hc => ?_, fun hc => ?_⟩
    · have H := H.1 hc
      refine g_aload (r := some _) rfl rfl rfl (pc' := 24) ?_
      refine g_iload rfl rfl rfl (pc' := 25) ?_
      refine t_call hT (y := 156) (n := 2) (pc' := 28) rfl rfl (t_vt hT rfl rfl) rfl rfl ⟨(Nat.le_of_ble_eq_true rfl), (Nat.le_of_ble_eq_true rfl), (Nat.le_of_ble_eq_true rfl)⟩ rfl H (tI_elim (fun v4 h3 H hT => ?_))
      show gm_G _ 28 _ _ _ _
      refine g_istore rfl rfl rfl (pc' := 29) ?_
      refine g_iload rfl rfl rfl (pc' := 30) ?_
      refine g_if_ne rfl (pc' := 33) (pt := 36) rfl rfl ⟨fun hc => ?_, fun hc => ?_⟩
      · have H := H.1 hc
        refine g_aload (r := some _) rfl rfl rfl (pc' := 37) ?_
        refine g_iconst rfl rfl rfl (pc' := 38) ?_
        refine g_iload rfl rfl rfl (pc' := 39) ?_
        refine g_imul rfl rfl (pc' := 40) ?_
        refine t_call hT (y := 125) (n := 2) (pc' := 43) rfl rfl (t_vt hT rfl rfl) rfl rfl ⟨(Nat.le_of_ble_eq_true rfl), (Nat.le_of_ble_eq_true rfl), (Nat.le_of_ble_eq_true rfl)⟩ rfl H (tI_elim (fun v6 h5 H hT => ?_))
        show gm_G _ 43 _ _ _ _
        refine g_if_eq rfl (pc' := 46) (pt := 49) rfl rfl ⟨fun hc => ?_, fun hc => ?_⟩
        · have H := H.1 hc
          refine g_aload (r := some _) rfl rfl rfl (pc' := 50) ?_
          refine g_iload rfl rfl rfl (pc' := 51) ?_
          refine g_iload rfl rfl rfl (pc' := 52) ?_
          refine g_iconst rfl rfl rfl (pc' := 53) ?_
          refine g_isub rfl rfl (pc' := 54) ?_
          refine t_call hT (y := 154) (n := 3) (pc' := 57) rfl rfl (t_vt hT rfl rfl) rfl rfl ⟨(Nat.le_of_ble_eq_true rfl), (Nat.le_of_ble_eq_true rfl), (Nat.le_of_ble_eq_true rfl)⟩ rfl H (tI_elim (fun v8 h7 H hT => ?_))
          show gm_G _ 57 _ _ _ _
          refine g_istore rfl rfl rfl (pc' := 59) ?_
          refine g_aload (r := some _) rfl rfl rfl (pc' := 60) ?_
          refine t_get (o := 63) rfl hT rfl rfl rfl (pc' := 63) rfl ?_
          refine g_iload rfl rfl rfl (pc' := 64) ?_
          refine g_aload (r := some _) rfl rfl rfl (pc' := 65) ?_
          refine t_get (o := 74) rfl hT rfl rfl rfl (pc' := 68) rfl ?_
          refine g_iload rfl rfl rfl (pc' := 70) ?_
          obtain ⟨n9, hn9, H⟩ := H
          refine t_iaload hT (o := 74) (l := 48) rfl rfl rfl hn9 (pc' := 71) rfl ?_
          obtain ⟨n10, hn10, H⟩ := H
          refine t_iastore hT (o := 63) (l := 32) rfl rfl rfl hn10  (pc' := 72) rfl (fun hT => ?_)
          have H := H _ rfl
          refine g_aload (r := some _) rfl rfl rfl (pc' := 73) ?_
          refine g_iload rfl rfl rfl (pc' := 74) ?_
          refine t_call hT (y := 103) (n := 2) (pc' := 77) rfl rfl (t_vt hT rfl rfl) rfl rfl ⟨(Nat.le_of_ble_eq_true rfl), (Nat.le_of_ble_eq_true rfl), (Nat.le_of_ble_eq_true rfl)⟩ rfl H (tV_elim (fun h12 H hT => ?_))
          show gm_G _ 77 _ _ _ _
          refine g_aload (r := some _) rfl rfl rfl (pc' := 78) ?_
          refine t_get (o := 69) rfl hT rfl rfl rfl (pc' := 81) rfl ?_
          refine g_iload rfl rfl rfl (pc' := 83) ?_
          obtain ⟨n13, hn13, H⟩ := H
          refine t_iaload hT (o := 69) (l := 48) rfl rfl rfl hn13 (pc' := 84) rfl ?_
          refine g_istore rfl rfl rfl (pc' := 86) ?_
          refine g_aload (r := some _) rfl rfl rfl (pc' := 87) ?_
          refine t_call hT (y := 440) (n := 1) (pc' := 90) rfl rfl (t_vt hT rfl rfl) rfl rfl ⟨(Nat.le_of_ble_eq_true rfl), (Nat.le_of_ble_eq_true rfl), (Nat.le_of_ble_eq_true rfl)⟩ rfl H (tI_elim (fun v15 h14 H hT => ?_))
          show gm_G _ 90 _ _ _ _
          refine g_istore rfl rfl rfl (pc' := 92) ?_
          refine g_iload rfl rfl rfl (pc' := 94) ?_
          refine g_if_ge rfl (pc' := 97) (pt := 102) rfl rfl ⟨fun hc => ?_, fun hc => ?_⟩
          · have H := H.1 hc
            refine g_iload rfl rfl rfl (pc' := 104) ?_
            exact g_ireturn rfl (Or.inl rfl) H
          · have H := H.2 hc
            refine g_iload rfl rfl rfl (pc' := 99) ?_
            refine g_goto rfl (pc' := 104) rfl ?_
            exact g_ireturn rfl (Or.inl rfl) H
        · have H := H.2 hc
          refine g_iconst rfl rfl rfl (pc' := 48) ?_
          exact g_ireturn rfl (Or.inl rfl) H
      · have H := H.2 hc
        refine g_iconst rfl rfl rfl (pc' := 35) ?_
        exact g_ireturn rfl (Or.inl rfl) H
    · have H := H.2 hc
      refine g_iconst rfl rfl rfl (pc' := 22) ?_
      exact g_ireturn rfl (Or.inl rfl) H
  · have H := H.2 hc
    refine g_iconst rfl rfl rfl (pc' := 9) ?_
    exact g_ireturn rfl (Or.inl rfl) H
theorem w_477_0 {m : Nat} {x1 : Int32} {h : hh_T} {Q : Option Value ⊕ Nat → hh_T → Prop} (hT : tw_ok h m) (H : (¬ (hh_i h m 77) = Int32.ofNat 0 → ((x1 < (Int32.ofNat 1) → (Q (.inl (some (.int (Int32.ofInt (-1))))) h)) ∧ (¬ x1 < (Int32.ofNat 1) → ((¬ (Int32.ofNat 1000) < x1 → (gm_G 422 0 [some (.ref m)] [] h (pV (fun h1 => gm_G 477 35 [some (.ref m), some (.int x1), some (.int (Int32.ofNat 0)), some (.int (hh_i h1 m 139))] [] h1 Q) (fun _ _ => False)))) ∧ ((Int32.ofNat 1000) < x1 → (Q (.inl (some (.int (Int32.ofInt (-1))))) h)))))) ∧ ((hh_i h m 77) = Int32.ofNat 0 → (Q (.inl (some (.int (Int32.ofInt (-9))))) h))) : gm_G 477 0 [some (.ref m), some (.int x1)] [] h Q := by
  refine g_aload (r := some _) rfl rfl rfl (pc' := 1) ?_
  refine t_getZ rfl hT rfl rfl (pc' := 4) rfl ?_
  refine g_if_ne rfl (pc' := 7) (pt := 10) rfl rfl ⟨fun hc => ?_, fun hc => ?_⟩
  · have H := H.1 hc
    refine g_iload rfl rfl rfl (pc' := 11) ?_
    refine g_iconst rfl rfl rfl (pc' := 12) ?_
    refine g_ic_lt rfl (pc' := 15) (pt := 22) rfl rfl ⟨fun hc => ?_, fun hc => ?_⟩
    · have H := H.1 hc
      refine g_iconst rfl rfl rfl (pc' := 23) ?_
      exact g_ireturn rfl (Or.inl rfl) H
    · have H := H.2 hc
      refine g_iload rfl rfl rfl (pc' := 16) ?_
      refine g_iconst rfl rfl rfl (pc' := 19) ?_
      refine g_ic_le rfl (pc' := 22) (pt := 24) rfl rfl ⟨fun hc => ?_, fun hc => ?_⟩
      · have H := H.1 hc
        refine g_aload (r := some _) rfl rfl rfl (pc' := 25) ?_
        refine t_call hT (y := 422) (n := 1) (pc' := 28) rfl rfl (t_vt hT rfl rfl) rfl rfl ⟨(Nat.le_of_ble_eq_true rfl), (Nat.le_of_ble_eq_true rfl), (Nat.le_of_ble_eq_true rfl)⟩ rfl H (tV_elim (fun h1 H hT => ?_))
        show gm_G _ 28 _ _ _ _
        refine g_iconst rfl rfl rfl (pc' := 29) ?_
        refine g_istore rfl rfl rfl (pc' := 30) ?_
        refine g_aload (r := some _) rfl rfl rfl (pc' := 31) ?_
        refine t_getI rfl hT rfl rfl (pc' := 34) rfl ?_
        refine g_istore rfl rfl rfl (pc' := 35) ?_
        exact g_weak (show gm_Lle [some _, some _, some _, some _] _ from ⟨rfl, ⟨rfl, ⟨rfl, ⟨rfl, trivial⟩⟩⟩⟩) H
      · have H := H.2 hc
        refine g_iconst rfl rfl rfl (pc' := 23) ?_
        exact g_ireturn rfl (Or.inl rfl) H
  · have H := H.2 hc
    refine g_iconst rfl rfl rfl (pc' := 9) ?_
    exact g_ireturn rfl (Or.inl rfl) H
theorem w_477_35 {m : Nat} {x1 : Int32} {x2 : Int32} {x3 : Int32} {h : hh_T} {Q : Option Value ⊕ Nat → hh_T → Prop} (hT : tw_ok h m) (H : (¬ x2 < x1 → (gm_G 477 215 [some (.ref m), some (.int x1), some (.int x2)] [] h Q)) ∧ (x2 < x1 → (gm_G 477 49 [some (.ref m), some (.int x1), some (.int x2), some (.int x3), some (.int (Int32.ofInt (-1))), some (.int (Int32.ofInt (-1))), some (.int (Int32.ofNat 0))] [] h Q))) : gm_G 477 35 [some (.ref m), some (.int x1), some (.int x2), some (.int x3)] [] h Q := by
  refine g_iload rfl rfl rfl (pc' := 36) ?_
  refine g_iload rfl rfl rfl (pc' := 37) ?_
  refine g_ic_ge rfl (pc' := 40) (pt := 215) rfl rfl ⟨fun hc => ?_, fun hc => ?_⟩
  · have H := H.1 hc
    exact g_weak (show gm_Lle [some _, some _, some _] _ from ⟨rfl, ⟨rfl, ⟨rfl, trivial⟩⟩⟩) H
  · have H := H.2 hc
    refine g_iconst rfl rfl rfl (pc' := 41) ?_
    refine g_istore rfl rfl rfl (pc' := 43) ?_
    refine g_iconst rfl rfl rfl (pc' := 44) ?_
    refine g_istore rfl rfl rfl (pc' := 46) ?_
    refine g_iconst rfl rfl rfl (pc' := 47) ?_
    refine g_istore rfl rfl rfl (pc' := 49) ?_
    exact g_weak (show gm_Lle [some _, some _, some _, some _, some _, some _, some _] _ from ⟨rfl, ⟨rfl, ⟨rfl, ⟨rfl, ⟨rfl, ⟨rfl, ⟨rfl, trivial⟩⟩⟩⟩⟩⟩⟩) H
theorem w_477_49 {m : Nat} {x1 : Int32} {x2 : Int32} {x3 : Int32} {x4 : Int32} {x5 : Int32} {x6 : Int32} {h : hh_T} {Q : Option Value ⊕ Nat → hh_T → Prop} (hT : tw_ok h m) (H : (¬ x6 < (Int32.ofNat 640) → ((¬ x4 < Int32.ofNat 0 → (gm_G 441 0 [some (.ref m), some (.int x4)] [] h (pI (fun v2 h1 => (¬ v2 = Int32.ofNat 0 → (gm_G 477 188 [some (.ref m), some (.int x1), some (.int x2), some (.int x3), none, some (.int x5), some (.int v2)] [] h1 Q)) ∧ (v2 = Int32.ofNat 0 → (gm_G 419 0 [some (.ref m), some (.int x4)] [] h1 (pI (fun v4 h3 => (¬ v4 = Int32.ofNat 0 → (gm_G 477 188 [some (.ref m), some (.int x1), some (.int x2), some (.int x3), none, some (.int x5), some (.int v2)] [] h3 Q)) ∧ (v4 = Int32.ofNat 0 → (gm_G 477 188 [some (.ref m), some (.int x1), some (.int x2), some (.int x3), none, some (.int x5), some (.int (Int32.ofInt (-12)))] [] h3 Q))) (fun _ _ => False))))) (fun _ _ => False)))) ∧ (x4 < Int32.ofNat 0 → (gm_G 477 215 [some (.ref m), some (.int x1), some (.int x2)] [] h Q)))) ∧ (x6 < (Int32.ofNat 640) → (gm_G 477 60 [some (.ref m), some (.int x1), some (.int x2), some (.int x3), some (.int x4), some (.int x5), some (.int x6), some (.int (Int32.ofNat 0))] [] h Q))) : gm_G 477 49 [some (.ref m), some (.int x1), some (.int x2), some (.int x3), some (.int x4), some (.int x5), some (.int x6)] [] h Q := by
  refine g_iload rfl rfl rfl (pc' := 51) ?_
  refine g_iconst rfl rfl rfl (pc' := 54) ?_
  refine g_ic_ge rfl (pc' := 57) (pt := 154) rfl rfl ⟨fun hc => ?_, fun hc => ?_⟩
  · have H := H.1 hc
    refine g_iload rfl rfl rfl (pc' := 156) ?_
    refine g_if_ge rfl (pc' := 159) (pt := 162) rfl rfl ⟨fun hc => ?_, fun hc => ?_⟩
    · have H := H.1 hc
      refine g_aload (r := some _) rfl rfl rfl (pc' := 163) ?_
      refine g_iload rfl rfl rfl (pc' := 165) ?_
      refine t_call hT (y := 441) (n := 2) (pc' := 168) rfl rfl (t_vt hT rfl rfl) rfl rfl ⟨(Nat.le_of_ble_eq_true rfl), (Nat.le_of_ble_eq_true rfl), (Nat.le_of_ble_eq_true rfl)⟩ rfl H (tI_elim (fun v2 h1 H hT => ?_))
      show gm_G _ 168 _ _ _ _
      refine g_istore rfl rfl rfl (pc' := 170) ?_
      refine g_iload rfl rfl rfl (pc' := 172) ?_
      refine g_if_ne rfl (pc' := 175) (pt := 188) rfl rfl ⟨fun hc => ?_, fun hc => ?_⟩
      · have H := H.1 hc
        exact g_weak (show gm_Lle [some _, some _, some _, some _, none, some _, some _] _ from ⟨rfl, ⟨rfl, ⟨rfl, ⟨rfl, ⟨rfl, ⟨rfl, trivial⟩⟩⟩⟩⟩⟩) H
      · have H := H.2 hc
        refine g_aload (r := some _) rfl rfl rfl (pc' := 176) ?_
        refine g_iload rfl rfl rfl (pc' := 178) ?_
        refine t_call hT (y := 419) (n := 2) (pc' := 181) rfl rfl (t_vt hT rfl rfl) rfl rfl ⟨(Nat.le_of_ble_eq_true rfl), (Nat.le_of_ble_eq_true rfl), (Nat.le_of_ble_eq_true rfl)⟩ rfl H (tI_elim (fun v4 h3 H hT => ?_))
        show gm_G _ 181 _ _ _ _
        refine g_if_ne rfl (pc' := 184) (pt := 188) rfl rfl ⟨fun hc => ?_, fun hc => ?_⟩
        · have H := H.1 hc
          exact g_weak (show gm_Lle [some _, some _, some _, some _, none, some _, some _] _ from ⟨rfl, ⟨rfl, ⟨rfl, ⟨rfl, ⟨rfl, ⟨rfl, trivial⟩⟩⟩⟩⟩⟩) H
        · have H := H.2 hc
          refine g_iconst rfl rfl rfl (pc' := 186) ?_
          refine g_istore rfl rfl rfl (pc' := 188) ?_
          exact g_weak (show gm_Lle [some _, some _, some _, some _, none, some _, some _] _ from ⟨rfl, ⟨rfl, ⟨rfl, ⟨rfl, ⟨rfl, ⟨rfl, trivial⟩⟩⟩⟩⟩⟩) H
    · have H := H.2 hc
      refine g_goto rfl (pc' := 215) rfl ?_
      exact g_weak (show gm_Lle [some _, some _, some _] _ from ⟨rfl, ⟨rfl, ⟨rfl, trivial⟩⟩⟩) H
  · have H := H.2 hc
    refine g_iconst rfl rfl rfl (pc' := 58) ?_
    refine g_istore rfl rfl rfl (pc' := 60) ?_
    exact g_weak (show gm_Lle [some _, some _, some _, some _, some _, some _, some _, some _] _ from ⟨rfl, ⟨rfl, ⟨rfl, ⟨rfl, ⟨rfl, ⟨rfl, ⟨rfl, ⟨rfl, trivial⟩⟩⟩⟩⟩⟩⟩⟩) H
theorem w_477_60 {m : Nat} {x1 : Int32} {x2 : Int32} {x3 : Int32} {x4 : Int32} {x5 : Int32} {x6 : Int32} {x7 : Int32} {h : hh_T} {Q : Option Value ⊕ Nat → hh_T → Prop} (hT : tw_ok h m) (H : ∃ n1, gm_ix x6 n1 640 ∧ (((hh_i h (m + 18) n1) = Int32.ofNat 0 → (gm_G 477 148 [some (.ref m), some (.int x1), some (.int x2), some (.int x3), some (.int x4), some (.int x5), some (.int x6)] [] h Q)) ∧ (¬ (hh_i h (m + 18) n1) = Int32.ofNat 0 → (∃ n2, gm_ix x6 n2 640 ∧ ((¬ x7 < (hh_i h (m + 22) n2) → (gm_G 477 148 [some (.ref m), some (.int x1), some (.int x2), some (.int x3), some (.int x4), some (.int x5), some (.int x6)] [] h Q)) ∧ (x7 < (hh_i h (m + 22) n2) → (∃ n3, gm_ix (((Int32.ofNat 2) * x6) + x7) n3 1280 ∧ (∃ n4, gm_ix (((Int32.ofNat 2) * x6) + x7) n4 1280 ∧ ((¬ (hh_i h m 139) < (((Int32.ofNat 384) * (hh_i h (m + 23) n3)) + (hh_i h (m + 24) n4)) → (gm_G 477 142 [some (.ref m), some (.int x1), some (.int x2), some (.int x3), some (.int x4), some (.int x5), some (.int x6), some (.int x7)] [] h Q)) ∧ ((hh_i h m 139) < (((Int32.ofNat 384) * (hh_i h (m + 23) n3)) + (hh_i h (m + 24) n4)) → ((x5 < Int32.ofNat 0 → (gm_G 477 134 [some (.ref m), some (.int x1), some (.int x2), some (.int x3), none, none, some (.int x6), some (.int x7), some (.int (((Int32.ofNat 384) * (hh_i h (m + 23) n3)) + (hh_i h (m + 24) n4)))] [] h Q)) ∧ (¬ x5 < Int32.ofNat 0 → ((¬ (((Int32.ofNat 384) * (hh_i h (m + 23) n3)) + (hh_i h (m + 24) n4)) < x5 → (gm_G 477 142 [some (.ref m), some (.int x1), some (.int x2), some (.int x3), some (.int x4), some (.int x5), some (.int x6), some (.int x7)] [] h Q)) ∧ ((((Int32.ofNat 384) * (hh_i h (m + 23) n3)) + (hh_i h (m + 24) n4)) < x5 → (gm_G 477 134 [some (.ref m), some (.int x1), some (.int x2), some (.int x3), none, none, some (.int x6), some (.int x7), some (.int (((Int32.ofNat 384) * (hh_i h (m + 23) n3)) + (hh_i h (m + 24) n4)))] [] h Q))))))))))))))) : gm_G 477 60 [some (.ref m), some (.int x1), some (.int x2), some (.int x3), some (.int x4), some (.int x5), some (.int x6), some (.int x7)] [] h Q := by
  refine g_aload (r := some _) rfl rfl rfl (pc' := 61) ?_
  refine t_get (o := 18) rfl hT rfl rfl rfl (pc' := 64) rfl ?_
  refine g_iload rfl rfl rfl (pc' := 66) ?_
  obtain ⟨n1, hn1, H⟩ := H
  refine t_zaload hT (o := 18) (l := 640) rfl rfl rfl hn1 (pc' := 67) rfl ?_
  refine g_if_eq rfl (pc' := 70) (pt := 148) rfl rfl ⟨fun hc => ?_, fun hc => ?_⟩
  · have H := H.1 hc
    exact g_weak (show gm_Lle [some _, some _, some _, some _, some _, some _, some _] _ from ⟨rfl, ⟨rfl, ⟨rfl, ⟨rfl, ⟨rfl, ⟨rfl, ⟨rfl, trivial⟩⟩⟩⟩⟩⟩⟩) H
  · have H := H.2 hc
    refine g_iload rfl rfl rfl (pc' := 72) ?_
    refine g_aload (r := some _) rfl rfl rfl (pc' := 73) ?_
    refine t_get (o := 22) rfl hT rfl rfl rfl (pc' := 76) rfl ?_
    refine g_iload rfl rfl rfl (pc' := 78) ?_
    obtain ⟨n2, hn2, H⟩ := H
    refine t_iaload hT (o := 22) (l := 640) rfl rfl rfl hn2 (pc' := 79) rfl ?_
    refine g_ic_ge rfl (pc' := 82) (pt := 148) rfl rfl ⟨fun hc => ?_, fun hc => ?_⟩
    · have H := H.1 hc
      exact g_weak (show gm_Lle [some _, some _, some _, some _, some _, some _, some _] _ from ⟨rfl, ⟨rfl, ⟨rfl, ⟨rfl, ⟨rfl, ⟨rfl, ⟨rfl, trivial⟩⟩⟩⟩⟩⟩⟩) H
    · have H := H.2 hc
      refine g_iconst rfl rfl rfl (pc' := 85) ?_
      refine g_aload (r := some _) rfl rfl rfl (pc' := 86) ?_
      refine t_get (o := 23) rfl hT rfl rfl rfl (pc' := 89) rfl ?_
      refine g_iconst rfl rfl rfl (pc' := 90) ?_
      refine g_iload rfl rfl rfl (pc' := 92) ?_
      refine g_imul rfl rfl (pc' := 93) ?_
      refine g_iload rfl rfl rfl (pc' := 95) ?_
      refine g_iadd rfl rfl (pc' := 96) ?_
      obtain ⟨n3, hn3, H⟩ := H
      refine t_iaload hT (o := 23) (l := 1280) rfl rfl rfl hn3 (pc' := 97) rfl ?_
      refine g_imul rfl rfl (pc' := 98) ?_
      refine g_aload (r := some _) rfl rfl rfl (pc' := 99) ?_
      refine t_get (o := 24) rfl hT rfl rfl rfl (pc' := 102) rfl ?_
      refine g_iconst rfl rfl rfl (pc' := 103) ?_
      refine g_iload rfl rfl rfl (pc' := 105) ?_
      refine g_imul rfl rfl (pc' := 106) ?_
      refine g_iload rfl rfl rfl (pc' := 108) ?_
      refine g_iadd rfl rfl (pc' := 109) ?_
      obtain ⟨n4, hn4, H⟩ := H
      refine t_iaload hT (o := 24) (l := 1280) rfl rfl rfl hn4 (pc' := 110) rfl ?_
      refine g_iadd rfl rfl (pc' := 111) ?_
      refine g_istore rfl rfl rfl (pc' := 113) ?_
      refine g_iload rfl rfl rfl (pc' := 115) ?_
      refine g_aload (r := some _) rfl rfl rfl (pc' := 116) ?_
      refine t_getI rfl hT rfl rfl (pc' := 119) rfl ?_
      refine g_ic_le rfl (pc' := 122) (pt := 142) rfl rfl ⟨fun hc => ?_, fun hc => ?_⟩
      · have H := H.1 hc
        exact g_weak (show gm_Lle [some _, some _, some _, some _, some _, some _, some _, some _] _ from ⟨rfl, ⟨rfl, ⟨rfl, ⟨rfl, ⟨rfl, ⟨rfl, ⟨rfl, ⟨rfl, trivial⟩⟩⟩⟩⟩⟩⟩⟩) H
      · have H := H.2 hc
        refine g_iload rfl rfl rfl (pc' := 124) ?_
        refine g_if_lt rfl (pc' := 127) (pt := 134) rfl rfl ⟨fun hc => ?_, fun hc => ?_⟩
        · have H := H.1 hc
          exact g_weak (show gm_Lle [some _, some _, some _, some _, none, none, some _, some _, some _] _ from ⟨rfl, ⟨rfl, ⟨rfl, ⟨rfl, ⟨rfl, ⟨rfl, ⟨rfl, trivial⟩⟩⟩⟩⟩⟩⟩) H
        · have H := H.2 hc
          refine g_iload rfl rfl rfl (pc' := 129) ?_
          refine g_iload rfl rfl rfl (pc' := 131) ?_
          refine g_ic_ge rfl (pc' := 134) (pt := 142) rfl rfl ⟨fun hc => ?_, fun hc => ?_⟩
          · have H := H.1 hc
            exact g_weak (show gm_Lle [some _, some _, some _, some _, some _, some _, some _, some _] _ from ⟨rfl, ⟨rfl, ⟨rfl, ⟨rfl, ⟨rfl, ⟨rfl, ⟨rfl, ⟨rfl, trivial⟩⟩⟩⟩⟩⟩⟩⟩) H
          · have H := H.2 hc
            exact g_weak (show gm_Lle [some _, some _, some _, some _, none, none, some _, some _, some _] _ from ⟨rfl, ⟨rfl, ⟨rfl, ⟨rfl, ⟨rfl, ⟨rfl, ⟨rfl, trivial⟩⟩⟩⟩⟩⟩⟩) H
theorem w_477_134 {m : Nat} {x1 : Int32} {x2 : Int32} {x3 : Int32} {x6 : Int32} {x7 : Int32} {x8 : Int32} {h : hh_T} {Q : Option Value ⊕ Nat → hh_T → Prop} (hT : tw_ok h m) (H : gm_G 477 142 [some (.ref m), some (.int x1), some (.int x2), some (.int x3), some (.int x6), some (.int x8), some (.int x6), some (.int x7)] [] h Q) : gm_G 477 134 [some (.ref m), some (.int x1), some (.int x2), some (.int x3), none, none, some (.int x6), some (.int x7), some (.int x8)] [] h Q := by
  refine g_iload rfl rfl rfl (pc' := 136) ?_
  refine g_istore rfl rfl rfl (pc' := 138) ?_
  refine g_iload rfl rfl rfl (pc' := 140) ?_
  refine g_istore rfl rfl rfl (pc' := 142) ?_
  exact g_weak (show gm_Lle [some _, some _, some _, some _, some _, some _, some _, some _] _ from ⟨rfl, ⟨rfl, ⟨rfl, ⟨rfl, ⟨rfl, ⟨rfl, ⟨rfl, ⟨rfl, trivial⟩⟩⟩⟩⟩⟩⟩⟩) H
theorem w_477_142 {m : Nat} {x1 : Int32} {x2 : Int32} {x3 : Int32} {x4 : Int32} {x5 : Int32} {x6 : Int32} {x7 : Int32} {h : hh_T} {Q : Option Value ⊕ Nat → hh_T → Prop} (hT : tw_ok h m) (H : gm_G 477 60 [some (.ref m), some (.int x1), some (.int x2), some (.int x3), some (.int x4), some (.int x5), some (.int x6), some (.int (x7 + (Int32.ofNat 1)))] [] h Q) : gm_G 477 142 [some (.ref m), some (.int x1), some (.int x2), some (.int x3), some (.int x4), some (.int x5), some (.int x6), some (.int x7)] [] h Q := by
  refine g_iinc (c := (Int32.ofNat 1)) rfl rfl rfl rfl rfl (pc' := 145) ?_
  refine g_goto rfl (pc' := 60) rfl ?_
  exact g_weak (show gm_Lle [some _, some _, some _, some _, some _, some _, some _, some _] _ from ⟨rfl, ⟨rfl, ⟨rfl, ⟨rfl, ⟨rfl, ⟨rfl, ⟨rfl, ⟨rfl, trivial⟩⟩⟩⟩⟩⟩⟩⟩) H
theorem w_477_148 {m : Nat} {x1 : Int32} {x2 : Int32} {x3 : Int32} {x4 : Int32} {x5 : Int32} {x6 : Int32} {h : hh_T} {Q : Option Value ⊕ Nat → hh_T → Prop} (hT : tw_ok h m) (H : gm_G 477 49 [some (.ref m), some (.int x1), some (.int x2), some (.int x3), some (.int x4), some (.int x5), some (.int (x6 + (Int32.ofNat 1)))] [] h Q) : gm_G 477 148 [some (.ref m), some (.int x1), some (.int x2), some (.int x3), some (.int x4), some (.int x5), some (.int x6)] [] h Q := by
  refine g_iinc (c := (Int32.ofNat 1)) rfl rfl rfl rfl rfl (pc' := 151) ?_
  refine g_goto rfl (pc' := 49) rfl ?_
  exact g_weak (show gm_Lle [some _, some _, some _, some _, some _, some _, some _] _ from ⟨rfl, ⟨rfl, ⟨rfl, ⟨rfl, ⟨rfl, ⟨rfl, ⟨rfl, trivial⟩⟩⟩⟩⟩⟩⟩) H
theorem w_477_188 {m : Nat} {x1 : Int32} {x2 : Int32} {x3 : Int32} {x5 : Int32} {x6 : Int32} {h : hh_T} {Q : Option Value ⊕ Nat → hh_T → Prop} (hT : tw_ok h m) (H : (¬ x6 = (Int32.ofInt (-12)) → (∀ h1, h1 = hh_wi h m 139 x5 → (gm_G 477 35 [some (.ref m), some (.int x1), some (.int (x2 + (Int32.ofNat 1))), some (.int x3)] [] h1 Q))) ∧ (x6 = (Int32.ofInt (-12)) → (∀ h2, h2 = hh_wi h m 139 x3 → (Q (.inl (some (.int (Int32.ofInt (-12))))) h2)))) : gm_G 477 188 [some (.ref m), some (.int x1), some (.int x2), some (.int x3), none, some (.int x5), some (.int x6)] [] h Q := by
  refine g_iload rfl rfl rfl (pc' := 190) ?_
  refine g_iconst rfl rfl rfl (pc' := 192) ?_
  refine g_ic_ne rfl (pc' := 195) (pt := 203) rfl rfl ⟨fun hc => ?_, fun hc => ?_⟩
  · have H := H.1 hc
    refine g_aload (r := some _) rfl rfl rfl (pc' := 204) ?_
    refine g_iload rfl rfl rfl (pc' := 206) ?_
    refine t_putI rfl hT rfl rfl  (pc' := 209) rfl (fun hT => ?_)
    have H := H _ rfl
    refine g_iinc (c := (Int32.ofNat 1)) rfl rfl rfl rfl rfl (pc' := 212) ?_
    refine g_goto rfl (pc' := 35) rfl ?_
    exact g_weak (show gm_Lle [some _, some _, some _, some _] _ from ⟨rfl, ⟨rfl, ⟨rfl, ⟨rfl, trivial⟩⟩⟩⟩) H
  · have H := H.2 hc
    refine g_aload (r := some _) rfl rfl rfl (pc' := 196) ?_
    refine g_iload rfl rfl rfl (pc' := 197) ?_
    refine t_putI rfl hT rfl rfl  (pc' := 200) rfl (fun hT => ?_)
    have H := H _ rfl
    refine g_iconst rfl rfl rfl (pc' := 202) ?_
    exact g_ireturn rfl (Or.inl rfl) H
theorem w_477_215 {m : Nat} {x1 : Int32} {x2 : Int32} {h : hh_T} {Q : Option Value ⊕ Nat → hh_T → Prop} (hT : tw_ok h m) (H : (¬ x2 < x1 → (gm_G 477 225 [none, none, some (.int x2)] [] h Q)) ∧ (x2 < x1 → (∀ h1, h1 = hh_wi h m 139 (Int32.ofInt (-1)) → (gm_G 477 225 [none, none, some (.int x2)] [] h1 Q)))) : gm_G 477 215 [some (.ref m), some (.int x1), some (.int x2)] [] h Q := by
  refine g_iload rfl rfl rfl (pc' := 216) ?_
  refine g_iload rfl rfl rfl (pc' := 217) ?_
  refine g_ic_ge rfl (pc' := 220) (pt := 225) rfl rfl ⟨fun hc => ?_, fun hc => ?_⟩
  · have H := H.1 hc
    exact g_weak (show gm_Lle [none, none, some _] _ from ⟨rfl, trivial⟩) H
  · have H := H.2 hc
    refine g_aload (r := some _) rfl rfl rfl (pc' := 221) ?_
    refine g_iconst rfl rfl rfl (pc' := 222) ?_
    refine t_putI rfl hT rfl rfl  (pc' := 225) rfl (fun hT => ?_)
    have H := H _ rfl
    exact g_weak (show gm_Lle [none, none, some _] _ from ⟨rfl, trivial⟩) H
theorem w_477_225 {m : Nat} {x2 : Int32} {h : hh_T} {Q : Option Value ⊕ Nat → hh_T → Prop} (hT : tw_ok h m) (H : Q (.inl (some (.int x2))) h) : gm_G 477 225 [none, none, some (.int x2)] [] h Q := by
  refine g_iload rfl rfl rfl (pc' := 226) ?_
  exact g_ireturn rfl (Or.inl rfl) H
theorem w_478_0 {m : Nat} {x1 : Int32} {x2 : Int32} {x3 : Int32} {h : hh_T} {Q : Option Value ⊕ Nat → hh_T → Prop} (hT : tw_ok h m) (H : (¬ (hh_i h m 77) = Int32.ofNat 0 → ((x2 = Int32.ofNat 0 → (gm_G 478 24 [some (.ref m), some (.int x1), some (.int x2), some (.int x3)] [] h Q)) ∧ (¬ x2 = Int32.ofNat 0 → ((x2 = (Int32.ofNat 1) → (gm_G 478 24 [some (.ref m), some (.int x1), some (.int x2), some (.int x3)] [] h Q)) ∧ (¬ x2 = (Int32.ofNat 1) → ((¬ x2 = (Int32.ofNat 4) → (gm_G 478 29 [some (.ref m), some (.int x1), some (.int x2), some (.int x3)] [.int (Int32.ofNat 1)] h Q)) ∧ (x2 = (Int32.ofNat 4) → (gm_G 478 24 [some (.ref m), some (.int x1), some (.int x2), some (.int x3)] [] h Q)))))))) ∧ ((hh_i h m 77) = Int32.ofNat 0 → (Q (.inl (some (.int (Int32.ofInt (-9))))) h))) : gm_G 478 0 [some (.ref m), some (.int x1), some (.int x2), some (.int x3)] [] h Q := by
  refine g_aload (r := some _) rfl rfl rfl (pc' := 1) ?_
  refine t_getZ rfl hT rfl rfl (pc' := 4) rfl ?_
  refine g_if_ne rfl (pc' := 7) (pt := 10) rfl rfl ⟨fun hc => ?_, fun hc => ?_⟩
  · have H := H.1 hc
    refine g_iload rfl rfl rfl (pc' := 11) ?_
    refine g_if_eq rfl (pc' := 14) (pt := 24) rfl rfl ⟨fun hc => ?_, fun hc => ?_⟩
    · have H := H.1 hc
      exact g_weak (show gm_Lle [some _, some _, some _, some _] _ from ⟨rfl, ⟨rfl, ⟨rfl, ⟨rfl, trivial⟩⟩⟩⟩) H
    · have H := H.2 hc
      refine g_iload rfl rfl rfl (pc' := 15) ?_
      refine g_iconst rfl rfl rfl (pc' := 16) ?_
      refine g_ic_eq rfl (pc' := 19) (pt := 24) rfl rfl ⟨fun hc => ?_, fun hc => ?_⟩
      · have H := H.1 hc
        exact g_weak (show gm_Lle [some _, some _, some _, some _] _ from ⟨rfl, ⟨rfl, ⟨rfl, ⟨rfl, trivial⟩⟩⟩⟩) H
      · have H := H.2 hc
        refine g_iload rfl rfl rfl (pc' := 20) ?_
        refine g_iconst rfl rfl rfl (pc' := 21) ?_
        refine g_ic_ne rfl (pc' := 24) (pt := 28) rfl rfl ⟨fun hc => ?_, fun hc => ?_⟩
        · have H := H.1 hc
          refine g_iconst rfl rfl rfl (pc' := 29) ?_
          exact g_weak (show gm_Lle [some _, some _, some _, some _] _ from ⟨rfl, ⟨rfl, ⟨rfl, ⟨rfl, trivial⟩⟩⟩⟩) H
        · have H := H.2 hc
          exact g_weak (show gm_Lle [some _, some _, some _, some _] _ from ⟨rfl, ⟨rfl, ⟨rfl, ⟨rfl, trivial⟩⟩⟩⟩) H
  · have H := H.2 hc
    refine g_iconst rfl rfl rfl (pc' := 9) ?_
    exact g_ireturn rfl (Or.inl rfl) H
theorem w_478_24 {m : Nat} {x1 : Int32} {x2 : Int32} {x3 : Int32} {h : hh_T} {Q : Option Value ⊕ Nat → hh_T → Prop} (hT : tw_ok h m) (H : gm_G 478 29 [some (.ref m), some (.int x1), some (.int x2), some (.int x3)] [.int (Int32.ofNat 2)] h Q) : gm_G 478 24 [some (.ref m), some (.int x1), some (.int x2), some (.int x3)] [] h Q := by
  refine g_iconst rfl rfl rfl (pc' := 25) ?_
  refine g_goto rfl (pc' := 29) rfl ?_
  exact g_weak (show gm_Lle [some _, some _, some _, some _] _ from ⟨rfl, ⟨rfl, ⟨rfl, ⟨rfl, trivial⟩⟩⟩⟩) H
theorem w_478_29 {m : Nat} {x1 : Int32} {x2 : Int32} {x3 : Int32} {y0 : Int32} {h : hh_T} {Q : Option Value ⊕ Nat → hh_T → Prop} (hT : tw_ok h m) (H : (x2 < Int32.ofNat 0 → (Q (.inl (some (.int (Int32.ofInt (-1))))) h)) ∧ (¬ x2 < Int32.ofNat 0 → (((Int32.ofNat 4) < x2 → (Q (.inl (some (.int (Int32.ofInt (-1))))) h)) ∧ (¬ (Int32.ofNat 4) < x2 → ((x3 < (Int32.ofInt (-1)) → (Q (.inl (some (.int (Int32.ofInt (-1))))) h)) ∧ (¬ x3 < (Int32.ofInt (-1)) → ((y0 < x3 → (Q (.inl (some (.int (Int32.ofInt (-1))))) h)) ∧ (¬ y0 < x3 → ((¬ x2 = (Int32.ofNat 1) → (gm_G 478 62 [some (.ref m), some (.int x1), some (.int x2), some (.int x3)] [] h Q)) ∧ (x2 = (Int32.ofNat 1) → ((¬ x3 = Int32.ofNat 0 → (gm_G 478 62 [some (.ref m), some (.int x1), some (.int x2), some (.int x3)] [] h Q)) ∧ (x3 = Int32.ofNat 0 → (Q (.inl (some (.int (Int32.ofInt (-1))))) h))))))))))))) : gm_G 478 29 [some (.ref m), some (.int x1), some (.int x2), some (.int x3)] [.int y0] h Q := by
  refine g_istore rfl rfl rfl (pc' := 31) ?_
  refine g_iload rfl rfl rfl (pc' := 32) ?_
  refine g_if_lt rfl (pc' := 35) (pt := 60) rfl rfl ⟨fun hc => ?_, fun hc => ?_⟩
  · have H := H.1 hc
    refine g_iconst rfl rfl rfl (pc' := 61) ?_
    exact g_ireturn rfl (Or.inl rfl) H
  · have H := H.2 hc
    refine g_iload rfl rfl rfl (pc' := 36) ?_
    refine g_iconst rfl rfl rfl (pc' := 37) ?_
    refine g_ic_gt rfl (pc' := 40) (pt := 60) rfl rfl ⟨fun hc => ?_, fun hc => ?_⟩
    · have H := H.1 hc
      refine g_iconst rfl rfl rfl (pc' := 61) ?_
      exact g_ireturn rfl (Or.inl rfl) H
    · have H := H.2 hc
      refine g_iload rfl rfl rfl (pc' := 41) ?_
      refine g_iconst rfl rfl rfl (pc' := 42) ?_
      refine g_ic_lt rfl (pc' := 45) (pt := 60) rfl rfl ⟨fun hc => ?_, fun hc => ?_⟩
      · have H := H.1 hc
        refine g_iconst rfl rfl rfl (pc' := 61) ?_
        exact g_ireturn rfl (Or.inl rfl) H
      · have H := H.2 hc
        refine g_iload rfl rfl rfl (pc' := 46) ?_
        refine g_iload rfl rfl rfl (pc' := 48) ?_
        refine g_ic_gt rfl (pc' := 51) (pt := 60) rfl rfl ⟨fun hc => ?_, fun hc => ?_⟩
        · have H := H.1 hc
          refine g_iconst rfl rfl rfl (pc' := 61) ?_
          exact g_ireturn rfl (Or.inl rfl) H
        · have H := H.2 hc
          refine g_iload rfl rfl rfl (pc' := 52) ?_
          refine g_iconst rfl rfl rfl (pc' := 53) ?_
          refine g_ic_ne rfl (pc' := 56) (pt := 62) rfl rfl ⟨fun hc => ?_, fun hc => ?_⟩
          · have H := H.1 hc
            exact g_weak (show gm_Lle [some _, some _, some _, some _] _ from ⟨rfl, ⟨rfl, ⟨rfl, ⟨rfl, trivial⟩⟩⟩⟩) H
          · have H := H.2 hc
            refine g_iload rfl rfl rfl (pc' := 57) ?_
            refine g_if_ne rfl (pc' := 60) (pt := 62) rfl rfl ⟨fun hc => ?_, fun hc => ?_⟩
            · have H := H.1 hc
              exact g_weak (show gm_Lle [some _, some _, some _, some _] _ from ⟨rfl, ⟨rfl, ⟨rfl, ⟨rfl, trivial⟩⟩⟩⟩) H
            · have H := H.2 hc
              refine g_iconst rfl rfl rfl (pc' := 61) ?_
              exact g_ireturn rfl (Or.inl rfl) H
theorem w_478_62 {m : Nat} {x1 : Int32} {x2 : Int32} {x3 : Int32} {h : hh_T} {Q : Option Value ⊕ Nat → hh_T → Prop} (hT : tw_ok h m) (H : gm_G 152 0 [some (.ref m), some (.int x1)] [] h (pI (fun v2 h1 => (¬ v2 < Int32.ofNat 0 → (∃ n3, gm_ix (((Int32.ofNat 5) * v2) + x2) n3 160 ∧ (∀ h4, h4 = hh_wi h1 (m + 65) n3 x3 → (gm_G 440 0 [some (.ref m)] [] h4 (pI (fun v6 h5 => (¬ v6 < Int32.ofNat 0 → (Q (.inl (some (.int (Int32.ofNat 0)))) h5)) ∧ (v6 < Int32.ofNat 0 → (Q (.inl (some (.int v6))) h5))) (fun _ _ => False)))))) ∧ (v2 < Int32.ofNat 0 → (Q (.inl (some (.int (Int32.ofInt (-2))))) h1))) (fun _ _ => False))) : gm_G 478 62 [some (.ref m), some (.int x1), some (.int x2), some (.int x3)] [] h Q := by
  refine g_aload (r := some _) rfl rfl rfl (pc' := 63) ?_
  refine g_iload rfl rfl rfl (pc' := 64) ?_
  refine t_call hT (y := 152) (n := 2) (pc' := 67) rfl rfl (t_vt hT rfl rfl) rfl rfl ⟨(Nat.le_of_ble_eq_true rfl), (Nat.le_of_ble_eq_true rfl), (Nat.le_of_ble_eq_true rfl)⟩ rfl H (tI_elim (fun v2 h1 H hT => ?_))
  show gm_G _ 67 _ _ _ _
  refine g_istore rfl rfl rfl (pc' := 69) ?_
  refine g_iload rfl rfl rfl (pc' := 71) ?_
  refine g_if_ge rfl (pc' := 74) (pt := 77) rfl rfl ⟨fun hc => ?_, fun hc => ?_⟩
  · have H := H.1 hc
    refine g_aload (r := some _) rfl rfl rfl (pc' := 78) ?_
    refine t_get (o := 65) rfl hT rfl rfl rfl (pc' := 81) rfl ?_
    refine g_iconst rfl rfl rfl (pc' := 82) ?_
    refine g_iload rfl rfl rfl (pc' := 84) ?_
    refine g_imul rfl rfl (pc' := 85) ?_
    refine g_iload rfl rfl rfl (pc' := 86) ?_
    refine g_iadd rfl rfl (pc' := 87) ?_
    refine g_iload rfl rfl rfl (pc' := 88) ?_
    obtain ⟨n3, hn3, H⟩ := H
    refine t_iastore hT (o := 65) (l := 160) rfl rfl rfl hn3  (pc' := 89) rfl (fun hT => ?_)
    have H := H _ rfl
    refine g_aload (r := some _) rfl rfl rfl (pc' := 90) ?_
    refine t_call hT (y := 440) (n := 1) (pc' := 93) rfl rfl (t_vt hT rfl rfl) rfl rfl ⟨(Nat.le_of_ble_eq_true rfl), (Nat.le_of_ble_eq_true rfl), (Nat.le_of_ble_eq_true rfl)⟩ rfl H (tI_elim (fun v6 h5 H hT => ?_))
    show gm_G _ 93 _ _ _ _
    refine g_istore rfl rfl rfl (pc' := 95) ?_
    refine g_iload rfl rfl rfl (pc' := 97) ?_
    refine g_if_ge rfl (pc' := 100) (pt := 105) rfl rfl ⟨fun hc => ?_, fun hc => ?_⟩
    · have H := H.1 hc
      refine g_iconst rfl rfl rfl (pc' := 106) ?_
      exact g_ireturn rfl (Or.inl rfl) H
    · have H := H.2 hc
      refine g_iload rfl rfl rfl (pc' := 102) ?_
      refine g_goto rfl (pc' := 106) rfl ?_
      exact g_ireturn rfl (Or.inl rfl) H
  · have H := H.2 hc
    refine g_iconst rfl rfl rfl (pc' := 76) ?_
    exact g_ireturn rfl (Or.inl rfl) H
theorem w_479_0 {m : Nat} {x1 : Int32} {h : hh_T} {Q : Option Value ⊕ Nat → hh_T → Prop} (hT : tw_ok h m) (H : ∀ h1, h1 = hh_wi h m 2 (Int32.ofNat 0) → ((¬ (hh_i h1 m 77) = Int32.ofNat 0 → (gm_G 285 0 [some (.ref m), some (.ref (m + 1)), some (.int (Int32.ofNat 0)), some (.int (hh_i h m 2))] [] h1 (pI (fun v3 h2 => (¬ v3 = Int32.ofNat 0 → (gm_G 152 0 [some (.ref m), some (.int x1)] [] h2 (pI (fun v5 h4 => (¬ v5 < Int32.ofNat 0 → (gm_G 155 0 [some (.ref m), some (.int x1), some (.ref (m + 1)), some (.int (Int32.ofNat 0)), some (.int (hh_i h m 2))] [] h4 (pI (fun v7 h6 => (v7 < Int32.ofNat 0 → (gm_G 113 0 [some (.ref m)] [] h6 (pI (fun v9 h8 => (¬ v9 < Int32.ofNat 0 → (∀ h10, h10 = hh_wi h8 m 101 ((hh_i h8 m 101) + (Int32.ofNat 1)) → (gm_G 291 0 [some (.ref m), some (.int v5), some (.int (hh_i h10 m 101)), some (.ref (m + 1)), some (.int (Int32.ofNat 0)), some (.int (hh_i h m 2))] [] h10 (pI (fun v12 h11 => ∃ n13, gm_ix v12 n13 48 ∧ (gm_G 440 0 [some (.ref m)] [] h11 (pI (fun v15 h14 => (¬ v15 < Int32.ofNat 0 → (Q (.inl (some (.int (hh_i h11 (m + 69) n13)))) h14)) ∧ (v15 < Int32.ofNat 0 → (Q (.inl (some (.int v15))) h14))) (fun _ _ => False)))) (fun _ _ => False))))) ∧ (v9 < Int32.ofNat 0 → (Q (.inl (some (.int (Int32.ofInt (-3))))) h8))) (fun _ _ => False)))) ∧ (¬ v7 < Int32.ofNat 0 → (Q (.inl (some (.int (Int32.ofInt (-4))))) h6))) (fun _ _ => False)))) ∧ (v5 < Int32.ofNat 0 → (Q (.inl (some (.int (Int32.ofInt (-2))))) h4))) (fun _ _ => False)))) ∧ (v3 = Int32.ofNat 0 → (Q (.inl (some (.int (Int32.ofInt (-11))))) h2))) (fun _ _ => False)))) ∧ ((hh_i h1 m 77) = Int32.ofNat 0 → (Q (.inl (some (.int (Int32.ofInt (-9))))) h1)))) : gm_G 479 0 [some (.ref m), some (.int x1)] [] h Q := by
  refine g_aload (r := some _) rfl rfl rfl (pc' := 1) ?_
  refine t_getI rfl hT rfl rfl (pc' := 4) rfl ?_
  refine g_istore rfl rfl rfl (pc' := 5) ?_
  refine g_aload (r := some _) rfl rfl rfl (pc' := 6) ?_
  refine g_iconst rfl rfl rfl (pc' := 7) ?_
  refine t_putI rfl hT rfl rfl  (pc' := 10) rfl (fun hT => ?_)
  have H := H _ rfl
  refine g_aload (r := some _) rfl rfl rfl (pc' := 11) ?_
  refine t_getZ rfl hT rfl rfl (pc' := 14) rfl ?_
  refine g_if_ne rfl (pc' := 17) (pt := 20) rfl rfl ⟨fun hc => ?_, fun hc => ?_⟩
  · have H := H.1 hc
    refine g_aload (r := some _) rfl rfl rfl (pc' := 21) ?_
    refine g_aload (r := some _) rfl rfl rfl (pc' := 22) ?_
    refine t_get (o := 1) rfl hT rfl rfl rfl (pc' := 25) rfl ?_
    refine g_iconst rfl rfl rfl (pc' := 26) ?_
    refine g_iload rfl rfl rfl (pc' := 27) ?_
    refine t_call hT (y := 285) (n := 4) (pc' := 30) rfl rfl (t_vt hT rfl rfl) rfl rfl ⟨(Nat.le_of_ble_eq_true rfl), (Nat.le_of_ble_eq_true rfl), (Nat.le_of_ble_eq_true rfl)⟩ rfl H (tI_elim (fun v3 h2 H hT => ?_))
    show gm_G _ 30 _ _ _ _
    refine g_if_ne rfl (pc' := 33) (pt := 36) rfl rfl ⟨fun hc => ?_, fun hc => ?_⟩
    · have H := H.1 hc
      refine g_aload (r := some _) rfl rfl rfl (pc' := 37) ?_
      refine g_iload rfl rfl rfl (pc' := 38) ?_
      refine t_call hT (y := 152) (n := 2) (pc' := 41) rfl rfl (t_vt hT rfl rfl) rfl rfl ⟨(Nat.le_of_ble_eq_true rfl), (Nat.le_of_ble_eq_true rfl), (Nat.le_of_ble_eq_true rfl)⟩ rfl H (tI_elim (fun v5 h4 H hT => ?_))
      show gm_G _ 41 _ _ _ _
      refine g_istore rfl rfl rfl (pc' := 42) ?_
      refine g_iload rfl rfl rfl (pc' := 43) ?_
      refine g_if_ge rfl (pc' := 46) (pt := 49) rfl rfl ⟨fun hc => ?_, fun hc => ?_⟩
      · have H := H.1 hc
        refine g_aload (r := some _) rfl rfl rfl (pc' := 50) ?_
        refine g_iload rfl rfl rfl (pc' := 51) ?_
        refine g_aload (r := some _) rfl rfl rfl (pc' := 52) ?_
        refine t_get (o := 1) rfl hT rfl rfl rfl (pc' := 55) rfl ?_
        refine g_iconst rfl rfl rfl (pc' := 56) ?_
        refine g_iload rfl rfl rfl (pc' := 57) ?_
        refine t_call hT (y := 155) (n := 5) (pc' := 60) rfl rfl (t_vt hT rfl rfl) rfl rfl ⟨(Nat.le_of_ble_eq_true rfl), (Nat.le_of_ble_eq_true rfl), (Nat.le_of_ble_eq_true rfl)⟩ rfl H (tI_elim (fun v7 h6 H hT => ?_))
        show gm_G _ 60 _ _ _ _
        refine g_if_lt rfl (pc' := 63) (pt := 66) rfl rfl ⟨fun hc => ?_, fun hc => ?_⟩
        · have H := H.1 hc
          refine g_aload (r := some _) rfl rfl rfl (pc' := 67) ?_
          refine t_call hT (y := 113) (n := 1) (pc' := 70) rfl rfl (t_vt hT rfl rfl) rfl rfl ⟨(Nat.le_of_ble_eq_true rfl), (Nat.le_of_ble_eq_true rfl), (Nat.le_of_ble_eq_true rfl)⟩ rfl H (tI_elim (fun v9 h8 H hT => ?_))
          show gm_G _ 70 _ _ _ _
          refine g_if_ge rfl (pc' := 73) (pt := 76) rfl rfl ⟨fun hc => ?_, fun hc => ?_⟩
          · have H := H.1 hc
            refine g_aload (r := some _) rfl rfl rfl (pc' := 77) ?_
            refine g_dup_a (r := some _) rfl rfl (pc' := 78) ?_
            refine t_getI rfl hT rfl rfl (pc' := 81) rfl ?_
            refine g_iconst rfl rfl rfl (pc' := 82) ?_
            refine g_iadd rfl rfl (pc' := 83) ?_
            refine t_putI rfl hT rfl rfl  (pc' := 86) rfl (fun hT => ?_)
            have H := H _ rfl
            refine g_aload (r := some _) rfl rfl rfl (pc' := 87) ?_
            refine t_get (o := 69) rfl hT rfl rfl rfl (pc' := 90) rfl ?_
            refine g_aload (r := some _) rfl rfl rfl (pc' := 91) ?_
            refine g_iload rfl rfl rfl (pc' := 92) ?_
            refine g_aload (r := some _) rfl rfl rfl (pc' := 93) ?_
            refine t_getI rfl hT rfl rfl (pc' := 96) rfl ?_
            refine g_aload (r := some _) rfl rfl rfl (pc' := 97) ?_
            refine t_get (o := 1) rfl hT rfl rfl rfl (pc' := 100) rfl ?_
            refine g_iconst rfl rfl rfl (pc' := 101) ?_
            refine g_iload rfl rfl rfl (pc' := 102) ?_
            refine t_call hT (y := 291) (n := 6) (pc' := 105) rfl rfl (t_vt hT rfl rfl) rfl rfl ⟨(Nat.le_of_ble_eq_true rfl), (Nat.le_of_ble_eq_true rfl), (Nat.le_of_ble_eq_true rfl)⟩ rfl H (tI_elim (fun v12 h11 H hT => ?_))
            show gm_G _ 105 _ _ _ _
            obtain ⟨n13, hn13, H⟩ := H
            refine t_iaload hT (o := 69) (l := 48) rfl rfl rfl hn13 (pc' := 106) rfl ?_
            refine g_istore rfl rfl rfl (pc' := 108) ?_
            refine g_aload (r := some _) rfl rfl rfl (pc' := 109) ?_
            refine t_call hT (y := 440) (n := 1) (pc' := 112) rfl rfl (t_vt hT rfl rfl) rfl rfl ⟨(Nat.le_of_ble_eq_true rfl), (Nat.le_of_ble_eq_true rfl), (Nat.le_of_ble_eq_true rfl)⟩ rfl H (tI_elim (fun v15 h14 H hT => ?_))
            show gm_G _ 112 _ _ _ _
            refine g_istore rfl rfl rfl (pc' := 114) ?_
            refine g_iload rfl rfl rfl (pc' := 116) ?_
            refine g_if_ge rfl (pc' := 119) (pt := 124) rfl rfl ⟨fun hc => ?_, fun hc => ?_⟩
            · have H := H.1 hc
              refine g_iload rfl rfl rfl (pc' := 126) ?_
              exact g_ireturn rfl (Or.inl rfl) H
            · have H := H.2 hc
              refine g_iload rfl rfl rfl (pc' := 121) ?_
              refine g_goto rfl (pc' := 126) rfl ?_
              exact g_ireturn rfl (Or.inl rfl) H
          · have H := H.2 hc
            refine g_iconst rfl rfl rfl (pc' := 75) ?_
            exact g_ireturn rfl (Or.inl rfl) H
        · have H := H.2 hc
          refine g_iconst rfl rfl rfl (pc' := 65) ?_
          exact g_ireturn rfl (Or.inl rfl) H
      · have H := H.2 hc
        refine g_iconst rfl rfl rfl (pc' := 48) ?_
        exact g_ireturn rfl (Or.inl rfl) H
    · have H := H.2 hc
      refine g_iconst rfl rfl rfl (pc' := 35) ?_
      exact g_ireturn rfl (Or.inl rfl) H
  · have H := H.2 hc
    refine g_iconst rfl rfl rfl (pc' := 19) ?_
    exact g_ireturn rfl (Or.inl rfl) H
theorem w_480_0 {m : Nat}  {h : hh_T} {Q : Option Value ⊕ Nat → hh_T → Prop} (hT : tw_ok h m) (H : (¬ (hh_i h m 77) = Int32.ofNat 0 → (gm_G 440 0 [some (.ref m)] [] h (pI (fun v2 h1 => (¬ v2 < Int32.ofNat 0 → (gm_G 109 0 [some (.ref m)] [] h1 (pV (fun h3 => ∀ h4, h4 = hh_wi h3 m 15 (hh_i h1 m 15) → (Q (.inl (some (.int v2))) h4)) (fun _ _ => False)))) ∧ (v2 < Int32.ofNat 0 → (Q (.inl (some (.int v2))) h1))) (fun _ _ => False)))) ∧ ((hh_i h m 77) = Int32.ofNat 0 → (Q (.inl (some (.int (Int32.ofInt (-9))))) h))) : gm_G 480 0 [some (.ref m)] [] h Q := by
  refine g_aload (r := some _) rfl rfl rfl (pc' := 1) ?_
  refine t_getZ rfl hT rfl rfl (pc' := 4) rfl ?_
  refine g_if_ne rfl (pc' := 7) (pt := 10) rfl rfl ⟨fun hc => ?_, fun hc => ?_⟩
  · have H := H.1 hc
    refine g_aload (r := some _) rfl rfl rfl (pc' := 11) ?_
    refine t_getI rfl hT rfl rfl (pc' := 14) rfl ?_
    refine g_istore rfl rfl rfl (pc' := 15) ?_
    refine g_aload (r := some _) rfl rfl rfl (pc' := 16) ?_
    refine t_call hT (y := 440) (n := 1) (pc' := 19) rfl rfl (t_vt hT rfl rfl) rfl rfl ⟨(Nat.le_of_ble_eq_true rfl), (Nat.le_of_ble_eq_true rfl), (Nat.le_of_ble_eq_true rfl)⟩ rfl H (tI_elim (fun v2 h1 H hT => ?_))
    show gm_G _ 19 _ _ _ _
    refine g_istore rfl rfl rfl (pc' := 20) ?_
    refine g_iload rfl rfl rfl (pc' := 21) ?_
    refine g_if_ge rfl (pc' := 24) (pt := 26) rfl rfl ⟨fun hc => ?_, fun hc => ?_⟩
    · have H := H.1 hc
      refine g_aload (r := some _) rfl rfl rfl (pc' := 27) ?_
      refine t_getI rfl hT rfl rfl (pc' := 30) rfl ?_
      refine g_istore rfl rfl rfl (pc' := 31) ?_
      refine g_aload (r := some _) rfl rfl rfl (pc' := 32) ?_
      refine t_call hT (y := 109) (n := 1) (pc' := 35) rfl rfl (t_vt hT rfl rfl) rfl rfl ⟨(Nat.le_of_ble_eq_true rfl), (Nat.le_of_ble_eq_true rfl), (Nat.le_of_ble_eq_true rfl)⟩ rfl H (tV_elim (fun h3 H hT => ?_))
      show gm_G _ 35 _ _ _ _
      refine g_aload (r := some _) rfl rfl rfl (pc' := 36) ?_
      refine g_iload rfl rfl rfl (pc' := 37) ?_
      refine t_putI rfl hT rfl rfl  (pc' := 40) rfl (fun hT => ?_)
      have H := H _ rfl
      refine g_iload rfl rfl rfl (pc' := 41) ?_
      exact g_ireturn rfl (Or.inl rfl) H
    · have H := H.2 hc
      refine g_iload rfl rfl rfl (pc' := 25) ?_
      exact g_ireturn rfl (Or.inl rfl) H
  · have H := H.2 hc
    refine g_iconst rfl rfl rfl (pc' := 9) ?_
    exact g_ireturn rfl (Or.inl rfl) H
theorem w_481_0 {m : Nat} {x1 : Int32} {x2 : Int32} {x3 : Int32} {x4 : Int32} {h : hh_T} {Q : Option Value ⊕ Nat → hh_T → Prop} (hT : tw_ok h m) (H : ∃ n1, gm_ix x1 n1 32 ∧ (gm_G 421 0 [some (.ref m)] [] h (pV (fun h2 => gm_G 142 0 [some (.ref m), some (.int (((Int32.ofNat 16) * (hh_i h (m + 63) n1)) + x2))] [] h2 (pV (fun h3 => gm_G 481 26 [some (.ref m), some (.int x1), some (.int x2), some (.int x3), some (.int x4), none, some (.int x3)] [] h3 Q) (fun _ _ => False))) (fun _ _ => False)))) : gm_G 481 0 [some (.ref m), some (.int x1), some (.int x2), some (.int x3), some (.int x4)] [] h Q := by
  refine g_iconst rfl rfl rfl (pc' := 2) ?_
  refine g_aload (r := some _) rfl rfl rfl (pc' := 3) ?_
  refine t_get (o := 63) rfl hT rfl rfl rfl (pc' := 6) rfl ?_
  refine g_iload rfl rfl rfl (pc' := 7) ?_
  obtain ⟨n1, hn1, H⟩ := H
  refine t_iaload hT (o := 63) (l := 32) rfl rfl rfl hn1 (pc' := 8) rfl ?_
  refine g_imul rfl rfl (pc' := 9) ?_
  refine g_iload rfl rfl rfl (pc' := 10) ?_
  refine g_iadd rfl rfl (pc' := 11) ?_
  refine g_istore rfl rfl rfl (pc' := 13) ?_
  refine g_aload (r := some _) rfl rfl rfl (pc' := 14) ?_
  refine t_call hT (y := 421) (n := 1) (pc' := 17) rfl rfl (t_vt hT rfl rfl) rfl rfl ⟨(Nat.le_of_ble_eq_true rfl), (Nat.le_of_ble_eq_true rfl), (Nat.le_of_ble_eq_true rfl)⟩ rfl H (tV_elim (fun h2 H hT => ?_))
  show gm_G _ 17 _ _ _ _
  refine g_aload (r := some _) rfl rfl rfl (pc' := 18) ?_
  refine g_iload rfl rfl rfl (pc' := 20) ?_
  refine t_call hT (y := 142) (n := 2) (pc' := 23) rfl rfl (t_vt hT rfl rfl) rfl rfl ⟨(Nat.le_of_ble_eq_true rfl), (Nat.le_of_ble_eq_true rfl), (Nat.le_of_ble_eq_true rfl)⟩ rfl H (tV_elim (fun h3 H hT => ?_))
  show gm_G _ 23 _ _ _ _
  refine g_iload rfl rfl rfl (pc' := 24) ?_
  refine g_istore rfl rfl rfl (pc' := 26) ?_
  exact g_weak (show gm_Lle [some _, some _, some _, some _, some _, none, some _] _ from ⟨rfl, ⟨rfl, ⟨rfl, ⟨rfl, ⟨rfl, ⟨rfl, trivial⟩⟩⟩⟩⟩⟩) H
theorem w_481_26 {m : Nat} {x1 : Int32} {x2 : Int32} {x3 : Int32} {x4 : Int32} {x6 : Int32} {h : hh_T} {Q : Option Value ⊕ Nat → hh_T → Prop} (hT : tw_ok h m) (H : (x4 < x6 → (gm_G 481 62 [some (.ref m), some (.int x1), some (.int x2), some (.int x3), some (.int x4), none, some (.int x3)] [] h Q)) ∧ (¬ x4 < x6 → (gm_G 408 0 [some (.ref m), some (.ref (m + 103)), some (.int ((Int32.ofNat 32) * x6)), some (.int x1)] [] h (pI (fun v2 h1 => (¬ v2 = Int32.ofNat 0 → (gm_G 481 26 [some (.ref m), some (.int x1), some (.int x2), some (.int x3), some (.int x4), none, some (.int (x6 + (Int32.ofNat 1)))] [] h1 Q)) ∧ (v2 = Int32.ofNat 0 → (Q (.inl (some (.int (Int32.ofInt (-7))))) h1))) (fun _ _ => False))))) : gm_G 481 26 [some (.ref m), some (.int x1), some (.int x2), some (.int x3), some (.int x4), none, some (.int x6)] [] h Q := by
  refine g_iload rfl rfl rfl (pc' := 28) ?_
  refine g_iload rfl rfl rfl (pc' := 30) ?_
  refine g_ic_gt rfl (pc' := 33) (pt := 59) rfl rfl ⟨fun hc => ?_, fun hc => ?_⟩
  · have H := H.1 hc
    refine g_iload rfl rfl rfl (pc' := 60) ?_
    refine g_istore rfl rfl rfl (pc' := 62) ?_
    exact g_weak (show gm_Lle [some _, some _, some _, some _, some _, none, some _] _ from ⟨rfl, ⟨rfl, ⟨rfl, ⟨rfl, ⟨rfl, ⟨rfl, trivial⟩⟩⟩⟩⟩⟩) H
  · have H := H.2 hc
    refine g_aload (r := some _) rfl rfl rfl (pc' := 34) ?_
    refine g_aload (r := some _) rfl rfl rfl (pc' := 35) ?_
    refine t_get (o := 103) rfl hT rfl rfl rfl (pc' := 38) rfl ?_
    refine g_iconst rfl rfl rfl (pc' := 40) ?_
    refine g_iload rfl rfl rfl (pc' := 42) ?_
    refine g_imul rfl rfl (pc' := 43) ?_
    refine g_iload rfl rfl rfl (pc' := 44) ?_
    refine t_call hT (y := 408) (n := 4) (pc' := 47) rfl rfl (t_vt hT rfl rfl) rfl rfl ⟨(Nat.le_of_ble_eq_true rfl), (Nat.le_of_ble_eq_true rfl), (Nat.le_of_ble_eq_true rfl)⟩ rfl H (tI_elim (fun v2 h1 H hT => ?_))
    show gm_G _ 47 _ _ _ _
    refine g_if_ne rfl (pc' := 50) (pt := 53) rfl rfl ⟨fun hc => ?_, fun hc => ?_⟩
    · have H := H.1 hc
      refine g_iinc (c := (Int32.ofNat 1)) rfl rfl rfl rfl rfl (pc' := 56) ?_
      refine g_goto rfl (pc' := 26) rfl ?_
      exact g_weak (show gm_Lle [some _, some _, some _, some _, some _, none, some _] _ from ⟨rfl, ⟨rfl, ⟨rfl, ⟨rfl, ⟨rfl, ⟨rfl, trivial⟩⟩⟩⟩⟩⟩) H
    · have H := H.2 hc
      refine g_iconst rfl rfl rfl (pc' := 52) ?_
      exact g_ireturn rfl (Or.inl rfl) H
theorem w_481_62 {m : Nat} {x1 : Int32} {x2 : Int32} {x3 : Int32} {x4 : Int32} {x6 : Int32} {h : hh_T} {Q : Option Value ⊕ Nat → hh_T → Prop} (hT : tw_ok h m) (H : (x4 < x6 → (gm_G 442 0 [some (.ref m), some (.int x1), some (.int x2)] [] h (pI (fun v2 h1 => Q (.inl (some (.int v2))) h1) (fun _ _ => False)))) ∧ (¬ x4 < x6 → (∃ n3, gm_ix (x6 - x3) n3 136 ∧ (∃ n4, gm_ix x6 n4 8 ∧ (∀ h5, h5 = hh_wi h (m + 104) n4 (hh_i h (m + 30) n3) → (gm_G 481 62 [some (.ref m), some (.int x1), some (.int x2), some (.int x3), some (.int x4), none, some (.int (x6 + (Int32.ofNat 1)))] [] h5 Q)))))) : gm_G 481 62 [some (.ref m), some (.int x1), some (.int x2), some (.int x3), some (.int x4), none, some (.int x6)] [] h Q := by
  refine g_iload rfl rfl rfl (pc' := 64) ?_
  refine g_iload rfl rfl rfl (pc' := 66) ?_
  refine g_ic_gt rfl (pc' := 69) (pt := 91) rfl rfl ⟨fun hc => ?_, fun hc => ?_⟩
  · have H := H.1 hc
    refine g_aload (r := some _) rfl rfl rfl (pc' := 92) ?_
    refine g_iload rfl rfl rfl (pc' := 93) ?_
    refine g_iload rfl rfl rfl (pc' := 94) ?_
    refine t_call hT (y := 442) (n := 3) (pc' := 97) rfl rfl (t_vt hT rfl rfl) rfl rfl ⟨(Nat.le_of_ble_eq_true rfl), (Nat.le_of_ble_eq_true rfl), (Nat.le_of_ble_eq_true rfl)⟩ rfl H (tI_elim (fun v2 h1 H hT => ?_))
    show gm_G _ 97 _ _ _ _
    exact g_ireturn rfl (Or.inl rfl) H
  · have H := H.2 hc
    refine g_aload (r := some _) rfl rfl rfl (pc' := 70) ?_
    refine t_get (o := 104) rfl hT rfl rfl rfl (pc' := 73) rfl ?_
    refine g_iload rfl rfl rfl (pc' := 75) ?_
    refine g_aload (r := some _) rfl rfl rfl (pc' := 76) ?_
    refine t_get (o := 30) rfl hT rfl rfl rfl (pc' := 79) rfl ?_
    refine g_iload rfl rfl rfl (pc' := 81) ?_
    refine g_iload rfl rfl rfl (pc' := 82) ?_
    refine g_isub rfl rfl (pc' := 83) ?_
    obtain ⟨n3, hn3, H⟩ := H
    refine t_iaload hT (o := 30) (l := 136) rfl rfl rfl hn3 (pc' := 84) rfl ?_
    obtain ⟨n4, hn4, H⟩ := H
    refine t_iastore hT (o := 104) (l := 8) rfl rfl rfl hn4  (pc' := 85) rfl (fun hT => ?_)
    have H := H _ rfl
    refine g_iinc (c := (Int32.ofNat 1)) rfl rfl rfl rfl rfl (pc' := 88) ?_
    refine g_goto rfl (pc' := 62) rfl ?_
    exact g_weak (show gm_Lle [some _, some _, some _, some _, some _, none, some _] _ from ⟨rfl, ⟨rfl, ⟨rfl, ⟨rfl, ⟨rfl, ⟨rfl, trivial⟩⟩⟩⟩⟩⟩) H
theorem w_482_0 {m : Nat} {x1 : Int32} {h : hh_T} {Q : Option Value ⊕ Nat → hh_T → Prop} (hT : tw_ok h m) (H : (¬ (hh_i h m 77) = Int32.ofNat 0 → (gm_G 152 0 [some (.ref m), some (.int x1)] [] h (pI (fun v2 h1 => (¬ v2 < Int32.ofNat 0 → (gm_G 297 0 [some (.ref m), some (.int v2), some (.int (Int32.ofNat 4))] [] h1 (pI (fun v4 h3 => (¬ v4 = (Int32.ofNat 2) → (gm_G 145 0 [some (.ref m)] [] h3 (pI (fun v6 h5 => ∃ n7, gm_ix v2 n7 8 ∧ (∃ n8, gm_ix v2 n8 8 ∧ ((¬ (Int32.ofNat 16) < ((v6 - (hh_i h5 (m + 81) n7)) + (hh_i h5 (m + 80) n8)) → (∃ n9, gm_ix v2 n9 8 ∧ (∃ n10, gm_ix v2 n10 8 ∧ (∀ h11, h11 = hh_wi h5 (m + 81) n10 (hh_i h5 (m + 80) n9) → (∃ n12, gm_ix v2 n12 8 ∧ (Q (.inl (some (.int (hh_i h11 (m + 81) n12)))) h11)))))) ∧ ((Int32.ofNat 16) < ((v6 - (hh_i h5 (m + 81) n7)) + (hh_i h5 (m + 80) n8)) → (gm_G 440 0 [some (.ref m)] [] h5 (pI (fun v14 h13 => (¬ v14 < Int32.ofNat 0 → (Q (.inl (some (.int (Int32.ofNat 0)))) h13)) ∧ (v14 < Int32.ofNat 0 → (Q (.inl (some (.int v14))) h13))) (fun _ _ => False))))))) (fun _ _ => False)))) ∧ (v4 = (Int32.ofNat 2) → (∃ n15, gm_ix v2 n15 8 ∧ (Q (.inl (some (.int (hh_i h3 (m + 81) n15)))) h3)))) (fun _ _ => False)))) ∧ (v2 < Int32.ofNat 0 → (Q (.inl (some (.int (Int32.ofInt (-2))))) h1))) (fun _ _ => False)))) ∧ ((hh_i h m 77) = Int32.ofNat 0 → (Q (.inl (some (.int (Int32.ofInt (-9))))) h))) : gm_G 482 0 [some (.ref m), some (.int x1)] [] h Q := by
  refine g_aload (r := some _) rfl rfl rfl (pc' := 1) ?_
  refine t_getZ rfl hT rfl rfl (pc' := 4) rfl ?_
  refine g_if_ne rfl (pc' := 7) (pt := 10) rfl rfl ⟨fun hc => ?_, fun hc => ?_⟩
  · have H := H.1 hc
    refine g_aload (r := some _) rfl rfl rfl (pc' := 11) ?_
    refine g_iload rfl rfl rfl (pc' := 12) ?_
    refine t_call hT (y := 152) (n := 2) (pc' := 15) rfl rfl (t_vt hT rfl rfl) rfl rfl ⟨(Nat.le_of_ble_eq_true rfl), (Nat.le_of_ble_eq_true rfl), (Nat.le_of_ble_eq_true rfl)⟩ rfl H (tI_elim (fun v2 h1 H hT => ?_))
    show gm_G _ 15 _ _ _ _
    refine g_istore rfl rfl rfl (pc' := 16) ?_
    refine g_iload rfl rfl rfl (pc' := 17) ?_
    refine g_if_ge rfl (pc' := 20) (pt := 23) rfl rfl ⟨fun hc => ?_, fun hc => ?_⟩
    · have H := H.1 hc
      refine g_aload (r := some _) rfl rfl rfl (pc' := 24) ?_
      refine g_iload rfl rfl rfl (pc' := 25) ?_
      refine g_iconst rfl rfl rfl (pc' := 26) ?_
      refine t_call hT (y := 297) (n := 3) (pc' := 29) rfl rfl (t_vt hT rfl rfl) rfl rfl ⟨(Nat.le_of_ble_eq_true rfl), (Nat.le_of_ble_eq_true rfl), (Nat.le_of_ble_eq_true rfl)⟩ rfl H (tI_elim (fun v4 h3 H hT => ?_))
      show gm_G _ 29 _ _ _ _
      refine g_iconst rfl rfl rfl (pc' := 30) ?_
      refine g_ic_ne rfl (pc' := 33) (pt := 40) rfl rfl ⟨fun hc => ?_, fun hc => ?_⟩
      · have H := H.1 hc
        refine g_aload (r := some _) rfl rfl rfl (pc' := 41) ?_
        refine t_call hT (y := 145) (n := 1) (pc' := 44) rfl rfl (t_vt hT rfl rfl) rfl rfl ⟨(Nat.le_of_ble_eq_true rfl), (Nat.le_of_ble_eq_true rfl), (Nat.le_of_ble_eq_true rfl)⟩ rfl H (tI_elim (fun v6 h5 H hT => ?_))
        show gm_G _ 44 _ _ _ _
        refine g_aload (r := some _) rfl rfl rfl (pc' := 45) ?_
        refine t_get (o := 81) rfl hT rfl rfl rfl (pc' := 48) rfl ?_
        refine g_iload rfl rfl rfl (pc' := 49) ?_
        obtain ⟨n7, hn7, H⟩ := H
        refine t_iaload hT (o := 81) (l := 8) rfl rfl rfl hn7 (pc' := 50) rfl ?_
        refine g_isub rfl rfl (pc' := 51) ?_
        refine g_aload (r := some _) rfl rfl rfl (pc' := 52) ?_
        refine t_get (o := 80) rfl hT rfl rfl rfl (pc' := 55) rfl ?_
        refine g_iload rfl rfl rfl (pc' := 56) ?_
        obtain ⟨n8, hn8, H⟩ := H
        refine t_iaload hT (o := 80) (l := 8) rfl rfl rfl hn8 (pc' := 57) rfl ?_
        refine g_iadd rfl rfl (pc' := 58) ?_
        refine g_iconst rfl rfl rfl (pc' := 60) ?_
        refine g_ic_le rfl (pc' := 63) (pt := 78) rfl rfl ⟨fun hc => ?_, fun hc => ?_⟩
        · have H := H.1 hc
          refine g_aload (r := some _) rfl rfl rfl (pc' := 79) ?_
          refine t_get (o := 81) rfl hT rfl rfl rfl (pc' := 82) rfl ?_
          refine g_iload rfl rfl rfl (pc' := 83) ?_
          refine g_aload (r := some _) rfl rfl rfl (pc' := 84) ?_
          refine t_get (o := 80) rfl hT rfl rfl rfl (pc' := 87) rfl ?_
          refine g_iload rfl rfl rfl (pc' := 88) ?_
          obtain ⟨n9, hn9, H⟩ := H
          refine t_iaload hT (o := 80) (l := 8) rfl rfl rfl hn9 (pc' := 89) rfl ?_
          obtain ⟨n10, hn10, H⟩ := H
          refine t_iastore hT (o := 81) (l := 8) rfl rfl rfl hn10  (pc' := 90) rfl (fun hT => ?_)
          have H := H _ rfl
          refine g_aload (r := some _) rfl rfl rfl (pc' := 91) ?_
          refine t_get (o := 81) rfl hT rfl rfl rfl (pc' := 94) rfl ?_
          refine g_iload rfl rfl rfl (pc' := 95) ?_
          obtain ⟨n12, hn12, H⟩ := H
          refine t_iaload hT (o := 81) (l := 8) rfl rfl rfl hn12 (pc' := 96) rfl ?_
          exact g_ireturn rfl (Or.inl rfl) H
        · have H := H.2 hc
          refine g_aload (r := some _) rfl rfl rfl (pc' := 64) ?_
          refine t_call hT (y := 440) (n := 1) (pc' := 67) rfl rfl (t_vt hT rfl rfl) rfl rfl ⟨(Nat.le_of_ble_eq_true rfl), (Nat.le_of_ble_eq_true rfl), (Nat.le_of_ble_eq_true rfl)⟩ rfl H (tI_elim (fun v14 h13 H hT => ?_))
          show gm_G _ 67 _ _ _ _
          refine g_istore rfl rfl rfl (pc' := 68) ?_
          refine g_iload rfl rfl rfl (pc' := 69) ?_
          refine g_if_ge rfl (pc' := 72) (pt := 76) rfl rfl ⟨fun hc => ?_, fun hc => ?_⟩
          · have H := H.1 hc
            refine g_iconst rfl rfl rfl (pc' := 77) ?_
            exact g_ireturn rfl (Or.inl rfl) H
          · have H := H.2 hc
            refine g_iload rfl rfl rfl (pc' := 73) ?_
            refine g_goto rfl (pc' := 77) rfl ?_
            exact g_ireturn rfl (Or.inl rfl) H
      · have H := H.2 hc
        refine g_aload (r := some _) rfl rfl rfl (pc' := 34) ?_
        refine t_get (o := 81) rfl hT rfl rfl rfl (pc' := 37) rfl ?_
        refine g_iload rfl rfl rfl (pc' := 38) ?_
        obtain ⟨n15, hn15, H⟩ := H
        refine t_iaload hT (o := 81) (l := 8) rfl rfl rfl hn15 (pc' := 39) rfl ?_
        exact g_ireturn rfl (Or.inl rfl) H
    · have H := H.2 hc
      refine g_iconst rfl rfl rfl (pc' := 22) ?_
      exact g_ireturn rfl (Or.inl rfl) H
  · have H := H.2 hc
    refine g_iconst rfl rfl rfl (pc' := 9) ?_
    exact g_ireturn rfl (Or.inl rfl) H
theorem w_483_0 {m : Nat}  {h : hh_T} {Q : Option Value ⊕ Nat → hh_T → Prop} (hT : tw_ok h m) (H : (¬ (hh_i h m 77) = Int32.ofNat 0 → (gm_G 440 0 [some (.ref m)] [] h (pI (fun v2 h1 => Q (.inl (some (.int v2))) h1) (fun _ _ => False)))) ∧ ((hh_i h m 77) = Int32.ofNat 0 → (Q (.inl (some (.int (Int32.ofInt (-9))))) h))) : gm_G 483 0 [some (.ref m)] [] h Q := by
  refine g_aload (r := some _) rfl rfl rfl (pc' := 1) ?_
  refine t_getZ rfl hT rfl rfl (pc' := 4) rfl ?_
  refine g_if_ne rfl (pc' := 7) (pt := 12) rfl rfl ⟨fun hc => ?_, fun hc => ?_⟩
  · have H := H.1 hc
    refine g_aload (r := some _) rfl rfl rfl (pc' := 13) ?_
    refine t_call hT (y := 440) (n := 1) (pc' := 16) rfl rfl (t_vt hT rfl rfl) rfl rfl ⟨(Nat.le_of_ble_eq_true rfl), (Nat.le_of_ble_eq_true rfl), (Nat.le_of_ble_eq_true rfl)⟩ rfl H (tI_elim (fun v2 h1 H hT => ?_))
    show gm_G _ 16 _ _ _ _
    exact g_ireturn rfl (Or.inl rfl) H
  · have H := H.2 hc
    refine g_iconst rfl rfl rfl (pc' := 9) ?_
    refine g_goto rfl (pc' := 16) rfl ?_
    exact g_ireturn rfl (Or.inl rfl) H
theorem w_509_0 {m : Nat} {x1 : Int32} {x2 : Int32} {x3 : Int32} {x4 : Int32} {h : hh_T} {Q : Option Value ⊕ Nat → hh_T → Prop} (hT : tw_ok h m) (H : (¬ (hh_i h m 77) = Int32.ofNat 0 → ((x3 < (Int32.ofNat 1) → (Q (.inl (some (.int (Int32.ofInt (-1))))) h)) ∧ (¬ x3 < (Int32.ofNat 1) → (((Int32.ofNat 3) < x3 → (Q (.inl (some (.int (Int32.ofInt (-1))))) h)) ∧ (¬ (Int32.ofNat 3) < x3 → ((x4 < Int32.ofNat 0 → (Q (.inl (some (.int (Int32.ofInt (-1))))) h)) ∧ (¬ x4 < Int32.ofNat 0 → ((¬ x3 = (Int32.ofNat 1) → (gm_G 509 40 [some (.ref m), some (.int x1), some (.int x2), some (.int x3), some (.int x4)] [.int (Int32.ofNat 7), .int x4] h Q)) ∧ (x3 = (Int32.ofNat 1) → (gm_G 509 40 [some (.ref m), some (.int x1), some (.int x2), some (.int x3), some (.int x4)] [.int (Int32.ofNat 511), .int x4] h Q)))))))))) ∧ ((hh_i h m 77) = Int32.ofNat 0 → (Q (.inl (some (.int (Int32.ofInt (-9))))) h))) : gm_G 509 0 [some (.ref m), some (.int x1), some (.int x2), some (.int x3), some (.int x4)] [] h Q := by
  refine g_aload (r := some _) rfl rfl rfl (pc' := 1) ?_
  refine t_getZ rfl hT rfl rfl (pc' := 4) rfl ?_
  refine g_if_ne rfl (pc' := 7) (pt := 10) rfl rfl ⟨fun hc => ?_, fun hc => ?_⟩
  · have H := H.1 hc
    refine g_iload rfl rfl rfl (pc' := 11) ?_
    refine g_iconst rfl rfl rfl (pc' := 12) ?_
    refine g_ic_lt rfl (pc' := 15) (pt := 43) rfl rfl ⟨fun hc => ?_, fun hc => ?_⟩
    · have H := H.1 hc
      refine g_iconst rfl rfl rfl (pc' := 44) ?_
      exact g_ireturn rfl (Or.inl rfl) H
    · have H := H.2 hc
      refine g_iload rfl rfl rfl (pc' := 16) ?_
      refine g_iconst rfl rfl rfl (pc' := 17) ?_
      refine g_ic_gt rfl (pc' := 20) (pt := 43) rfl rfl ⟨fun hc => ?_, fun hc => ?_⟩
      · have H := H.1 hc
        refine g_iconst rfl rfl rfl (pc' := 44) ?_
        exact g_ireturn rfl (Or.inl rfl) H
      · have H := H.2 hc
        refine g_iload rfl rfl rfl (pc' := 22) ?_
        refine g_if_lt rfl (pc' := 25) (pt := 43) rfl rfl ⟨fun hc => ?_, fun hc => ?_⟩
        · have H := H.1 hc
          refine g_iconst rfl rfl rfl (pc' := 44) ?_
          exact g_ireturn rfl (Or.inl rfl) H
        · have H := H.2 hc
          refine g_iload rfl rfl rfl (pc' := 27) ?_
          refine g_iload rfl rfl rfl (pc' := 28) ?_
          refine g_iconst rfl rfl rfl (pc' := 29) ?_
          refine g_ic_ne rfl (pc' := 32) (pt := 38) rfl rfl ⟨fun hc => ?_, fun hc => ?_⟩
          · have H := H.1 hc
            refine g_iconst rfl rfl rfl (pc' := 40) ?_
            exact g_weak (show gm_Lle [some _, some _, some _, some _, some _] _ from ⟨rfl, ⟨rfl, ⟨rfl, ⟨rfl, ⟨rfl, trivial⟩⟩⟩⟩⟩) H
          · have H := H.2 hc
            refine g_iconst rfl rfl rfl (pc' := 35) ?_
            refine g_goto rfl (pc' := 40) rfl ?_
            exact g_weak (show gm_Lle [some _, some _, some _, some _, some _] _ from ⟨rfl, ⟨rfl, ⟨rfl, ⟨rfl, ⟨rfl, trivial⟩⟩⟩⟩⟩) H
  · have H := H.2 hc
    refine g_iconst rfl rfl rfl (pc' := 9) ?_
    exact g_ireturn rfl (Or.inl rfl) H
theorem w_509_40 {m : Nat} {x1 : Int32} {x2 : Int32} {x3 : Int32} {x4 : Int32} {y0 : Int32} {y1 : Int32} {h : hh_T} {Q : Option Value ⊕ Nat → hh_T → Prop} (hT : tw_ok h m) (H : (¬ y0 < y1 → (gm_G 366 0 [some (.ref m), some (.int x1)] [] h (pI (fun v2 h1 => (¬ v2 < Int32.ofNat 0 → (gm_G 152 0 [some (.ref m), some (.int x1)] [] h1 (pI (fun v4 h3 => ∃ n5, gm_ix v4 n5 32 ∧ (gm_G 137 0 [some (.ref m), some (.int (hh_i h3 (m + 63) n5)), some (.int x2)] [] h3 (pI (fun v7 h6 => (v7 = Int32.ofNat 0 → (∃ n8, gm_ix v4 n8 32 ∧ (((hh_i h6 m 5) = Int32.ofNat 0 → (gm_G 509 148 [some (.ref m), none, some (.int x2), some (.int x3), some (.int x4), none, some (.int v4)] [] h6 Q)) ∧ (¬ (hh_i h6 m 5) = Int32.ofNat 0 → ((x3 = (Int32.ofNat 2) → (gm_G 509 152 [some (.ref m), none, some (.int x2), some (.int x3), some (.int x4), none, some (.int v4)] [] h6 Q)) ∧ (¬ x3 = (Int32.ofNat 2) → (∃ n9, gm_ix (((Int32.ofNat 16) * (hh_i h6 (m + 63) n8)) + x2) n9 1536 ∧ ((¬ (hh_i h6 m 5) = (hh_i h6 (m + 42) n9) → (gm_G 509 152 [some (.ref m), none, some (.int x2), some (.int x3), some (.int x4), none, some (.int v4)] [] h6 Q)) ∧ ((hh_i h6 m 5) = (hh_i h6 (m + 42) n9) → ((x3 = (Int32.ofNat 1) → (gm_G 509 148 [some (.ref m), none, some (.int x2), some (.int x3), some (.int x4), none, some (.int v4)] [] h6 Q)) ∧ (¬ x3 = (Int32.ofNat 1) → (∃ n10, gm_ix (((Int32.ofNat 8) * (hh_i h6 m 5)) + x4) n10 64 ∧ (((hh_i h6 (m + 3) n10) = Int32.ofNat 0 → (gm_G 509 152 [some (.ref m), none, some (.int x2), some (.int x3), some (.int x4), none, some (.int v4)] [] h6 Q)) ∧ (¬ (hh_i h6 (m + 3) n10) = Int32.ofNat 0 → (gm_G 509 148 [some (.ref m), none, some (.int x2), some (.int x3), some (.int x4), none, some (.int v4)] [] h6 Q))))))))))))))) ∧ (¬ v7 = Int32.ofNat 0 → (Q (.inl (some (.int (Int32.ofInt (-2))))) h6))) (fun _ _ => False)))) (fun _ _ => False)))) ∧ (v2 < Int32.ofNat 0 → (Q (.inl (some (.int v2))) h1))) (fun _ _ => False)))) ∧ (y0 < y1 → (Q (.inl (some (.int (Int32.ofInt (-1))))) h))) : gm_G 509 40 [some (.ref m), some (.int x1), some (.int x2), some (.int x3), some (.int x4)] [.int y0, .int y1] h Q := by
  refine g_ic_le rfl (pc' := 43) (pt := 45) rfl rfl ⟨fun hc => ?_, fun hc => ?_⟩
  · have H := H.1 hc
    refine g_aload (r := some _) rfl rfl rfl (pc' := 46) ?_
    refine g_iload rfl rfl rfl (pc' := 47) ?_
    refine t_call hT (y := 366) (n := 2) (pc' := 50) rfl rfl (t_vt hT rfl rfl) rfl rfl ⟨(Nat.le_of_ble_eq_true rfl), (Nat.le_of_ble_eq_true rfl), (Nat.le_of_ble_eq_true rfl)⟩ rfl H (tI_elim (fun v2 h1 H hT => ?_))
    show gm_G _ 50 _ _ _ _
    refine g_istore rfl rfl rfl (pc' := 52) ?_
    refine g_iload rfl rfl rfl (pc' := 54) ?_
    refine g_if_ge rfl (pc' := 57) (pt := 60) rfl rfl ⟨fun hc => ?_, fun hc => ?_⟩
    · have H := H.1 hc
      refine g_aload (r := some _) rfl rfl rfl (pc' := 61) ?_
      refine g_iload rfl rfl rfl (pc' := 62) ?_
      refine t_call hT (y := 152) (n := 2) (pc' := 65) rfl rfl (t_vt hT rfl rfl) rfl rfl ⟨(Nat.le_of_ble_eq_true rfl), (Nat.le_of_ble_eq_true rfl), (Nat.le_of_ble_eq_true rfl)⟩ rfl H (tI_elim (fun v4 h3 H hT => ?_))
      show gm_G _ 65 _ _ _ _
      refine g_istore rfl rfl rfl (pc' := 67) ?_
      refine g_aload (r := some _) rfl rfl rfl (pc' := 68) ?_
      refine g_aload (r := some _) rfl rfl rfl (pc' := 69) ?_
      refine t_get (o := 63) rfl hT rfl rfl rfl (pc' := 72) rfl ?_
      refine g_iload rfl rfl rfl (pc' := 74) ?_
      obtain ⟨n5, hn5, H⟩ := H
      refine t_iaload hT (o := 63) (l := 32) rfl rfl rfl hn5 (pc' := 75) rfl ?_
      refine g_iload rfl rfl rfl (pc' := 76) ?_
      refine t_call hT (y := 137) (n := 3) (pc' := 79) rfl rfl (t_vt hT rfl rfl) rfl rfl ⟨(Nat.le_of_ble_eq_true rfl), (Nat.le_of_ble_eq_true rfl), (Nat.le_of_ble_eq_true rfl)⟩ rfl H (tI_elim (fun v7 h6 H hT => ?_))
      show gm_G _ 79 _ _ _ _
      refine g_if_eq rfl (pc' := 82) (pt := 85) rfl rfl ⟨fun hc => ?_, fun hc => ?_⟩
      · have H := H.1 hc
        refine g_iconst rfl rfl rfl (pc' := 87) ?_
        refine g_aload (r := some _) rfl rfl rfl (pc' := 88) ?_
        refine t_get (o := 63) rfl hT rfl rfl rfl (pc' := 91) rfl ?_
        refine g_iload rfl rfl rfl (pc' := 93) ?_
        obtain ⟨n8, hn8, H⟩ := H
        refine t_iaload hT (o := 63) (l := 32) rfl rfl rfl hn8 (pc' := 94) rfl ?_
        refine g_imul rfl rfl (pc' := 95) ?_
        refine g_iload rfl rfl rfl (pc' := 96) ?_
        refine g_iadd rfl rfl (pc' := 97) ?_
        refine g_istore rfl rfl rfl (pc' := 99) ?_
        refine g_aload (r := some _) rfl rfl rfl (pc' := 100) ?_
        refine t_getI rfl hT rfl rfl (pc' := 103) rfl ?_
        refine g_if_eq rfl (pc' := 106) (pt := 148) rfl rfl ⟨fun hc => ?_, fun hc => ?_⟩
        · have H := H.1 hc
          exact g_weak (show gm_Lle [some _, none, some _, some _, some _, none, some _] _ from ⟨rfl, ⟨rfl, ⟨rfl, ⟨rfl, ⟨rfl, trivial⟩⟩⟩⟩⟩) H
        · have H := H.2 hc
          refine g_iload rfl rfl rfl (pc' := 107) ?_
          refine g_iconst rfl rfl rfl (pc' := 108) ?_
          refine g_ic_eq rfl (pc' := 111) (pt := 152) rfl rfl ⟨fun hc => ?_, fun hc => ?_⟩
          · have H := H.1 hc
            exact g_weak (show gm_Lle [some _, none, some _, some _, some _, none, some _] _ from ⟨rfl, ⟨rfl, ⟨rfl, ⟨rfl, ⟨rfl, trivial⟩⟩⟩⟩⟩) H
          · have H := H.2 hc
            refine g_aload (r := some _) rfl rfl rfl (pc' := 112) ?_
            refine t_getI rfl hT rfl rfl (pc' := 115) rfl ?_
            refine g_aload (r := some _) rfl rfl rfl (pc' := 116) ?_
            refine t_get (o := 42) rfl hT rfl rfl rfl (pc' := 119) rfl ?_
            refine g_iload rfl rfl rfl (pc' := 121) ?_
            obtain ⟨n9, hn9, H⟩ := H
            refine t_iaload hT (o := 42) (l := 1536) rfl rfl rfl hn9 (pc' := 122) rfl ?_
            refine g_ic_ne rfl (pc' := 125) (pt := 152) rfl rfl ⟨fun hc => ?_, fun hc => ?_⟩
            · have H := H.1 hc
              exact g_weak (show gm_Lle [some _, none, some _, some _, some _, none, some _] _ from ⟨rfl, ⟨rfl, ⟨rfl, ⟨rfl, ⟨rfl, trivial⟩⟩⟩⟩⟩) H
            · have H := H.2 hc
              refine g_iload rfl rfl rfl (pc' := 126) ?_
              refine g_iconst rfl rfl rfl (pc' := 127) ?_
              refine g_ic_eq rfl (pc' := 130) (pt := 148) rfl rfl ⟨fun hc => ?_, fun hc => ?_⟩
              · have H := H.1 hc
                exact g_weak (show gm_Lle [some _, none, some _, some _, some _, none, some _] _ from ⟨rfl, ⟨rfl, ⟨rfl, ⟨rfl, ⟨rfl, trivial⟩⟩⟩⟩⟩) H
              · have H := H.2 hc
                refine g_aload (r := some _) rfl rfl rfl (pc' := 131) ?_
                refine t_get (o := 3) rfl hT rfl rfl rfl (pc' := 134) rfl ?_
                refine g_iconst rfl rfl rfl (pc' := 136) ?_
                refine g_aload (r := some _) rfl rfl rfl (pc' := 137) ?_
                refine t_getI rfl hT rfl rfl (pc' := 140) rfl ?_
                refine g_imul rfl rfl (pc' := 141) ?_
                refine g_iload rfl rfl rfl (pc' := 143) ?_
                refine g_iadd rfl rfl (pc' := 144) ?_
                obtain ⟨n10, hn10, H⟩ := H
                refine t_zaload hT (o := 3) (l := 64) rfl rfl rfl hn10 (pc' := 145) rfl ?_
                refine g_if_eq rfl (pc' := 148) (pt := 152) rfl rfl ⟨fun hc => ?_, fun hc => ?_⟩
                · have H := H.1 hc
                  exact g_weak (show gm_Lle [some _, none, some _, some _, some _, none, some _] _ from ⟨rfl, ⟨rfl, ⟨rfl, ⟨rfl, ⟨rfl, trivial⟩⟩⟩⟩⟩) H
                · have H := H.2 hc
                  exact g_weak (show gm_Lle [some _, none, some _, some _, some _, none, some _] _ from ⟨rfl, ⟨rfl, ⟨rfl, ⟨rfl, ⟨rfl, trivial⟩⟩⟩⟩⟩) H
      · have H := H.2 hc
        refine g_iconst rfl rfl rfl (pc' := 84) ?_
        exact g_ireturn rfl (Or.inl rfl) H
    · have H := H.2 hc
      refine g_iload rfl rfl rfl (pc' := 59) ?_
      exact g_ireturn rfl (Or.inl rfl) H
  · have H := H.2 hc
    refine g_iconst rfl rfl rfl (pc' := 44) ?_
    exact g_ireturn rfl (Or.inl rfl) H
theorem w_509_148 {m : Nat} {x2 : Int32} {x3 : Int32} {x4 : Int32} {x6 : Int32} {h : hh_T} {Q : Option Value ⊕ Nat → hh_T → Prop} (hT : tw_ok h m) (H : gm_G 509 153 [some (.ref m), none, some (.int x2), some (.int x3), some (.int x4), none, some (.int x6)] [.int (Int32.ofNat 1)] h Q) : gm_G 509 148 [some (.ref m), none, some (.int x2), some (.int x3), some (.int x4), none, some (.int x6)] [] h Q := by
  refine g_iconst rfl rfl rfl (pc' := 149) ?_
  refine g_goto rfl (pc' := 153) rfl ?_
  exact g_weak (show gm_Lle [some _, none, some _, some _, some _, none, some _] _ from ⟨rfl, ⟨rfl, ⟨rfl, ⟨rfl, ⟨rfl, trivial⟩⟩⟩⟩⟩) H
theorem w_509_152 {m : Nat} {x2 : Int32} {x3 : Int32} {x4 : Int32} {x6 : Int32} {h : hh_T} {Q : Option Value ⊕ Nat → hh_T → Prop} (hT : tw_ok h m) (H : gm_G 509 153 [some (.ref m), none, some (.int x2), some (.int x3), some (.int x4), none, some (.int x6)] [.int (Int32.ofNat 0)] h Q) : gm_G 509 152 [some (.ref m), none, some (.int x2), some (.int x3), some (.int x4), none, some (.int x6)] [] h Q := by
  refine g_iconst rfl rfl rfl (pc' := 153) ?_
  exact g_weak (show gm_Lle [some _, none, some _, some _, some _, none, some _] _ from ⟨rfl, ⟨rfl, ⟨rfl, ⟨rfl, ⟨rfl, trivial⟩⟩⟩⟩⟩) H
theorem w_509_153 {m : Nat} {x2 : Int32} {x3 : Int32} {x4 : Int32} {x6 : Int32} {y0 : Int32} {h : hh_T} {Q : Option Value ⊕ Nat → hh_T → Prop} (hT : tw_ok h m) (H : (¬ y0 = Int32.ofNat 0 → (gm_G 434 0 [some (.ref m), some (.int x6), some (.int x2), some (.int x3), some (.int x4)] [] h (pV (fun h1 => gm_G 468 0 [some (.ref m), some (.int (Int32.ofNat 0))] [] h1 (pI (fun v3 h2 => Q (.inl (some (.int v3))) h2) (fun _ _ => False))) (fun _ _ => False)))) ∧ (y0 = Int32.ofNat 0 → (Q (.inl (some (.int (Int32.ofInt (-6))))) h))) : gm_G 509 153 [some (.ref m), none, some (.int x2), some (.int x3), some (.int x4), none, some (.int x6)] [.int y0] h Q := by
  refine g_istore rfl rfl rfl (pc' := 155) ?_
  refine g_iload rfl rfl rfl (pc' := 157) ?_
  refine g_if_ne rfl (pc' := 160) (pt := 163) rfl rfl ⟨fun hc => ?_, fun hc => ?_⟩
  · have H := H.1 hc
    refine g_aload (r := some _) rfl rfl rfl (pc' := 164) ?_
    refine g_iload rfl rfl rfl (pc' := 166) ?_
    refine g_iload rfl rfl rfl (pc' := 167) ?_
    refine g_iload rfl rfl rfl (pc' := 168) ?_
    refine g_iload rfl rfl rfl (pc' := 170) ?_
    refine t_call hT (y := 434) (n := 5) (pc' := 173) rfl rfl (t_vt hT rfl rfl) rfl rfl ⟨(Nat.le_of_ble_eq_true rfl), (Nat.le_of_ble_eq_true rfl), (Nat.le_of_ble_eq_true rfl)⟩ rfl H (tV_elim (fun h1 H hT => ?_))
    show gm_G _ 173 _ _ _ _
    refine g_aload (r := some _) rfl rfl rfl (pc' := 174) ?_
    refine g_iconst rfl rfl rfl (pc' := 175) ?_
    refine t_call hT (y := 468) (n := 2) (pc' := 178) rfl rfl (t_vt hT rfl rfl) rfl rfl ⟨(Nat.le_of_ble_eq_true rfl), (Nat.le_of_ble_eq_true rfl), (Nat.le_of_ble_eq_true rfl)⟩ rfl H (tI_elim (fun v3 h2 H hT => ?_))
    show gm_G _ 178 _ _ _ _
    exact g_ireturn rfl (Or.inl rfl) H
  · have H := H.2 hc
    refine g_iconst rfl rfl rfl (pc' := 162) ?_
    exact g_ireturn rfl (Or.inl rfl) H
theorem w_510_0 {m : Nat} {x1 : Int32} {x2 : Int32} {x3 : Int32} {h : hh_T} {Q : Option Value ⊕ Nat → hh_T → Prop} (hT : tw_ok h m) (H : ∃ n1, gm_ix x1 n1 32 ∧ (gm_G 421 0 [some (.ref m)] [] h (pV (fun h2 => gm_G 142 0 [some (.ref m), some (.int (((Int32.ofNat 16) * (hh_i h (m + 63) n1)) + x2))] [] h2 (pV (fun h3 => ∃ n4, gm_ix (((Int32.ofNat 16) * (hh_i h (m + 63) n1)) + x2) n4 1536 ∧ ((¬ x3 < (hh_i h3 (m + 45) n4) → (gm_G 510 202 [some (.ref m), some (.int x1), some (.int x2), some (.int x3)] [] h3 Q)) ∧ (x3 < (hh_i h3 (m + 45) n4) → (gm_G 510 49 [some (.ref m), some (.int x1), some (.int x2), some (.int x3), some (.int (((Int32.ofNat 16) * (hh_i h (m + 63) n1)) + x2)), some (.int (x3 / (Int32.ofNat 32))), some (.int ((x3 + (Int32.ofNat 31)) / (Int32.ofNat 32)))] [] h3 Q)))) (fun _ _ => False))) (fun _ _ => False)))) : gm_G 510 0 [some (.ref m), some (.int x1), some (.int x2), some (.int x3)] [] h Q := by
  refine g_iconst rfl rfl rfl (pc' := 2) ?_
  refine g_aload (r := some _) rfl rfl rfl (pc' := 3) ?_
  refine t_get (o := 63) rfl hT rfl rfl rfl (pc' := 6) rfl ?_
  refine g_iload rfl rfl rfl (pc' := 7) ?_
  obtain ⟨n1, hn1, H⟩ := H
  refine t_iaload hT (o := 63) (l := 32) rfl rfl rfl hn1 (pc' := 8) rfl ?_
  refine g_imul rfl rfl (pc' := 9) ?_
  refine g_iload rfl rfl rfl (pc' := 10) ?_
  refine g_iadd rfl rfl (pc' := 11) ?_
  refine g_istore rfl rfl rfl (pc' := 13) ?_
  refine g_iload rfl rfl rfl (pc' := 14) ?_
  refine g_iconst rfl rfl rfl (pc' := 16) ?_
  refine g_idiv rfl (by decide) (pc' := 17) rfl ?_
  refine g_istore rfl rfl rfl (pc' := 19) ?_
  refine g_aload (r := some _) rfl rfl rfl (pc' := 20) ?_
  refine t_call hT (y := 421) (n := 1) (pc' := 23) rfl rfl (t_vt hT rfl rfl) rfl rfl ⟨(Nat.le_of_ble_eq_true rfl), (Nat.le_of_ble_eq_true rfl), (Nat.le_of_ble_eq_true rfl)⟩ rfl H (tV_elim (fun h2 H hT => ?_))
  show gm_G _ 23 _ _ _ _
  refine g_aload (r := some _) rfl rfl rfl (pc' := 24) ?_
  refine g_iload rfl rfl rfl (pc' := 26) ?_
  refine t_call hT (y := 142) (n := 2) (pc' := 29) rfl rfl (t_vt hT rfl rfl) rfl rfl ⟨(Nat.le_of_ble_eq_true rfl), (Nat.le_of_ble_eq_true rfl), (Nat.le_of_ble_eq_true rfl)⟩ rfl H (tV_elim (fun h3 H hT => ?_))
  show gm_G _ 29 _ _ _ _
  refine g_iload rfl rfl rfl (pc' := 30) ?_
  refine g_aload (r := some _) rfl rfl rfl (pc' := 31) ?_
  refine t_get (o := 45) rfl hT rfl rfl rfl (pc' := 34) rfl ?_
  refine g_iload rfl rfl rfl (pc' := 36) ?_
  obtain ⟨n4, hn4, H⟩ := H
  refine t_iaload hT (o := 45) (l := 1536) rfl rfl rfl hn4 (pc' := 37) rfl ?_
  refine g_ic_ge rfl (pc' := 40) (pt := 202) rfl rfl ⟨fun hc => ?_, fun hc => ?_⟩
  · have H := H.1 hc
    exact g_weak (show gm_Lle [some _, some _, some _, some _] _ from ⟨rfl, ⟨rfl, ⟨rfl, ⟨rfl, trivial⟩⟩⟩⟩) H
  · have H := H.2 hc
    refine g_iload rfl rfl rfl (pc' := 41) ?_
    refine g_iconst rfl rfl rfl (pc' := 43) ?_
    refine g_iadd rfl rfl (pc' := 44) ?_
    refine g_iconst rfl rfl rfl (pc' := 46) ?_
    refine g_idiv rfl (by decide) (pc' := 47) rfl ?_
    refine g_istore rfl rfl rfl (pc' := 49) ?_
    exact g_weak (show gm_Lle [some _, some _, some _, some _, some _, some _, some _] _ from ⟨rfl, ⟨rfl, ⟨rfl, ⟨rfl, ⟨rfl, ⟨rfl, ⟨rfl, trivial⟩⟩⟩⟩⟩⟩⟩) H
theorem w_510_49 {m : Nat} {x1 : Int32} {x2 : Int32} {x3 : Int32} {x4 : Int32} {x5 : Int32} {x6 : Int32} {h : hh_T} {Q : Option Value ⊕ Nat → hh_T → Prop} (hT : tw_ok h m) (H : (¬ x6 < (Int32.ofNat 8) → ((¬ Int32.ofNat 0 < (x3 - x3 / (Int32.ofNat 32) * (Int32.ofNat 32)) → (gm_G 510 202 [some (.ref m), some (.int x1), some (.int x2), some (.int x3)] [] h Q)) ∧ (Int32.ofNat 0 < (x3 - x3 / (Int32.ofNat 32) * (Int32.ofNat 32)) → (∃ n1, gm_ix (((Int32.ofNat 8) * x4) + x5) n1 12288 ∧ (((hh_i h (m + 55) n1) < Int32.ofNat 0 → (gm_G 510 202 [some (.ref m), some (.int x1), some (.int x2), some (.int x3)] [] h Q)) ∧ (¬ (hh_i h (m + 55) n1) < Int32.ofNat 0 → (∃ n2, gm_ix (((Int32.ofNat 8) * x4) + x5) n2 12288 ∧ (gm_G 473 0 [some (.ref m), some (.int (hh_i h (m + 55) n2))] [] h (pI (fun v4 h3 => (¬ v4 < Int32.ofNat 0 → (gm_G 510 123 [some (.ref m), some (.int x1), some (.int x2), some (.int x3), none, some (.int x5), none, some (.int (Int32.ofNat 0))] [] h3 Q)) ∧ (v4 < Int32.ofNat 0 → (Q (.inl (some (.int v4))) h3))) (fun _ _ => False)))))))))) ∧ (x6 < (Int32.ofNat 8) → (∃ n5, gm_ix x6 n5 8 ∧ (∀ h6, h6 = hh_wi h (m + 104) n5 (Int32.ofInt (-1)) → (gm_G 510 49 [some (.ref m), some (.int x1), some (.int x2), some (.int x3), some (.int x4), some (.int x5), some (.int (x6 + (Int32.ofNat 1)))] [] h6 Q))))) : gm_G 510 49 [some (.ref m), some (.int x1), some (.int x2), some (.int x3), some (.int x4), some (.int x5), some (.int x6)] [] h Q := by
  refine g_iload rfl rfl rfl (pc' := 51) ?_
  refine g_iconst rfl rfl rfl (pc' := 53) ?_
  refine g_ic_ge rfl (pc' := 56) (pt := 70) rfl rfl ⟨fun hc => ?_, fun hc => ?_⟩
  · have H := H.1 hc
    refine g_iload rfl rfl rfl (pc' := 71) ?_
    refine g_iconst rfl rfl rfl (pc' := 73) ?_
    refine g_irem rfl (by decide) (pc' := 74) rfl ?_
    refine g_if_le rfl (pc' := 77) (pt := 202) rfl rfl ⟨fun hc => ?_, fun hc => ?_⟩
    · have H := H.1 hc
      exact g_weak (show gm_Lle [some _, some _, some _, some _] _ from ⟨rfl, ⟨rfl, ⟨rfl, ⟨rfl, trivial⟩⟩⟩⟩) H
    · have H := H.2 hc
      refine g_aload (r := some _) rfl rfl rfl (pc' := 78) ?_
      refine t_get (o := 55) rfl hT rfl rfl rfl (pc' := 81) rfl ?_
      refine g_iconst rfl rfl rfl (pc' := 83) ?_
      refine g_iload rfl rfl rfl (pc' := 85) ?_
      refine g_imul rfl rfl (pc' := 86) ?_
      refine g_iload rfl rfl rfl (pc' := 88) ?_
      refine g_iadd rfl rfl (pc' := 89) ?_
      obtain ⟨n1, hn1, H⟩ := H
      refine t_iaload hT (o := 55) (l := 12288) rfl rfl rfl hn1 (pc' := 90) rfl ?_
      refine g_if_lt rfl (pc' := 93) (pt := 202) rfl rfl ⟨fun hc => ?_, fun hc => ?_⟩
      · have H := H.1 hc
        exact g_weak (show gm_Lle [some _, some _, some _, some _] _ from ⟨rfl, ⟨rfl, ⟨rfl, ⟨rfl, trivial⟩⟩⟩⟩) H
      · have H := H.2 hc
        refine g_aload (r := some _) rfl rfl rfl (pc' := 94) ?_
        refine g_aload (r := some _) rfl rfl rfl (pc' := 95) ?_
        refine t_get (o := 55) rfl hT rfl rfl rfl (pc' := 98) rfl ?_
        refine g_iconst rfl rfl rfl (pc' := 100) ?_
        refine g_iload rfl rfl rfl (pc' := 102) ?_
        refine g_imul rfl rfl (pc' := 103) ?_
        refine g_iload rfl rfl rfl (pc' := 105) ?_
        refine g_iadd rfl rfl (pc' := 106) ?_
        obtain ⟨n2, hn2, H⟩ := H
        refine t_iaload hT (o := 55) (l := 12288) rfl rfl rfl hn2 (pc' := 107) rfl ?_
        refine t_call hT (y := 473) (n := 2) (pc' := 110) rfl rfl (t_vt hT rfl rfl) rfl rfl ⟨(Nat.le_of_ble_eq_true rfl), (Nat.le_of_ble_eq_true rfl), (Nat.le_of_ble_eq_true rfl)⟩ rfl H (tI_elim (fun v4 h3 H hT => ?_))
        show gm_G _ 110 _ _ _ _
        refine g_istore rfl rfl rfl (pc' := 112) ?_
        refine g_iload rfl rfl rfl (pc' := 114) ?_
        refine g_if_ge rfl (pc' := 117) (pt := 120) rfl rfl ⟨fun hc => ?_, fun hc => ?_⟩
        · have H := H.1 hc
          refine g_iconst rfl rfl rfl (pc' := 121) ?_
          refine g_istore rfl rfl rfl (pc' := 123) ?_
          exact g_weak (show gm_Lle [some _, some _, some _, some _, none, some _, none, some _] _ from ⟨rfl, ⟨rfl, ⟨rfl, ⟨rfl, ⟨rfl, ⟨rfl, trivial⟩⟩⟩⟩⟩⟩) H
        · have H := H.2 hc
          refine g_iload rfl rfl rfl (pc' := 119) ?_
          exact g_ireturn rfl (Or.inl rfl) H
  · have H := H.2 hc
    refine g_aload (r := some _) rfl rfl rfl (pc' := 57) ?_
    refine t_get (o := 104) rfl hT rfl rfl rfl (pc' := 60) rfl ?_
    refine g_iload rfl rfl rfl (pc' := 62) ?_
    refine g_iconst rfl rfl rfl (pc' := 63) ?_
    obtain ⟨n5, hn5, H⟩ := H
    refine t_iastore hT (o := 104) (l := 8) rfl rfl rfl hn5  (pc' := 64) rfl (fun hT => ?_)
    have H := H _ rfl
    refine g_iinc (c := (Int32.ofNat 1)) rfl rfl rfl rfl rfl (pc' := 67) ?_
    refine g_goto rfl (pc' := 49) rfl ?_
    exact g_weak (show gm_Lle [some _, some _, some _, some _, some _, some _, some _] _ from ⟨rfl, ⟨rfl, ⟨rfl, ⟨rfl, ⟨rfl, ⟨rfl, ⟨rfl, trivial⟩⟩⟩⟩⟩⟩⟩) H
theorem w_510_123 {m : Nat} {x1 : Int32} {x2 : Int32} {x3 : Int32} {x5 : Int32} {x7 : Int32} {h : hh_T} {Q : Option Value ⊕ Nat → hh_T → Prop} (hT : tw_ok h m) (H : (¬ x7 < (Int32.ofNat 32) → (gm_G 408 0 [some (.ref m), some (.ref (m + 103)), some (.int ((Int32.ofNat 32) * x5)), some (.int x1)] [] h (pI (fun v2 h1 => (¬ v2 = Int32.ofNat 0 → (∃ n3, gm_ix x5 n3 8 ∧ (∀ h4, h4 = hh_wi h1 (m + 104) n3 (hh_i h1 (m + 30) 0) → (gm_G 510 202 [some (.ref m), some (.int x1), some (.int x2), some (.int x3)] [] h4 Q)))) ∧ (v2 = Int32.ofNat 0 → (Q (.inl (some (.int (Int32.ofInt (-7))))) h1))) (fun _ _ => False)))) ∧ (x7 < (Int32.ofNat 32) → ((¬ x7 < (x3 - x3 / (Int32.ofNat 32) * (Int32.ofNat 32)) → (gm_G 510 162 [some (.ref m), some (.int x1), some (.int x2), some (.int x3), none, some (.int x5), none, some (.int x7)] [.int (Int32.ofNat 0), .int (((Int32.ofNat 32) * x5) + x7), .ref (m + 103)] h Q)) ∧ (x7 < (x3 - x3 / (Int32.ofNat 32) * (Int32.ofNat 32)) → (∃ n5, gm_ix x7 n5 64 ∧ (gm_G 510 162 [some (.ref m), some (.int x1), some (.int x2), some (.int x3), none, some (.int x5), none, some (.int x7)] [.int (hh_i h (m + 29) n5), .int (((Int32.ofNat 32) * x5) + x7), .ref (m + 103)] h Q)))))) : gm_G 510 123 [some (.ref m), some (.int x1), some (.int x2), some (.int x3), none, some (.int x5), none, some (.int x7)] [] h Q := by
  refine g_iload rfl rfl rfl (pc' := 125) ?_
  refine g_iconst rfl rfl rfl (pc' := 127) ?_
  refine g_ic_ge rfl (pc' := 130) (pt := 169) rfl rfl ⟨fun hc => ?_, fun hc => ?_⟩
  · have H := H.1 hc
    refine g_aload (r := some _) rfl rfl rfl (pc' := 170) ?_
    refine g_aload (r := some _) rfl rfl rfl (pc' := 171) ?_
    refine t_get (o := 103) rfl hT rfl rfl rfl (pc' := 174) rfl ?_
    refine g_iconst rfl rfl rfl (pc' := 176) ?_
    refine g_iload rfl rfl rfl (pc' := 178) ?_
    refine g_imul rfl rfl (pc' := 179) ?_
    refine g_iload rfl rfl rfl (pc' := 180) ?_
    refine t_call hT (y := 408) (n := 4) (pc' := 183) rfl rfl (t_vt hT rfl rfl) rfl rfl ⟨(Nat.le_of_ble_eq_true rfl), (Nat.le_of_ble_eq_true rfl), (Nat.le_of_ble_eq_true rfl)⟩ rfl H (tI_elim (fun v2 h1 H hT => ?_))
    show gm_G _ 183 _ _ _ _
    refine g_if_ne rfl (pc' := 186) (pt := 189) rfl rfl ⟨fun hc => ?_, fun hc => ?_⟩
    · have H := H.1 hc
      refine g_aload (r := some _) rfl rfl rfl (pc' := 190) ?_
      refine t_get (o := 104) rfl hT rfl rfl rfl (pc' := 193) rfl ?_
      refine g_iload rfl rfl rfl (pc' := 195) ?_
      refine g_aload (r := some _) rfl rfl rfl (pc' := 196) ?_
      refine t_get (o := 30) rfl hT rfl rfl rfl (pc' := 199) rfl ?_
      refine g_iconst rfl rfl rfl (pc' := 200) ?_
      refine t_iaload hT (o := 30) (l := 136) rfl rfl rfl ⟨rfl, by decide, by decide⟩ (pc' := 201) rfl ?_
      obtain ⟨n3, hn3, H⟩ := H
      refine t_iastore hT (o := 104) (l := 8) rfl rfl rfl hn3  (pc' := 202) rfl (fun hT => ?_)
      have H := H _ rfl
      exact g_weak (show gm_Lle [some _, some _, some _, some _] _ from ⟨rfl, ⟨rfl, ⟨rfl, ⟨rfl, trivial⟩⟩⟩⟩) H
    · have H := H.2 hc
      refine g_iconst rfl rfl rfl (pc' := 188) ?_
      exact g_ireturn rfl (Or.inl rfl) H
  · have H := H.2 hc
    refine g_aload (r := some _) rfl rfl rfl (pc' := 131) ?_
    refine t_get (o := 103) rfl hT rfl rfl rfl (pc' := 134) rfl ?_
    refine g_iconst rfl rfl rfl (pc' := 136) ?_
    refine g_iload rfl rfl rfl (pc' := 138) ?_
    refine g_imul rfl rfl (pc' := 139) ?_
    refine g_iload rfl rfl rfl (pc' := 141) ?_
    refine g_iadd rfl rfl (pc' := 142) ?_
    refine g_iload rfl rfl rfl (pc' := 144) ?_
    refine g_iload rfl rfl rfl (pc' := 145) ?_
    refine g_iconst rfl rfl rfl (pc' := 147) ?_
    refine g_irem rfl (by decide) (pc' := 148) rfl ?_
    refine g_ic_ge rfl (pc' := 151) (pt := 161) rfl rfl ⟨fun hc => ?_, fun hc => ?_⟩
    · have H := H.1 hc
      refine g_iconst rfl rfl rfl (pc' := 162) ?_
      exact g_weak (show gm_Lle [some _, some _, some _, some _, none, some _, none, some _] _ from ⟨rfl, ⟨rfl, ⟨rfl, ⟨rfl, ⟨rfl, ⟨rfl, trivial⟩⟩⟩⟩⟩⟩) H
    · have H := H.2 hc
      refine g_aload (r := some _) rfl rfl rfl (pc' := 152) ?_
      refine t_get (o := 29) rfl hT rfl rfl rfl (pc' := 155) rfl ?_
      refine g_iload rfl rfl rfl (pc' := 157) ?_
      obtain ⟨n5, hn5, H⟩ := H
      refine t_baload hT (o := 29) (l := 64) rfl rfl rfl hn5 (pc' := 158) rfl ?_
      refine g_goto rfl (pc' := 162) rfl ?_
      exact g_weak (show gm_Lle [some _, some _, some _, some _, none, some _, none, some _] _ from ⟨rfl, ⟨rfl, ⟨rfl, ⟨rfl, ⟨rfl, ⟨rfl, trivial⟩⟩⟩⟩⟩⟩) H
theorem w_510_162 {m : Nat} {x1 : Int32} {x2 : Int32} {x3 : Int32} {x5 : Int32} {x7 : Int32} {y0 : Int32} {y1 : Int32} {h : hh_T} {Q : Option Value ⊕ Nat → hh_T → Prop} (hT : tw_ok h m) (H : ∃ n1, gm_ix y1 n1 544 ∧ (∀ h2, h2 = hh_wi h (m + 103) n1 (y0.toInt8.toInt32) → (gm_G 510 123 [some (.ref m), some (.int x1), some (.int x2), some (.int x3), none, some (.int x5), none, some (.int (x7 + (Int32.ofNat 1)))] [] h2 Q))) : gm_G 510 162 [some (.ref m), some (.int x1), some (.int x2), some (.int x3), none, some (.int x5), none, some (.int x7)] [.int y0, .int y1, .ref (m + 103)] h Q := by
  obtain ⟨n1, hn1, H⟩ := H
  refine t_bastore hT (o := 103) (l := 544) rfl rfl rfl hn1  (pc' := 163) rfl (fun hT => ?_)
  have H := H _ rfl
  refine g_iinc (c := (Int32.ofNat 1)) rfl rfl rfl rfl rfl (pc' := 166) ?_
  refine g_goto rfl (pc' := 123) rfl ?_
  exact g_weak (show gm_Lle [some _, some _, some _, some _, none, some _, none, some _] _ from ⟨rfl, ⟨rfl, ⟨rfl, ⟨rfl, ⟨rfl, ⟨rfl, trivial⟩⟩⟩⟩⟩⟩) H
theorem w_510_202 {m : Nat} {x1 : Int32} {x2 : Int32} {x3 : Int32} {h : hh_T} {Q : Option Value ⊕ Nat → hh_T → Prop} (hT : tw_ok h m) (H : gm_G 442 0 [some (.ref m), some (.int x1), some (.int x2)] [] h (pI (fun v2 h1 => (¬ v2 < Int32.ofNat 0 → (gm_G 364 0 [some (.ref m), some (.int x1), some (.int (Int32.ofNat 8)), some (.int x2), some (.int x3), some (.int (Int32.ofNat 0)), some (.int (Int32.ofNat 0)), some (.int (Int32.ofNat 0))] [] h1 (pV (fun h3 => ∃ n4, gm_ix x1 n4 32 ∧ (∃ n5, gm_ix (((Int32.ofNat 16) * (hh_i h3 (m + 63) n4)) + x2) n5 1536 ∧ (∀ h6, h6 = hh_wi h3 (m + 45) n5 x3 → (gm_G 93 0 [some (.ref m), some (.int (((Int32.ofNat 16) * (hh_i h3 (m + 63) n4)) + x2))] [] h6 (pV (fun h7 => gm_G 304 0 [some (.ref m), some (.int x1), some (.int x2), some (.int (Int32.ofNat 5))] [] h7 (pV (fun h8 => Q (.inl (some (.int (Int32.ofNat 0)))) h8) (fun _ _ => False))) (fun _ _ => False)))))) (fun _ _ => False)))) ∧ (v2 < Int32.ofNat 0 → (Q (.inl (some (.int v2))) h1))) (fun _ _ => False))) : gm_G 510 202 [some (.ref m), some (.int x1), some (.int x2), some (.int x3)] [] h Q := by
  refine g_aload (r := some _) rfl rfl rfl (pc' := 203) ?_
  refine g_iload rfl rfl rfl (pc' := 204) ?_
  refine g_iload rfl rfl rfl (pc' := 205) ?_
  refine t_call hT (y := 442) (n := 3) (pc' := 208) rfl rfl (t_vt hT rfl rfl) rfl rfl ⟨(Nat.le_of_ble_eq_true rfl), (Nat.le_of_ble_eq_true rfl), (Nat.le_of_ble_eq_true rfl)⟩ rfl H (tI_elim (fun v2 h1 H hT => ?_))
  show gm_G _ 208 _ _ _ _
  refine g_istore rfl rfl rfl (pc' := 210) ?_
  refine g_iload rfl rfl rfl (pc' := 212) ?_
  refine g_if_ge rfl (pc' := 215) (pt := 218) rfl rfl ⟨fun hc => ?_, fun hc => ?_⟩
  · have H := H.1 hc
    refine g_aload (r := some _) rfl rfl rfl (pc' := 219) ?_
    refine g_iload rfl rfl rfl (pc' := 220) ?_
    refine g_iconst rfl rfl rfl (pc' := 222) ?_
    refine g_iload rfl rfl rfl (pc' := 223) ?_
    refine g_iload rfl rfl rfl (pc' := 224) ?_
    refine g_iconst rfl rfl rfl (pc' := 225) ?_
    refine g_iconst rfl rfl rfl (pc' := 226) ?_
    refine g_iconst rfl rfl rfl (pc' := 227) ?_
    refine t_call hT (y := 364) (n := 8) (pc' := 230) rfl rfl (t_vt hT rfl rfl) rfl rfl ⟨(Nat.le_of_ble_eq_true rfl), (Nat.le_of_ble_eq_true rfl), (Nat.le_of_ble_eq_true rfl)⟩ rfl H (tV_elim (fun h3 H hT => ?_))
    show gm_G _ 230 _ _ _ _
    refine g_iconst rfl rfl rfl (pc' := 232) ?_
    refine g_aload (r := some _) rfl rfl rfl (pc' := 233) ?_
    refine t_get (o := 63) rfl hT rfl rfl rfl (pc' := 236) rfl ?_
    refine g_iload rfl rfl rfl (pc' := 237) ?_
    obtain ⟨n4, hn4, H⟩ := H
    refine t_iaload hT (o := 63) (l := 32) rfl rfl rfl hn4 (pc' := 238) rfl ?_
    refine g_imul rfl rfl (pc' := 239) ?_
    refine g_iload rfl rfl rfl (pc' := 240) ?_
    refine g_iadd rfl rfl (pc' := 241) ?_
    refine g_istore rfl rfl rfl (pc' := 243) ?_
    refine g_aload (r := some _) rfl rfl rfl (pc' := 244) ?_
    refine t_get (o := 45) rfl hT rfl rfl rfl (pc' := 247) rfl ?_
    refine g_iload rfl rfl rfl (pc' := 249) ?_
    refine g_iload rfl rfl rfl (pc' := 250) ?_
    obtain ⟨n5, hn5, H⟩ := H
    refine t_iastore hT (o := 45) (l := 1536) rfl rfl rfl hn5  (pc' := 251) rfl (fun hT => ?_)
    have H := H _ rfl
    refine g_aload (r := some _) rfl rfl rfl (pc' := 252) ?_
    refine g_iload rfl rfl rfl (pc' := 254) ?_
    refine t_call hT (y := 93) (n := 2) (pc' := 257) rfl rfl (t_vt hT rfl rfl) rfl rfl ⟨(Nat.le_of_ble_eq_true rfl), (Nat.le_of_ble_eq_true rfl), (Nat.le_of_ble_eq_true rfl)⟩ rfl H (tV_elim (fun h7 H hT => ?_))
    show gm_G _ 257 _ _ _ _
    refine g_aload (r := some _) rfl rfl rfl (pc' := 258) ?_
    refine g_iload rfl rfl rfl (pc' := 259) ?_
    refine g_iload rfl rfl rfl (pc' := 260) ?_
    refine g_iconst rfl rfl rfl (pc' := 261) ?_
    refine t_call hT (y := 304) (n := 4) (pc' := 264) rfl rfl (t_vt hT rfl rfl) rfl rfl ⟨(Nat.le_of_ble_eq_true rfl), (Nat.le_of_ble_eq_true rfl), (Nat.le_of_ble_eq_true rfl)⟩ rfl H (tV_elim (fun h8 H hT => ?_))
    show gm_G _ 264 _ _ _ _
    refine g_iconst rfl rfl rfl (pc' := 265) ?_
    exact g_ireturn rfl (Or.inl rfl) H
  · have H := H.2 hc
    refine g_iload rfl rfl rfl (pc' := 217) ?_
    exact g_ireturn rfl (Or.inl rfl) H
theorem w_511_0 {m : Nat} {x1 : Int32} {x2 : Int32} {x3 : Int32} {x4 : Int32} {h : hh_T} {Q : Option Value ⊕ Nat → hh_T → Prop} (hT : tw_ok h m) (H : ∃ n1, gm_ix x1 n1 32 ∧ (∃ n2, gm_ix (((Int32.ofNat 16) * (hh_i h (m + 63) n1)) + x2) n2 1536 ∧ (gm_G 421 0 [some (.ref m)] [] h (pV (fun h3 => gm_G 142 0 [some (.ref m), some (.int (((Int32.ofNat 16) * (hh_i h (m + 63) n1)) + x2))] [] h3 (pV (fun h4 => gm_G 511 47 [some (.ref m), some (.int x1), some (.int x2), some (.int x3), some (.int x4), some (.int (((Int32.ofNat 16) * (hh_i h (m + 63) n1)) + x2)), some (.int (hh_i h (m + 45) n2)), some (.int (x3 + x4)), some (.int (Int32.ofNat 0)), some (.int (x3 / (Int32.ofNat 32)))] [] h4 Q) (fun _ _ => False))) (fun _ _ => False))))) : gm_G 511 0 [some (.ref m), some (.int x1), some (.int x2), some (.int x3), some (.int x4)] [] h Q := by
  refine g_iconst rfl rfl rfl (pc' := 2) ?_
  refine g_aload (r := some _) rfl rfl rfl (pc' := 3) ?_
  refine t_get (o := 63) rfl hT rfl rfl rfl (pc' := 6) rfl ?_
  refine g_iload rfl rfl rfl (pc' := 7) ?_
  obtain ⟨n1, hn1, H⟩ := H
  refine t_iaload hT (o := 63) (l := 32) rfl rfl rfl hn1 (pc' := 8) rfl ?_
  refine g_imul rfl rfl (pc' := 9) ?_
  refine g_iload rfl rfl rfl (pc' := 10) ?_
  refine g_iadd rfl rfl (pc' := 11) ?_
  refine g_istore rfl rfl rfl (pc' := 13) ?_
  refine g_aload (r := some _) rfl rfl rfl (pc' := 14) ?_
  refine t_get (o := 45) rfl hT rfl rfl rfl (pc' := 17) rfl ?_
  refine g_iload rfl rfl rfl (pc' := 19) ?_
  obtain ⟨n2, hn2, H⟩ := H
  refine t_iaload hT (o := 45) (l := 1536) rfl rfl rfl hn2 (pc' := 20) rfl ?_
  refine g_istore rfl rfl rfl (pc' := 22) ?_
  refine g_iload rfl rfl rfl (pc' := 23) ?_
  refine g_iload rfl rfl rfl (pc' := 25) ?_
  refine g_iadd rfl rfl (pc' := 26) ?_
  refine g_istore rfl rfl rfl (pc' := 28) ?_
  refine g_aload (r := some _) rfl rfl rfl (pc' := 29) ?_
  refine t_call hT (y := 421) (n := 1) (pc' := 32) rfl rfl (t_vt hT rfl rfl) rfl rfl ⟨(Nat.le_of_ble_eq_true rfl), (Nat.le_of_ble_eq_true rfl), (Nat.le_of_ble_eq_true rfl)⟩ rfl H (tV_elim (fun h3 H hT => ?_))
  show gm_G _ 32 _ _ _ _
  refine g_aload (r := some _) rfl rfl rfl (pc' := 33) ?_
  refine g_iload rfl rfl rfl (pc' := 35) ?_
  refine t_call hT (y := 142) (n := 2) (pc' := 38) rfl rfl (t_vt hT rfl rfl) rfl rfl ⟨(Nat.le_of_ble_eq_true rfl), (Nat.le_of_ble_eq_true rfl), (Nat.le_of_ble_eq_true rfl)⟩ rfl H (tV_elim (fun h4 H hT => ?_))
  show gm_G _ 38 _ _ _ _
  refine g_iconst rfl rfl rfl (pc' := 39) ?_
  refine g_istore rfl rfl rfl (pc' := 41) ?_
  refine g_iload rfl rfl rfl (pc' := 42) ?_
  refine g_iconst rfl rfl rfl (pc' := 44) ?_
  refine g_idiv rfl (by decide) (pc' := 45) rfl ?_
  refine g_istore rfl rfl rfl (pc' := 47) ?_
  exact g_weak (show gm_Lle [some _, some _, some _, some _, some _, some _, some _, some _, some _, some _] _ from ⟨rfl, ⟨rfl, ⟨rfl, ⟨rfl, ⟨rfl, ⟨rfl, ⟨rfl, ⟨rfl, ⟨rfl, ⟨rfl, trivial⟩⟩⟩⟩⟩⟩⟩⟩⟩⟩) H
theorem w_511_47 {m : Nat} {x1 : Int32} {x2 : Int32} {x3 : Int32} {x4 : Int32} {x5 : Int32} {x6 : Int32} {x7 : Int32} {x8 : Int32} {x9 : Int32} {h : hh_T} {Q : Option Value ⊕ Nat → hh_T → Prop} (hT : tw_ok h m) (H : (¬ ((Int32.ofNat 32) * x9) < x7 → (gm_G 511 201 [some (.ref m), some (.int x1), some (.int x2), some (.int x3), some (.int x4), some (.int x5), some (.int x6), some (.int x7), none, some (.int (x3 / (Int32.ofNat 32)))] [] h Q)) ∧ (((Int32.ofNat 32) * x9) < x7 → (∃ n1, gm_ix (((Int32.ofNat 8) * x5) + x9) n1 12288 ∧ (gm_G 126 0 [some (.ref m), some (.int x9), some (.int x3), some (.int x7), some (.int x6)] [] h (pI (fun v3 h2 => (¬ v3 = Int32.ofNat 0 → ((¬ (hh_i h (m + 55) n1) < Int32.ofNat 0 → (gm_G 473 0 [some (.ref m), some (.int (hh_i h (m + 55) n1))] [] h2 (pI (fun v5 h4 => (¬ v5 < Int32.ofNat 0 → (gm_G 511 124 [some (.ref m), some (.int x1), some (.int x2), some (.int x3), some (.int x4), some (.int x5), some (.int x6), some (.int x7), some (.int x8), some (.int x9), none, none, some (.int (Int32.ofNat 0))] [] h4 Q)) ∧ (v5 < Int32.ofNat 0 → (Q (.inl (some (.int v5))) h4))) (fun _ _ => False)))) ∧ ((hh_i h (m + 55) n1) < Int32.ofNat 0 → (gm_G 511 189 [some (.ref m), some (.int x1), some (.int x2), some (.int x3), some (.int x4), some (.int x5), some (.int x6), some (.int x7), some (.int x8), some (.int x9)] [] h2 Q)))) ∧ (v3 = Int32.ofNat 0 → (∃ n6, gm_ix x9 n6 8 ∧ (∀ h7, h7 = hh_wi h2 (m + 104) n6 (Int32.ofInt (-1)) → (gm_G 511 189 [some (.ref m), some (.int x1), some (.int x2), some (.int x3), some (.int x4), some (.int x5), some (.int x6), some (.int x7), some (.int x8), some (.int x9)] [] h7 Q))))) (fun _ _ => False)))))) : gm_G 511 47 [some (.ref m), some (.int x1), some (.int x2), some (.int x3), some (.int x4), some (.int x5), some (.int x6), some (.int x7), some (.int x8), some (.int x9)] [] h Q := by
  refine g_iconst rfl rfl rfl (pc' := 49) ?_
  refine g_iload rfl rfl rfl (pc' := 51) ?_
  refine g_imul rfl rfl (pc' := 52) ?_
  refine g_iload rfl rfl rfl (pc' := 54) ?_
  refine g_ic_ge rfl (pc' := 57) (pt := 195) rfl rfl ⟨fun hc => ?_, fun hc => ?_⟩
  · have H := H.1 hc
    refine g_iload rfl rfl rfl (pc' := 196) ?_
    refine g_iconst rfl rfl rfl (pc' := 198) ?_
    refine g_idiv rfl (by decide) (pc' := 199) rfl ?_
    refine g_istore rfl rfl rfl (pc' := 201) ?_
    exact g_weak (show gm_Lle [some _, some _, some _, some _, some _, some _, some _, some _, none, some _] _ from ⟨rfl, ⟨rfl, ⟨rfl, ⟨rfl, ⟨rfl, ⟨rfl, ⟨rfl, ⟨rfl, ⟨rfl, trivial⟩⟩⟩⟩⟩⟩⟩⟩⟩) H
  · have H := H.2 hc
    refine g_aload (r := some _) rfl rfl rfl (pc' := 58) ?_
    refine t_get (o := 55) rfl hT rfl rfl rfl (pc' := 61) rfl ?_
    refine g_iconst rfl rfl rfl (pc' := 63) ?_
    refine g_iload rfl rfl rfl (pc' := 65) ?_
    refine g_imul rfl rfl (pc' := 66) ?_
    refine g_iload rfl rfl rfl (pc' := 68) ?_
    refine g_iadd rfl rfl (pc' := 69) ?_
    obtain ⟨n1, hn1, H⟩ := H
    refine t_iaload hT (o := 55) (l := 12288) rfl rfl rfl hn1 (pc' := 70) rfl ?_
    refine g_istore rfl rfl rfl (pc' := 72) ?_
    refine g_aload (r := some _) rfl rfl rfl (pc' := 73) ?_
    refine g_iload rfl rfl rfl (pc' := 75) ?_
    refine g_iload rfl rfl rfl (pc' := 76) ?_
    refine g_iload rfl rfl rfl (pc' := 78) ?_
    refine g_iload rfl rfl rfl (pc' := 80) ?_
    refine t_call hT (y := 126) (n := 5) (pc' := 83) rfl rfl (t_vt hT rfl rfl) rfl rfl ⟨(Nat.le_of_ble_eq_true rfl), (Nat.le_of_ble_eq_true rfl), (Nat.le_of_ble_eq_true rfl)⟩ rfl H (tI_elim (fun v3 h2 H hT => ?_))
    show gm_G _ 83 _ _ _ _
    refine g_if_ne rfl (pc' := 86) (pt := 97) rfl rfl ⟨fun hc => ?_, fun hc => ?_⟩
    · have H := H.1 hc
      refine g_iload rfl rfl rfl (pc' := 99) ?_
      refine g_if_ge rfl (pc' := 102) (pt := 105) rfl rfl ⟨fun hc => ?_, fun hc => ?_⟩
      · have H := H.1 hc
        refine g_aload (r := some _) rfl rfl rfl (pc' := 106) ?_
        refine g_iload rfl rfl rfl (pc' := 108) ?_
        refine t_call hT (y := 473) (n := 2) (pc' := 111) rfl rfl (t_vt hT rfl rfl) rfl rfl ⟨(Nat.le_of_ble_eq_true rfl), (Nat.le_of_ble_eq_true rfl), (Nat.le_of_ble_eq_true rfl)⟩ rfl H (tI_elim (fun v5 h4 H hT => ?_))
        show gm_G _ 111 _ _ _ _
        refine g_istore rfl rfl rfl (pc' := 113) ?_
        refine g_iload rfl rfl rfl (pc' := 115) ?_
        refine g_if_ge rfl (pc' := 118) (pt := 121) rfl rfl ⟨fun hc => ?_, fun hc => ?_⟩
        · have H := H.1 hc
          refine g_iconst rfl rfl rfl (pc' := 122) ?_
          refine g_istore rfl rfl rfl (pc' := 124) ?_
          exact g_weak (show gm_Lle [some _, some _, some _, some _, some _, some _, some _, some _, some _, some _, none, none, some _] _ from ⟨rfl, ⟨rfl, ⟨rfl, ⟨rfl, ⟨rfl, ⟨rfl, ⟨rfl, ⟨rfl, ⟨rfl, ⟨rfl, ⟨rfl, trivial⟩⟩⟩⟩⟩⟩⟩⟩⟩⟩⟩) H
        · have H := H.2 hc
          refine g_iload rfl rfl rfl (pc' := 120) ?_
          exact g_ireturn rfl (Or.inl rfl) H
      · have H := H.2 hc
        refine g_goto rfl (pc' := 189) rfl ?_
        exact g_weak (show gm_Lle [some _, some _, some _, some _, some _, some _, some _, some _, some _, some _] _ from ⟨rfl, ⟨rfl, ⟨rfl, ⟨rfl, ⟨rfl, ⟨rfl, ⟨rfl, ⟨rfl, ⟨rfl, ⟨rfl, trivial⟩⟩⟩⟩⟩⟩⟩⟩⟩⟩) H
    · have H := H.2 hc
      refine g_aload (r := some _) rfl rfl rfl (pc' := 87) ?_
      refine t_get (o := 104) rfl hT rfl rfl rfl (pc' := 90) rfl ?_
      refine g_iload rfl rfl rfl (pc' := 92) ?_
      refine g_iconst rfl rfl rfl (pc' := 93) ?_
      obtain ⟨n6, hn6, H⟩ := H
      refine t_iastore hT (o := 104) (l := 8) rfl rfl rfl hn6  (pc' := 94) rfl (fun hT => ?_)
      have H := H _ rfl
      refine g_goto rfl (pc' := 189) rfl ?_
      exact g_weak (show gm_Lle [some _, some _, some _, some _, some _, some _, some _, some _, some _, some _] _ from ⟨rfl, ⟨rfl, ⟨rfl, ⟨rfl, ⟨rfl, ⟨rfl, ⟨rfl, ⟨rfl, ⟨rfl, ⟨rfl, trivial⟩⟩⟩⟩⟩⟩⟩⟩⟩⟩) H
theorem w_511_124 {m : Nat} {x1 : Int32} {x2 : Int32} {x3 : Int32} {x4 : Int32} {x5 : Int32} {x6 : Int32} {x7 : Int32} {x8 : Int32} {x9 : Int32} {x12 : Int32} {h : hh_T} {Q : Option Value ⊕ Nat → hh_T → Prop} (hT : tw_ok h m) (H : (¬ x12 < (Int32.ofNat 32) → (gm_G 511 189 [some (.ref m), some (.int x1), some (.int x2), some (.int x3), some (.int x4), some (.int x5), some (.int x6), some (.int x7), some (.int (x8 + (Int32.ofNat 1))), some (.int x9)] [] h Q)) ∧ (x12 < (Int32.ofNat 32) → (((((Int32.ofNat 32) * x9) + x12) < x3 → (gm_G 511 172 [some (.ref m), some (.int x1), some (.int x2), some (.int x3), some (.int x4), some (.int x5), some (.int x6), some (.int x7), some (.int x8), some (.int x9), none, none, some (.int x12)] [.int (((Int32.ofNat 32) * x9) + x12), .ref (m + 103)] h Q)) ∧ (¬ (((Int32.ofNat 32) * x9) + x12) < x3 → ((¬ (((Int32.ofNat 32) * x9) + x12) < x7 → (gm_G 511 172 [some (.ref m), some (.int x1), some (.int x2), some (.int x3), some (.int x4), some (.int x5), some (.int x6), some (.int x7), some (.int x8), some (.int x9), none, none, some (.int x12)] [.int (((Int32.ofNat 32) * x9) + x12), .ref (m + 103)] h Q)) ∧ ((((Int32.ofNat 32) * x9) + x12) < x7 → (gm_G 511 179 [some (.ref m), some (.int x1), some (.int x2), some (.int x3), some (.int x4), some (.int x5), some (.int x6), some (.int x7), some (.int x8), some (.int x9), none, none, some (.int x12)] [.int (Int32.ofNat 0), .int (((Int32.ofNat 32) * x9) + x12), .ref (m + 103)] h Q))))))) : gm_G 511 124 [some (.ref m), some (.int x1), some (.int x2), some (.int x3), some (.int x4), some (.int x5), some (.int x6), some (.int x7), some (.int x8), some (.int x9), none, none, some (.int x12)] [] h Q := by
  refine g_iload rfl rfl rfl (pc' := 126) ?_
  refine g_iconst rfl rfl rfl (pc' := 128) ?_
  refine g_ic_ge rfl (pc' := 131) (pt := 186) rfl rfl ⟨fun hc => ?_, fun hc => ?_⟩
  · have H := H.1 hc
    refine g_iinc (c := (Int32.ofNat 1)) rfl rfl rfl rfl rfl (pc' := 189) ?_
    exact g_weak (show gm_Lle [some _, some _, some _, some _, some _, some _, some _, some _, some _, some _] _ from ⟨rfl, ⟨rfl, ⟨rfl, ⟨rfl, ⟨rfl, ⟨rfl, ⟨rfl, ⟨rfl, ⟨rfl, ⟨rfl, trivial⟩⟩⟩⟩⟩⟩⟩⟩⟩⟩) H
  · have H := H.2 hc
    refine g_aload (r := some _) rfl rfl rfl (pc' := 132) ?_
    refine t_get (o := 103) rfl hT rfl rfl rfl (pc' := 135) rfl ?_
    refine g_iconst rfl rfl rfl (pc' := 137) ?_
    refine g_iload rfl rfl rfl (pc' := 139) ?_
    refine g_imul rfl rfl (pc' := 140) ?_
    refine g_iload rfl rfl rfl (pc' := 142) ?_
    refine g_iadd rfl rfl (pc' := 143) ?_
    refine g_iconst rfl rfl rfl (pc' := 145) ?_
    refine g_iload rfl rfl rfl (pc' := 147) ?_
    refine g_imul rfl rfl (pc' := 148) ?_
    refine g_iload rfl rfl rfl (pc' := 150) ?_
    refine g_iadd rfl rfl (pc' := 151) ?_
    refine g_iload rfl rfl rfl (pc' := 152) ?_
    refine g_ic_lt rfl (pc' := 155) (pt := 172) rfl rfl ⟨fun hc => ?_, fun hc => ?_⟩
    · have H := H.1 hc
      exact g_weak (show gm_Lle [some _, some _, some _, some _, some _, some _, some _, some _, some _, some _, none, none, some _] _ from ⟨rfl, ⟨rfl, ⟨rfl, ⟨rfl, ⟨rfl, ⟨rfl, ⟨rfl, ⟨rfl, ⟨rfl, ⟨rfl, ⟨rfl, trivial⟩⟩⟩⟩⟩⟩⟩⟩⟩⟩⟩) H
    · have H := H.2 hc
      refine g_iconst rfl rfl rfl (pc' := 157) ?_
      refine g_iload rfl rfl rfl (pc' := 159) ?_
      refine g_imul rfl rfl (pc' := 160) ?_
      refine g_iload rfl rfl rfl (pc' := 162) ?_
      refine g_iadd rfl rfl (pc' := 163) ?_
      refine g_iload rfl rfl rfl (pc' := 165) ?_
      refine g_ic_ge rfl (pc' := 168) (pt := 172) rfl rfl ⟨fun hc => ?_, fun hc => ?_⟩
      · have H := H.1 hc
        exact g_weak (show gm_Lle [some _, some _, some _, some _, some _, some _, some _, some _, some _, some _, none, none, some _] _ from ⟨rfl, ⟨rfl, ⟨rfl, ⟨rfl, ⟨rfl, ⟨rfl, ⟨rfl, ⟨rfl, ⟨rfl, ⟨rfl, ⟨rfl, trivial⟩⟩⟩⟩⟩⟩⟩⟩⟩⟩⟩) H
      · have H := H.2 hc
        refine g_iconst rfl rfl rfl (pc' := 169) ?_
        refine g_goto rfl (pc' := 179) rfl ?_
        exact g_weak (show gm_Lle [some _, some _, some _, some _, some _, some _, some _, some _, some _, some _, none, none, some _] _ from ⟨rfl, ⟨rfl, ⟨rfl, ⟨rfl, ⟨rfl, ⟨rfl, ⟨rfl, ⟨rfl, ⟨rfl, ⟨rfl, ⟨rfl, trivial⟩⟩⟩⟩⟩⟩⟩⟩⟩⟩⟩) H
theorem w_511_172 {m : Nat} {x1 : Int32} {x2 : Int32} {x3 : Int32} {x4 : Int32} {x5 : Int32} {x6 : Int32} {x7 : Int32} {x8 : Int32} {x9 : Int32} {x12 : Int32} {y0 : Int32} {h : hh_T} {Q : Option Value ⊕ Nat → hh_T → Prop} (hT : tw_ok h m) (H : ∃ n1, gm_ix x12 n1 64 ∧ (gm_G 511 179 [some (.ref m), some (.int x1), some (.int x2), some (.int x3), some (.int x4), some (.int x5), some (.int x6), some (.int x7), some (.int x8), some (.int x9), none, none, some (.int x12)] [.int (hh_i h (m + 29) n1), .int y0, .ref (m + 103)] h Q)) : gm_G 511 172 [some (.ref m), some (.int x1), some (.int x2), some (.int x3), some (.int x4), some (.int x5), some (.int x6), some (.int x7), some (.int x8), some (.int x9), none, none, some (.int x12)] [.int y0, .ref (m + 103)] h Q := by
  refine g_aload (r := some _) rfl rfl rfl (pc' := 173) ?_
  refine t_get (o := 29) rfl hT rfl rfl rfl (pc' := 176) rfl ?_
  refine g_iload rfl rfl rfl (pc' := 178) ?_
  obtain ⟨n1, hn1, H⟩ := H
  refine t_baload hT (o := 29) (l := 64) rfl rfl rfl hn1 (pc' := 179) rfl ?_
  exact g_weak (show gm_Lle [some _, some _, some _, some _, some _, some _, some _, some _, some _, some _, none, none, some _] _ from ⟨rfl, ⟨rfl, ⟨rfl, ⟨rfl, ⟨rfl, ⟨rfl, ⟨rfl, ⟨rfl, ⟨rfl, ⟨rfl, ⟨rfl, trivial⟩⟩⟩⟩⟩⟩⟩⟩⟩⟩⟩) H
theorem w_511_179 {m : Nat} {x1 : Int32} {x2 : Int32} {x3 : Int32} {x4 : Int32} {x5 : Int32} {x6 : Int32} {x7 : Int32} {x8 : Int32} {x9 : Int32} {x12 : Int32} {y0 : Int32} {y1 : Int32} {h : hh_T} {Q : Option Value ⊕ Nat → hh_T → Prop} (hT : tw_ok h m) (H : ∃ n1, gm_ix y1 n1 544 ∧ (∀ h2, h2 = hh_wi h (m + 103) n1 (y0.toInt8.toInt32) → (gm_G 511 124 [some (.ref m), some (.int x1), some (.int x2), some (.int x3), some (.int x4), some (.int x5), some (.int x6), some (.int x7), some (.int x8), some (.int x9), none, none, some (.int (x12 + (Int32.ofNat 1)))] [] h2 Q))) : gm_G 511 179 [some (.ref m), some (.int x1), some (.int x2), some (.int x3), some (.int x4), some (.int x5), some (.int x6), some (.int x7), some (.int x8), some (.int x9), none, none, some (.int x12)] [.int y0, .int y1, .ref (m + 103)] h Q := by
  obtain ⟨n1, hn1, H⟩ := H
  refine t_bastore hT (o := 103) (l := 544) rfl rfl rfl hn1  (pc' := 180) rfl (fun hT => ?_)
  have H := H _ rfl
  refine g_iinc (c := (Int32.ofNat 1)) rfl rfl rfl rfl rfl (pc' := 183) ?_
  refine g_goto rfl (pc' := 124) rfl ?_
  exact g_weak (show gm_Lle [some _, some _, some _, some _, some _, some _, some _, some _, some _, some _, none, none, some _] _ from ⟨rfl, ⟨rfl, ⟨rfl, ⟨rfl, ⟨rfl, ⟨rfl, ⟨rfl, ⟨rfl, ⟨rfl, ⟨rfl, ⟨rfl, trivial⟩⟩⟩⟩⟩⟩⟩⟩⟩⟩⟩) H
theorem w_511_189 {m : Nat} {x1 : Int32} {x2 : Int32} {x3 : Int32} {x4 : Int32} {x5 : Int32} {x6 : Int32} {x7 : Int32} {x8 : Int32} {x9 : Int32} {h : hh_T} {Q : Option Value ⊕ Nat → hh_T → Prop} (hT : tw_ok h m) (H : gm_G 511 47 [some (.ref m), some (.int x1), some (.int x2), some (.int x3), some (.int x4), some (.int x5), some (.int x6), some (.int x7), some (.int x8), some (.int (x9 + (Int32.ofNat 1)))] [] h Q) : gm_G 511 189 [some (.ref m), some (.int x1), some (.int x2), some (.int x3), some (.int x4), some (.int x5), some (.int x6), some (.int x7), some (.int x8), some (.int x9)] [] h Q := by
  refine g_iinc (c := (Int32.ofNat 1)) rfl rfl rfl rfl rfl (pc' := 192) ?_
  refine g_goto rfl (pc' := 47) rfl ?_
  exact g_weak (show gm_Lle [some _, some _, some _, some _, some _, some _, some _, some _, some _, some _] _ from ⟨rfl, ⟨rfl, ⟨rfl, ⟨rfl, ⟨rfl, ⟨rfl, ⟨rfl, ⟨rfl, ⟨rfl, ⟨rfl, trivial⟩⟩⟩⟩⟩⟩⟩⟩⟩⟩) H
theorem w_511_201 {m : Nat} {x1 : Int32} {x2 : Int32} {x3 : Int32} {x4 : Int32} {x5 : Int32} {x6 : Int32} {x7 : Int32} {x9 : Int32} {h : hh_T} {Q : Option Value ⊕ Nat → hh_T → Prop} (hT : tw_ok h m) (H : (¬ ((Int32.ofNat 32) * x9) < x7 → (gm_G 442 0 [some (.ref m), some (.int x1), some (.int x2)] [] h (pI (fun v2 h1 => (¬ v2 < Int32.ofNat 0 → (gm_G 364 0 [some (.ref m), some (.int x1), some (.int (Int32.ofNat 9)), some (.int x2), some (.int x3), some (.int x4), some (.int (Int32.ofNat 0)), some (.int (Int32.ofNat 0))] [] h1 (pV (fun h3 => ∃ n4, gm_ix x1 n4 32 ∧ (gm_G 93 0 [some (.ref m), some (.int (((Int32.ofNat 16) * (hh_i h3 (m + 63) n4)) + x2))] [] h3 (pV (fun h5 => gm_G 304 0 [some (.ref m), some (.int x1), some (.int x2), some (.int (Int32.ofNat 5))] [] h5 (pV (fun h6 => Q (.inl (some (.int (Int32.ofNat 0)))) h6) (fun _ _ => False))) (fun _ _ => False)))) (fun _ _ => False)))) ∧ (v2 < Int32.ofNat 0 → (Q (.inl (some (.int v2))) h1))) (fun _ _ => False)))) ∧ (((Int32.ofNat 32) * x9) < x7 → (gm_G 126 0 [some (.ref m), some (.int x9), some (.int x3), some (.int x7), some (.int x6)] [] h (pI (fun v8 h7 => (v8 = Int32.ofNat 0 → (gm_G 511 282 [some (.ref m), some (.int x1), some (.int x2), some (.int x3), some (.int x4), some (.int x5), some (.int x6), some (.int x7), none, some (.int x9)] [] h7 Q)) ∧ (¬ v8 = Int32.ofNat 0 → (∃ n9, gm_ix (((Int32.ofNat 8) * x5) + x9) n9 12288 ∧ ((¬ (hh_i h7 (m + 55) n9) < Int32.ofNat 0 → (gm_G 408 0 [some (.ref m), some (.ref (m + 103)), some (.int ((Int32.ofNat 32) * x9)), some (.int x1)] [] h7 (pI (fun v11 h10 => (¬ v11 = Int32.ofNat 0 → (∃ n12, gm_ix ((hh_i h10 m 41) - (Int32.ofNat 1)) n12 136 ∧ (∃ n13, gm_ix x9 n13 8 ∧ (∀ h14, h14 = hh_wi h10 (m + 104) n13 (hh_i h10 (m + 30) n12) → (gm_G 511 282 [some (.ref m), some (.int x1), some (.int x2), some (.int x3), some (.int x4), some (.int x5), some (.int x6), some (.int x7), none, some (.int x9)] [] h14 Q))))) ∧ (v11 = Int32.ofNat 0 → (Q (.inl (some (.int (Int32.ofInt (-7))))) h10))) (fun _ _ => False)))) ∧ ((hh_i h7 (m + 55) n9) < Int32.ofNat 0 → (gm_G 511 282 [some (.ref m), some (.int x1), some (.int x2), some (.int x3), some (.int x4), some (.int x5), some (.int x6), some (.int x7), none, some (.int x9)] [] h7 Q)))))) (fun _ _ => False))))) : gm_G 511 201 [some (.ref m), some (.int x1), some (.int x2), some (.int x3), some (.int x4), some (.int x5), some (.int x6), some (.int x7), none, some (.int x9)] [] h Q := by
  refine g_iconst rfl rfl rfl (pc' := 203) ?_
  refine g_iload rfl rfl rfl (pc' := 205) ?_
  refine g_imul rfl rfl (pc' := 206) ?_
  refine g_iload rfl rfl rfl (pc' := 208) ?_
  refine g_ic_ge rfl (pc' := 211) (pt := 288) rfl rfl ⟨fun hc => ?_, fun hc => ?_⟩
  · have H := H.1 hc
    refine g_aload (r := some _) rfl rfl rfl (pc' := 289) ?_
    refine g_iload rfl rfl rfl (pc' := 290) ?_
    refine g_iload rfl rfl rfl (pc' := 291) ?_
    refine t_call hT (y := 442) (n := 3) (pc' := 294) rfl rfl (t_vt hT rfl rfl) rfl rfl ⟨(Nat.le_of_ble_eq_true rfl), (Nat.le_of_ble_eq_true rfl), (Nat.le_of_ble_eq_true rfl)⟩ rfl H (tI_elim (fun v2 h1 H hT => ?_))
    show gm_G _ 294 _ _ _ _
    refine g_istore rfl rfl rfl (pc' := 296) ?_
    refine g_iload rfl rfl rfl (pc' := 298) ?_
    refine g_if_ge rfl (pc' := 301) (pt := 304) rfl rfl ⟨fun hc => ?_, fun hc => ?_⟩
    · have H := H.1 hc
      refine g_aload (r := some _) rfl rfl rfl (pc' := 305) ?_
      refine g_iload rfl rfl rfl (pc' := 306) ?_
      refine g_iconst rfl rfl rfl (pc' := 308) ?_
      refine g_iload rfl rfl rfl (pc' := 309) ?_
      refine g_iload rfl rfl rfl (pc' := 310) ?_
      refine g_iload rfl rfl rfl (pc' := 312) ?_
      refine g_iconst rfl rfl rfl (pc' := 313) ?_
      refine g_iconst rfl rfl rfl (pc' := 314) ?_
      refine t_call hT (y := 364) (n := 8) (pc' := 317) rfl rfl (t_vt hT rfl rfl) rfl rfl ⟨(Nat.le_of_ble_eq_true rfl), (Nat.le_of_ble_eq_true rfl), (Nat.le_of_ble_eq_true rfl)⟩ rfl H (tV_elim (fun h3 H hT => ?_))
      show gm_G _ 317 _ _ _ _
      refine g_aload (r := some _) rfl rfl rfl (pc' := 318) ?_
      refine g_iconst rfl rfl rfl (pc' := 320) ?_
      refine g_aload (r := some _) rfl rfl rfl (pc' := 321) ?_
      refine t_get (o := 63) rfl hT rfl rfl rfl (pc' := 324) rfl ?_
      refine g_iload rfl rfl rfl (pc' := 325) ?_
      obtain ⟨n4, hn4, H⟩ := H
      refine t_iaload hT (o := 63) (l := 32) rfl rfl rfl hn4 (pc' := 326) rfl ?_
      refine g_imul rfl rfl (pc' := 327) ?_
      refine g_iload rfl rfl rfl (pc' := 328) ?_
      refine g_iadd rfl rfl (pc' := 329) ?_
      refine t_call hT (y := 93) (n := 2) (pc' := 332) rfl rfl (t_vt hT rfl rfl) rfl rfl ⟨(Nat.le_of_ble_eq_true rfl), (Nat.le_of_ble_eq_true rfl), (Nat.le_of_ble_eq_true rfl)⟩ rfl H (tV_elim (fun h5 H hT => ?_))
      show gm_G _ 332 _ _ _ _
      refine g_aload (r := some _) rfl rfl rfl (pc' := 333) ?_
      refine g_iload rfl rfl rfl (pc' := 334) ?_
      refine g_iload rfl rfl rfl (pc' := 335) ?_
      refine g_iconst rfl rfl rfl (pc' := 336) ?_
      refine t_call hT (y := 304) (n := 4) (pc' := 339) rfl rfl (t_vt hT rfl rfl) rfl rfl ⟨(Nat.le_of_ble_eq_true rfl), (Nat.le_of_ble_eq_true rfl), (Nat.le_of_ble_eq_true rfl)⟩ rfl H (tV_elim (fun h6 H hT => ?_))
      show gm_G _ 339 _ _ _ _
      refine g_iconst rfl rfl rfl (pc' := 340) ?_
      exact g_ireturn rfl (Or.inl rfl) H
    · have H := H.2 hc
      refine g_iload rfl rfl rfl (pc' := 303) ?_
      exact g_ireturn rfl (Or.inl rfl) H
  · have H := H.2 hc
    refine g_aload (r := some _) rfl rfl rfl (pc' := 212) ?_
    refine g_iload rfl rfl rfl (pc' := 214) ?_
    refine g_iload rfl rfl rfl (pc' := 215) ?_
    refine g_iload rfl rfl rfl (pc' := 217) ?_
    refine g_iload rfl rfl rfl (pc' := 219) ?_
    refine t_call hT (y := 126) (n := 5) (pc' := 222) rfl rfl (t_vt hT rfl rfl) rfl rfl ⟨(Nat.le_of_ble_eq_true rfl), (Nat.le_of_ble_eq_true rfl), (Nat.le_of_ble_eq_true rfl)⟩ rfl H (tI_elim (fun v8 h7 H hT => ?_))
    show gm_G _ 222 _ _ _ _
    refine g_if_eq rfl (pc' := 225) (pt := 282) rfl rfl ⟨fun hc => ?_, fun hc => ?_⟩
    · have H := H.1 hc
      exact g_weak (show gm_Lle [some _, some _, some _, some _, some _, some _, some _, some _, none, some _] _ from ⟨rfl, ⟨rfl, ⟨rfl, ⟨rfl, ⟨rfl, ⟨rfl, ⟨rfl, ⟨rfl, ⟨rfl, trivial⟩⟩⟩⟩⟩⟩⟩⟩⟩) H
    · have H := H.2 hc
      refine g_aload (r := some _) rfl rfl rfl (pc' := 226) ?_
      refine t_get (o := 55) rfl hT rfl rfl rfl (pc' := 229) rfl ?_
      refine g_iconst rfl rfl rfl (pc' := 231) ?_
      refine g_iload rfl rfl rfl (pc' := 233) ?_
      refine g_imul rfl rfl (pc' := 234) ?_
      refine g_iload rfl rfl rfl (pc' := 236) ?_
      refine g_iadd rfl rfl (pc' := 237) ?_
      obtain ⟨n9, hn9, H⟩ := H
      refine t_iaload hT (o := 55) (l := 12288) rfl rfl rfl hn9 (pc' := 238) rfl ?_
      refine g_if_ge rfl (pc' := 241) (pt := 244) rfl rfl ⟨fun hc => ?_, fun hc => ?_⟩
      · have H := H.1 hc
        refine g_aload (r := some _) rfl rfl rfl (pc' := 245) ?_
        refine g_aload (r := some _) rfl rfl rfl (pc' := 246) ?_
        refine t_get (o := 103) rfl hT rfl rfl rfl (pc' := 249) rfl ?_
        refine g_iconst rfl rfl rfl (pc' := 251) ?_
        refine g_iload rfl rfl rfl (pc' := 253) ?_
        refine g_imul rfl rfl (pc' := 254) ?_
        refine g_iload rfl rfl rfl (pc' := 255) ?_
        refine t_call hT (y := 408) (n := 4) (pc' := 258) rfl rfl (t_vt hT rfl rfl) rfl rfl ⟨(Nat.le_of_ble_eq_true rfl), (Nat.le_of_ble_eq_true rfl), (Nat.le_of_ble_eq_true rfl)⟩ rfl H (tI_elim (fun v11 h10 H hT => ?_))
        show gm_G _ 258 _ _ _ _
        refine g_if_ne rfl (pc' := 261) (pt := 264) rfl rfl ⟨fun hc => ?_, fun hc => ?_⟩
        · have H := H.1 hc
          refine g_aload (r := some _) rfl rfl rfl (pc' := 265) ?_
          refine t_get (o := 104) rfl hT rfl rfl rfl (pc' := 268) rfl ?_
          refine g_iload rfl rfl rfl (pc' := 270) ?_
          refine g_aload (r := some _) rfl rfl rfl (pc' := 271) ?_
          refine t_get (o := 30) rfl hT rfl rfl rfl (pc' := 274) rfl ?_
          refine g_aload (r := some _) rfl rfl rfl (pc' := 275) ?_
          refine t_getI rfl hT rfl rfl (pc' := 278) rfl ?_
          refine g_iconst rfl rfl rfl (pc' := 279) ?_
          refine g_isub rfl rfl (pc' := 280) ?_
          obtain ⟨n12, hn12, H⟩ := H
          refine t_iaload hT (o := 30) (l := 136) rfl rfl rfl hn12 (pc' := 281) rfl ?_
          obtain ⟨n13, hn13, H⟩ := H
          refine t_iastore hT (o := 104) (l := 8) rfl rfl rfl hn13  (pc' := 282) rfl (fun hT => ?_)
          have H := H _ rfl
          exact g_weak (show gm_Lle [some _, some _, some _, some _, some _, some _, some _, some _, none, some _] _ from ⟨rfl, ⟨rfl, ⟨rfl, ⟨rfl, ⟨rfl, ⟨rfl, ⟨rfl, ⟨rfl, ⟨rfl, trivial⟩⟩⟩⟩⟩⟩⟩⟩⟩) H
        · have H := H.2 hc
          refine g_iconst rfl rfl rfl (pc' := 263) ?_
          exact g_ireturn rfl (Or.inl rfl) H
      · have H := H.2 hc
        refine g_goto rfl (pc' := 282) rfl ?_
        exact g_weak (show gm_Lle [some _, some _, some _, some _, some _, some _, some _, some _, none, some _] _ from ⟨rfl, ⟨rfl, ⟨rfl, ⟨rfl, ⟨rfl, ⟨rfl, ⟨rfl, ⟨rfl, ⟨rfl, trivial⟩⟩⟩⟩⟩⟩⟩⟩⟩) H
theorem w_511_282 {m : Nat} {x1 : Int32} {x2 : Int32} {x3 : Int32} {x4 : Int32} {x5 : Int32} {x6 : Int32} {x7 : Int32} {x9 : Int32} {h : hh_T} {Q : Option Value ⊕ Nat → hh_T → Prop} (hT : tw_ok h m) (H : gm_G 511 201 [some (.ref m), some (.int x1), some (.int x2), some (.int x3), some (.int x4), some (.int x5), some (.int x6), some (.int x7), none, some (.int (x9 + (Int32.ofNat 1)))] [] h Q) : gm_G 511 282 [some (.ref m), some (.int x1), some (.int x2), some (.int x3), some (.int x4), some (.int x5), some (.int x6), some (.int x7), none, some (.int x9)] [] h Q := by
  refine g_iinc (c := (Int32.ofNat 1)) rfl rfl rfl rfl rfl (pc' := 285) ?_
  refine g_goto rfl (pc' := 201) rfl ?_
  exact g_weak (show gm_Lle [some _, some _, some _, some _, some _, some _, some _, some _, none, some _] _ from ⟨rfl, ⟨rfl, ⟨rfl, ⟨rfl, ⟨rfl, ⟨rfl, ⟨rfl, ⟨rfl, ⟨rfl, trivial⟩⟩⟩⟩⟩⟩⟩⟩⟩) H
theorem w_512_0 {m : Nat} {x1 : Int32} {x2 : Int32} {b3 : Nat} {x4 : Int32} {x5 : Int32} {h : hh_T} {Q : Option Value ⊕ Nat → hh_T → Prop} (hT : tw_ok h m) (H : gm_G 512 3 [some (.ref m), some (.int x1), some (.int x2), some (.ref b3), some (.int x4), some (.int x5), some (.int (Int32.ofNat 0))] [] h Q) : gm_G 512 0 [some (.ref m), some (.int x1), some (.int x2), some (.ref b3), some (.int x4), some (.int x5)] [] h Q := by
  refine g_iconst rfl rfl rfl (pc' := 1) ?_
  refine g_istore rfl rfl rfl (pc' := 3) ?_
  exact g_weak (show gm_Lle [some _, some _, some _, some _, some _, some _, some _] _ from ⟨rfl, ⟨rfl, ⟨rfl, ⟨rfl, ⟨rfl, ⟨rfl, ⟨rfl, trivial⟩⟩⟩⟩⟩⟩⟩) H
theorem w_512_3 {m : Nat} {x1 : Int32} {x2 : Int32} {b3 : Nat} {x4 : Int32} {x5 : Int32} {x6 : Int32} {h : hh_T} {Q : Option Value ⊕ Nat → hh_T → Prop} (hT : tw_ok h m) (H : (¬ x6 < (Int32.ofNat 32) → (gm_G 481 0 [some (.ref m), some (.int x1), some (.int (Int32.ofNat 0)), some (.int x2), some (.int x2)] [] h (pI (fun v2 h1 => (¬ v2 < Int32.ofNat 0 → ((x5 = Int32.ofNat 0 → (gm_G 512 78 [some (.ref m), some (.int x1), none, some (.ref b3), some (.int x4), some (.int x5)] [.int (Int32.ofNat 0), .int (Int32.ofNat 0), .int x2, .int (Int32.ofNat 11), .int x1, .ref m] h1 Q)) ∧ (¬ x5 = Int32.ofNat 0 → (gm_G 512 78 [some (.ref m), some (.int x1), none, some (.ref b3), some (.int x4), some (.int x5)] [.int (Int32.ofNat 1), .int (Int32.ofNat 0), .int x2, .int (Int32.ofNat 11), .int x1, .ref m] h1 Q)))) ∧ (v2 < Int32.ofNat 0 → (Q (.inl (some (.int v2))) h1))) (fun _ _ => False)))) ∧ (x6 < (Int32.ofNat 32) → ((x5 = Int32.ofNat 0 → ((hh_tg h b3 = 101 ∨ hh_tg h b3 = 102) ∧ (∃ n3, gm_ix (x4 + x6) n3 (hh_ln h b3) ∧ (gm_G 512 37 [some (.ref m), some (.int x1), some (.int x2), some (.ref b3), some (.int x4), some (.int x5), some (.int x6)] [.int (hh_i h b3 n3), .int (((Int32.ofNat 32) * x2) + x6), .ref (m + 103)] h Q)))) ∧ (¬ x5 = Int32.ofNat 0 → (gm_G 512 37 [some (.ref m), some (.int x1), some (.int x2), some (.ref b3), some (.int x4), some (.int x5), some (.int x6)] [.int (Int32.ofNat 0), .int (((Int32.ofNat 32) * x2) + x6), .ref (m + 103)] h Q))))) : gm_G 512 3 [some (.ref m), some (.int x1), some (.int x2), some (.ref b3), some (.int x4), some (.int x5), some (.int x6)] [] h Q := by
  refine g_iload rfl rfl rfl (pc' := 5) ?_
  refine g_iconst rfl rfl rfl (pc' := 7) ?_
  refine g_ic_ge rfl (pc' := 10) (pt := 44) rfl rfl ⟨fun hc => ?_, fun hc => ?_⟩
  · have H := H.1 hc
    refine g_aload (r := some _) rfl rfl rfl (pc' := 45) ?_
    refine g_iload rfl rfl rfl (pc' := 46) ?_
    refine g_iconst rfl rfl rfl (pc' := 47) ?_
    refine g_iload rfl rfl rfl (pc' := 48) ?_
    refine g_iload rfl rfl rfl (pc' := 49) ?_
    refine t_call hT (y := 481) (n := 5) (pc' := 52) rfl rfl (t_vt hT rfl rfl) rfl rfl ⟨(Nat.le_of_ble_eq_true rfl), (Nat.le_of_ble_eq_true rfl), (Nat.le_of_ble_eq_true rfl)⟩ rfl H (tI_elim (fun v2 h1 H hT => ?_))
    show gm_G _ 52 _ _ _ _
    refine g_istore rfl rfl rfl (pc' := 54) ?_
    refine g_iload rfl rfl rfl (pc' := 56) ?_
    refine g_if_ge rfl (pc' := 59) (pt := 62) rfl rfl ⟨fun hc => ?_, fun hc => ?_⟩
    · have H := H.1 hc
      refine g_aload (r := some _) rfl rfl rfl (pc' := 63) ?_
      refine g_iload rfl rfl rfl (pc' := 64) ?_
      refine g_iconst rfl rfl rfl (pc' := 66) ?_
      refine g_iload rfl rfl rfl (pc' := 67) ?_
      refine g_iconst rfl rfl rfl (pc' := 68) ?_
      refine g_iload rfl rfl rfl (pc' := 70) ?_
      refine g_if_eq rfl (pc' := 73) (pt := 77) rfl rfl ⟨fun hc => ?_, fun hc => ?_⟩
      · have H := H.1 hc
        refine g_iconst rfl rfl rfl (pc' := 78) ?_
        exact g_weak (show gm_Lle [some _, some _, none, some _, some _, some _] _ from ⟨rfl, ⟨rfl, ⟨rfl, ⟨rfl, ⟨rfl, trivial⟩⟩⟩⟩⟩) H
      · have H := H.2 hc
        refine g_iconst rfl rfl rfl (pc' := 74) ?_
        refine g_goto rfl (pc' := 78) rfl ?_
        exact g_weak (show gm_Lle [some _, some _, none, some _, some _, some _] _ from ⟨rfl, ⟨rfl, ⟨rfl, ⟨rfl, ⟨rfl, trivial⟩⟩⟩⟩⟩) H
    · have H := H.2 hc
      refine g_iload rfl rfl rfl (pc' := 61) ?_
      exact g_ireturn rfl (Or.inl rfl) H
  · have H := H.2 hc
    refine g_aload (r := some _) rfl rfl rfl (pc' := 11) ?_
    refine t_get (o := 103) rfl hT rfl rfl rfl (pc' := 14) rfl ?_
    refine g_iconst rfl rfl rfl (pc' := 16) ?_
    refine g_iload rfl rfl rfl (pc' := 17) ?_
    refine g_imul rfl rfl (pc' := 18) ?_
    refine g_iload rfl rfl rfl (pc' := 20) ?_
    refine g_iadd rfl rfl (pc' := 21) ?_
    refine g_iload rfl rfl rfl (pc' := 23) ?_
    refine g_if_eq rfl (pc' := 26) (pt := 30) rfl rfl ⟨fun hc => ?_, fun hc => ?_⟩
    · have H := H.1 hc
      refine g_aload (r := some _) rfl rfl rfl (pc' := 31) ?_
      refine g_iload rfl rfl rfl (pc' := 33) ?_
      refine g_iload rfl rfl rfl (pc' := 35) ?_
      refine g_iadd rfl rfl (pc' := 36) ?_
      obtain ⟨ht4, H⟩ := H
      obtain ⟨n3, hn3, H⟩ := H
      refine g_baload rfl ht4 hn3 (pc' := 37) rfl ?_
      exact g_weak (show gm_Lle [some _, some _, some _, some _, some _, some _, some _] _ from ⟨rfl, ⟨rfl, ⟨rfl, ⟨rfl, ⟨rfl, ⟨rfl, ⟨rfl, trivial⟩⟩⟩⟩⟩⟩⟩) H
    · have H := H.2 hc
      refine g_iconst rfl rfl rfl (pc' := 27) ?_
      refine g_goto rfl (pc' := 37) rfl ?_
      exact g_weak (show gm_Lle [some _, some _, some _, some _, some _, some _, some _] _ from ⟨rfl, ⟨rfl, ⟨rfl, ⟨rfl, ⟨rfl, ⟨rfl, ⟨rfl, trivial⟩⟩⟩⟩⟩⟩⟩) H
theorem w_512_37 {m : Nat} {x1 : Int32} {x2 : Int32} {b3 : Nat} {x4 : Int32} {x5 : Int32} {x6 : Int32} {y0 : Int32} {y1 : Int32} {h : hh_T} {Q : Option Value ⊕ Nat → hh_T → Prop} (hT : tw_ok h m) (H : ∃ n1, gm_ix y1 n1 544 ∧ (∀ h2, h2 = hh_wi h (m + 103) n1 (y0.toInt8.toInt32) → (gm_G 512 3 [some (.ref m), some (.int x1), some (.int x2), some (.ref b3), some (.int x4), some (.int x5), some (.int (x6 + (Int32.ofNat 1)))] [] h2 Q))) : gm_G 512 37 [some (.ref m), some (.int x1), some (.int x2), some (.ref b3), some (.int x4), some (.int x5), some (.int x6)] [.int y0, .int y1, .ref (m + 103)] h Q := by
  obtain ⟨n1, hn1, H⟩ := H
  refine t_bastore hT (o := 103) (l := 544) rfl rfl rfl hn1  (pc' := 38) rfl (fun hT => ?_)
  have H := H _ rfl
  refine g_iinc (c := (Int32.ofNat 1)) rfl rfl rfl rfl rfl (pc' := 41) ?_
  refine g_goto rfl (pc' := 3) rfl ?_
  exact g_weak (show gm_Lle [some _, some _, some _, some _, some _, some _, some _] _ from ⟨rfl, ⟨rfl, ⟨rfl, ⟨rfl, ⟨rfl, ⟨rfl, ⟨rfl, trivial⟩⟩⟩⟩⟩⟩⟩) H
theorem w_512_78 {m : Nat} {x1 : Int32} {b3 : Nat} {x4 : Int32} {x5 : Int32} {y0 : Int32} {y1 : Int32} {y2 : Int32} {y3 : Int32} {y4 : Int32} {h : hh_T} {Q : Option Value ⊕ Nat → hh_T → Prop} (hT : tw_ok h m) (H : gm_G 364 0 [some (.ref m), some (.int y4), some (.int y3), some (.int y2), some (.int y1), some (.int y0), some (.int (Int32.ofNat 0)), some (.int (Int32.ofNat 0))] [] h (pV (fun h1 => (¬ x5 = Int32.ofNat 0 → (gm_G 512 98 [some (.ref m), some (.int x1)] [] h1 Q)) ∧ (x5 = Int32.ofNat 0 → (gm_G 139 0 [some (.ref m), some (.ref b3), some (.int x4), some (.int (Int32.ofNat 32)), some (.int (Int32.ofNat 0))] [] h1 (pV (fun h2 => gm_G 512 98 [some (.ref m), some (.int x1)] [] h2 Q) (fun _ _ => False))))) (fun _ _ => False))) : gm_G 512 78 [some (.ref m), some (.int x1), none, some (.ref b3), some (.int x4), some (.int x5)] [.int y0, .int y1, .int y2, .int y3, .int y4, .ref m] h Q := by
  refine g_iconst rfl rfl rfl (pc' := 79) ?_
  refine g_iconst rfl rfl rfl (pc' := 80) ?_
  refine t_call hT (y := 364) (n := 8) (pc' := 83) rfl rfl (t_vt hT rfl rfl) rfl rfl ⟨(Nat.le_of_ble_eq_true rfl), (Nat.le_of_ble_eq_true rfl), (Nat.le_of_ble_eq_true rfl)⟩ rfl H (tV_elim (fun h1 H hT => ?_))
  show gm_G _ 83 _ _ _ _
  refine g_iload rfl rfl rfl (pc' := 85) ?_
  refine g_if_ne rfl (pc' := 88) (pt := 98) rfl rfl ⟨fun hc => ?_, fun hc => ?_⟩
  · have H := H.1 hc
    exact g_weak (show gm_Lle [some _, some _] _ from ⟨rfl, ⟨rfl, trivial⟩⟩) H
  · have H := H.2 hc
    refine g_aload (r := some _) rfl rfl rfl (pc' := 89) ?_
    refine g_aload (r := some _) rfl rfl rfl (pc' := 90) ?_
    refine g_iload rfl rfl rfl (pc' := 92) ?_
    refine g_iconst rfl rfl rfl (pc' := 94) ?_
    refine g_iconst rfl rfl rfl (pc' := 95) ?_
    refine t_call hT (y := 139) (n := 5) (pc' := 98) rfl rfl (t_vt hT rfl rfl) rfl rfl ⟨(Nat.le_of_ble_eq_true rfl), (Nat.le_of_ble_eq_true rfl), (Nat.le_of_ble_eq_true rfl)⟩ rfl H (tV_elim (fun h2 H hT => ?_))
    show gm_G _ 98 _ _ _ _
    exact g_weak (show gm_Lle [some _, some _] _ from ⟨rfl, ⟨rfl, trivial⟩⟩) H
theorem w_512_98 {m : Nat} {x1 : Int32} {h : hh_T} {Q : Option Value ⊕ Nat → hh_T → Prop} (hT : tw_ok h m) (H : ∃ n1, gm_ix x1 n1 32 ∧ (gm_G 93 0 [some (.ref m), some (.int ((Int32.ofNat 16) * (hh_i h (m + 63) n1)))] [] h (pV (fun h2 => Q (.inl (some (.int (Int32.ofNat 0)))) h2) (fun _ _ => False)))) : gm_G 512 98 [some (.ref m), some (.int x1)] [] h Q := by
  refine g_aload (r := some _) rfl rfl rfl (pc' := 99) ?_
  refine g_iconst rfl rfl rfl (pc' := 101) ?_
  refine g_aload (r := some _) rfl rfl rfl (pc' := 102) ?_
  refine t_get (o := 63) rfl hT rfl rfl rfl (pc' := 105) rfl ?_
  refine g_iload rfl rfl rfl (pc' := 106) ?_
  obtain ⟨n1, hn1, H⟩ := H
  refine t_iaload hT (o := 63) (l := 32) rfl rfl rfl hn1 (pc' := 107) rfl ?_
  refine g_imul rfl rfl (pc' := 108) ?_
  refine t_call hT (y := 93) (n := 2) (pc' := 111) rfl rfl (t_vt hT rfl rfl) rfl rfl ⟨(Nat.le_of_ble_eq_true rfl), (Nat.le_of_ble_eq_true rfl), (Nat.le_of_ble_eq_true rfl)⟩ rfl H (tV_elim (fun h2 H hT => ?_))
  show gm_G _ 111 _ _ _ _
  refine g_iconst rfl rfl rfl (pc' := 112) ?_
  exact g_ireturn rfl (Or.inl rfl) H
theorem w_513_0 {m : Nat} {x1 : Int32} {x2 : Int32} {b3 : Nat} {x4 : Int32} {x5 : Int32} {x6 : Int32} {h : hh_T} {Q : Option Value ⊕ Nat → hh_T → Prop} (hT : tw_ok h m) (H : ∃ n1, gm_ix x1 n1 32 ∧ (∃ n2, gm_ix (((Int32.ofNat 16) * (hh_i h (m + 63) n1)) + x2) n2 1536 ∧ ((¬ (x6 + x5) < (hh_i h (m + 45) n2) → (gm_G 513 44 [some (.ref m), some (.int x1), some (.int x2), some (.ref b3), some (.int x4), some (.int x5), some (.int x6), some (.int (((Int32.ofNat 16) * (hh_i h (m + 63) n1)) + x2)), some (.int (x6 + x5))] [.int (x6 + x5)] h Q)) ∧ ((x6 + x5) < (hh_i h (m + 45) n2) → (∃ n3, gm_ix (((Int32.ofNat 16) * (hh_i h (m + 63) n1)) + x2) n3 1536 ∧ (gm_G 513 44 [some (.ref m), some (.int x1), some (.int x2), some (.ref b3), some (.int x4), some (.int x5), some (.int x6), some (.int (((Int32.ofNat 16) * (hh_i h (m + 63) n1)) + x2)), some (.int (x6 + x5))] [.int (hh_i h (m + 45) n3)] h Q)))))) : gm_G 513 0 [some (.ref m), some (.int x1), some (.int x2), some (.ref b3), some (.int x4), some (.int x5), some (.int x6)] [] h Q := by
  refine g_iconst rfl rfl rfl (pc' := 2) ?_
  refine g_aload (r := some _) rfl rfl rfl (pc' := 3) ?_
  refine t_get (o := 63) rfl hT rfl rfl rfl (pc' := 6) rfl ?_
  refine g_iload rfl rfl rfl (pc' := 7) ?_
  obtain ⟨n1, hn1, H⟩ := H
  refine t_iaload hT (o := 63) (l := 32) rfl rfl rfl hn1 (pc' := 8) rfl ?_
  refine g_imul rfl rfl (pc' := 9) ?_
  refine g_iload rfl rfl rfl (pc' := 10) ?_
  refine g_iadd rfl rfl (pc' := 11) ?_
  refine g_istore rfl rfl rfl (pc' := 13) ?_
  refine g_iload rfl rfl rfl (pc' := 15) ?_
  refine g_iload rfl rfl rfl (pc' := 17) ?_
  refine g_iadd rfl rfl (pc' := 18) ?_
  refine g_istore rfl rfl rfl (pc' := 20) ?_
  refine g_aload (r := some _) rfl rfl rfl (pc' := 21) ?_
  refine t_get (o := 45) rfl hT rfl rfl rfl (pc' := 24) rfl ?_
  refine g_iload rfl rfl rfl (pc' := 26) ?_
  obtain ⟨n2, hn2, H⟩ := H
  refine t_iaload hT (o := 45) (l := 1536) rfl rfl rfl hn2 (pc' := 27) rfl ?_
  refine g_iload rfl rfl rfl (pc' := 29) ?_
  refine g_ic_le rfl (pc' := 32) (pt := 42) rfl rfl ⟨fun hc => ?_, fun hc => ?_⟩
  · have H := H.1 hc
    refine g_iload rfl rfl rfl (pc' := 44) ?_
    exact g_weak (show gm_Lle [some _, some _, some _, some _, some _, some _, some _, some _, some _] _ from ⟨rfl, ⟨rfl, ⟨rfl, ⟨rfl, ⟨rfl, ⟨rfl, ⟨rfl, ⟨rfl, ⟨rfl, trivial⟩⟩⟩⟩⟩⟩⟩⟩⟩) H
  · have H := H.2 hc
    refine g_aload (r := some _) rfl rfl rfl (pc' := 33) ?_
    refine t_get (o := 45) rfl hT rfl rfl rfl (pc' := 36) rfl ?_
    refine g_iload rfl rfl rfl (pc' := 38) ?_
    obtain ⟨n3, hn3, H⟩ := H
    refine t_iaload hT (o := 45) (l := 1536) rfl rfl rfl hn3 (pc' := 39) rfl ?_
    refine g_goto rfl (pc' := 44) rfl ?_
    exact g_weak (show gm_Lle [some _, some _, some _, some _, some _, some _, some _, some _, some _] _ from ⟨rfl, ⟨rfl, ⟨rfl, ⟨rfl, ⟨rfl, ⟨rfl, ⟨rfl, ⟨rfl, ⟨rfl, trivial⟩⟩⟩⟩⟩⟩⟩⟩⟩) H
theorem w_513_44 {m : Nat} {x1 : Int32} {x2 : Int32} {b3 : Nat} {x4 : Int32} {x5 : Int32} {x6 : Int32} {x7 : Int32} {x8 : Int32} {y0 : Int32} {h : hh_T} {Q : Option Value ⊕ Nat → hh_T → Prop} (hT : tw_ok h m) (H : gm_G 513 53 [some (.ref m), some (.int x1), some (.int x2), some (.ref b3), some (.int x4), some (.int x5), some (.int x6), some (.int x7), some (.int x8), some (.int y0), some (.int (x6 / (Int32.ofNat 32)))] [] h Q) : gm_G 513 44 [some (.ref m), some (.int x1), some (.int x2), some (.ref b3), some (.int x4), some (.int x5), some (.int x6), some (.int x7), some (.int x8)] [.int y0] h Q := by
  refine g_istore rfl rfl rfl (pc' := 46) ?_
  refine g_iload rfl rfl rfl (pc' := 48) ?_
  refine g_iconst rfl rfl rfl (pc' := 50) ?_
  refine g_idiv rfl (by decide) (pc' := 51) rfl ?_
  refine g_istore rfl rfl rfl (pc' := 53) ?_
  exact g_weak (show gm_Lle [some _, some _, some _, some _, some _, some _, some _, some _, some _, some _, some _] _ from ⟨rfl, ⟨rfl, ⟨rfl, ⟨rfl, ⟨rfl, ⟨rfl, ⟨rfl, ⟨rfl, ⟨rfl, ⟨rfl, ⟨rfl, trivial⟩⟩⟩⟩⟩⟩⟩⟩⟩⟩⟩) H
theorem w_513_53 {m : Nat} {x1 : Int32} {x2 : Int32} {b3 : Nat} {x4 : Int32} {x5 : Int32} {x6 : Int32} {x7 : Int32} {x8 : Int32} {x9 : Int32} {x10 : Int32} {h : hh_T} {Q : Option Value ⊕ Nat → hh_T → Prop} (hT : tw_ok h m) (H : (¬ ((Int32.ofNat 32) * x10) < x8 → (gm_G 513 219 [some (.ref m), some (.int x1), some (.int x2), some (.ref b3), some (.int x4), some (.int x5), some (.int x6), none, some (.int x8), some (.int x9), some (.int (Int32.ofNat 0))] [] h Q)) ∧ (((Int32.ofNat 32) * x10) < x8 → (gm_G 513 66 [some (.ref m), some (.int x1), some (.int x2), some (.ref b3), some (.int x4), some (.int x5), some (.int x6), some (.int x7), some (.int x8), some (.int x9), some (.int x10), some (.int (Int32.ofNat 0))] [] h Q))) : gm_G 513 53 [some (.ref m), some (.int x1), some (.int x2), some (.ref b3), some (.int x4), some (.int x5), some (.int x6), some (.int x7), some (.int x8), some (.int x9), some (.int x10)] [] h Q := by
  refine g_iconst rfl rfl rfl (pc' := 55) ?_
  refine g_iload rfl rfl rfl (pc' := 57) ?_
  refine g_imul rfl rfl (pc' := 58) ?_
  refine g_iload rfl rfl rfl (pc' := 60) ?_
  refine g_ic_ge rfl (pc' := 63) (pt := 216) rfl rfl ⟨fun hc => ?_, fun hc => ?_⟩
  · have H := H.1 hc
    refine g_iconst rfl rfl rfl (pc' := 217) ?_
    refine g_istore rfl rfl rfl (pc' := 219) ?_
    exact g_weak (show gm_Lle [some _, some _, some _, some _, some _, some _, some _, none, some _, some _, some _] _ from ⟨rfl, ⟨rfl, ⟨rfl, ⟨rfl, ⟨rfl, ⟨rfl, ⟨rfl, ⟨rfl, ⟨rfl, ⟨rfl, trivial⟩⟩⟩⟩⟩⟩⟩⟩⟩⟩) H
  · have H := H.2 hc
    refine g_iconst rfl rfl rfl (pc' := 64) ?_
    refine g_istore rfl rfl rfl (pc' := 66) ?_
    exact g_weak (show gm_Lle [some _, some _, some _, some _, some _, some _, some _, some _, some _, some _, some _, some _] _ from ⟨rfl, ⟨rfl, ⟨rfl, ⟨rfl, ⟨rfl, ⟨rfl, ⟨rfl, ⟨rfl, ⟨rfl, ⟨rfl, ⟨rfl, ⟨rfl, trivial⟩⟩⟩⟩⟩⟩⟩⟩⟩⟩⟩⟩) H
theorem w_513_66 {m : Nat} {x1 : Int32} {x2 : Int32} {b3 : Nat} {x4 : Int32} {x5 : Int32} {x6 : Int32} {x7 : Int32} {x8 : Int32} {x9 : Int32} {x10 : Int32} {x11 : Int32} {h : hh_T} {Q : Option Value ⊕ Nat → hh_T → Prop} (hT : tw_ok h m) (H : (¬ x11 < (Int32.ofNat 32) → ((((Int32.ofNat 32) * x10) < x6 → (gm_G 513 116 [some (.ref m), some (.int x1), some (.int x2), some (.ref b3), some (.int x4), some (.int x5), some (.int x6), some (.int x7), some (.int x8), some (.int x9), some (.int x10)] [] h Q)) ∧ (¬ ((Int32.ofNat 32) * x10) < x6 → ((¬ x8 < (((Int32.ofNat 32) * x10) + (Int32.ofNat 32)) → (gm_G 513 121 [some (.ref m), some (.int x1), some (.int x2), some (.ref b3), some (.int x4), some (.int x5), some (.int x6), some (.int x7), some (.int x8), some (.int x9), some (.int x10)] [.int (Int32.ofNat 0)] h Q)) ∧ (x8 < (((Int32.ofNat 32) * x10) + (Int32.ofNat 32)) → (gm_G 513 116 [some (.ref m), some (.int x1), some (.int x2), some (.ref b3), some (.int x4), some (.int x5), some (.int x6), some (.int x7), some (.int x8), some (.int x9), some (.int x10)] [] h Q)))))) ∧ (x11 < (Int32.ofNat 32) → (∃ n1, gm_ix (((Int32.ofNat 32) * x10) + x11) n1 544 ∧ (∀ h2, h2 = hh_wi h (m + 103) n1 ((Int32.ofNat 0).toInt8.toInt32) → (gm_G 513 66 [some (.ref m), some (.int x1), some (.int x2), some (.ref b3), some (.int x4), some (.int x5), some (.int x6), some (.int x7), some (.int x8), some (.int x9), some (.int x10), some (.int (x11 + (Int32.ofNat 1)))] [] h2 Q))))) : gm_G 513 66 [some (.ref m), some (.int x1), some (.int x2), some (.ref b3), some (.int x4), some (.int x5), some (.int x6), some (.int x7), some (.int x8), some (.int x9), some (.int x10), some (.int x11)] [] h Q := by
  refine g_iload rfl rfl rfl (pc' := 68) ?_
  refine g_iconst rfl rfl rfl (pc' := 70) ?_
  refine g_ic_ge rfl (pc' := 73) (pt := 93) rfl rfl ⟨fun hc => ?_, fun hc => ?_⟩
  · have H := H.1 hc
    refine g_iload rfl rfl rfl (pc' := 95) ?_
    refine g_iconst rfl rfl rfl (pc' := 97) ?_
    refine g_iload rfl rfl rfl (pc' := 99) ?_
    refine g_imul rfl rfl (pc' := 100) ?_
    refine g_ic_gt rfl (pc' := 103) (pt := 116) rfl rfl ⟨fun hc => ?_, fun hc => ?_⟩
    · have H := H.1 hc
      exact g_weak (show gm_Lle [some _, some _, some _, some _, some _, some _, some _, some _, some _, some _, some _] _ from ⟨rfl, ⟨rfl, ⟨rfl, ⟨rfl, ⟨rfl, ⟨rfl, ⟨rfl, ⟨rfl, ⟨rfl, ⟨rfl, ⟨rfl, trivial⟩⟩⟩⟩⟩⟩⟩⟩⟩⟩⟩) H
    · have H := H.2 hc
      refine g_iload rfl rfl rfl (pc' := 105) ?_
      refine g_iconst rfl rfl rfl (pc' := 107) ?_
      refine g_iload rfl rfl rfl (pc' := 109) ?_
      refine g_imul rfl rfl (pc' := 110) ?_
      refine g_iconst rfl rfl rfl (pc' := 112) ?_
      refine g_iadd rfl rfl (pc' := 113) ?_
      refine g_ic_ge rfl (pc' := 116) (pt := 120) rfl rfl ⟨fun hc => ?_, fun hc => ?_⟩
      · have H := H.1 hc
        refine g_iconst rfl rfl rfl (pc' := 121) ?_
        exact g_weak (show gm_Lle [some _, some _, some _, some _, some _, some _, some _, some _, some _, some _, some _] _ from ⟨rfl, ⟨rfl, ⟨rfl, ⟨rfl, ⟨rfl, ⟨rfl, ⟨rfl, ⟨rfl, ⟨rfl, ⟨rfl, ⟨rfl, trivial⟩⟩⟩⟩⟩⟩⟩⟩⟩⟩⟩) H
      · have H := H.2 hc
        exact g_weak (show gm_Lle [some _, some _, some _, some _, some _, some _, some _, some _, some _, some _, some _] _ from ⟨rfl, ⟨rfl, ⟨rfl, ⟨rfl, ⟨rfl, ⟨rfl, ⟨rfl, ⟨rfl, ⟨rfl, ⟨rfl, ⟨rfl, trivial⟩⟩⟩⟩⟩⟩⟩⟩⟩⟩⟩) H
  · have H := H.2 hc
    refine g_aload (r := some _) rfl rfl rfl (pc' := 74) ?_
    refine t_get (o := 103) rfl hT rfl rfl rfl (pc' := 77) rfl ?_
    refine g_iconst rfl rfl rfl (pc' := 79) ?_
    refine g_iload rfl rfl rfl (pc' := 81) ?_
    refine g_imul rfl rfl (pc' := 82) ?_
    refine g_iload rfl rfl rfl (pc' := 84) ?_
    refine g_iadd rfl rfl (pc' := 85) ?_
    refine g_iconst rfl rfl rfl (pc' := 86) ?_
    obtain ⟨n1, hn1, H⟩ := H
    refine t_bastore hT (o := 103) (l := 544) rfl rfl rfl hn1  (pc' := 87) rfl (fun hT => ?_)
    have H := H _ rfl
    refine g_iinc (c := (Int32.ofNat 1)) rfl rfl rfl rfl rfl (pc' := 90) ?_
    refine g_goto rfl (pc' := 66) rfl ?_
    exact g_weak (show gm_Lle [some _, some _, some _, some _, some _, some _, some _, some _, some _, some _, some _, some _] _ from ⟨rfl, ⟨rfl, ⟨rfl, ⟨rfl, ⟨rfl, ⟨rfl, ⟨rfl, ⟨rfl, ⟨rfl, ⟨rfl, ⟨rfl, ⟨rfl, trivial⟩⟩⟩⟩⟩⟩⟩⟩⟩⟩⟩⟩) H
theorem w_513_116 {m : Nat} {x1 : Int32} {x2 : Int32} {b3 : Nat} {x4 : Int32} {x5 : Int32} {x6 : Int32} {x7 : Int32} {x8 : Int32} {x9 : Int32} {x10 : Int32} {h : hh_T} {Q : Option Value ⊕ Nat → hh_T → Prop} (hT : tw_ok h m) (H : gm_G 513 121 [some (.ref m), some (.int x1), some (.int x2), some (.ref b3), some (.int x4), some (.int x5), some (.int x6), some (.int x7), some (.int x8), some (.int x9), some (.int x10)] [.int (Int32.ofNat 1)] h Q) : gm_G 513 116 [some (.ref m), some (.int x1), some (.int x2), some (.ref b3), some (.int x4), some (.int x5), some (.int x6), some (.int x7), some (.int x8), some (.int x9), some (.int x10)] [] h Q := by
  refine g_iconst rfl rfl rfl (pc' := 117) ?_
  refine g_goto rfl (pc' := 121) rfl ?_
  exact g_weak (show gm_Lle [some _, some _, some _, some _, some _, some _, some _, some _, some _, some _, some _] _ from ⟨rfl, ⟨rfl, ⟨rfl, ⟨rfl, ⟨rfl, ⟨rfl, ⟨rfl, ⟨rfl, ⟨rfl, ⟨rfl, ⟨rfl, trivial⟩⟩⟩⟩⟩⟩⟩⟩⟩⟩⟩) H
theorem w_513_121 {m : Nat} {x1 : Int32} {x2 : Int32} {b3 : Nat} {x4 : Int32} {x5 : Int32} {x6 : Int32} {x7 : Int32} {x8 : Int32} {x9 : Int32} {x10 : Int32} {y0 : Int32} {h : hh_T} {Q : Option Value ⊕ Nat → hh_T → Prop} (hT : tw_ok h m) (H : (y0 = Int32.ofNat 0 → (gm_G 513 210 [some (.ref m), some (.int x1), some (.int x2), some (.ref b3), some (.int x4), some (.int x5), some (.int x6), some (.int x7), some (.int x8), some (.int x9), some (.int x10)] [] h Q)) ∧ (¬ y0 = Int32.ofNat 0 → (∃ n1, gm_ix (((Int32.ofNat 8) * x7) + x10) n1 12288 ∧ ((¬ (hh_i h (m + 55) n1) < Int32.ofNat 0 → (∃ n2, gm_ix (((Int32.ofNat 8) * x7) + x10) n2 12288 ∧ (gm_G 473 0 [some (.ref m), some (.int (hh_i h (m + 55) n2))] [] h (pI (fun v4 h3 => (¬ v4 < Int32.ofNat 0 → (gm_G 513 177 [some (.ref m), some (.int x1), some (.int x2), some (.ref b3), some (.int x4), some (.int x5), some (.int x6), some (.int x7), some (.int x8), some (.int x9), some (.int x10), none, none, some (.int (Int32.ofNat 0))] [] h3 Q)) ∧ (v4 < Int32.ofNat 0 → (Q (.inl (some (.int v4))) h3))) (fun _ _ => False))))) ∧ ((hh_i h (m + 55) n1) < Int32.ofNat 0 → (gm_G 513 210 [some (.ref m), some (.int x1), some (.int x2), some (.ref b3), some (.int x4), some (.int x5), some (.int x6), some (.int x7), some (.int x8), some (.int x9), some (.int x10)] [] h Q)))))) : gm_G 513 121 [some (.ref m), some (.int x1), some (.int x2), some (.ref b3), some (.int x4), some (.int x5), some (.int x6), some (.int x7), some (.int x8), some (.int x9), some (.int x10)] [.int y0] h Q := by
  refine g_istore rfl rfl rfl (pc' := 123) ?_
  refine g_iload rfl rfl rfl (pc' := 125) ?_
  refine g_if_eq rfl (pc' := 128) (pt := 210) rfl rfl ⟨fun hc => ?_, fun hc => ?_⟩
  · have H := H.1 hc
    exact g_weak (show gm_Lle [some _, some _, some _, some _, some _, some _, some _, some _, some _, some _, some _] _ from ⟨rfl, ⟨rfl, ⟨rfl, ⟨rfl, ⟨rfl, ⟨rfl, ⟨rfl, ⟨rfl, ⟨rfl, ⟨rfl, ⟨rfl, trivial⟩⟩⟩⟩⟩⟩⟩⟩⟩⟩⟩) H
  · have H := H.2 hc
    refine g_aload (r := some _) rfl rfl rfl (pc' := 129) ?_
    refine t_get (o := 55) rfl hT rfl rfl rfl (pc' := 132) rfl ?_
    refine g_iconst rfl rfl rfl (pc' := 134) ?_
    refine g_iload rfl rfl rfl (pc' := 136) ?_
    refine g_imul rfl rfl (pc' := 137) ?_
    refine g_iload rfl rfl rfl (pc' := 139) ?_
    refine g_iadd rfl rfl (pc' := 140) ?_
    obtain ⟨n1, hn1, H⟩ := H
    refine t_iaload hT (o := 55) (l := 12288) rfl rfl rfl hn1 (pc' := 141) rfl ?_
    refine g_if_ge rfl (pc' := 144) (pt := 147) rfl rfl ⟨fun hc => ?_, fun hc => ?_⟩
    · have H := H.1 hc
      refine g_aload (r := some _) rfl rfl rfl (pc' := 148) ?_
      refine g_aload (r := some _) rfl rfl rfl (pc' := 149) ?_
      refine t_get (o := 55) rfl hT rfl rfl rfl (pc' := 152) rfl ?_
      refine g_iconst rfl rfl rfl (pc' := 154) ?_
      refine g_iload rfl rfl rfl (pc' := 156) ?_
      refine g_imul rfl rfl (pc' := 157) ?_
      refine g_iload rfl rfl rfl (pc' := 159) ?_
      refine g_iadd rfl rfl (pc' := 160) ?_
      obtain ⟨n2, hn2, H⟩ := H
      refine t_iaload hT (o := 55) (l := 12288) rfl rfl rfl hn2 (pc' := 161) rfl ?_
      refine t_call hT (y := 473) (n := 2) (pc' := 164) rfl rfl (t_vt hT rfl rfl) rfl rfl ⟨(Nat.le_of_ble_eq_true rfl), (Nat.le_of_ble_eq_true rfl), (Nat.le_of_ble_eq_true rfl)⟩ rfl H (tI_elim (fun v4 h3 H hT => ?_))
      show gm_G _ 164 _ _ _ _
      refine g_istore rfl rfl rfl (pc' := 166) ?_
      refine g_iload rfl rfl rfl (pc' := 168) ?_
      refine g_if_ge rfl (pc' := 171) (pt := 174) rfl rfl ⟨fun hc => ?_, fun hc => ?_⟩
      · have H := H.1 hc
        refine g_iconst rfl rfl rfl (pc' := 175) ?_
        refine g_istore rfl rfl rfl (pc' := 177) ?_
        exact g_weak (show gm_Lle [some _, some _, some _, some _, some _, some _, some _, some _, some _, some _, some _, none, none, some _] _ from ⟨rfl, ⟨rfl, ⟨rfl, ⟨rfl, ⟨rfl, ⟨rfl, ⟨rfl, ⟨rfl, ⟨rfl, ⟨rfl, ⟨rfl, ⟨rfl, trivial⟩⟩⟩⟩⟩⟩⟩⟩⟩⟩⟩⟩) H
      · have H := H.2 hc
        refine g_iload rfl rfl rfl (pc' := 173) ?_
        exact g_ireturn rfl (Or.inl rfl) H
    · have H := H.2 hc
      refine g_goto rfl (pc' := 210) rfl ?_
      exact g_weak (show gm_Lle [some _, some _, some _, some _, some _, some _, some _, some _, some _, some _, some _] _ from ⟨rfl, ⟨rfl, ⟨rfl, ⟨rfl, ⟨rfl, ⟨rfl, ⟨rfl, ⟨rfl, ⟨rfl, ⟨rfl, ⟨rfl, trivial⟩⟩⟩⟩⟩⟩⟩⟩⟩⟩⟩) H
theorem w_513_177 {m : Nat} {x1 : Int32} {x2 : Int32} {b3 : Nat} {x4 : Int32} {x5 : Int32} {x6 : Int32} {x7 : Int32} {x8 : Int32} {x9 : Int32} {x10 : Int32} {x13 : Int32} {h : hh_T} {Q : Option Value ⊕ Nat → hh_T → Prop} (hT : tw_ok h m) (H : (¬ x13 < (Int32.ofNat 32) → (gm_G 513 210 [some (.ref m), some (.int x1), some (.int x2), some (.ref b3), some (.int x4), some (.int x5), some (.int x6), some (.int x7), some (.int x8), some (.int x9), some (.int x10)] [] h Q)) ∧ (x13 < (Int32.ofNat 32) → (∃ n1, gm_ix x13 n1 64 ∧ (∃ n2, gm_ix (((Int32.ofNat 32) * x10) + x13) n2 544 ∧ (∀ h3, h3 = hh_wi h (m + 103) n2 ((hh_i h (m + 29) n1).toInt8.toInt32) → (gm_G 513 177 [some (.ref m), some (.int x1), some (.int x2), some (.ref b3), some (.int x4), some (.int x5), some (.int x6), some (.int x7), some (.int x8), some (.int x9), some (.int x10), none, none, some (.int (x13 + (Int32.ofNat 1)))] [] h3 Q)))))) : gm_G 513 177 [some (.ref m), some (.int x1), some (.int x2), some (.ref b3), some (.int x4), some (.int x5), some (.int x6), some (.int x7), some (.int x8), some (.int x9), some (.int x10), none, none, some (.int x13)] [] h Q := by
  refine g_iload rfl rfl rfl (pc' := 179) ?_
  refine g_iconst rfl rfl rfl (pc' := 181) ?_
  refine g_ic_ge rfl (pc' := 184) (pt := 210) rfl rfl ⟨fun hc => ?_, fun hc => ?_⟩
  · have H := H.1 hc
    exact g_weak (show gm_Lle [some _, some _, some _, some _, some _, some _, some _, some _, some _, some _, some _] _ from ⟨rfl, ⟨rfl, ⟨rfl, ⟨rfl, ⟨rfl, ⟨rfl, ⟨rfl, ⟨rfl, ⟨rfl, ⟨rfl, ⟨rfl, trivial⟩⟩⟩⟩⟩⟩⟩⟩⟩⟩⟩) H
  · have H := H.2 hc
    refine g_aload (r := some _) rfl rfl rfl (pc' := 185) ?_
    refine t_get (o := 103) rfl hT rfl rfl rfl (pc' := 188) rfl ?_
    refine g_iconst rfl rfl rfl (pc' := 190) ?_
    refine g_iload rfl rfl rfl (pc' := 192) ?_
    refine g_imul rfl rfl (pc' := 193) ?_
    refine g_iload rfl rfl rfl (pc' := 195) ?_
    refine g_iadd rfl rfl (pc' := 196) ?_
    refine g_aload (r := some _) rfl rfl rfl (pc' := 197) ?_
    refine t_get (o := 29) rfl hT rfl rfl rfl (pc' := 200) rfl ?_
    refine g_iload rfl rfl rfl (pc' := 202) ?_
    obtain ⟨n1, hn1, H⟩ := H
    refine t_baload hT (o := 29) (l := 64) rfl rfl rfl hn1 (pc' := 203) rfl ?_
    obtain ⟨n2, hn2, H⟩ := H
    refine t_bastore hT (o := 103) (l := 544) rfl rfl rfl hn2  (pc' := 204) rfl (fun hT => ?_)
    have H := H _ rfl
    refine g_iinc (c := (Int32.ofNat 1)) rfl rfl rfl rfl rfl (pc' := 207) ?_
    refine g_goto rfl (pc' := 177) rfl ?_
    exact g_weak (show gm_Lle [some _, some _, some _, some _, some _, some _, some _, some _, some _, some _, some _, none, none, some _] _ from ⟨rfl, ⟨rfl, ⟨rfl, ⟨rfl, ⟨rfl, ⟨rfl, ⟨rfl, ⟨rfl, ⟨rfl, ⟨rfl, ⟨rfl, ⟨rfl, trivial⟩⟩⟩⟩⟩⟩⟩⟩⟩⟩⟩⟩) H
theorem w_513_210 {m : Nat} {x1 : Int32} {x2 : Int32} {b3 : Nat} {x4 : Int32} {x5 : Int32} {x6 : Int32} {x7 : Int32} {x8 : Int32} {x9 : Int32} {x10 : Int32} {h : hh_T} {Q : Option Value ⊕ Nat → hh_T → Prop} (hT : tw_ok h m) (H : gm_G 513 53 [some (.ref m), some (.int x1), some (.int x2), some (.ref b3), some (.int x4), some (.int x5), some (.int x6), some (.int x7), some (.int x8), some (.int x9), some (.int (x10 + (Int32.ofNat 1)))] [] h Q) : gm_G 513 210 [some (.ref m), some (.int x1), some (.int x2), some (.ref b3), some (.int x4), some (.int x5), some (.int x6), some (.int x7), some (.int x8), some (.int x9), some (.int x10)] [] h Q := by
  refine g_iinc (c := (Int32.ofNat 1)) rfl rfl rfl rfl rfl (pc' := 213) ?_
  refine g_goto rfl (pc' := 53) rfl ?_
  exact g_weak (show gm_Lle [some _, some _, some _, some _, some _, some _, some _, some _, some _, some _, some _] _ from ⟨rfl, ⟨rfl, ⟨rfl, ⟨rfl, ⟨rfl, ⟨rfl, ⟨rfl, ⟨rfl, ⟨rfl, ⟨rfl, ⟨rfl, trivial⟩⟩⟩⟩⟩⟩⟩⟩⟩⟩⟩) H
theorem w_513_219 {m : Nat} {x1 : Int32} {x2 : Int32} {b3 : Nat} {x4 : Int32} {x5 : Int32} {x6 : Int32} {x8 : Int32} {x9 : Int32} {x10 : Int32} {h : hh_T} {Q : Option Value ⊕ Nat → hh_T → Prop} (hT : tw_ok h m) (H : (¬ x10 < x5 → (gm_G 481 0 [some (.ref m), some (.int x1), some (.int x2), some (.int (x6 / (Int32.ofNat 32))), some (.int ((x8 - (Int32.ofNat 1)) / (Int32.ofNat 32)))] [] h (pI (fun v2 h1 => (¬ v2 < Int32.ofNat 0 → (gm_G 364 0 [some (.ref m), some (.int x1), some (.int (Int32.ofNat 7)), some (.int x2), some (.int x6), some (.int (Int32.ofNat 0)), some (.int (Int32.ofNat 0)), some (.int (Int32.ofNat 0))] [] h1 (pV (fun h3 => gm_G 139 0 [some (.ref m), some (.ref b3), some (.int x4), some (.int x5), some (.int (Int32.ofNat 0))] [] h3 (pV (fun h4 => ∃ n5, gm_ix x1 n5 32 ∧ (∃ n6, gm_ix (((Int32.ofNat 16) * (hh_i h4 (m + 63) n5)) + x2) n6 1536 ∧ (∀ h7, h7 = hh_wi h4 (m + 45) n6 x9 → (gm_G 93 0 [some (.ref m), some (.int (((Int32.ofNat 16) * (hh_i h4 (m + 63) n5)) + x2))] [] h7 (pV (fun h8 => gm_G 304 0 [some (.ref m), some (.int x1), some (.int x2), some (.int (Int32.ofNat 5))] [] h8 (pV (fun h9 => Q (.inl (some (.int (Int32.ofNat 0)))) h9) (fun _ _ => False))) (fun _ _ => False)))))) (fun _ _ => False))) (fun _ _ => False)))) ∧ (v2 < Int32.ofNat 0 → (Q (.inl (some (.int v2))) h1))) (fun _ _ => False)))) ∧ (x10 < x5 → ((hh_tg h b3 = 101 ∨ hh_tg h b3 = 102) ∧ (∃ n10, gm_ix (x4 + x10) n10 (hh_ln h b3) ∧ (∃ n12, gm_ix (x6 + x10) n12 544 ∧ (∀ h13, h13 = hh_wi h (m + 103) n12 ((hh_i h b3 n10).toInt8.toInt32) → (gm_G 513 219 [some (.ref m), some (.int x1), some (.int x2), some (.ref b3), some (.int x4), some (.int x5), some (.int x6), none, some (.int x8), some (.int x9), some (.int (x10 + (Int32.ofNat 1)))] [] h13 Q))))))) : gm_G 513 219 [some (.ref m), some (.int x1), some (.int x2), some (.ref b3), some (.int x4), some (.int x5), some (.int x6), none, some (.int x8), some (.int x9), some (.int x10)] [] h Q := by
  refine g_iload rfl rfl rfl (pc' := 221) ?_
  refine g_iload rfl rfl rfl (pc' := 223) ?_
  refine g_ic_ge rfl (pc' := 226) (pt := 249) rfl rfl ⟨fun hc => ?_, fun hc => ?_⟩
  · have H := H.1 hc
    refine g_aload (r := some _) rfl rfl rfl (pc' := 250) ?_
    refine g_iload rfl rfl rfl (pc' := 251) ?_
    refine g_iload rfl rfl rfl (pc' := 252) ?_
    refine g_iload rfl rfl rfl (pc' := 254) ?_
    refine g_iconst rfl rfl rfl (pc' := 256) ?_
    refine g_idiv rfl (by decide) (pc' := 257) rfl ?_
    refine g_iload rfl rfl rfl (pc' := 259) ?_
    refine g_iconst rfl rfl rfl (pc' := 260) ?_
    refine g_isub rfl rfl (pc' := 261) ?_
    refine g_iconst rfl rfl rfl (pc' := 263) ?_
    refine g_idiv rfl (by decide) (pc' := 264) rfl ?_
    refine t_call hT (y := 481) (n := 5) (pc' := 267) rfl rfl (t_vt hT rfl rfl) rfl rfl ⟨(Nat.le_of_ble_eq_true rfl), (Nat.le_of_ble_eq_true rfl), (Nat.le_of_ble_eq_true rfl)⟩ rfl H (tI_elim (fun v2 h1 H hT => ?_))
    show gm_G _ 267 _ _ _ _
    refine g_istore rfl rfl rfl (pc' := 269) ?_
    refine g_iload rfl rfl rfl (pc' := 271) ?_
    refine g_if_ge rfl (pc' := 274) (pt := 277) rfl rfl ⟨fun hc => ?_, fun hc => ?_⟩
    · have H := H.1 hc
      refine g_aload (r := some _) rfl rfl rfl (pc' := 278) ?_
      refine g_iload rfl rfl rfl (pc' := 279) ?_
      refine g_iconst rfl rfl rfl (pc' := 281) ?_
      refine g_iload rfl rfl rfl (pc' := 282) ?_
      refine g_iload rfl rfl rfl (pc' := 284) ?_
      refine g_iconst rfl rfl rfl (pc' := 285) ?_
      refine g_iconst rfl rfl rfl (pc' := 286) ?_
      refine g_iconst rfl rfl rfl (pc' := 287) ?_
      refine t_call hT (y := 364) (n := 8) (pc' := 290) rfl rfl (t_vt hT rfl rfl) rfl rfl ⟨(Nat.le_of_ble_eq_true rfl), (Nat.le_of_ble_eq_true rfl), (Nat.le_of_ble_eq_true rfl)⟩ rfl H (tV_elim (fun h3 H hT => ?_))
      show gm_G _ 290 _ _ _ _
      refine g_aload (r := some _) rfl rfl rfl (pc' := 291) ?_
      refine g_aload (r := some _) rfl rfl rfl (pc' := 292) ?_
      refine g_iload rfl rfl rfl (pc' := 294) ?_
      refine g_iload rfl rfl rfl (pc' := 296) ?_
      refine g_iconst rfl rfl rfl (pc' := 297) ?_
      refine t_call hT (y := 139) (n := 5) (pc' := 300) rfl rfl (t_vt hT rfl rfl) rfl rfl ⟨(Nat.le_of_ble_eq_true rfl), (Nat.le_of_ble_eq_true rfl), (Nat.le_of_ble_eq_true rfl)⟩ rfl H (tV_elim (fun h4 H hT => ?_))
      show gm_G _ 300 _ _ _ _
      refine g_iconst rfl rfl rfl (pc' := 302) ?_
      refine g_aload (r := some _) rfl rfl rfl (pc' := 303) ?_
      refine t_get (o := 63) rfl hT rfl rfl rfl (pc' := 306) rfl ?_
      refine g_iload rfl rfl rfl (pc' := 307) ?_
      obtain ⟨n5, hn5, H⟩ := H
      refine t_iaload hT (o := 63) (l := 32) rfl rfl rfl hn5 (pc' := 308) rfl ?_
      refine g_imul rfl rfl (pc' := 309) ?_
      refine g_iload rfl rfl rfl (pc' := 310) ?_
      refine g_iadd rfl rfl (pc' := 311) ?_
      refine g_istore rfl rfl rfl (pc' := 313) ?_
      refine g_aload (r := some _) rfl rfl rfl (pc' := 314) ?_
      refine t_get (o := 45) rfl hT rfl rfl rfl (pc' := 317) rfl ?_
      refine g_iload rfl rfl rfl (pc' := 319) ?_
      refine g_iload rfl rfl rfl (pc' := 321) ?_
      obtain ⟨n6, hn6, H⟩ := H
      refine t_iastore hT (o := 45) (l := 1536) rfl rfl rfl hn6  (pc' := 322) rfl (fun hT => ?_)
      have H := H _ rfl
      refine g_aload (r := some _) rfl rfl rfl (pc' := 323) ?_
      refine g_iload rfl rfl rfl (pc' := 325) ?_
      refine t_call hT (y := 93) (n := 2) (pc' := 328) rfl rfl (t_vt hT rfl rfl) rfl rfl ⟨(Nat.le_of_ble_eq_true rfl), (Nat.le_of_ble_eq_true rfl), (Nat.le_of_ble_eq_true rfl)⟩ rfl H (tV_elim (fun h8 H hT => ?_))
      show gm_G _ 328 _ _ _ _
      refine g_aload (r := some _) rfl rfl rfl (pc' := 329) ?_
      refine g_iload rfl rfl rfl (pc' := 330) ?_
      refine g_iload rfl rfl rfl (pc' := 331) ?_
      refine g_iconst rfl rfl rfl (pc' := 332) ?_
      refine t_call hT (y := 304) (n := 4) (pc' := 335) rfl rfl (t_vt hT rfl rfl) rfl rfl ⟨(Nat.le_of_ble_eq_true rfl), (Nat.le_of_ble_eq_true rfl), (Nat.le_of_ble_eq_true rfl)⟩ rfl H (tV_elim (fun h9 H hT => ?_))
      show gm_G _ 335 _ _ _ _
      refine g_iconst rfl rfl rfl (pc' := 336) ?_
      exact g_ireturn rfl (Or.inl rfl) H
    · have H := H.2 hc
      refine g_iload rfl rfl rfl (pc' := 276) ?_
      exact g_ireturn rfl (Or.inl rfl) H
  · have H := H.2 hc
    refine g_aload (r := some _) rfl rfl rfl (pc' := 227) ?_
    refine t_get (o := 103) rfl hT rfl rfl rfl (pc' := 230) rfl ?_
    refine g_iload rfl rfl rfl (pc' := 232) ?_
    refine g_iload rfl rfl rfl (pc' := 234) ?_
    refine g_iadd rfl rfl (pc' := 235) ?_
    refine g_aload (r := some _) rfl rfl rfl (pc' := 236) ?_
    refine g_iload rfl rfl rfl (pc' := 238) ?_
    refine g_iload rfl rfl rfl (pc' := 240) ?_
    refine g_iadd rfl rfl (pc' := 241) ?_
    obtain ⟨ht11, H⟩ := H
    obtain ⟨n10, hn10, H⟩ := H
    refine g_baload rfl ht11 hn10 (pc' := 242) rfl ?_
    obtain ⟨n12, hn12, H⟩ := H
    refine t_bastore hT (o := 103) (l := 544) rfl rfl rfl hn12  (pc' := 243) rfl (fun hT => ?_)
    have H := H _ rfl
    refine g_iinc (c := (Int32.ofNat 1)) rfl rfl rfl rfl rfl (pc' := 246) ?_
    refine g_goto rfl (pc' := 219) rfl ?_
    exact g_weak (show gm_Lle [some _, some _, some _, some _, some _, some _, some _, none, some _, some _, some _] _ from ⟨rfl, ⟨rfl, ⟨rfl, ⟨rfl, ⟨rfl, ⟨rfl, ⟨rfl, ⟨rfl, ⟨rfl, ⟨rfl, trivial⟩⟩⟩⟩⟩⟩⟩⟩⟩⟩) H
theorem w_514_0 {m : Nat} {x1 : Int32} {x2 : Int32} {x3 : Int32} {x4 : Int32} {x5 : Int32} {h : hh_T} {Q : Option Value ⊕ Nat → hh_T → Prop} (hT : tw_ok h m) (H : (¬ (hh_i h m 77) = Int32.ofNat 0 → ((x3 = (Int32.ofNat 2) → (gm_G 514 62 [some (.ref m), some (.int x1), some (.int x2), some (.int x3), some (.int x4), some (.int x5)] [] h Q)) ∧ (¬ x3 = (Int32.ofNat 2) → ((x3 = Int32.ofNat 0 → (gm_G 514 24 [some (.ref m), some (.int x1), some (.int x2), some (.int x3), some (.int x4), some (.int x5)] [] h Q)) ∧ (¬ x3 = Int32.ofNat 0 → ((¬ x3 = (Int32.ofNat 1) → (gm_G 514 66 [some (.ref m), some (.int x1), some (.int x2), some (.int x3), some (.int x4), some (.int x5)] [] h Q)) ∧ (x3 = (Int32.ofNat 1) → (gm_G 514 24 [some (.ref m), some (.int x1), some (.int x2), some (.int x3), some (.int x4), some (.int x5)] [] h Q)))))))) ∧ ((hh_i h m 77) = Int32.ofNat 0 → (Q (.inl (some (.int (Int32.ofInt (-9))))) h))) : gm_G 514 0 [some (.ref m), some (.int x1), some (.int x2), some (.int x3), some (.int x4), some (.int x5)] [] h Q := by
  refine g_aload (r := some _) rfl rfl rfl (pc' := 1) ?_
  refine t_getZ rfl hT rfl rfl (pc' := 4) rfl ?_
  refine g_if_ne rfl (pc' := 7) (pt := 10) rfl rfl ⟨fun hc => ?_, fun hc => ?_⟩
  · have H := H.1 hc
    refine g_iload rfl rfl rfl (pc' := 11) ?_
    refine g_iconst rfl rfl rfl (pc' := 12) ?_
    refine g_ic_eq rfl (pc' := 15) (pt := 62) rfl rfl ⟨fun hc => ?_, fun hc => ?_⟩
    · have H := H.1 hc
      exact g_weak (show gm_Lle [some _, some _, some _, some _, some _, some _] _ from ⟨rfl, ⟨rfl, ⟨rfl, ⟨rfl, ⟨rfl, ⟨rfl, trivial⟩⟩⟩⟩⟩⟩) H
    · have H := H.2 hc
      refine g_iload rfl rfl rfl (pc' := 16) ?_
      refine g_if_eq rfl (pc' := 19) (pt := 24) rfl rfl ⟨fun hc => ?_, fun hc => ?_⟩
      · have H := H.1 hc
        exact g_weak (show gm_Lle [some _, some _, some _, some _, some _, some _] _ from ⟨rfl, ⟨rfl, ⟨rfl, ⟨rfl, ⟨rfl, ⟨rfl, trivial⟩⟩⟩⟩⟩⟩) H
      · have H := H.2 hc
        refine g_iload rfl rfl rfl (pc' := 20) ?_
        refine g_iconst rfl rfl rfl (pc' := 21) ?_
        refine g_ic_ne rfl (pc' := 24) (pt := 66) rfl rfl ⟨fun hc => ?_, fun hc => ?_⟩
        · have H := H.1 hc
          exact g_weak (show gm_Lle [some _, some _, some _, some _, some _, some _] _ from ⟨rfl, ⟨rfl, ⟨rfl, ⟨rfl, ⟨rfl, ⟨rfl, trivial⟩⟩⟩⟩⟩⟩) H
        · have H := H.2 hc
          exact g_weak (show gm_Lle [some _, some _, some _, some _, some _, some _] _ from ⟨rfl, ⟨rfl, ⟨rfl, ⟨rfl, ⟨rfl, ⟨rfl, trivial⟩⟩⟩⟩⟩⟩) H
  · have H := H.2 hc
    refine g_iconst rfl rfl rfl (pc' := 9) ?_
    exact g_ireturn rfl (Or.inl rfl) H
theorem w_514_24 {m : Nat} {x1 : Int32} {x2 : Int32} {x3 : Int32} {x4 : Int32} {x5 : Int32} {h : hh_T} {Q : Option Value ⊕ Nat → hh_T → Prop} (hT : tw_ok h m) (H : (x4 < Int32.ofNat 0 → (gm_G 514 35 [some (.ref m), some (.int x1), some (.int x2), some (.int x3), some (.int x4), some (.int x5)] [] h Q)) ∧ (¬ x4 < Int32.ofNat 0 → ((¬ (Int32.ofNat 2) < x4 → (gm_G 514 49 [some (.ref m), some (.int x1), some (.int x2), some (.int x3), some (.int x4), some (.int x5)] [] h Q)) ∧ ((Int32.ofNat 2) < x4 → (gm_G 514 35 [some (.ref m), some (.int x1), some (.int x2), some (.int x3), some (.int x4), some (.int x5)] [] h Q))))) : gm_G 514 24 [some (.ref m), some (.int x1), some (.int x2), some (.int x3), some (.int x4), some (.int x5)] [] h Q := by
  refine g_iload rfl rfl rfl (pc' := 26) ?_
  refine g_if_lt rfl (pc' := 29) (pt := 35) rfl rfl ⟨fun hc => ?_, fun hc => ?_⟩
  · have H := H.1 hc
    exact g_weak (show gm_Lle [some _, some _, some _, some _, some _, some _] _ from ⟨rfl, ⟨rfl, ⟨rfl, ⟨rfl, ⟨rfl, ⟨rfl, trivial⟩⟩⟩⟩⟩⟩) H
  · have H := H.2 hc
    refine g_iload rfl rfl rfl (pc' := 31) ?_
    refine g_iconst rfl rfl rfl (pc' := 32) ?_
    refine g_ic_le rfl (pc' := 35) (pt := 49) rfl rfl ⟨fun hc => ?_, fun hc => ?_⟩
    · have H := H.1 hc
      exact g_weak (show gm_Lle [some _, some _, some _, some _, some _, some _] _ from ⟨rfl, ⟨rfl, ⟨rfl, ⟨rfl, ⟨rfl, ⟨rfl, trivial⟩⟩⟩⟩⟩⟩) H
    · have H := H.2 hc
      exact g_weak (show gm_Lle [some _, some _, some _, some _, some _, some _] _ from ⟨rfl, ⟨rfl, ⟨rfl, ⟨rfl, ⟨rfl, ⟨rfl, trivial⟩⟩⟩⟩⟩⟩) H
theorem w_514_35 {m : Nat} {x1 : Int32} {x2 : Int32} {x3 : Int32} {x4 : Int32} {x5 : Int32} {h : hh_T} {Q : Option Value ⊕ Nat → hh_T → Prop} (hT : tw_ok h m) (H : (x4 < (Int32.ofNat 8) → (gm_G 514 66 [some (.ref m), some (.int x1), some (.int x2), some (.int x3), some (.int x4), some (.int x5)] [] h Q)) ∧ (¬ x4 < (Int32.ofNat 8) → (((Int32.ofNat 23) < x4 → (gm_G 514 66 [some (.ref m), some (.int x1), some (.int x2), some (.int x3), some (.int x4), some (.int x5)] [] h Q)) ∧ (¬ (Int32.ofNat 23) < x4 → (gm_G 514 49 [some (.ref m), some (.int x1), some (.int x2), some (.int x3), some (.int x4), some (.int x5)] [] h Q))))) : gm_G 514 35 [some (.ref m), some (.int x1), some (.int x2), some (.int x3), some (.int x4), some (.int x5)] [] h Q := by
  refine g_iload rfl rfl rfl (pc' := 37) ?_
  refine g_iconst rfl rfl rfl (pc' := 39) ?_
  refine g_ic_lt rfl (pc' := 42) (pt := 66) rfl rfl ⟨fun hc => ?_, fun hc => ?_⟩
  · have H := H.1 hc
    exact g_weak (show gm_Lle [some _, some _, some _, some _, some _, some _] _ from ⟨rfl, ⟨rfl, ⟨rfl, ⟨rfl, ⟨rfl, ⟨rfl, trivial⟩⟩⟩⟩⟩⟩) H
  · have H := H.2 hc
    refine g_iload rfl rfl rfl (pc' := 44) ?_
    refine g_iconst rfl rfl rfl (pc' := 46) ?_
    refine g_ic_gt rfl (pc' := 49) (pt := 66) rfl rfl ⟨fun hc => ?_, fun hc => ?_⟩
    · have H := H.1 hc
      exact g_weak (show gm_Lle [some _, some _, some _, some _, some _, some _] _ from ⟨rfl, ⟨rfl, ⟨rfl, ⟨rfl, ⟨rfl, ⟨rfl, trivial⟩⟩⟩⟩⟩⟩) H
    · have H := H.2 hc
      exact g_weak (show gm_Lle [some _, some _, some _, some _, some _, some _] _ from ⟨rfl, ⟨rfl, ⟨rfl, ⟨rfl, ⟨rfl, ⟨rfl, trivial⟩⟩⟩⟩⟩⟩) H
theorem w_514_49 {m : Nat} {x1 : Int32} {x2 : Int32} {x3 : Int32} {x4 : Int32} {x5 : Int32} {h : hh_T} {Q : Option Value ⊕ Nat → hh_T → Prop} (hT : tw_ok h m) (H : (x5 < (Int32.ofNat 1) → (gm_G 514 66 [some (.ref m), some (.int x1), some (.int x2), some (.int x3), some (.int x4), some (.int x5)] [] h Q)) ∧ (¬ x5 < (Int32.ofNat 1) → (((Int32.ofNat 7) < x5 → (gm_G 514 66 [some (.ref m), some (.int x1), some (.int x2), some (.int x3), some (.int x4), some (.int x5)] [] h Q)) ∧ (¬ (Int32.ofNat 7) < x5 → (gm_G 514 62 [some (.ref m), some (.int x1), some (.int x2), some (.int x3), some (.int x4), some (.int x5)] [] h Q))))) : gm_G 514 49 [some (.ref m), some (.int x1), some (.int x2), some (.int x3), some (.int x4), some (.int x5)] [] h Q := by
  refine g_iload rfl rfl rfl (pc' := 51) ?_
  refine g_iconst rfl rfl rfl (pc' := 52) ?_
  refine g_ic_lt rfl (pc' := 55) (pt := 66) rfl rfl ⟨fun hc => ?_, fun hc => ?_⟩
  · have H := H.1 hc
    exact g_weak (show gm_Lle [some _, some _, some _, some _, some _, some _] _ from ⟨rfl, ⟨rfl, ⟨rfl, ⟨rfl, ⟨rfl, ⟨rfl, trivial⟩⟩⟩⟩⟩⟩) H
  · have H := H.2 hc
    refine g_iload rfl rfl rfl (pc' := 57) ?_
    refine g_iconst rfl rfl rfl (pc' := 59) ?_
    refine g_ic_gt rfl (pc' := 62) (pt := 66) rfl rfl ⟨fun hc => ?_, fun hc => ?_⟩
    · have H := H.1 hc
      exact g_weak (show gm_Lle [some _, some _, some _, some _, some _, some _] _ from ⟨rfl, ⟨rfl, ⟨rfl, ⟨rfl, ⟨rfl, ⟨rfl, trivial⟩⟩⟩⟩⟩⟩) H
    · have H := H.2 hc
      exact g_weak (show gm_Lle [some _, some _, some _, some _, some _, some _] _ from ⟨rfl, ⟨rfl, ⟨rfl, ⟨rfl, ⟨rfl, ⟨rfl, trivial⟩⟩⟩⟩⟩⟩) H
theorem w_514_62 {m : Nat} {x1 : Int32} {x2 : Int32} {x3 : Int32} {x4 : Int32} {x5 : Int32} {h : hh_T} {Q : Option Value ⊕ Nat → hh_T → Prop} (hT : tw_ok h m) (H : gm_G 514 67 [some (.ref m), some (.int x1), some (.int x2), some (.int x3), some (.int x4), some (.int x5)] [.int (Int32.ofNat 1)] h Q) : gm_G 514 62 [some (.ref m), some (.int x1), some (.int x2), some (.int x3), some (.int x4), some (.int x5)] [] h Q := by
  refine g_iconst rfl rfl rfl (pc' := 63) ?_
  refine g_goto rfl (pc' := 67) rfl ?_
  exact g_weak (show gm_Lle [some _, some _, some _, some _, some _, some _] _ from ⟨rfl, ⟨rfl, ⟨rfl, ⟨rfl, ⟨rfl, ⟨rfl, trivial⟩⟩⟩⟩⟩⟩) H
theorem w_514_66 {m : Nat} {x1 : Int32} {x2 : Int32} {x3 : Int32} {x4 : Int32} {x5 : Int32} {h : hh_T} {Q : Option Value ⊕ Nat → hh_T → Prop} (hT : tw_ok h m) (H : gm_G 514 67 [some (.ref m), some (.int x1), some (.int x2), some (.int x3), some (.int x4), some (.int x5)] [.int (Int32.ofNat 0)] h Q) : gm_G 514 66 [some (.ref m), some (.int x1), some (.int x2), some (.int x3), some (.int x4), some (.int x5)] [] h Q := by
  refine g_iconst rfl rfl rfl (pc' := 67) ?_
  exact g_weak (show gm_Lle [some _, some _, some _, some _, some _, some _] _ from ⟨rfl, ⟨rfl, ⟨rfl, ⟨rfl, ⟨rfl, ⟨rfl, trivial⟩⟩⟩⟩⟩⟩) H
theorem w_514_67 {m : Nat} {x1 : Int32} {x2 : Int32} {x3 : Int32} {x4 : Int32} {x5 : Int32} {y0 : Int32} {h : hh_T} {Q : Option Value ⊕ Nat → hh_T → Prop} (hT : tw_ok h m) (H : (¬ y0 = Int32.ofNat 0 → (gm_G 366 0 [some (.ref m), some (.int x1)] [] h (pI (fun v2 h1 => (¬ v2 < Int32.ofNat 0 → (gm_G 152 0 [some (.ref m), some (.int x1)] [] h1 (pI (fun v4 h3 => ∃ n5, gm_ix v4 n5 32 ∧ (gm_G 137 0 [some (.ref m), some (.int (hh_i h3 (m + 63) n5)), some (.int x2)] [] h3 (pI (fun v7 h6 => (v7 = Int32.ofNat 0 → (∃ n8, gm_ix v4 n8 32 ∧ (((hh_i h6 m 5) = Int32.ofNat 0 → (gm_G 514 154 [some (.ref m), none, some (.int x2), some (.int x3), some (.int x4), some (.int x5), none, none, some (.int v4), some (.int (((Int32.ofNat 16) * (hh_i h6 (m + 63) n8)) + x2))] [] h6 Q)) ∧ (¬ (hh_i h6 m 5) = Int32.ofNat 0 → (∃ n9, gm_ix (((Int32.ofNat 16) * (hh_i h6 (m + 63) n8)) + x2) n9 1536 ∧ (((hh_i h6 m 5) = (hh_i h6 (m + 42) n9) → (gm_G 514 154 [some (.ref m), none, some (.int x2), some (.int x3), some (.int x4), some (.int x5), none, none, some (.int v4), some (.int (((Int32.ofNat 16) * (hh_i h6 (m + 63) n8)) + x2))] [] h6 Q)) ∧ (¬ (hh_i h6 m 5) = (hh_i h6 (m + 42) n9) → (Q (.inl (some (.int (Int32.ofInt (-6))))) h6)))))))) ∧ (¬ v7 = Int32.ofNat 0 → (Q (.inl (some (.int (Int32.ofInt (-2))))) h6))) (fun _ _ => False)))) (fun _ _ => False)))) ∧ (v2 < Int32.ofNat 0 → (Q (.inl (some (.int v2))) h1))) (fun _ _ => False)))) ∧ (y0 = Int32.ofNat 0 → (Q (.inl (some (.int (Int32.ofInt (-1))))) h))) : gm_G 514 67 [some (.ref m), some (.int x1), some (.int x2), some (.int x3), some (.int x4), some (.int x5)] [.int y0] h Q := by
  refine g_istore rfl rfl rfl (pc' := 69) ?_
  refine g_iload rfl rfl rfl (pc' := 71) ?_
  refine g_if_ne rfl (pc' := 74) (pt := 76) rfl rfl ⟨fun hc => ?_, fun hc => ?_⟩
  · have H := H.1 hc
    refine g_aload (r := some _) rfl rfl rfl (pc' := 77) ?_
    refine g_iload rfl rfl rfl (pc' := 78) ?_
    refine t_call hT (y := 366) (n := 2) (pc' := 81) rfl rfl (t_vt hT rfl rfl) rfl rfl ⟨(Nat.le_of_ble_eq_true rfl), (Nat.le_of_ble_eq_true rfl), (Nat.le_of_ble_eq_true rfl)⟩ rfl H (tI_elim (fun v2 h1 H hT => ?_))
    show gm_G _ 81 _ _ _ _
    refine g_istore rfl rfl rfl (pc' := 83) ?_
    refine g_iload rfl rfl rfl (pc' := 85) ?_
    refine g_if_ge rfl (pc' := 88) (pt := 91) rfl rfl ⟨fun hc => ?_, fun hc => ?_⟩
    · have H := H.1 hc
      refine g_aload (r := some _) rfl rfl rfl (pc' := 92) ?_
      refine g_iload rfl rfl rfl (pc' := 93) ?_
      refine t_call hT (y := 152) (n := 2) (pc' := 96) rfl rfl (t_vt hT rfl rfl) rfl rfl ⟨(Nat.le_of_ble_eq_true rfl), (Nat.le_of_ble_eq_true rfl), (Nat.le_of_ble_eq_true rfl)⟩ rfl H (tI_elim (fun v4 h3 H hT => ?_))
      show gm_G _ 96 _ _ _ _
      refine g_istore rfl rfl rfl (pc' := 98) ?_
      refine g_aload (r := some _) rfl rfl rfl (pc' := 99) ?_
      refine g_aload (r := some _) rfl rfl rfl (pc' := 100) ?_
      refine t_get (o := 63) rfl hT rfl rfl rfl (pc' := 103) rfl ?_
      refine g_iload rfl rfl rfl (pc' := 105) ?_
      obtain ⟨n5, hn5, H⟩ := H
      refine t_iaload hT (o := 63) (l := 32) rfl rfl rfl hn5 (pc' := 106) rfl ?_
      refine g_iload rfl rfl rfl (pc' := 107) ?_
      refine t_call hT (y := 137) (n := 3) (pc' := 110) rfl rfl (t_vt hT rfl rfl) rfl rfl ⟨(Nat.le_of_ble_eq_true rfl), (Nat.le_of_ble_eq_true rfl), (Nat.le_of_ble_eq_true rfl)⟩ rfl H (tI_elim (fun v7 h6 H hT => ?_))
      show gm_G _ 110 _ _ _ _
      refine g_if_eq rfl (pc' := 113) (pt := 116) rfl rfl ⟨fun hc => ?_, fun hc => ?_⟩
      · have H := H.1 hc
        refine g_iconst rfl rfl rfl (pc' := 118) ?_
        refine g_aload (r := some _) rfl rfl rfl (pc' := 119) ?_
        refine t_get (o := 63) rfl hT rfl rfl rfl (pc' := 122) rfl ?_
        refine g_iload rfl rfl rfl (pc' := 124) ?_
        obtain ⟨n8, hn8, H⟩ := H
        refine t_iaload hT (o := 63) (l := 32) rfl rfl rfl hn8 (pc' := 125) rfl ?_
        refine g_imul rfl rfl (pc' := 126) ?_
        refine g_iload rfl rfl rfl (pc' := 127) ?_
        refine g_iadd rfl rfl (pc' := 128) ?_
        refine g_istore rfl rfl rfl (pc' := 130) ?_
        refine g_aload (r := some _) rfl rfl rfl (pc' := 131) ?_
        refine t_getI rfl hT rfl rfl (pc' := 134) rfl ?_
        refine g_if_eq rfl (pc' := 137) (pt := 154) rfl rfl ⟨fun hc => ?_, fun hc => ?_⟩
        · have H := H.1 hc
          exact g_weak (show gm_Lle [some _, none, some _, some _, some _, some _, none, none, some _, some _] _ from ⟨rfl, ⟨rfl, ⟨rfl, ⟨rfl, ⟨rfl, ⟨rfl, ⟨rfl, trivial⟩⟩⟩⟩⟩⟩⟩) H
        · have H := H.2 hc
          refine g_aload (r := some _) rfl rfl rfl (pc' := 138) ?_
          refine t_getI rfl hT rfl rfl (pc' := 141) rfl ?_
          refine g_aload (r := some _) rfl rfl rfl (pc' := 142) ?_
          refine t_get (o := 42) rfl hT rfl rfl rfl (pc' := 145) rfl ?_
          refine g_iload rfl rfl rfl (pc' := 147) ?_
          obtain ⟨n9, hn9, H⟩ := H
          refine t_iaload hT (o := 42) (l := 1536) rfl rfl rfl hn9 (pc' := 148) rfl ?_
          refine g_ic_eq rfl (pc' := 151) (pt := 154) rfl rfl ⟨fun hc => ?_, fun hc => ?_⟩
          · have H := H.1 hc
            exact g_weak (show gm_Lle [some _, none, some _, some _, some _, some _, none, none, some _, some _] _ from ⟨rfl, ⟨rfl, ⟨rfl, ⟨rfl, ⟨rfl, ⟨rfl, ⟨rfl, trivial⟩⟩⟩⟩⟩⟩⟩) H
          · have H := H.2 hc
            refine g_iconst rfl rfl rfl (pc' := 153) ?_
            exact g_ireturn rfl (Or.inl rfl) H
      · have H := H.2 hc
        refine g_iconst rfl rfl rfl (pc' := 115) ?_
        exact g_ireturn rfl (Or.inl rfl) H
    · have H := H.2 hc
      refine g_iload rfl rfl rfl (pc' := 90) ?_
      exact g_ireturn rfl (Or.inl rfl) H
  · have H := H.2 hc
    refine g_iconst rfl rfl rfl (pc' := 75) ?_
    exact g_ireturn rfl (Or.inl rfl) H
