/-! STAGE 2, 5: the twin, label by label (printed) -/
theorem w_301_121 {m : Nat} {x1 : Int32} {x2 : Int32} {x3 : Int32} {x4 : Int32} {h : hh_T} {Q : Option Value ⊕ Nat → hh_T → Prop} (hT : tw_ok h m) (H : gm_G 301 81 [some (.ref m), some (.int x1), some (.int x2), some (.int x3), some (.int (x4 + (Int32.ofNat 1)))] [] h Q) : gm_G 301 121 [some (.ref m), some (.int x1), some (.int x2), some (.int x3), some (.int x4)] [] h Q := by
  refine g_iinc (c := (Int32.ofNat 1)) rfl rfl rfl rfl rfl (pc' := 124) ?_
  refine g_goto rfl (pc' := 81) rfl ?_
  exact g_weak (show gm_Lle [some _, some _, some _, some _, some _] _ from ⟨rfl, ⟨rfl, ⟨rfl, ⟨rfl, ⟨rfl, trivial⟩⟩⟩⟩⟩) H
theorem w_302_0 {m : Nat} {x1 : Int32} {x2 : Int32} {h : hh_T} {Q : Option Value ⊕ Nat → hh_T → Prop} (hT : tw_ok h m) (H : gm_G 153 0 [some (.ref m), some (.int x1)] [] h (pI (fun v2 h1 => (¬ v2 < Int32.ofNat 0 → ((¬ (0 ≤ x2.toInt ∧ x2.toInt ≤ 4) → ((x2 < (Int32.ofNat 3000) → (Q (.inl (some (.int (Int32.ofInt (-2))))) h1)) ∧ (¬ x2 < (Int32.ofNat 3000) → (∃ n3, gm_ix v2 n3 48 ∧ ((¬ (x2 - (Int32.ofNat 3000)) < (hh_i h1 (m + 75) n3) → (Q (.inl (some (.int (Int32.ofInt (-2))))) h1)) ∧ ((x2 - (Int32.ofNat 3000)) < (hh_i h1 (m + 75) n3) → (∃ n4, gm_ix ((((Int32.ofNat 8) * v2) + x2) - (Int32.ofNat 3000)) n4 384 ∧ (Q (.inl (some (.int (hh_i h1 (m + 68) n4)))) h1)))))))) ∧ (x2.toInt = 0 → (∃ n5, gm_ix v2 n5 48 ∧ (Q (.inl (some (.int (hh_i h1 (m + 70) n5)))) h1))) ∧ (x2.toInt = 1 → (∃ n6, gm_ix v2 n6 48 ∧ (Q (.inl (some (.int (hh_i h1 (m + 71) n6)))) h1))) ∧ (x2.toInt = 2 → (∃ n7, gm_ix v2 n7 48 ∧ (Q (.inl (some (.int (hh_i h1 (m + 72) n7)))) h1))) ∧ (x2.toInt = 3 → (∃ n8, gm_ix v2 n8 48 ∧ (Q (.inl (some (.int (hh_i h1 (m + 73) n8)))) h1))) ∧ (x2.toInt = 4 → (gm_G 96 0 [some (.ref m), some (.int v2)] [] h1 (pI (fun v10 h9 => Q (.inl (some (.int v10))) h9) (fun _ _ => False)))))) ∧ (v2 < Int32.ofNat 0 → (Q (.inl (some (.int (Int32.ofInt (-2))))) h1))) (fun _ _ => False))) : gm_G 302 0 [some (.ref m), some (.int x1), some (.int x2)] [] h Q := by
  refine g_aload (r := some _) rfl rfl rfl (pc' := 1) ?_
  refine g_iload rfl rfl rfl (pc' := 2) ?_
  refine t_call hT (y := 153) (n := 2) (pc' := 5) rfl rfl (t_vt hT rfl rfl) rfl rfl ⟨(Nat.le_of_ble_eq_true rfl), (Nat.le_of_ble_eq_true rfl), (Nat.le_of_ble_eq_true rfl)⟩ rfl H (tI_elim (fun v2 h1 H hT => ?_))
  show gm_G _ 5 _ _ _ _
  refine g_istore rfl rfl rfl (pc' := 6) ?_
  refine g_iload rfl rfl rfl (pc' := 7) ?_
  refine g_if_ge rfl (pc' := 10) (pt := 13) rfl rfl ⟨fun hc => ?_, fun hc => ?_⟩
  · have H := H.1 hc
    refine g_iload rfl rfl rfl (pc' := 14) ?_
    refine g_switch rfl ⟨fun hc => ?_, fun hc => ?_⟩
    · have H := H.1 (fun hq => by omega)
      refine g_iload rfl rfl rfl (pc' := 83) ?_
      refine g_iconst rfl rfl rfl (pc' := 86) ?_
      refine g_ic_lt rfl (pc' := 89) (pt := 121) rfl rfl ⟨fun hc => ?_, fun hc => ?_⟩
      · have H := H.1 hc
        refine g_iconst rfl rfl rfl (pc' := 123) ?_
        exact g_ireturn rfl (Or.inl rfl) H
      · have H := H.2 hc
        refine g_iload rfl rfl rfl (pc' := 90) ?_
        refine g_iconst rfl rfl rfl (pc' := 93) ?_
        refine g_isub rfl rfl (pc' := 94) ?_
        refine g_aload (r := some _) rfl rfl rfl (pc' := 95) ?_
        refine t_get (o := 75) rfl hT rfl rfl rfl (pc' := 98) rfl ?_
        refine g_iload rfl rfl rfl (pc' := 99) ?_
        obtain ⟨n3, hn3, H⟩ := H
        refine t_iaload hT (o := 75) (l := 48) rfl rfl rfl hn3 (pc' := 100) rfl ?_
        refine g_ic_ge rfl (pc' := 103) (pt := 121) rfl rfl ⟨fun hc => ?_, fun hc => ?_⟩
        · have H := H.1 hc
          refine g_iconst rfl rfl rfl (pc' := 123) ?_
          exact g_ireturn rfl (Or.inl rfl) H
        · have H := H.2 hc
          refine g_aload (r := some _) rfl rfl rfl (pc' := 104) ?_
          refine t_get (o := 68) rfl hT rfl rfl rfl (pc' := 107) rfl ?_
          refine g_iconst rfl rfl rfl (pc' := 109) ?_
          refine g_iload rfl rfl rfl (pc' := 110) ?_
          refine g_imul rfl rfl (pc' := 111) ?_
          refine g_iload rfl rfl rfl (pc' := 112) ?_
          refine g_iadd rfl rfl (pc' := 113) ?_
          refine g_iconst rfl rfl rfl (pc' := 116) ?_
          refine g_isub rfl rfl (pc' := 117) ?_
          obtain ⟨n4, hn4, H⟩ := H
          refine t_baload hT (o := 68) (l := 384) rfl rfl rfl hn4 (pc' := 118) rfl ?_
          refine g_goto rfl (pc' := 123) rfl ?_
          exact g_ireturn rfl (Or.inl rfl) H
    · have H := H.2
      have hq : x2.toInt = 0 ∨ x2.toInt = 1 ∨ x2.toInt = 2 ∨ x2.toInt = 3 ∨ x2.toInt = 4 := by omega
      rcases hq with hq | hq | hq | hq | hq
      · have H := (H.1) hq
        refine ⟨48, by rw [hq]; rfl, ?_⟩
        show gm_G _ 48 _ _ _ _
        refine g_aload (r := some _) rfl rfl rfl (pc' := 49) ?_
        refine t_get (o := 70) rfl hT rfl rfl rfl (pc' := 52) rfl ?_
        refine g_iload rfl rfl rfl (pc' := 53) ?_
        obtain ⟨n5, hn5, H⟩ := H
        refine t_iaload hT (o := 70) (l := 48) rfl rfl rfl hn5 (pc' := 54) rfl ?_
        exact g_ireturn rfl (Or.inl rfl) H
      · have H := (H.2.1) hq
        refine ⟨55, by rw [hq]; rfl, ?_⟩
        show gm_G _ 55 _ _ _ _
        refine g_aload (r := some _) rfl rfl rfl (pc' := 56) ?_
        refine t_get (o := 71) rfl hT rfl rfl rfl (pc' := 59) rfl ?_
        refine g_iload rfl rfl rfl (pc' := 60) ?_
        obtain ⟨n6, hn6, H⟩ := H
        refine t_iaload hT (o := 71) (l := 48) rfl rfl rfl hn6 (pc' := 61) rfl ?_
        exact g_ireturn rfl (Or.inl rfl) H
      · have H := (H.2.2.1) hq
        refine ⟨62, by rw [hq]; rfl, ?_⟩
        show gm_G _ 62 _ _ _ _
        refine g_aload (r := some _) rfl rfl rfl (pc' := 63) ?_
        refine t_get (o := 72) rfl hT rfl rfl rfl (pc' := 66) rfl ?_
        refine g_iload rfl rfl rfl (pc' := 67) ?_
        obtain ⟨n7, hn7, H⟩ := H
        refine t_iaload hT (o := 72) (l := 48) rfl rfl rfl hn7 (pc' := 68) rfl ?_
        exact g_ireturn rfl (Or.inl rfl) H
      · have H := (H.2.2.2.1) hq
        refine ⟨69, by rw [hq]; rfl, ?_⟩
        show gm_G _ 69 _ _ _ _
        refine g_aload (r := some _) rfl rfl rfl (pc' := 70) ?_
        refine t_get (o := 73) rfl hT rfl rfl rfl (pc' := 73) rfl ?_
        refine g_iload rfl rfl rfl (pc' := 74) ?_
        obtain ⟨n8, hn8, H⟩ := H
        refine t_iaload hT (o := 73) (l := 48) rfl rfl rfl hn8 (pc' := 75) rfl ?_
        exact g_ireturn rfl (Or.inl rfl) H
      · have H := (H.2.2.2.2) hq
        refine ⟨76, by rw [hq]; rfl, ?_⟩
        show gm_G _ 76 _ _ _ _
        refine g_aload (r := some _) rfl rfl rfl (pc' := 77) ?_
        refine g_iload rfl rfl rfl (pc' := 78) ?_
        refine t_call hT (y := 96) (n := 2) (pc' := 81) rfl rfl (t_vt hT rfl rfl) rfl rfl ⟨(Nat.le_of_ble_eq_true rfl), (Nat.le_of_ble_eq_true rfl), (Nat.le_of_ble_eq_true rfl)⟩ rfl H (tI_elim (fun v10 h9 H hT => ?_))
        show gm_G _ 81 _ _ _ _
        exact g_ireturn rfl (Or.inl rfl) H
  · have H := H.2 hc
    refine g_iconst rfl rfl rfl (pc' := 12) ?_
    exact g_ireturn rfl (Or.inl rfl) H
theorem w_303_0 {m : Nat} {x1 : Int32} {x2 : Int32} {h : hh_T} {Q : Option Value ⊕ Nat → hh_T → Prop} (hT : tw_ok h m) (H : ∃ n1, gm_ix (((Int32.ofNat 2) * x1) + x2) n1 1280 ∧ (∃ n2, gm_ix x1 n2 640 ∧ (gm_G 149 0 [some (.ref m), some (.int (hh_i h (m + 23) n1)), some (.int (hh_i h (m + 21) n2))] [] h (pI (fun v4 h3 => gm_G 303 27 [some (.ref m), some (.int x1), some (.int x2), some (.int (hh_i h (m + 23) n1)), some (.int v4), some (.int (Int32.ofNat 0))] [] h3 Q) (fun _ _ => False))))) : gm_G 303 0 [some (.ref m), some (.int x1), some (.int x2)] [] h Q := by
  refine g_aload (r := some _) rfl rfl rfl (pc' := 1) ?_
  refine t_get (o := 23) rfl hT rfl rfl rfl (pc' := 4) rfl ?_
  refine g_iconst rfl rfl rfl (pc' := 5) ?_
  refine g_iload rfl rfl rfl (pc' := 6) ?_
  refine g_imul rfl rfl (pc' := 7) ?_
  refine g_iload rfl rfl rfl (pc' := 8) ?_
  refine g_iadd rfl rfl (pc' := 9) ?_
  obtain ⟨n1, hn1, H⟩ := H
  refine t_iaload hT (o := 23) (l := 1280) rfl rfl rfl hn1 (pc' := 10) rfl ?_
  refine g_istore rfl rfl rfl (pc' := 11) ?_
  refine g_aload (r := some _) rfl rfl rfl (pc' := 12) ?_
  refine g_iload rfl rfl rfl (pc' := 13) ?_
  refine g_aload (r := some _) rfl rfl rfl (pc' := 14) ?_
  refine t_get (o := 21) rfl hT rfl rfl rfl (pc' := 17) rfl ?_
  refine g_iload rfl rfl rfl (pc' := 18) ?_
  obtain ⟨n2, hn2, H⟩ := H
  refine t_iaload hT (o := 21) (l := 640) rfl rfl rfl hn2 (pc' := 19) rfl ?_
  refine t_call hT (y := 149) (n := 3) (pc' := 22) rfl rfl (t_vt hT rfl rfl) rfl rfl ⟨(Nat.le_of_ble_eq_true rfl), (Nat.le_of_ble_eq_true rfl), (Nat.le_of_ble_eq_true rfl)⟩ rfl H (tI_elim (fun v4 h3 H hT => ?_))
  show gm_G _ 22 _ _ _ _
  refine g_istore rfl rfl rfl (pc' := 24) ?_
  refine g_iconst rfl rfl rfl (pc' := 25) ?_
  refine g_istore rfl rfl rfl (pc' := 27) ?_
  exact g_weak (show gm_Lle [some _, some _, some _, some _, some _, some _] _ from ⟨rfl, ⟨rfl, ⟨rfl, ⟨rfl, ⟨rfl, ⟨rfl, trivial⟩⟩⟩⟩⟩⟩) H
theorem w_303_27 {m : Nat} {x1 : Int32} {x2 : Int32} {x3 : Int32} {x4 : Int32} {x5 : Int32} {h : hh_T} {Q : Option Value ⊕ Nat → hh_T → Prop} (hT : tw_ok h m) (H : (¬ x5 < x4 → (Q (.inl none) h)) ∧ (x5 < x4 → (∃ n1, gm_ix (((Int32.ofNat 2) * x1) + x2) n1 1280 ∧ (∃ n2, gm_ix ((((Int32.ofNat 384) * x3) + (hh_i h (m + 24) n1)) + x5) n2 1152 ∧ (∀ h3, h3 = hh_wi h (m + 27) n2 (Int32.ofNat 1) → (gm_G 303 27 [some (.ref m), some (.int x1), some (.int x2), some (.int x3), some (.int x4), some (.int (x5 + (Int32.ofNat 1)))] [] h3 Q)))))) : gm_G 303 27 [some (.ref m), some (.int x1), some (.int x2), some (.int x3), some (.int x4), some (.int x5)] [] h Q := by
  refine g_iload rfl rfl rfl (pc' := 29) ?_
  refine g_iload rfl rfl rfl (pc' := 31) ?_
  refine g_ic_ge rfl (pc' := 34) (pt := 65) rfl rfl ⟨fun hc => ?_, fun hc => ?_⟩
  · have H := H.1 hc
    exact g_return rfl H
  · have H := H.2 hc
    refine g_aload (r := some _) rfl rfl rfl (pc' := 35) ?_
    refine t_get (o := 27) rfl hT rfl rfl rfl (pc' := 38) rfl ?_
    refine g_iconst rfl rfl rfl (pc' := 41) ?_
    refine g_iload rfl rfl rfl (pc' := 42) ?_
    refine g_imul rfl rfl (pc' := 43) ?_
    refine g_aload (r := some _) rfl rfl rfl (pc' := 44) ?_
    refine t_get (o := 24) rfl hT rfl rfl rfl (pc' := 47) rfl ?_
    refine g_iconst rfl rfl rfl (pc' := 48) ?_
    refine g_iload rfl rfl rfl (pc' := 49) ?_
    refine g_imul rfl rfl (pc' := 50) ?_
    refine g_iload rfl rfl rfl (pc' := 51) ?_
    refine g_iadd rfl rfl (pc' := 52) ?_
    obtain ⟨n1, hn1, H⟩ := H
    refine t_iaload hT (o := 24) (l := 1280) rfl rfl rfl hn1 (pc' := 53) rfl ?_
    refine g_iadd rfl rfl (pc' := 54) ?_
    refine g_iload rfl rfl rfl (pc' := 56) ?_
    refine g_iadd rfl rfl (pc' := 57) ?_
    refine g_iconst rfl rfl rfl (pc' := 58) ?_
    obtain ⟨n2, hn2, H⟩ := H
    refine t_zastore hT (o := 27) (l := 1152) rfl rfl rfl hn2 (by decide) (pc' := 59) rfl (fun hT => ?_)
    have H := H _ rfl
    refine g_iinc (c := (Int32.ofNat 1)) rfl rfl rfl rfl rfl (pc' := 62) ?_
    refine g_goto rfl (pc' := 27) rfl ?_
    exact g_weak (show gm_Lle [some _, some _, some _, some _, some _, some _] _ from ⟨rfl, ⟨rfl, ⟨rfl, ⟨rfl, ⟨rfl, ⟨rfl, trivial⟩⟩⟩⟩⟩⟩) H
theorem w_304_0 {m : Nat} {x1 : Int32} {x2 : Int32} {x3 : Int32} {h : hh_T} {Q : Option Value ⊕ Nat → hh_T → Prop} (hT : tw_ok h m) (H : ∃ n1, gm_ix x1 n1 32 ∧ (gm_G 304 11 [some (.ref m), some (.int x1), some (.int x2), some (.int x3), some (.int (hh_i h (m + 63) n1)), some (.int (Int32.ofNat 0))] [] h Q)) : gm_G 304 0 [some (.ref m), some (.int x1), some (.int x2), some (.int x3)] [] h Q := by
  refine g_aload (r := some _) rfl rfl rfl (pc' := 1) ?_
  refine t_get (o := 63) rfl hT rfl rfl rfl (pc' := 4) rfl ?_
  refine g_iload rfl rfl rfl (pc' := 5) ?_
  obtain ⟨n1, hn1, H⟩ := H
  refine t_iaload hT (o := 63) (l := 32) rfl rfl rfl hn1 (pc' := 6) rfl ?_
  refine g_istore rfl rfl rfl (pc' := 8) ?_
  refine g_iconst rfl rfl rfl (pc' := 9) ?_
  refine g_istore rfl rfl rfl (pc' := 11) ?_
  exact g_weak (show gm_Lle [some _, some _, some _, some _, some _, some _] _ from ⟨rfl, ⟨rfl, ⟨rfl, ⟨rfl, ⟨rfl, ⟨rfl, trivial⟩⟩⟩⟩⟩⟩) H
theorem w_304_11 {m : Nat} {x1 : Int32} {x2 : Int32} {x3 : Int32} {x4 : Int32} {x5 : Int32} {h : hh_T} {Q : Option Value ⊕ Nat → hh_T → Prop} (hT : tw_ok h m) (H : (¬ x5 < (Int32.ofNat 16) → (Q (.inl none) h)) ∧ (x5 < (Int32.ofNat 16) → (gm_G 304 24 [some (.ref m), some (.int x1), some (.int x2), some (.int x3), some (.int x4), some (.int x5), some (.int (Int32.ofNat 0)), some (.int (Int32.ofNat 0))] [] h Q))) : gm_G 304 11 [some (.ref m), some (.int x1), some (.int x2), some (.int x3), some (.int x4), some (.int x5)] [] h Q := by
  refine g_iload rfl rfl rfl (pc' := 13) ?_
  refine g_iconst rfl rfl rfl (pc' := 15) ?_
  refine g_ic_ge rfl (pc' := 18) (pt := 120) rfl rfl ⟨fun hc => ?_, fun hc => ?_⟩
  · have H := H.1 hc
    exact g_return rfl H
  · have H := H.2 hc
    refine g_iconst rfl rfl rfl (pc' := 19) ?_
    refine g_istore rfl rfl rfl (pc' := 21) ?_
    refine g_iconst rfl rfl rfl (pc' := 22) ?_
    refine g_istore rfl rfl rfl (pc' := 24) ?_
    exact g_weak (show gm_Lle [some _, some _, some _, some _, some _, some _, some _, some _] _ from ⟨rfl, ⟨rfl, ⟨rfl, ⟨rfl, ⟨rfl, ⟨rfl, ⟨rfl, ⟨rfl, trivial⟩⟩⟩⟩⟩⟩⟩⟩) H
theorem w_304_24 {m : Nat} {x1 : Int32} {x2 : Int32} {x3 : Int32} {x4 : Int32} {x5 : Int32} {x6 : Int32} {x7 : Int32} {h : hh_T} {Q : Option Value ⊕ Nat → hh_T → Prop} (hT : tw_ok h m) (H : ∃ n1, gm_ix (((Int32.ofNat 16) * x4) + x5) n1 1536 ∧ ((¬ (hh_i h (m + 40) n1) = (Int32.ofNat 2) → (gm_G 304 100 [some (.ref m), some (.int x1), some (.int x2), some (.int x3), some (.int x4), some (.int x5), some (.int x6)] [] h Q)) ∧ ((hh_i h (m + 40) n1) = (Int32.ofNat 2) → (∃ n2, gm_ix (((Int32.ofNat 16) * x4) + x5) n2 1536 ∧ ((¬ x7 < (hh_i h (m + 45) n2) → (gm_G 304 100 [some (.ref m), some (.int x1), some (.int x2), some (.int x3), some (.int x4), some (.int x5), some (.int x6)] [] h Q)) ∧ (x7 < (hh_i h (m + 45) n2) → ((¬ x6 = Int32.ofNat 0 → (gm_G 304 87 [some (.ref m), some (.int x1), some (.int x2), some (.int x3), some (.int x4), some (.int x5), none, some (.int x7)] [] h Q)) ∧ (x6 = Int32.ofNat 0 → (∃ n3, gm_ix (((Int32.ofNat 8) * (((Int32.ofNat 16) * x4) + x5)) + x7) n3 12288 ∧ ((¬ (hh_i h (m + 53) n3) = x2 → (gm_G 304 92 [some (.ref m), some (.int x1), some (.int x2), some (.int x3), some (.int x4), some (.int x5), none, some (.int x7)] [.int (Int32.ofNat 0)] h Q)) ∧ ((hh_i h (m + 53) n3) = x2 → (gm_G 304 87 [some (.ref m), some (.int x1), some (.int x2), some (.int x3), some (.int x4), some (.int x5), none, some (.int x7)] [] h Q)))))))))))) : gm_G 304 24 [some (.ref m), some (.int x1), some (.int x2), some (.int x3), some (.int x4), some (.int x5), some (.int x6), some (.int x7)] [] h Q := by
  refine g_aload (r := some _) rfl rfl rfl (pc' := 25) ?_
  refine t_get (o := 40) rfl hT rfl rfl rfl (pc' := 28) rfl ?_
  refine g_iconst rfl rfl rfl (pc' := 30) ?_
  refine g_iload rfl rfl rfl (pc' := 32) ?_
  refine g_imul rfl rfl (pc' := 33) ?_
  refine g_iload rfl rfl rfl (pc' := 35) ?_
  refine g_iadd rfl rfl (pc' := 36) ?_
  obtain ⟨n1, hn1, H⟩ := H
  refine t_iaload hT (o := 40) (l := 1536) rfl rfl rfl hn1 (pc' := 37) rfl ?_
  refine g_iconst rfl rfl rfl (pc' := 38) ?_
  refine g_ic_ne rfl (pc' := 41) (pt := 100) rfl rfl ⟨fun hc => ?_, fun hc => ?_⟩
  · have H := H.1 hc
    exact g_weak (show gm_Lle [some _, some _, some _, some _, some _, some _, some _] _ from ⟨rfl, ⟨rfl, ⟨rfl, ⟨rfl, ⟨rfl, ⟨rfl, ⟨rfl, trivial⟩⟩⟩⟩⟩⟩⟩) H
  · have H := H.2 hc
    refine g_iload rfl rfl rfl (pc' := 43) ?_
    refine g_aload (r := some _) rfl rfl rfl (pc' := 44) ?_
    refine t_get (o := 45) rfl hT rfl rfl rfl (pc' := 47) rfl ?_
    refine g_iconst rfl rfl rfl (pc' := 49) ?_
    refine g_iload rfl rfl rfl (pc' := 51) ?_
    refine g_imul rfl rfl (pc' := 52) ?_
    refine g_iload rfl rfl rfl (pc' := 54) ?_
    refine g_iadd rfl rfl (pc' := 55) ?_
    obtain ⟨n2, hn2, H⟩ := H
    refine t_iaload hT (o := 45) (l := 1536) rfl rfl rfl hn2 (pc' := 56) rfl ?_
    refine g_ic_ge rfl (pc' := 59) (pt := 100) rfl rfl ⟨fun hc => ?_, fun hc => ?_⟩
    · have H := H.1 hc
      exact g_weak (show gm_Lle [some _, some _, some _, some _, some _, some _, some _] _ from ⟨rfl, ⟨rfl, ⟨rfl, ⟨rfl, ⟨rfl, ⟨rfl, ⟨rfl, trivial⟩⟩⟩⟩⟩⟩⟩) H
    · have H := H.2 hc
      refine g_iload rfl rfl rfl (pc' := 61) ?_
      refine g_if_ne rfl (pc' := 64) (pt := 87) rfl rfl ⟨fun hc => ?_, fun hc => ?_⟩
      · have H := H.1 hc
        exact g_weak (show gm_Lle [some _, some _, some _, some _, some _, some _, none, some _] _ from ⟨rfl, ⟨rfl, ⟨rfl, ⟨rfl, ⟨rfl, ⟨rfl, ⟨rfl, trivial⟩⟩⟩⟩⟩⟩⟩) H
      · have H := H.2 hc
        refine g_aload (r := some _) rfl rfl rfl (pc' := 65) ?_
        refine t_get (o := 53) rfl hT rfl rfl rfl (pc' := 68) rfl ?_
        refine g_iconst rfl rfl rfl (pc' := 70) ?_
        refine g_iconst rfl rfl rfl (pc' := 72) ?_
        refine g_iload rfl rfl rfl (pc' := 74) ?_
        refine g_imul rfl rfl (pc' := 75) ?_
        refine g_iload rfl rfl rfl (pc' := 77) ?_
        refine g_iadd rfl rfl (pc' := 78) ?_
        refine g_imul rfl rfl (pc' := 79) ?_
        refine g_iload rfl rfl rfl (pc' := 81) ?_
        refine g_iadd rfl rfl (pc' := 82) ?_
        obtain ⟨n3, hn3, H⟩ := H
        refine t_iaload hT (o := 53) (l := 12288) rfl rfl rfl hn3 (pc' := 83) rfl ?_
        refine g_iload rfl rfl rfl (pc' := 84) ?_
        refine g_ic_ne rfl (pc' := 87) (pt := 91) rfl rfl ⟨fun hc => ?_, fun hc => ?_⟩
        · have H := H.1 hc
          refine g_iconst rfl rfl rfl (pc' := 92) ?_
          exact g_weak (show gm_Lle [some _, some _, some _, some _, some _, some _, none, some _] _ from ⟨rfl, ⟨rfl, ⟨rfl, ⟨rfl, ⟨rfl, ⟨rfl, ⟨rfl, trivial⟩⟩⟩⟩⟩⟩⟩) H
        · have H := H.2 hc
          exact g_weak (show gm_Lle [some _, some _, some _, some _, some _, some _, none, some _] _ from ⟨rfl, ⟨rfl, ⟨rfl, ⟨rfl, ⟨rfl, ⟨rfl, ⟨rfl, trivial⟩⟩⟩⟩⟩⟩⟩) H
theorem w_304_87 {m : Nat} {x1 : Int32} {x2 : Int32} {x3 : Int32} {x4 : Int32} {x5 : Int32} {x7 : Int32} {h : hh_T} {Q : Option Value ⊕ Nat → hh_T → Prop} (hT : tw_ok h m) (H : gm_G 304 92 [some (.ref m), some (.int x1), some (.int x2), some (.int x3), some (.int x4), some (.int x5), none, some (.int x7)] [.int (Int32.ofNat 1)] h Q) : gm_G 304 87 [some (.ref m), some (.int x1), some (.int x2), some (.int x3), some (.int x4), some (.int x5), none, some (.int x7)] [] h Q := by
  refine g_iconst rfl rfl rfl (pc' := 88) ?_
  refine g_goto rfl (pc' := 92) rfl ?_
  exact g_weak (show gm_Lle [some _, some _, some _, some _, some _, some _, none, some _] _ from ⟨rfl, ⟨rfl, ⟨rfl, ⟨rfl, ⟨rfl, ⟨rfl, ⟨rfl, trivial⟩⟩⟩⟩⟩⟩⟩) H
theorem w_304_92 {m : Nat} {x1 : Int32} {x2 : Int32} {x3 : Int32} {x4 : Int32} {x5 : Int32} {x7 : Int32} {y0 : Int32} {h : hh_T} {Q : Option Value ⊕ Nat → hh_T → Prop} (hT : tw_ok h m) (H : gm_G 304 24 [some (.ref m), some (.int x1), some (.int x2), some (.int x3), some (.int x4), some (.int x5), some (.int y0), some (.int (x7 + (Int32.ofNat 1)))] [] h Q) : gm_G 304 92 [some (.ref m), some (.int x1), some (.int x2), some (.int x3), some (.int x4), some (.int x5), none, some (.int x7)] [.int y0] h Q := by
  refine g_istore rfl rfl rfl (pc' := 94) ?_
  refine g_iinc (c := (Int32.ofNat 1)) rfl rfl rfl rfl rfl (pc' := 97) ?_
  refine g_goto rfl (pc' := 24) rfl ?_
  exact g_weak (show gm_Lle [some _, some _, some _, some _, some _, some _, some _, some _] _ from ⟨rfl, ⟨rfl, ⟨rfl, ⟨rfl, ⟨rfl, ⟨rfl, ⟨rfl, ⟨rfl, trivial⟩⟩⟩⟩⟩⟩⟩⟩) H
theorem w_304_100 {m : Nat} {x1 : Int32} {x2 : Int32} {x3 : Int32} {x4 : Int32} {x5 : Int32} {x6 : Int32} {h : hh_T} {Q : Option Value ⊕ Nat → hh_T → Prop} (hT : tw_ok h m) (H : (x6 = Int32.ofNat 0 → (gm_G 304 114 [some (.ref m), some (.int x1), some (.int x2), some (.int x3), some (.int x4), some (.int x5)] [] h Q)) ∧ (¬ x6 = Int32.ofNat 0 → (gm_G 160 0 [some (.ref m), some (.int x1), some (.int x5), some (.int x2), some (.int x3)] [] h (pV (fun h1 => gm_G 304 114 [some (.ref m), some (.int x1), some (.int x2), some (.int x3), some (.int x4), some (.int x5)] [] h1 Q) (fun _ _ => False))))) : gm_G 304 100 [some (.ref m), some (.int x1), some (.int x2), some (.int x3), some (.int x4), some (.int x5), some (.int x6)] [] h Q := by
  refine g_iload rfl rfl rfl (pc' := 102) ?_
  refine g_if_eq rfl (pc' := 105) (pt := 114) rfl rfl ⟨fun hc => ?_, fun hc => ?_⟩
  · have H := H.1 hc
    exact g_weak (show gm_Lle [some _, some _, some _, some _, some _, some _] _ from ⟨rfl, ⟨rfl, ⟨rfl, ⟨rfl, ⟨rfl, ⟨rfl, trivial⟩⟩⟩⟩⟩⟩) H
  · have H := H.2 hc
    refine g_aload (r := some _) rfl rfl rfl (pc' := 106) ?_
    refine g_iload rfl rfl rfl (pc' := 107) ?_
    refine g_iload rfl rfl rfl (pc' := 109) ?_
    refine g_iload rfl rfl rfl (pc' := 110) ?_
    refine g_iload rfl rfl rfl (pc' := 111) ?_
    refine t_call hT (y := 160) (n := 5) (pc' := 114) rfl rfl (t_vt hT rfl rfl) rfl rfl ⟨(Nat.le_of_ble_eq_true rfl), (Nat.le_of_ble_eq_true rfl), (Nat.le_of_ble_eq_true rfl)⟩ rfl H (tV_elim (fun h1 H hT => ?_))
    show gm_G _ 114 _ _ _ _
    exact g_weak (show gm_Lle [some _, some _, some _, some _, some _, some _] _ from ⟨rfl, ⟨rfl, ⟨rfl, ⟨rfl, ⟨rfl, ⟨rfl, trivial⟩⟩⟩⟩⟩⟩) H
theorem w_304_114 {m : Nat} {x1 : Int32} {x2 : Int32} {x3 : Int32} {x4 : Int32} {x5 : Int32} {h : hh_T} {Q : Option Value ⊕ Nat → hh_T → Prop} (hT : tw_ok h m) (H : gm_G 304 11 [some (.ref m), some (.int x1), some (.int x2), some (.int x3), some (.int x4), some (.int (x5 + (Int32.ofNat 1)))] [] h Q) : gm_G 304 114 [some (.ref m), some (.int x1), some (.int x2), some (.int x3), some (.int x4), some (.int x5)] [] h Q := by
  refine g_iinc (c := (Int32.ofNat 1)) rfl rfl rfl rfl rfl (pc' := 117) ?_
  refine g_goto rfl (pc' := 11) rfl ?_
  exact g_weak (show gm_Lle [some _, some _, some _, some _, some _, some _] _ from ⟨rfl, ⟨rfl, ⟨rfl, ⟨rfl, ⟨rfl, ⟨rfl, trivial⟩⟩⟩⟩⟩⟩) H
theorem w_305_0 {m : Nat} {x1 : Int32} {x2 : Int32} {h : hh_T} {Q : Option Value ⊕ Nat → hh_T → Prop} (hT : tw_ok h m) (H : gm_G 152 0 [some (.ref m), some (.int x1)] [] h (pI (fun v2 h1 => (¬ v2 < Int32.ofNat 0 → ((¬ x2 = Int32.ofNat 0 → ((¬ x2 = (Int32.ofNat 1) → ((¬ x2 = (Int32.ofNat 2) → ((¬ x2 = (Int32.ofNat 3) → ((x2 < (Int32.ofNat 4) → (gm_G 305 112 [some (.ref m), none, some (.int x2), some (.int v2)] [] h1 Q)) ∧ (¬ x2 < (Int32.ofNat 4) → ((¬ x2 < (Int32.ofNat 16) → (gm_G 305 112 [some (.ref m), none, some (.int x2), some (.int v2)] [] h1 Q)) ∧ (x2 < (Int32.ofNat 16) → (gm_G 154 0 [some (.ref m), some (.int x1), some (.int (x2 - (Int32.ofNat 4)))] [] h1 (pI (fun v4 h3 => (¬ v4 < Int32.ofNat 0 → (∃ n5, gm_ix v4 n5 48 ∧ (Q (.inl (some (.int (hh_i h3 (m + 69) n5)))) h3))) ∧ (v4 < Int32.ofNat 0 → (Q (.inl (some (.int (Int32.ofInt (-2))))) h3))) (fun _ _ => False)))))))) ∧ (x2 = (Int32.ofNat 3) → (gm_G 156 0 [some (.ref m), some (.int x1)] [] h1 (pI (fun v7 h6 => Q (.inl (some (.int v7))) h6) (fun _ _ => False)))))) ∧ (x2 = (Int32.ofNat 2) → (∃ n8, gm_ix v2 n8 32 ∧ ((¬ (hh_i h1 (m + 62) n8) < Int32.ofNat 0 → (∃ n9, gm_ix v2 n9 32 ∧ (Q (.inl (some (.int (hh_i h1 (m + 62) n9)))) h1))) ∧ ((hh_i h1 (m + 62) n8) < Int32.ofNat 0 → (Q (.inl (some (.int (Int32.ofInt (-2))))) h1))))))) ∧ (x2 = (Int32.ofNat 1) → (∃ n10, gm_ix v2 n10 32 ∧ (Q (.inl (some (.int (hh_i h1 (m + 60) n10)))) h1))))) ∧ (x2 = Int32.ofNat 0 → (∃ n11, gm_ix v2 n11 32 ∧ (Q (.inl (some (.int (hh_i h1 (m + 61) n11)))) h1))))) ∧ (v2 < Int32.ofNat 0 → (Q (.inl (some (.int (Int32.ofInt (-2))))) h1))) (fun _ _ => False))) : gm_G 305 0 [some (.ref m), some (.int x1), some (.int x2)] [] h Q := by
  refine g_aload (r := some _) rfl rfl rfl (pc' := 1) ?_
  refine g_iload rfl rfl rfl (pc' := 2) ?_
  refine t_call hT (y := 152) (n := 2) (pc' := 5) rfl rfl (t_vt hT rfl rfl) rfl rfl ⟨(Nat.le_of_ble_eq_true rfl), (Nat.le_of_ble_eq_true rfl), (Nat.le_of_ble_eq_true rfl)⟩ rfl H (tI_elim (fun v2 h1 H hT => ?_))
  show gm_G _ 5 _ _ _ _
  refine g_istore rfl rfl rfl (pc' := 6) ?_
  refine g_iload rfl rfl rfl (pc' := 7) ?_
  refine g_if_ge rfl (pc' := 10) (pt := 13) rfl rfl ⟨fun hc => ?_, fun hc => ?_⟩
  · have H := H.1 hc
    refine g_iload rfl rfl rfl (pc' := 14) ?_
    refine g_if_ne rfl (pc' := 17) (pt := 24) rfl rfl ⟨fun hc => ?_, fun hc => ?_⟩
    · have H := H.1 hc
      refine g_iload rfl rfl rfl (pc' := 25) ?_
      refine g_iconst rfl rfl rfl (pc' := 26) ?_
      refine g_ic_ne rfl (pc' := 29) (pt := 36) rfl rfl ⟨fun hc => ?_, fun hc => ?_⟩
      · have H := H.1 hc
        refine g_iload rfl rfl rfl (pc' := 37) ?_
        refine g_iconst rfl rfl rfl (pc' := 38) ?_
        refine g_ic_ne rfl (pc' := 41) (pt := 62) rfl rfl ⟨fun hc => ?_, fun hc => ?_⟩
        · have H := H.1 hc
          refine g_iload rfl rfl rfl (pc' := 63) ?_
          refine g_iconst rfl rfl rfl (pc' := 64) ?_
          refine g_ic_ne rfl (pc' := 67) (pt := 73) rfl rfl ⟨fun hc => ?_, fun hc => ?_⟩
          · have H := H.1 hc
            refine g_iload rfl rfl rfl (pc' := 74) ?_
            refine g_iconst rfl rfl rfl (pc' := 75) ?_
            refine g_ic_lt rfl (pc' := 78) (pt := 112) rfl rfl ⟨fun hc => ?_, fun hc => ?_⟩
            · have H := H.1 hc
              exact g_weak (show gm_Lle [some _, none, some _, some _] _ from ⟨rfl, ⟨rfl, ⟨rfl, trivial⟩⟩⟩) H
            · have H := H.2 hc
              refine g_iload rfl rfl rfl (pc' := 79) ?_
              refine g_iconst rfl rfl rfl (pc' := 81) ?_
              refine g_ic_ge rfl (pc' := 84) (pt := 112) rfl rfl ⟨fun hc => ?_, fun hc => ?_⟩
              · have H := H.1 hc
                exact g_weak (show gm_Lle [some _, none, some _, some _] _ from ⟨rfl, ⟨rfl, ⟨rfl, trivial⟩⟩⟩) H
              · have H := H.2 hc
                refine g_aload (r := some _) rfl rfl rfl (pc' := 85) ?_
                refine g_iload rfl rfl rfl (pc' := 86) ?_
                refine g_iload rfl rfl rfl (pc' := 87) ?_
                refine g_iconst rfl rfl rfl (pc' := 88) ?_
                refine g_isub rfl rfl (pc' := 89) ?_
                refine t_call hT (y := 154) (n := 3) (pc' := 92) rfl rfl (t_vt hT rfl rfl) rfl rfl ⟨(Nat.le_of_ble_eq_true rfl), (Nat.le_of_ble_eq_true rfl), (Nat.le_of_ble_eq_true rfl)⟩ rfl H (tI_elim (fun v4 h3 H hT => ?_))
                show gm_G _ 92 _ _ _ _
                refine g_istore rfl rfl rfl (pc' := 94) ?_
                refine g_iload rfl rfl rfl (pc' := 96) ?_
                refine g_if_ge rfl (pc' := 99) (pt := 104) rfl rfl ⟨fun hc => ?_, fun hc => ?_⟩
                · have H := H.1 hc
                  refine g_aload (r := some _) rfl rfl rfl (pc' := 105) ?_
                  refine t_get (o := 69) rfl hT rfl rfl rfl (pc' := 108) rfl ?_
                  refine g_iload rfl rfl rfl (pc' := 110) ?_
                  obtain ⟨n5, hn5, H⟩ := H
                  refine t_iaload hT (o := 69) (l := 48) rfl rfl rfl hn5 (pc' := 111) rfl ?_
                  exact g_ireturn rfl (Or.inl rfl) H
                · have H := H.2 hc
                  refine g_iconst rfl rfl rfl (pc' := 101) ?_
                  refine g_goto rfl (pc' := 111) rfl ?_
                  exact g_ireturn rfl (Or.inl rfl) H
          · have H := H.2 hc
            refine g_aload (r := some _) rfl rfl rfl (pc' := 68) ?_
            refine g_iload rfl rfl rfl (pc' := 69) ?_
            refine t_call hT (y := 156) (n := 2) (pc' := 72) rfl rfl (t_vt hT rfl rfl) rfl rfl ⟨(Nat.le_of_ble_eq_true rfl), (Nat.le_of_ble_eq_true rfl), (Nat.le_of_ble_eq_true rfl)⟩ rfl H (tI_elim (fun v7 h6 H hT => ?_))
            show gm_G _ 72 _ _ _ _
            exact g_ireturn rfl (Or.inl rfl) H
        · have H := H.2 hc
          refine g_aload (r := some _) rfl rfl rfl (pc' := 42) ?_
          refine t_get (o := 62) rfl hT rfl rfl rfl (pc' := 45) rfl ?_
          refine g_iload rfl rfl rfl (pc' := 46) ?_
          obtain ⟨n8, hn8, H⟩ := H
          refine t_iaload hT (o := 62) (l := 32) rfl rfl rfl hn8 (pc' := 47) rfl ?_
          refine g_if_ge rfl (pc' := 50) (pt := 55) rfl rfl ⟨fun hc => ?_, fun hc => ?_⟩
          · have H := H.1 hc
            refine g_aload (r := some _) rfl rfl rfl (pc' := 56) ?_
            refine t_get (o := 62) rfl hT rfl rfl rfl (pc' := 59) rfl ?_
            refine g_iload rfl rfl rfl (pc' := 60) ?_
            obtain ⟨n9, hn9, H⟩ := H
            refine t_iaload hT (o := 62) (l := 32) rfl rfl rfl hn9 (pc' := 61) rfl ?_
            exact g_ireturn rfl (Or.inl rfl) H
          · have H := H.2 hc
            refine g_iconst rfl rfl rfl (pc' := 52) ?_
            refine g_goto rfl (pc' := 61) rfl ?_
            exact g_ireturn rfl (Or.inl rfl) H
      · have H := H.2 hc
        refine g_aload (r := some _) rfl rfl rfl (pc' := 30) ?_
        refine t_get (o := 60) rfl hT rfl rfl rfl (pc' := 33) rfl ?_
        refine g_iload rfl rfl rfl (pc' := 34) ?_
        obtain ⟨n10, hn10, H⟩ := H
        refine t_iaload hT (o := 60) (l := 32) rfl rfl rfl hn10 (pc' := 35) rfl ?_
        exact g_ireturn rfl (Or.inl rfl) H
    · have H := H.2 hc
      refine g_aload (r := some _) rfl rfl rfl (pc' := 18) ?_
      refine t_get (o := 61) rfl hT rfl rfl rfl (pc' := 21) rfl ?_
      refine g_iload rfl rfl rfl (pc' := 22) ?_
      obtain ⟨n11, hn11, H⟩ := H
      refine t_iaload hT (o := 61) (l := 32) rfl rfl rfl hn11 (pc' := 23) rfl ?_
      exact g_ireturn rfl (Or.inl rfl) H
  · have H := H.2 hc
    refine g_iconst rfl rfl rfl (pc' := 12) ?_
    exact g_ireturn rfl (Or.inl rfl) H
theorem w_305_112 {m : Nat} {x2 : Int32} {x3 : Int32} {h : hh_T} {Q : Option Value ⊕ Nat → hh_T → Prop} (hT : tw_ok h m) (H : (x2 < (Int32.ofNat 1000) → (gm_G 305 163 [some (.ref m), none, some (.int x2), some (.int x3)] [] h Q)) ∧ (¬ x2 < (Int32.ofNat 1000) → ((¬ x2 < (Int32.ofNat 1005) → (gm_G 305 163 [some (.ref m), none, some (.int x2), some (.int x3)] [] h Q)) ∧ (x2 < (Int32.ofNat 1005) → (∃ n1, gm_ix ((((Int32.ofNat 5) * x3) + x2) - (Int32.ofNat 1000)) n1 160 ∧ ((¬ (hh_i h (m + 65) n1) < Int32.ofNat 0 → (∃ n2, gm_ix ((((Int32.ofNat 5) * x3) + x2) - (Int32.ofNat 1000)) n2 160 ∧ (Q (.inl (some (.int (hh_i h (m + 65) n2)))) h))) ∧ ((hh_i h (m + 65) n1) < Int32.ofNat 0 → (Q (.inl (some (.int (Int32.ofInt (-2))))) h)))))))) : gm_G 305 112 [some (.ref m), none, some (.int x2), some (.int x3)] [] h Q := by
  refine g_iload rfl rfl rfl (pc' := 113) ?_
  refine g_iconst rfl rfl rfl (pc' := 116) ?_
  refine g_ic_lt rfl (pc' := 119) (pt := 163) rfl rfl ⟨fun hc => ?_, fun hc => ?_⟩
  · have H := H.1 hc
    exact g_weak (show gm_Lle [some _, none, some _, some _] _ from ⟨rfl, ⟨rfl, ⟨rfl, trivial⟩⟩⟩) H
  · have H := H.2 hc
    refine g_iload rfl rfl rfl (pc' := 120) ?_
    refine g_iconst rfl rfl rfl (pc' := 123) ?_
    refine g_ic_ge rfl (pc' := 126) (pt := 163) rfl rfl ⟨fun hc => ?_, fun hc => ?_⟩
    · have H := H.1 hc
      exact g_weak (show gm_Lle [some _, none, some _, some _] _ from ⟨rfl, ⟨rfl, ⟨rfl, trivial⟩⟩⟩) H
    · have H := H.2 hc
      refine g_aload (r := some _) rfl rfl rfl (pc' := 127) ?_
      refine t_get (o := 65) rfl hT rfl rfl rfl (pc' := 130) rfl ?_
      refine g_iconst rfl rfl rfl (pc' := 131) ?_
      refine g_iload rfl rfl rfl (pc' := 132) ?_
      refine g_imul rfl rfl (pc' := 133) ?_
      refine g_iload rfl rfl rfl (pc' := 134) ?_
      refine g_iadd rfl rfl (pc' := 135) ?_
      refine g_iconst rfl rfl rfl (pc' := 138) ?_
      refine g_isub rfl rfl (pc' := 139) ?_
      obtain ⟨n1, hn1, H⟩ := H
      refine t_iaload hT (o := 65) (l := 160) rfl rfl rfl hn1 (pc' := 140) rfl ?_
      refine g_if_ge rfl (pc' := 143) (pt := 148) rfl rfl ⟨fun hc => ?_, fun hc => ?_⟩
      · have H := H.1 hc
        refine g_aload (r := some _) rfl rfl rfl (pc' := 149) ?_
        refine t_get (o := 65) rfl hT rfl rfl rfl (pc' := 152) rfl ?_
        refine g_iconst rfl rfl rfl (pc' := 153) ?_
        refine g_iload rfl rfl rfl (pc' := 154) ?_
        refine g_imul rfl rfl (pc' := 155) ?_
        refine g_iload rfl rfl rfl (pc' := 156) ?_
        refine g_iadd rfl rfl (pc' := 157) ?_
        refine g_iconst rfl rfl rfl (pc' := 160) ?_
        refine g_isub rfl rfl (pc' := 161) ?_
        obtain ⟨n2, hn2, H⟩ := H
        refine t_iaload hT (o := 65) (l := 160) rfl rfl rfl hn2 (pc' := 162) rfl ?_
        exact g_ireturn rfl (Or.inl rfl) H
      · have H := H.2 hc
        refine g_iconst rfl rfl rfl (pc' := 145) ?_
        refine g_goto rfl (pc' := 162) rfl ?_
        exact g_ireturn rfl (Or.inl rfl) H
theorem w_305_163 {m : Nat} {x2 : Int32} {x3 : Int32} {h : hh_T} {Q : Option Value ⊕ Nat → hh_T → Prop} (hT : tw_ok h m) (H : (x2 < (Int32.ofNat 2000) → (gm_G 305 193 [some (.ref m), none, some (.int x2), some (.int x3)] [] h Q)) ∧ (¬ x2 < (Int32.ofNat 2000) → ((¬ x2 < (Int32.ofNat 2009) → (gm_G 305 193 [some (.ref m), none, some (.int x2), some (.int x3)] [] h Q)) ∧ (x2 < (Int32.ofNat 2009) → (∃ n1, gm_ix ((((Int32.ofNat 9) * x3) + x2) - (Int32.ofNat 2000)) n1 288 ∧ (Q (.inl (some (.int (hh_i h (m + 66) n1)))) h)))))) : gm_G 305 163 [some (.ref m), none, some (.int x2), some (.int x3)] [] h Q := by
  refine g_iload rfl rfl rfl (pc' := 164) ?_
  refine g_iconst rfl rfl rfl (pc' := 167) ?_
  refine g_ic_lt rfl (pc' := 170) (pt := 193) rfl rfl ⟨fun hc => ?_, fun hc => ?_⟩
  · have H := H.1 hc
    exact g_weak (show gm_Lle [some _, none, some _, some _] _ from ⟨rfl, ⟨rfl, ⟨rfl, trivial⟩⟩⟩) H
  · have H := H.2 hc
    refine g_iload rfl rfl rfl (pc' := 171) ?_
    refine g_iconst rfl rfl rfl (pc' := 174) ?_
    refine g_ic_ge rfl (pc' := 177) (pt := 193) rfl rfl ⟨fun hc => ?_, fun hc => ?_⟩
    · have H := H.1 hc
      exact g_weak (show gm_Lle [some _, none, some _, some _] _ from ⟨rfl, ⟨rfl, ⟨rfl, trivial⟩⟩⟩) H
    · have H := H.2 hc
      refine g_aload (r := some _) rfl rfl rfl (pc' := 178) ?_
      refine t_get (o := 66) rfl hT rfl rfl rfl (pc' := 181) rfl ?_
      refine g_iconst rfl rfl rfl (pc' := 183) ?_
      refine g_iload rfl rfl rfl (pc' := 184) ?_
      refine g_imul rfl rfl (pc' := 185) ?_
      refine g_iload rfl rfl rfl (pc' := 186) ?_
      refine g_iadd rfl rfl (pc' := 187) ?_
      refine g_iconst rfl rfl rfl (pc' := 190) ?_
      refine g_isub rfl rfl (pc' := 191) ?_
      obtain ⟨n1, hn1, H⟩ := H
      refine t_iaload hT (o := 66) (l := 288) rfl rfl rfl hn1 (pc' := 192) rfl ?_
      exact g_ireturn rfl (Or.inl rfl) H
theorem w_305_193 {m : Nat} {x2 : Int32} {x3 : Int32} {h : hh_T} {Q : Option Value ⊕ Nat → hh_T → Prop} (hT : tw_ok h m) (H : (x2 < (Int32.ofNat 3000) → (Q (.inl (some (.int (Int32.ofInt (-2))))) h)) ∧ (¬ x2 < (Int32.ofNat 3000) → (∃ n1, gm_ix x3 n1 32 ∧ ((¬ (x2 - (Int32.ofNat 3000)) < (hh_i h (m + 64) n1) → (Q (.inl (some (.int (Int32.ofInt (-2))))) h)) ∧ ((x2 - (Int32.ofNat 3000)) < (hh_i h (m + 64) n1) → (∃ n2, gm_ix ((((Int32.ofNat 8) * x3) + x2) - (Int32.ofNat 3000)) n2 256 ∧ (Q (.inl (some (.int (hh_i h (m + 67) n2)))) h))))))) : gm_G 305 193 [some (.ref m), none, some (.int x2), some (.int x3)] [] h Q := by
  refine g_iload rfl rfl rfl (pc' := 194) ?_
  refine g_iconst rfl rfl rfl (pc' := 197) ?_
  refine g_ic_lt rfl (pc' := 200) (pt := 232) rfl rfl ⟨fun hc => ?_, fun hc => ?_⟩
  · have H := H.1 hc
    refine g_iconst rfl rfl rfl (pc' := 234) ?_
    exact g_ireturn rfl (Or.inl rfl) H
  · have H := H.2 hc
    refine g_iload rfl rfl rfl (pc' := 201) ?_
    refine g_iconst rfl rfl rfl (pc' := 204) ?_
    refine g_isub rfl rfl (pc' := 205) ?_
    refine g_aload (r := some _) rfl rfl rfl (pc' := 206) ?_
    refine t_get (o := 64) rfl hT rfl rfl rfl (pc' := 209) rfl ?_
    refine g_iload rfl rfl rfl (pc' := 210) ?_
    obtain ⟨n1, hn1, H⟩ := H
    refine t_iaload hT (o := 64) (l := 32) rfl rfl rfl hn1 (pc' := 211) rfl ?_
    refine g_ic_ge rfl (pc' := 214) (pt := 232) rfl rfl ⟨fun hc => ?_, fun hc => ?_⟩
    · have H := H.1 hc
      refine g_iconst rfl rfl rfl (pc' := 234) ?_
      exact g_ireturn rfl (Or.inl rfl) H
    · have H := H.2 hc
      refine g_aload (r := some _) rfl rfl rfl (pc' := 215) ?_
      refine t_get (o := 67) rfl hT rfl rfl rfl (pc' := 218) rfl ?_
      refine g_iconst rfl rfl rfl (pc' := 220) ?_
      refine g_iload rfl rfl rfl (pc' := 221) ?_
      refine g_imul rfl rfl (pc' := 222) ?_
      refine g_iload rfl rfl rfl (pc' := 223) ?_
      refine g_iadd rfl rfl (pc' := 224) ?_
      refine g_iconst rfl rfl rfl (pc' := 227) ?_
      refine g_isub rfl rfl (pc' := 228) ?_
      obtain ⟨n2, hn2, H⟩ := H
      refine t_baload hT (o := 67) (l := 256) rfl rfl rfl hn2 (pc' := 229) rfl ?_
      refine g_goto rfl (pc' := 234) rfl ?_
      exact g_ireturn rfl (Or.inl rfl) H
theorem w_306_0 {m : Nat} {x1 : Int32} {h : hh_T} {Q : Option Value ⊕ Nat → hh_T → Prop} (hT : tw_ok h m) (H : (¬ (x1 - x1 / (Int32.ofNat 2) * (Int32.ofNat 2)) = Int32.ofNat 0 → (gm_G 153 0 [some (.ref m), some (.int (x1 / (Int32.ofNat 2)))] [] h (pI (fun v2 h1 => ∃ n3, gm_ix v2 n3 48 ∧ (gm_G 152 0 [some (.ref m), some (.int (hh_i h1 (m + 70) n3))] [] h1 (pI (fun v5 h4 => ∃ n6, gm_ix v5 n6 32 ∧ (Q (.inl (some (.int (hh_i h4 (m + 61) n6)))) h4)) (fun _ _ => False)))) (fun _ _ => False)))) ∧ ((x1 - x1 / (Int32.ofNat 2) * (Int32.ofNat 2)) = Int32.ofNat 0 → (gm_G 152 0 [some (.ref m), some (.int (x1 / (Int32.ofNat 2)))] [] h (pI (fun v8 h7 => ∃ n9, gm_ix v8 n9 32 ∧ (Q (.inl (some (.int (hh_i h7 (m + 61) n9)))) h7)) (fun _ _ => False))))) : gm_G 306 0 [some (.ref m), some (.int x1)] [] h Q := by
  refine g_iload rfl rfl rfl (pc' := 1) ?_
  refine g_iconst rfl rfl rfl (pc' := 2) ?_
  refine g_irem rfl (by decide) (pc' := 3) rfl ?_
  refine g_if_ne rfl (pc' := 6) (pt := 19) rfl rfl ⟨fun hc => ?_, fun hc => ?_⟩
  · have H := H.1 hc
    refine g_aload (r := some _) rfl rfl rfl (pc' := 20) ?_
    refine t_get (o := 61) rfl hT rfl rfl rfl (pc' := 23) rfl ?_
    refine g_aload (r := some _) rfl rfl rfl (pc' := 24) ?_
    refine g_aload (r := some _) rfl rfl rfl (pc' := 25) ?_
    refine t_get (o := 70) rfl hT rfl rfl rfl (pc' := 28) rfl ?_
    refine g_aload (r := some _) rfl rfl rfl (pc' := 29) ?_
    refine g_iload rfl rfl rfl (pc' := 30) ?_
    refine g_iconst rfl rfl rfl (pc' := 31) ?_
    refine g_idiv rfl (by decide) (pc' := 32) rfl ?_
    refine t_call hT (y := 153) (n := 2) (pc' := 35) rfl rfl (t_vt hT rfl rfl) rfl rfl ⟨(Nat.le_of_ble_eq_true rfl), (Nat.le_of_ble_eq_true rfl), (Nat.le_of_ble_eq_true rfl)⟩ rfl H (tI_elim (fun v2 h1 H hT => ?_))
    show gm_G _ 35 _ _ _ _
    obtain ⟨n3, hn3, H⟩ := H
    refine t_iaload hT (o := 70) (l := 48) rfl rfl rfl hn3 (pc' := 36) rfl ?_
    refine t_call hT (y := 152) (n := 2) (pc' := 39) rfl rfl (t_vt hT rfl rfl) rfl rfl ⟨(Nat.le_of_ble_eq_true rfl), (Nat.le_of_ble_eq_true rfl), (Nat.le_of_ble_eq_true rfl)⟩ rfl H (tI_elim (fun v5 h4 H hT => ?_))
    show gm_G _ 39 _ _ _ _
    obtain ⟨n6, hn6, H⟩ := H
    refine t_iaload hT (o := 61) (l := 32) rfl rfl rfl hn6 (pc' := 40) rfl ?_
    exact g_ireturn rfl (Or.inl rfl) H
  · have H := H.2 hc
    refine g_aload (r := some _) rfl rfl rfl (pc' := 7) ?_
    refine t_get (o := 61) rfl hT rfl rfl rfl (pc' := 10) rfl ?_
    refine g_aload (r := some _) rfl rfl rfl (pc' := 11) ?_
    refine g_iload rfl rfl rfl (pc' := 12) ?_
    refine g_iconst rfl rfl rfl (pc' := 13) ?_
    refine g_idiv rfl (by decide) (pc' := 14) rfl ?_
    refine t_call hT (y := 152) (n := 2) (pc' := 17) rfl rfl (t_vt hT rfl rfl) rfl rfl ⟨(Nat.le_of_ble_eq_true rfl), (Nat.le_of_ble_eq_true rfl), (Nat.le_of_ble_eq_true rfl)⟩ rfl H (tI_elim (fun v8 h7 H hT => ?_))
    show gm_G _ 17 _ _ _ _
    obtain ⟨n9, hn9, H⟩ := H
    refine t_iaload hT (o := 61) (l := 32) rfl rfl rfl hn9 (pc' := 18) rfl ?_
    exact g_ireturn rfl (Or.inl rfl) H
theorem w_307_0 {m : Nat} {x1 : Int32} {h : hh_T} {Q : Option Value ⊕ Nat → hh_T → Prop} (hT : tw_ok h m) (H : (¬ x1 < Int32.ofNat 0 → ((¬ (x1 - x1 / (Int32.ofNat 2) * (Int32.ofNat 2)) = Int32.ofNat 0 → (gm_G 153 0 [some (.ref m), some (.int (x1 / (Int32.ofNat 2)))] [] h (pI (fun v2 h1 => gm_G 307 29 [some (.ref m), some (.int x1)] [.int v2] h1 Q) (fun _ _ => False)))) ∧ ((x1 - x1 / (Int32.ofNat 2) * (Int32.ofNat 2)) = Int32.ofNat 0 → (gm_G 152 0 [some (.ref m), some (.int (x1 / (Int32.ofNat 2)))] [] h (pI (fun v4 h3 => gm_G 307 29 [some (.ref m), some (.int x1)] [.int v4] h3 Q) (fun _ _ => False)))))) ∧ (x1 < Int32.ofNat 0 → (Q (.inl (some (.int (Int32.ofInt (-1))))) h))) : gm_G 307 0 [some (.ref m), some (.int x1)] [] h Q := by
  refine g_iload rfl rfl rfl (pc' := 1) ?_
  refine g_if_ge rfl (pc' := 4) (pt := 6) rfl rfl ⟨fun hc => ?_, fun hc => ?_⟩
  · have H := H.1 hc
    refine g_iload rfl rfl rfl (pc' := 7) ?_
    refine g_iconst rfl rfl rfl (pc' := 8) ?_
    refine g_irem rfl (by decide) (pc' := 9) rfl ?_
    refine g_if_ne rfl (pc' := 12) (pt := 22) rfl rfl ⟨fun hc => ?_, fun hc => ?_⟩
    · have H := H.1 hc
      refine g_aload (r := some _) rfl rfl rfl (pc' := 23) ?_
      refine g_iload rfl rfl rfl (pc' := 24) ?_
      refine g_iconst rfl rfl rfl (pc' := 25) ?_
      refine g_idiv rfl (by decide) (pc' := 26) rfl ?_
      refine t_call hT (y := 153) (n := 2) (pc' := 29) rfl rfl (t_vt hT rfl rfl) rfl rfl ⟨(Nat.le_of_ble_eq_true rfl), (Nat.le_of_ble_eq_true rfl), (Nat.le_of_ble_eq_true rfl)⟩ rfl H (tI_elim (fun v2 h1 H hT => ?_))
      show gm_G _ 29 _ _ _ _
      exact g_weak (show gm_Lle [some _, some _] _ from ⟨rfl, ⟨rfl, trivial⟩⟩) H
    · have H := H.2 hc
      refine g_aload (r := some _) rfl rfl rfl (pc' := 13) ?_
      refine g_iload rfl rfl rfl (pc' := 14) ?_
      refine g_iconst rfl rfl rfl (pc' := 15) ?_
      refine g_idiv rfl (by decide) (pc' := 16) rfl ?_
      refine t_call hT (y := 152) (n := 2) (pc' := 19) rfl rfl (t_vt hT rfl rfl) rfl rfl ⟨(Nat.le_of_ble_eq_true rfl), (Nat.le_of_ble_eq_true rfl), (Nat.le_of_ble_eq_true rfl)⟩ rfl H (tI_elim (fun v4 h3 H hT => ?_))
      show gm_G _ 19 _ _ _ _
      refine g_goto rfl (pc' := 29) rfl ?_
      exact g_weak (show gm_Lle [some _, some _] _ from ⟨rfl, ⟨rfl, trivial⟩⟩) H
  · have H := H.2 hc
    refine g_iconst rfl rfl rfl (pc' := 5) ?_
    exact g_ireturn rfl (Or.inl rfl) H
theorem w_307_29 {m : Nat} {x1 : Int32} {y0 : Int32} {h : hh_T} {Q : Option Value ⊕ Nat → hh_T → Prop} (hT : tw_ok h m) (H : (¬ y0 < Int32.ofNat 0 → ((¬ (x1 - x1 / (Int32.ofNat 2) * (Int32.ofNat 2)) = Int32.ofNat 0 → (∃ n1, gm_ix y0 n1 48 ∧ (Q (.inl (some (.int (hh_i h (m + 74) n1)))) h))) ∧ ((x1 - x1 / (Int32.ofNat 2) * (Int32.ofNat 2)) = Int32.ofNat 0 → (∃ n2, gm_ix y0 n2 32 ∧ (Q (.inl (some (.int (hh_i h (m + 63) n2)))) h))))) ∧ (y0 < Int32.ofNat 0 → (Q (.inl (some (.int (Int32.ofInt (-1))))) h))) : gm_G 307 29 [some (.ref m), some (.int x1)] [.int y0] h Q := by
  refine g_istore rfl rfl rfl (pc' := 30) ?_
  refine g_iload rfl rfl rfl (pc' := 31) ?_
  refine g_if_ge rfl (pc' := 34) (pt := 38) rfl rfl ⟨fun hc => ?_, fun hc => ?_⟩
  · have H := H.1 hc
    refine g_iload rfl rfl rfl (pc' := 39) ?_
    refine g_iconst rfl rfl rfl (pc' := 40) ?_
    refine g_irem rfl (by decide) (pc' := 41) rfl ?_
    refine g_if_ne rfl (pc' := 44) (pt := 53) rfl rfl ⟨fun hc => ?_, fun hc => ?_⟩
    · have H := H.1 hc
      refine g_aload (r := some _) rfl rfl rfl (pc' := 54) ?_
      refine t_get (o := 74) rfl hT rfl rfl rfl (pc' := 57) rfl ?_
      refine g_iload rfl rfl rfl (pc' := 58) ?_
      obtain ⟨n1, hn1, H⟩ := H
      refine t_iaload hT (o := 74) (l := 48) rfl rfl rfl hn1 (pc' := 59) rfl ?_
      exact g_ireturn rfl (Or.inl rfl) H
    · have H := H.2 hc
      refine g_aload (r := some _) rfl rfl rfl (pc' := 45) ?_
      refine t_get (o := 63) rfl hT rfl rfl rfl (pc' := 48) rfl ?_
      refine g_iload rfl rfl rfl (pc' := 49) ?_
      obtain ⟨n2, hn2, H⟩ := H
      refine t_iaload hT (o := 63) (l := 32) rfl rfl rfl hn2 (pc' := 50) rfl ?_
      refine g_goto rfl (pc' := 59) rfl ?_
      exact g_ireturn rfl (Or.inl rfl) H
  · have H := H.2 hc
    refine g_iconst rfl rfl rfl (pc' := 35) ?_
    refine g_goto rfl (pc' := 59) rfl ?_
    exact g_ireturn rfl (Or.inl rfl) H
theorem w_308_0 {m : Nat} {x1 : Int32} {b2 : Nat} {x3 : Int32} {x4 : Int32} {x5 : Int32} {h : hh_T} {Q : Option Value ⊕ Nat → hh_T → Prop} (hT : tw_ok h m) (H : gm_G 308 3 [some (.ref m), some (.int x1), some (.ref b2), some (.int x3), some (.int x4), some (.int x5), some (.int (Int32.ofNat 0))] [] h Q) : gm_G 308 0 [some (.ref m), some (.int x1), some (.ref b2), some (.int x3), some (.int x4), some (.int x5)] [] h Q := by
  refine g_iconst rfl rfl rfl (pc' := 1) ?_
  refine g_istore rfl rfl rfl (pc' := 3) ?_
  exact g_weak (show gm_Lle [some _, some _, some _, some _, some _, some _, some _] _ from ⟨rfl, ⟨rfl, ⟨rfl, ⟨rfl, ⟨rfl, ⟨rfl, ⟨rfl, trivial⟩⟩⟩⟩⟩⟩⟩) H
theorem w_308_3 {m : Nat} {x1 : Int32} {b2 : Nat} {x3 : Int32} {x4 : Int32} {x5 : Int32} {x6 : Int32} {h : hh_T} {Q : Option Value ⊕ Nat → hh_T → Prop} (hT : tw_ok h m) (H : (¬ x6 < x4 → (gm_G 308 42 [some (.ref m), some (.int x1), none, none, none, some (.int x5), some (.int x4), some (.int (Int32.ofNat 0)), some (.int (Int32.ofNat 0)), some (.int (Int32.ofNat 0))] [] h Q)) ∧ (x6 < x4 → ((hh_tg h b2 = 101 ∨ hh_tg h b2 = 102) ∧ (∃ n1, gm_ix (x3 + x6) n1 (hh_ln h b2) ∧ (∃ n3, gm_ix x6 n3 1024 ∧ (∀ h4, h4 = hh_wi h (m + 85) n3 ((hh_i h b2 n1).toInt8.toInt32) → (gm_G 308 3 [some (.ref m), some (.int x1), some (.ref b2), some (.int x3), some (.int x4), some (.int x5), some (.int (x6 + (Int32.ofNat 1)))] [] h4 Q))))))) : gm_G 308 3 [some (.ref m), some (.int x1), some (.ref b2), some (.int x3), some (.int x4), some (.int x5), some (.int x6)] [] h Q := by
  refine g_iload rfl rfl rfl (pc' := 5) ?_
  refine g_iload rfl rfl rfl (pc' := 7) ?_
  refine g_ic_ge rfl (pc' := 10) (pt := 29) rfl rfl ⟨fun hc => ?_, fun hc => ?_⟩
  · have H := H.1 hc
    refine g_iload rfl rfl rfl (pc' := 31) ?_
    refine g_istore rfl rfl rfl (pc' := 33) ?_
    refine g_iconst rfl rfl rfl (pc' := 34) ?_
    refine g_istore rfl rfl rfl (pc' := 36) ?_
    refine g_iconst rfl rfl rfl (pc' := 37) ?_
    refine g_istore rfl rfl rfl (pc' := 39) ?_
    refine g_iconst rfl rfl rfl (pc' := 40) ?_
    refine g_istore rfl rfl rfl (pc' := 42) ?_
    exact g_weak (show gm_Lle [some _, some _, none, none, none, some _, some _, some _, some _, some _] _ from ⟨rfl, ⟨rfl, ⟨rfl, ⟨rfl, ⟨rfl, ⟨rfl, ⟨rfl, trivial⟩⟩⟩⟩⟩⟩⟩) H
  · have H := H.2 hc
    refine g_aload (r := some _) rfl rfl rfl (pc' := 11) ?_
    refine t_get (o := 85) rfl hT rfl rfl rfl (pc' := 14) rfl ?_
    refine g_iload rfl rfl rfl (pc' := 16) ?_
    refine g_aload (r := some _) rfl rfl rfl (pc' := 17) ?_
    refine g_iload rfl rfl rfl (pc' := 18) ?_
    refine g_iload rfl rfl rfl (pc' := 20) ?_
    refine g_iadd rfl rfl (pc' := 21) ?_
    obtain ⟨ht2, H⟩ := H
    obtain ⟨n1, hn1, H⟩ := H
    refine g_baload rfl ht2 hn1 (pc' := 22) rfl ?_
    obtain ⟨n3, hn3, H⟩ := H
    refine t_bastore hT (o := 85) (l := 1024) rfl rfl rfl hn3  (pc' := 23) rfl (fun hT => ?_)
    have H := H _ rfl
    refine g_iinc (c := (Int32.ofNat 1)) rfl rfl rfl rfl rfl (pc' := 26) ?_
    refine g_goto rfl (pc' := 3) rfl ?_
    exact g_weak (show gm_Lle [some _, some _, some _, some _, some _, some _, some _] _ from ⟨rfl, ⟨rfl, ⟨rfl, ⟨rfl, ⟨rfl, ⟨rfl, ⟨rfl, trivial⟩⟩⟩⟩⟩⟩⟩) H
theorem w_308_42 {m : Nat} {x1 : Int32} {x5 : Int32} {x6 : Int32} {x7 : Int32} {x8 : Int32} {x9 : Int32} {h : hh_T} {Q : Option Value ⊕ Nat → hh_T → Prop} (hT : tw_ok h m) (H : (¬ Int32.ofNat 0 < x6 → (Q (.inl (some (.int x9))) h)) ∧ (Int32.ofNat 0 < x6 → (∃ n1, gm_ix (((Int32.ofNat 16) * x1) + x9) n1 1536 ∧ (((hh_i h (m + 40) n1) = (Int32.ofNat 2) → (gm_G 115 0 [some (.ref m), some (.int (((Int32.ofNat 16) * x1) + x9)), some (.int (hh_i h m 5)), some (.int (Int32.ofNat 1))] [] h (pI (fun v3 h2 => (¬ v3 = Int32.ofNat 0 → (gm_G 308 90 [some (.ref m), some (.int x1), none, none, none, some (.int x5), some (.int x6), some (.int x7), some (.int x8), some (.int x9), some (.int (((Int32.ofNat 16) * x1) + x9)), some (.int (Int32.ofNat 0))] [] h2 Q)) ∧ (v3 = Int32.ofNat 0 → (Q (.inl (some (.int (Int32.ofInt (-6))))) h2))) (fun _ _ => False)))) ∧ (¬ (hh_i h (m + 40) n1) = (Int32.ofNat 2) → (Q (.inl (some (.int (Int32.ofInt (-10))))) h)))))) : gm_G 308 42 [some (.ref m), some (.int x1), none, none, none, some (.int x5), some (.int x6), some (.int x7), some (.int x8), some (.int x9)] [] h Q := by
  refine g_iload rfl rfl rfl (pc' := 44) ?_
  refine g_if_le rfl (pc' := 47) (pt := 443) rfl rfl ⟨fun hc => ?_, fun hc => ?_⟩
  · have H := H.1 hc
    refine g_iload rfl rfl rfl (pc' := 445) ?_
    exact g_ireturn rfl (Or.inl rfl) H
  · have H := H.2 hc
    refine g_iconst rfl rfl rfl (pc' := 49) ?_
    refine g_iload rfl rfl rfl (pc' := 50) ?_
    refine g_imul rfl rfl (pc' := 51) ?_
    refine g_iload rfl rfl rfl (pc' := 53) ?_
    refine g_iadd rfl rfl (pc' := 54) ?_
    refine g_istore rfl rfl rfl (pc' := 56) ?_
    refine g_aload (r := some _) rfl rfl rfl (pc' := 57) ?_
    refine t_get (o := 40) rfl hT rfl rfl rfl (pc' := 60) rfl ?_
    refine g_iload rfl rfl rfl (pc' := 62) ?_
    obtain ⟨n1, hn1, H⟩ := H
    refine t_iaload hT (o := 40) (l := 1536) rfl rfl rfl hn1 (pc' := 63) rfl ?_
    refine g_iconst rfl rfl rfl (pc' := 64) ?_
    refine g_ic_eq rfl (pc' := 67) (pt := 70) rfl rfl ⟨fun hc => ?_, fun hc => ?_⟩
    · have H := H.1 hc
      refine g_aload (r := some _) rfl rfl rfl (pc' := 71) ?_
      refine g_iload rfl rfl rfl (pc' := 73) ?_
      refine g_aload (r := some _) rfl rfl rfl (pc' := 74) ?_
      refine t_getI rfl hT rfl rfl (pc' := 77) rfl ?_
      refine g_iconst rfl rfl rfl (pc' := 78) ?_
      refine t_call hT (y := 115) (n := 4) (pc' := 81) rfl rfl (t_vt hT rfl rfl) rfl rfl ⟨(Nat.le_of_ble_eq_true rfl), (Nat.le_of_ble_eq_true rfl), (Nat.le_of_ble_eq_true rfl)⟩ rfl H (tI_elim (fun v3 h2 H hT => ?_))
      show gm_G _ 81 _ _ _ _
      refine g_if_ne rfl (pc' := 84) (pt := 87) rfl rfl ⟨fun hc => ?_, fun hc => ?_⟩
      · have H := H.1 hc
        refine g_iconst rfl rfl rfl (pc' := 88) ?_
        refine g_istore rfl rfl rfl (pc' := 90) ?_
        exact g_weak (show gm_Lle [some _, some _, none, none, none, some _, some _, some _, some _, some _, some _, some _] _ from ⟨rfl, ⟨rfl, ⟨rfl, ⟨rfl, ⟨rfl, ⟨rfl, ⟨rfl, ⟨rfl, ⟨rfl, trivial⟩⟩⟩⟩⟩⟩⟩⟩⟩) H
      · have H := H.2 hc
        refine g_iconst rfl rfl rfl (pc' := 86) ?_
        exact g_ireturn rfl (Or.inl rfl) H
    · have H := H.2 hc
      refine g_iconst rfl rfl rfl (pc' := 69) ?_
      exact g_ireturn rfl (Or.inl rfl) H
theorem w_308_90 {m : Nat} {x1 : Int32} {x5 : Int32} {x6 : Int32} {x7 : Int32} {x8 : Int32} {x9 : Int32} {x10 : Int32} {x11 : Int32} {h : hh_T} {Q : Option Value ⊕ Nat → hh_T → Prop} (hT : tw_ok h m) (H : (¬ x11 < x6 → (gm_G 308 118 [some (.ref m), some (.int x1), none, none, none, some (.int x5), some (.int x6), some (.int x7), some (.int x8), some (.int x9), some (.int x10), some (.int x11)] [] h Q)) ∧ (x11 < x6 → (∃ n1, gm_ix (x7 + x11) n1 1024 ∧ (((hh_i h (m + 85) n1) = (Int32.ofNat 47) → (gm_G 308 118 [some (.ref m), some (.int x1), none, none, none, some (.int x5), some (.int x6), some (.int x7), some (.int x8), some (.int x9), some (.int x10), some (.int x11)] [] h Q)) ∧ (¬ (hh_i h (m + 85) n1) = (Int32.ofNat 47) → (gm_G 308 90 [some (.ref m), some (.int x1), none, none, none, some (.int x5), some (.int x6), some (.int x7), some (.int x8), some (.int x9), some (.int x10), some (.int (x11 + (Int32.ofNat 1)))] [] h Q)))))) : gm_G 308 90 [some (.ref m), some (.int x1), none, none, none, some (.int x5), some (.int x6), some (.int x7), some (.int x8), some (.int x9), some (.int x10), some (.int x11)] [] h Q := by
  refine g_iload rfl rfl rfl (pc' := 92) ?_
  refine g_iload rfl rfl rfl (pc' := 94) ?_
  refine g_ic_ge rfl (pc' := 97) (pt := 118) rfl rfl ⟨fun hc => ?_, fun hc => ?_⟩
  · have H := H.1 hc
    exact g_weak (show gm_Lle [some _, some _, none, none, none, some _, some _, some _, some _, some _, some _, some _] _ from ⟨rfl, ⟨rfl, ⟨rfl, ⟨rfl, ⟨rfl, ⟨rfl, ⟨rfl, ⟨rfl, ⟨rfl, trivial⟩⟩⟩⟩⟩⟩⟩⟩⟩) H
  · have H := H.2 hc
    refine g_aload (r := some _) rfl rfl rfl (pc' := 98) ?_
    refine t_get (o := 85) rfl hT rfl rfl rfl (pc' := 101) rfl ?_
    refine g_iload rfl rfl rfl (pc' := 103) ?_
    refine g_iload rfl rfl rfl (pc' := 105) ?_
    refine g_iadd rfl rfl (pc' := 106) ?_
    obtain ⟨n1, hn1, H⟩ := H
    refine t_baload hT (o := 85) (l := 1024) rfl rfl rfl hn1 (pc' := 107) rfl ?_
    refine g_iconst rfl rfl rfl (pc' := 109) ?_
    refine g_ic_eq rfl (pc' := 112) (pt := 118) rfl rfl ⟨fun hc => ?_, fun hc => ?_⟩
    · have H := H.1 hc
      exact g_weak (show gm_Lle [some _, some _, none, none, none, some _, some _, some _, some _, some _, some _, some _] _ from ⟨rfl, ⟨rfl, ⟨rfl, ⟨rfl, ⟨rfl, ⟨rfl, ⟨rfl, ⟨rfl, ⟨rfl, trivial⟩⟩⟩⟩⟩⟩⟩⟩⟩) H
    · have H := H.2 hc
      refine g_iinc (c := (Int32.ofNat 1)) rfl rfl rfl rfl rfl (pc' := 115) ?_
      refine g_goto rfl (pc' := 90) rfl ?_
      exact g_weak (show gm_Lle [some _, some _, none, none, none, some _, some _, some _, some _, some _, some _, some _] _ from ⟨rfl, ⟨rfl, ⟨rfl, ⟨rfl, ⟨rfl, ⟨rfl, ⟨rfl, ⟨rfl, ⟨rfl, trivial⟩⟩⟩⟩⟩⟩⟩⟩⟩) H
theorem w_308_118 {m : Nat} {x1 : Int32} {x5 : Int32} {x6 : Int32} {x7 : Int32} {x8 : Int32} {x9 : Int32} {x10 : Int32} {x11 : Int32} {h : hh_T} {Q : Option Value ⊕ Nat → hh_T → Prop} (hT : tw_ok h m) (H : (¬ x11 = x6 → (gm_G 308 134 [some (.ref m), some (.int x1), none, none, none, some (.int x5), some (.int x6), some (.int x7), some (.int x8), some (.int x9), some (.int x10), some (.int x11), some (.int x7)] [.int (Int32.ofNat 0)] h Q)) ∧ (x11 = x6 → (gm_G 308 134 [some (.ref m), some (.int x1), none, none, none, some (.int x5), some (.int x6), some (.int x7), some (.int x8), some (.int x9), some (.int x10), some (.int x11), some (.int x7)] [.int (Int32.ofNat 1)] h Q))) : gm_G 308 118 [some (.ref m), some (.int x1), none, none, none, some (.int x5), some (.int x6), some (.int x7), some (.int x8), some (.int x9), some (.int x10), some (.int x11)] [] h Q := by
  refine g_iload rfl rfl rfl (pc' := 120) ?_
  refine g_istore rfl rfl rfl (pc' := 122) ?_
  refine g_iload rfl rfl rfl (pc' := 124) ?_
  refine g_iload rfl rfl rfl (pc' := 126) ?_
  refine g_ic_ne rfl (pc' := 129) (pt := 133) rfl rfl ⟨fun hc => ?_, fun hc => ?_⟩
  · have H := H.1 hc
    refine g_iconst rfl rfl rfl (pc' := 134) ?_
    exact g_weak (show gm_Lle [some _, some _, none, none, none, some _, some _, some _, some _, some _, some _, some _, some _] _ from ⟨rfl, ⟨rfl, ⟨rfl, ⟨rfl, ⟨rfl, ⟨rfl, ⟨rfl, ⟨rfl, ⟨rfl, ⟨rfl, trivial⟩⟩⟩⟩⟩⟩⟩⟩⟩⟩) H
  · have H := H.2 hc
    refine g_iconst rfl rfl rfl (pc' := 130) ?_
    refine g_goto rfl (pc' := 134) rfl ?_
    exact g_weak (show gm_Lle [some _, some _, none, none, none, some _, some _, some _, some _, some _, some _, some _, some _] _ from ⟨rfl, ⟨rfl, ⟨rfl, ⟨rfl, ⟨rfl, ⟨rfl, ⟨rfl, ⟨rfl, ⟨rfl, ⟨rfl, trivial⟩⟩⟩⟩⟩⟩⟩⟩⟩⟩) H
theorem w_308_134 {m : Nat} {x1 : Int32} {x5 : Int32} {x6 : Int32} {x7 : Int32} {x8 : Int32} {x9 : Int32} {x10 : Int32} {x11 : Int32} {x12 : Int32} {y0 : Int32} {h : hh_T} {Q : Option Value ⊕ Nat → hh_T → Prop} (hT : tw_ok h m) (H : (y0 = Int32.ofNat 0 → (gm_G 308 152 [some (.ref m), some (.int x1), none, none, none, some (.int x5), some (.int x6), none, some (.int x8), some (.int x9), some (.int x10), some (.int x11), some (.int x12), some (.int y0)] [.int (x11 + (Int32.ofNat 1)), .int x7] h Q)) ∧ (¬ y0 = Int32.ofNat 0 → (gm_G 308 152 [some (.ref m), some (.int x1), none, none, none, some (.int x5), some (.int x6), none, some (.int x8), some (.int x9), some (.int x10), some (.int x11), some (.int x12), some (.int y0)] [.int x11, .int x7] h Q))) : gm_G 308 134 [some (.ref m), some (.int x1), none, none, none, some (.int x5), some (.int x6), some (.int x7), some (.int x8), some (.int x9), some (.int x10), some (.int x11), some (.int x12)] [.int y0] h Q := by
  refine g_istore rfl rfl rfl (pc' := 136) ?_
  refine g_iload rfl rfl rfl (pc' := 138) ?_
  refine g_iload rfl rfl rfl (pc' := 140) ?_
  refine g_if_eq rfl (pc' := 143) (pt := 148) rfl rfl ⟨fun hc => ?_, fun hc => ?_⟩
  · have H := H.1 hc
    refine g_iload rfl rfl rfl (pc' := 150) ?_
    refine g_iconst rfl rfl rfl (pc' := 151) ?_
    refine g_iadd rfl rfl (pc' := 152) ?_
    exact g_weak (show gm_Lle [some _, some _, none, none, none, some _, some _, none, some _, some _, some _, some _, some _, some _] _ from ⟨rfl, ⟨rfl, ⟨rfl, ⟨rfl, ⟨rfl, ⟨rfl, ⟨rfl, ⟨rfl, ⟨rfl, ⟨rfl, trivial⟩⟩⟩⟩⟩⟩⟩⟩⟩⟩) H
  · have H := H.2 hc
    refine g_iload rfl rfl rfl (pc' := 145) ?_
    refine g_goto rfl (pc' := 152) rfl ?_
    exact g_weak (show gm_Lle [some _, some _, none, none, none, some _, some _, none, some _, some _, some _, some _, some _, some _] _ from ⟨rfl, ⟨rfl, ⟨rfl, ⟨rfl, ⟨rfl, ⟨rfl, ⟨rfl, ⟨rfl, ⟨rfl, ⟨rfl, trivial⟩⟩⟩⟩⟩⟩⟩⟩⟩⟩) H
theorem w_308_152 {m : Nat} {x1 : Int32} {x5 : Int32} {x6 : Int32} {x8 : Int32} {x9 : Int32} {x10 : Int32} {x11 : Int32} {x12 : Int32} {x13 : Int32} {y0 : Int32} {y1 : Int32} {h : hh_T} {Q : Option Value ⊕ Nat → hh_T → Prop} (hT : tw_ok h m) (H : (x13 = Int32.ofNat 0 → (gm_G 308 171 [some (.ref m), some (.int x1), none, none, none, some (.int x5), none, some (.int (y1 + y0)), some (.int x8), some (.int x9), some (.int x10), some (.int x11), some (.int x12), some (.int x13)] [.int (x11 + (Int32.ofNat 1)), .int x6] h Q)) ∧ (¬ x13 = Int32.ofNat 0 → (gm_G 308 171 [some (.ref m), some (.int x1), none, none, none, some (.int x5), none, some (.int (y1 + y0)), some (.int x8), some (.int x9), some (.int x10), some (.int x11), some (.int x12), some (.int x13)] [.int x11, .int x6] h Q))) : gm_G 308 152 [some (.ref m), some (.int x1), none, none, none, some (.int x5), some (.int x6), none, some (.int x8), some (.int x9), some (.int x10), some (.int x11), some (.int x12), some (.int x13)] [.int y0, .int y1] h Q := by
  refine g_iadd rfl rfl (pc' := 153) ?_
  refine g_istore rfl rfl rfl (pc' := 155) ?_
  refine g_iload rfl rfl rfl (pc' := 157) ?_
  refine g_iload rfl rfl rfl (pc' := 159) ?_
  refine g_if_eq rfl (pc' := 162) (pt := 167) rfl rfl ⟨fun hc => ?_, fun hc => ?_⟩
  · have H := H.1 hc
    refine g_iload rfl rfl rfl (pc' := 169) ?_
    refine g_iconst rfl rfl rfl (pc' := 170) ?_
    refine g_iadd rfl rfl (pc' := 171) ?_
    exact g_weak (show gm_Lle [some _, some _, none, none, none, some _, none, some _, some _, some _, some _, some _, some _, some _] _ from ⟨rfl, ⟨rfl, ⟨rfl, ⟨rfl, ⟨rfl, ⟨rfl, ⟨rfl, ⟨rfl, ⟨rfl, ⟨rfl, trivial⟩⟩⟩⟩⟩⟩⟩⟩⟩⟩) H
  · have H := H.2 hc
    refine g_iload rfl rfl rfl (pc' := 164) ?_
    refine g_goto rfl (pc' := 171) rfl ?_
    exact g_weak (show gm_Lle [some _, some _, none, none, none, some _, none, some _, some _, some _, some _, some _, some _, some _] _ from ⟨rfl, ⟨rfl, ⟨rfl, ⟨rfl, ⟨rfl, ⟨rfl, ⟨rfl, ⟨rfl, ⟨rfl, ⟨rfl, trivial⟩⟩⟩⟩⟩⟩⟩⟩⟩⟩) H
theorem w_308_171 {m : Nat} {x1 : Int32} {x5 : Int32} {x7 : Int32} {x8 : Int32} {x9 : Int32} {x10 : Int32} {x11 : Int32} {x12 : Int32} {x13 : Int32} {y0 : Int32} {y1 : Int32} {h : hh_T} {Q : Option Value ⊕ Nat → hh_T → Prop} (hT : tw_ok h m) (H : gm_G 119 0 [some (.ref (m + 85)), some (.int x12), some (.int x11)] [] h (pI (fun v2 h1 => (v2 = Int32.ofNat 0 → (gm_G 106 0 [some (.ref m), some (.int x10), some (.ref (m + 85)), some (.int x12), some (.int x11)] [] h1 (pI (fun v4 h3 => (¬ v4 < Int32.ofNat 0 → (∃ n5, gm_ix (((Int32.ofNat 8) * x10) + v4) n5 12288 ∧ (∃ n6, gm_ix (((Int32.ofNat 16) * x1) + (hh_i h3 (m + 53) n5)) n6 1536 ∧ ((¬ (hh_i h3 (m + 40) n6) = (Int32.ofNat 3) → (gm_G 308 275 [some (.ref m), some (.int x1), none, none, none, some (.int x5), some (.int (y1 - y0)), some (.int x7), some (.int x8), none, none, none, none, none, none, some (.int (hh_i h3 (m + 53) n5))] [] h3 Q)) ∧ ((hh_i h3 (m + 40) n6) = (Int32.ofNat 3) → ((x13 = Int32.ofNat 0 → (gm_G 308 282 [some (.ref m), some (.int x1), none, none, none, some (.int x5), some (.int (y1 - y0)), some (.int x7), some (.int x8), none, none, none, none, none, none, none, some (.int (((Int32.ofNat 16) * x1) + (hh_i h3 (m + 53) n5)))] [] h3 Q)) ∧ (¬ x13 = Int32.ofNat 0 → ((¬ x5 = Int32.ofNat 0 → (gm_G 308 282 [some (.ref m), some (.int x1), none, none, none, some (.int x5), some (.int (y1 - y0)), some (.int x7), some (.int x8), none, none, none, none, none, none, none, some (.int (((Int32.ofNat 16) * x1) + (hh_i h3 (m + 53) n5)))] [] h3 Q)) ∧ (x5 = Int32.ofNat 0 → (gm_G 308 275 [some (.ref m), some (.int x1), none, none, none, some (.int x5), some (.int (y1 - y0)), some (.int x7), some (.int x8), none, none, none, none, none, none, some (.int (hh_i h3 (m + 53) n5))] [] h3 Q)))))))))) ∧ (v4 < Int32.ofNat 0 → (Q (.inl (some (.int (Int32.ofInt (-2))))) h3))) (fun _ _ => False)))) ∧ (¬ v2 = Int32.ofNat 0 → ((¬ x11 = (Int32.ofNat 2) → (gm_G 308 42 [some (.ref m), some (.int x1), none, none, none, some (.int x5), some (.int (y1 - y0)), some (.int x7), some (.int x8), some (.int x9)] [] h1 Q)) ∧ (x11 = (Int32.ofNat 2) → (∃ n7, gm_ix x10 n7 1536 ∧ (gm_G 308 42 [some (.ref m), some (.int x1), none, none, none, some (.int x5), some (.int (y1 - y0)), some (.int x7), some (.int x8), some (.int (hh_i h1 (m + 48) n7))] [] h1 Q)))))) (fun _ _ => False))) : gm_G 308 171 [some (.ref m), some (.int x1), none, none, none, some (.int x5), none, some (.int x7), some (.int x8), some (.int x9), some (.int x10), some (.int x11), some (.int x12), some (.int x13)] [.int y0, .int y1] h Q := by
  refine g_isub rfl rfl (pc' := 172) ?_
  refine g_istore rfl rfl rfl (pc' := 174) ?_
  refine g_aload (r := some _) rfl rfl rfl (pc' := 175) ?_
  refine t_get (o := 85) rfl hT rfl rfl rfl (pc' := 178) rfl ?_
  refine g_iload rfl rfl rfl (pc' := 180) ?_
  refine g_iload rfl rfl rfl (pc' := 182) ?_
  refine t_call hT (y := 119) (n := 3) (pc' := 185) rfl rfl (fun _ => rfl) rfl rfl ⟨(Nat.le_of_ble_eq_true rfl), (Nat.le_of_ble_eq_true rfl), (Nat.le_of_ble_eq_true rfl)⟩ rfl H (tI_elim (fun v2 h1 H hT => ?_))
  show gm_G _ 185 _ _ _ _
  refine g_if_eq rfl (pc' := 188) (pt := 206) rfl rfl ⟨fun hc => ?_, fun hc => ?_⟩
  · have H := H.1 hc
    refine g_aload (r := some _) rfl rfl rfl (pc' := 207) ?_
    refine g_iload rfl rfl rfl (pc' := 209) ?_
    refine g_aload (r := some _) rfl rfl rfl (pc' := 210) ?_
    refine t_get (o := 85) rfl hT rfl rfl rfl (pc' := 213) rfl ?_
    refine g_iload rfl rfl rfl (pc' := 215) ?_
    refine g_iload rfl rfl rfl (pc' := 217) ?_
    refine t_call hT (y := 106) (n := 5) (pc' := 220) rfl rfl (t_vt hT rfl rfl) rfl rfl ⟨(Nat.le_of_ble_eq_true rfl), (Nat.le_of_ble_eq_true rfl), (Nat.le_of_ble_eq_true rfl)⟩ rfl H (tI_elim (fun v4 h3 H hT => ?_))
    show gm_G _ 220 _ _ _ _
    refine g_istore rfl rfl rfl (pc' := 222) ?_
    refine g_iload rfl rfl rfl (pc' := 224) ?_
    refine g_if_ge rfl (pc' := 227) (pt := 230) rfl rfl ⟨fun hc => ?_, fun hc => ?_⟩
    · have H := H.1 hc
      refine g_aload (r := some _) rfl rfl rfl (pc' := 231) ?_
      refine t_get (o := 53) rfl hT rfl rfl rfl (pc' := 234) rfl ?_
      refine g_iconst rfl rfl rfl (pc' := 236) ?_
      refine g_iload rfl rfl rfl (pc' := 238) ?_
      refine g_imul rfl rfl (pc' := 239) ?_
      refine g_iload rfl rfl rfl (pc' := 241) ?_
      refine g_iadd rfl rfl (pc' := 242) ?_
      obtain ⟨n5, hn5, H⟩ := H
      refine t_iaload hT (o := 53) (l := 12288) rfl rfl rfl hn5 (pc' := 243) rfl ?_
      refine g_istore rfl rfl rfl (pc' := 245) ?_
      refine g_iconst rfl rfl rfl (pc' := 247) ?_
      refine g_iload rfl rfl rfl (pc' := 248) ?_
      refine g_imul rfl rfl (pc' := 249) ?_
      refine g_iload rfl rfl rfl (pc' := 251) ?_
      refine g_iadd rfl rfl (pc' := 252) ?_
      refine g_istore rfl rfl rfl (pc' := 254) ?_
      refine g_aload (r := some _) rfl rfl rfl (pc' := 255) ?_
      refine t_get (o := 40) rfl hT rfl rfl rfl (pc' := 258) rfl ?_
      refine g_iload rfl rfl rfl (pc' := 260) ?_
      obtain ⟨n6, hn6, H⟩ := H
      refine t_iaload hT (o := 40) (l := 1536) rfl rfl rfl hn6 (pc' := 261) rfl ?_
      refine g_iconst rfl rfl rfl (pc' := 262) ?_
      refine g_ic_ne rfl (pc' := 265) (pt := 275) rfl rfl ⟨fun hc => ?_, fun hc => ?_⟩
      · have H := H.1 hc
        exact g_weak (show gm_Lle [some _, some _, none, none, none, some _, some _, some _, some _, none, none, none, none, none, none, some _] _ from ⟨rfl, ⟨rfl, ⟨rfl, ⟨rfl, ⟨rfl, ⟨rfl, ⟨rfl, trivial⟩⟩⟩⟩⟩⟩⟩) H
      · have H := H.2 hc
        refine g_iload rfl rfl rfl (pc' := 267) ?_
        refine g_if_eq rfl (pc' := 270) (pt := 282) rfl rfl ⟨fun hc => ?_, fun hc => ?_⟩
        · have H := H.1 hc
          exact g_weak (show gm_Lle [some _, some _, none, none, none, some _, some _, some _, some _, none, none, none, none, none, none, none, some _] _ from ⟨rfl, ⟨rfl, ⟨rfl, ⟨rfl, ⟨rfl, ⟨rfl, ⟨rfl, trivial⟩⟩⟩⟩⟩⟩⟩) H
        · have H := H.2 hc
          refine g_iload rfl rfl rfl (pc' := 272) ?_
          refine g_if_ne rfl (pc' := 275) (pt := 282) rfl rfl ⟨fun hc => ?_, fun hc => ?_⟩
          · have H := H.1 hc
            exact g_weak (show gm_Lle [some _, some _, none, none, none, some _, some _, some _, some _, none, none, none, none, none, none, none, some _] _ from ⟨rfl, ⟨rfl, ⟨rfl, ⟨rfl, ⟨rfl, ⟨rfl, ⟨rfl, trivial⟩⟩⟩⟩⟩⟩⟩) H
          · have H := H.2 hc
            exact g_weak (show gm_Lle [some _, some _, none, none, none, some _, some _, some _, some _, none, none, none, none, none, none, some _] _ from ⟨rfl, ⟨rfl, ⟨rfl, ⟨rfl, ⟨rfl, ⟨rfl, ⟨rfl, trivial⟩⟩⟩⟩⟩⟩⟩) H
    · have H := H.2 hc
      refine g_iconst rfl rfl rfl (pc' := 229) ?_
      exact g_ireturn rfl (Or.inl rfl) H
  · have H := H.2 hc
    refine g_iload rfl rfl rfl (pc' := 190) ?_
    refine g_iconst rfl rfl rfl (pc' := 191) ?_
    refine g_ic_ne rfl (pc' := 194) (pt := 42) rfl rfl ⟨fun hc => ?_, fun hc => ?_⟩
    · have H := H.1 hc
      exact g_weak (show gm_Lle [some _, some _, none, none, none, some _, some _, some _, some _, some _] _ from ⟨rfl, ⟨rfl, ⟨rfl, ⟨rfl, ⟨rfl, ⟨rfl, ⟨rfl, trivial⟩⟩⟩⟩⟩⟩⟩) H
    · have H := H.2 hc
      refine g_aload (r := some _) rfl rfl rfl (pc' := 195) ?_
      refine t_get (o := 48) rfl hT rfl rfl rfl (pc' := 198) rfl ?_
      refine g_iload rfl rfl rfl (pc' := 200) ?_
      obtain ⟨n7, hn7, H⟩ := H
      refine t_iaload hT (o := 48) (l := 1536) rfl rfl rfl hn7 (pc' := 201) rfl ?_
      refine g_istore rfl rfl rfl (pc' := 203) ?_
      refine g_goto rfl (pc' := 42) rfl ?_
      exact g_weak (show gm_Lle [some _, some _, none, none, none, some _, some _, some _, some _, some _] _ from ⟨rfl, ⟨rfl, ⟨rfl, ⟨rfl, ⟨rfl, ⟨rfl, ⟨rfl, trivial⟩⟩⟩⟩⟩⟩⟩) H
theorem w_308_275 {m : Nat} {x1 : Int32} {x5 : Int32} {x6 : Int32} {x7 : Int32} {x8 : Int32} {x15 : Int32} {h : hh_T} {Q : Option Value ⊕ Nat → hh_T → Prop} (hT : tw_ok h m) (H : gm_G 308 42 [some (.ref m), some (.int x1), none, none, none, some (.int x5), some (.int x6), some (.int x7), some (.int x8), some (.int x15)] [] h Q) : gm_G 308 275 [some (.ref m), some (.int x1), none, none, none, some (.int x5), some (.int x6), some (.int x7), some (.int x8), none, none, none, none, none, none, some (.int x15)] [] h Q := by
  refine g_iload rfl rfl rfl (pc' := 277) ?_
  refine g_istore rfl rfl rfl (pc' := 279) ?_
  refine g_goto rfl (pc' := 42) rfl ?_
  exact g_weak (show gm_Lle [some _, some _, none, none, none, some _, some _, some _, some _, some _] _ from ⟨rfl, ⟨rfl, ⟨rfl, ⟨rfl, ⟨rfl, ⟨rfl, ⟨rfl, trivial⟩⟩⟩⟩⟩⟩⟩) H
theorem w_308_282 {m : Nat} {x1 : Int32} {x5 : Int32} {x6 : Int32} {x7 : Int32} {x8 : Int32} {x16 : Int32} {h : hh_T} {Q : Option Value ⊕ Nat → hh_T → Prop} (hT : tw_ok h m) (H : (¬ (x8 + (Int32.ofNat 1)) = (Int32.ofNat 7) → (gm_G 308 301 [some (.ref m), some (.int x1), none, none, none, some (.int x5), some (.int x6), some (.int x7), some (.int (x8 + (Int32.ofNat 1))), none, none, none, none, none, none, none, some (.int x16), some (.int (Int32.ofNat 0)), some (.int (Int32.ofNat 0))] [] h Q)) ∧ ((x8 + (Int32.ofNat 1)) = (Int32.ofNat 7) → (Q (.inl (some (.int (Int32.ofInt (-15))))) h))) : gm_G 308 282 [some (.ref m), some (.int x1), none, none, none, some (.int x5), some (.int x6), some (.int x7), some (.int x8), none, none, none, none, none, none, none, some (.int x16)] [] h Q := by
  refine g_iinc (c := (Int32.ofNat 1)) rfl rfl rfl rfl rfl (pc' := 285) ?_
  refine g_iload rfl rfl rfl (pc' := 287) ?_
  refine g_iconst rfl rfl rfl (pc' := 289) ?_
  refine g_ic_ne rfl (pc' := 292) (pt := 295) rfl rfl ⟨fun hc => ?_, fun hc => ?_⟩
  · have H := H.1 hc
    refine g_iconst rfl rfl rfl (pc' := 296) ?_
    refine g_istore rfl rfl rfl (pc' := 298) ?_
    refine g_iconst rfl rfl rfl (pc' := 299) ?_
    refine g_istore rfl rfl rfl (pc' := 301) ?_
    exact g_weak (show gm_Lle [some _, some _, none, none, none, some _, some _, some _, some _, none, none, none, none, none, none, none, some _, some _, some _] _ from ⟨rfl, ⟨rfl, ⟨rfl, ⟨rfl, ⟨rfl, ⟨rfl, ⟨rfl, ⟨rfl, ⟨rfl, trivial⟩⟩⟩⟩⟩⟩⟩⟩⟩) H
  · have H := H.2 hc
    refine g_iconst rfl rfl rfl (pc' := 294) ?_
    exact g_ireturn rfl (Or.inl rfl) H
theorem w_308_301 {m : Nat} {x1 : Int32} {x5 : Int32} {x6 : Int32} {x7 : Int32} {x8 : Int32} {x16 : Int32} {x17 : Int32} {x18 : Int32} {h : hh_T} {Q : Option Value ⊕ Nat → hh_T → Prop} (hT : tw_ok h m) (H : ∃ n1, gm_ix x16 n1 1536 ∧ ((¬ x18 < (hh_i h (m + 45) n1) → ((¬ Int32.ofNat 0 < x6 → (gm_G 308 364 [some (.ref m), some (.int x1), none, none, none, some (.int x5), some (.int x6), some (.int x7), some (.int x8), none, none, none, none, none, none, none, none, some (.int x17)] [] h Q)) ∧ (Int32.ofNat 0 < x6 → ((¬ Int32.ofNat 0 < x17 → (gm_G 308 364 [some (.ref m), some (.int x1), none, none, none, some (.int x5), some (.int x6), some (.int x7), some (.int x8), none, none, none, none, none, none, none, none, some (.int x17)] [] h Q)) ∧ (Int32.ofNat 0 < x17 → (∃ n2, gm_ix x17 n2 1024 ∧ (∀ h3, h3 = hh_wi h (m + 86) n2 ((Int32.ofNat 47).toInt8.toInt32) → (gm_G 308 364 [some (.ref m), some (.int x1), none, none, none, some (.int x5), some (.int x6), some (.int x7), some (.int x8), none, none, none, none, none, none, none, none, some (.int (x17 + (Int32.ofNat 1)))] [] h3 Q)))))))) ∧ (x18 < (hh_i h (m + 45) n1) → (∃ n4, gm_ix (((Int32.ofNat 24) * x16) + x18) n4 36864 ∧ (∃ n5, gm_ix x17 n5 1024 ∧ (∀ h6, h6 = hh_wi h (m + 86) n5 ((hh_i h (m + 57) n4).toInt8.toInt32) → (gm_G 308 301 [some (.ref m), some (.int x1), none, none, none, some (.int x5), some (.int x6), some (.int x7), some (.int x8), none, none, none, none, none, none, none, some (.int x16), some (.int (x17 + (Int32.ofNat 1))), some (.int (x18 + (Int32.ofNat 1)))] [] h6 Q))))))) : gm_G 308 301 [some (.ref m), some (.int x1), none, none, none, some (.int x5), some (.int x6), some (.int x7), some (.int x8), none, none, none, none, none, none, none, some (.int x16), some (.int x17), some (.int x18)] [] h Q := by
  refine g_iload rfl rfl rfl (pc' := 303) ?_
  refine g_aload (r := some _) rfl rfl rfl (pc' := 304) ?_
  refine t_get (o := 45) rfl hT rfl rfl rfl (pc' := 307) rfl ?_
  refine g_iload rfl rfl rfl (pc' := 309) ?_
  obtain ⟨n1, hn1, H⟩ := H
  refine t_iaload hT (o := 45) (l := 1536) rfl rfl rfl hn1 (pc' := 310) rfl ?_
  refine g_ic_ge rfl (pc' := 313) (pt := 342) rfl rfl ⟨fun hc => ?_, fun hc => ?_⟩
  · have H := H.1 hc
    refine g_iload rfl rfl rfl (pc' := 344) ?_
    refine g_if_le rfl (pc' := 347) (pt := 364) rfl rfl ⟨fun hc => ?_, fun hc => ?_⟩
    · have H := H.1 hc
      exact g_weak (show gm_Lle [some _, some _, none, none, none, some _, some _, some _, some _, none, none, none, none, none, none, none, none, some _] _ from ⟨rfl, ⟨rfl, ⟨rfl, ⟨rfl, ⟨rfl, ⟨rfl, ⟨rfl, trivial⟩⟩⟩⟩⟩⟩⟩) H
    · have H := H.2 hc
      refine g_iload rfl rfl rfl (pc' := 349) ?_
      refine g_if_le rfl (pc' := 352) (pt := 364) rfl rfl ⟨fun hc => ?_, fun hc => ?_⟩
      · have H := H.1 hc
        exact g_weak (show gm_Lle [some _, some _, none, none, none, some _, some _, some _, some _, none, none, none, none, none, none, none, none, some _] _ from ⟨rfl, ⟨rfl, ⟨rfl, ⟨rfl, ⟨rfl, ⟨rfl, ⟨rfl, trivial⟩⟩⟩⟩⟩⟩⟩) H
      · have H := H.2 hc
        refine g_aload (r := some _) rfl rfl rfl (pc' := 353) ?_
        refine t_get (o := 86) rfl hT rfl rfl rfl (pc' := 356) rfl ?_
        refine g_iload rfl rfl rfl (pc' := 358) ?_
        refine g_iinc (c := (Int32.ofNat 1)) rfl rfl rfl rfl rfl (pc' := 361) ?_
        refine g_iconst rfl rfl rfl (pc' := 363) ?_
        obtain ⟨n2, hn2, H⟩ := H
        refine t_bastore hT (o := 86) (l := 1024) rfl rfl rfl hn2  (pc' := 364) rfl (fun hT => ?_)
        have H := H _ rfl
        exact g_weak (show gm_Lle [some _, some _, none, none, none, some _, some _, some _, some _, none, none, none, none, none, none, none, none, some _] _ from ⟨rfl, ⟨rfl, ⟨rfl, ⟨rfl, ⟨rfl, ⟨rfl, ⟨rfl, trivial⟩⟩⟩⟩⟩⟩⟩) H
  · have H := H.2 hc
    refine g_aload (r := some _) rfl rfl rfl (pc' := 314) ?_
    refine t_get (o := 86) rfl hT rfl rfl rfl (pc' := 317) rfl ?_
    refine g_iload rfl rfl rfl (pc' := 319) ?_
    refine g_iinc (c := (Int32.ofNat 1)) rfl rfl rfl rfl rfl (pc' := 322) ?_
    refine g_aload (r := some _) rfl rfl rfl (pc' := 323) ?_
    refine t_get (o := 57) rfl hT rfl rfl rfl (pc' := 326) rfl ?_
    refine g_iconst rfl rfl rfl (pc' := 328) ?_
    refine g_iload rfl rfl rfl (pc' := 330) ?_
    refine g_imul rfl rfl (pc' := 331) ?_
    refine g_iload rfl rfl rfl (pc' := 333) ?_
    refine g_iadd rfl rfl (pc' := 334) ?_
    obtain ⟨n4, hn4, H⟩ := H
    refine t_baload hT (o := 57) (l := 36864) rfl rfl rfl hn4 (pc' := 335) rfl ?_
    obtain ⟨n5, hn5, H⟩ := H
    refine t_bastore hT (o := 86) (l := 1024) rfl rfl rfl hn5  (pc' := 336) rfl (fun hT => ?_)
    have H := H _ rfl
    refine g_iinc (c := (Int32.ofNat 1)) rfl rfl rfl rfl rfl (pc' := 339) ?_
    refine g_goto rfl (pc' := 301) rfl ?_
    exact g_weak (show gm_Lle [some _, some _, none, none, none, some _, some _, some _, some _, none, none, none, none, none, none, none, some _, some _, some _] _ from ⟨rfl, ⟨rfl, ⟨rfl, ⟨rfl, ⟨rfl, ⟨rfl, ⟨rfl, ⟨rfl, ⟨rfl, trivial⟩⟩⟩⟩⟩⟩⟩⟩⟩) H
theorem w_308_364 {m : Nat} {x1 : Int32} {x5 : Int32} {x6 : Int32} {x7 : Int32} {x8 : Int32} {x17 : Int32} {h : hh_T} {Q : Option Value ⊕ Nat → hh_T → Prop} (hT : tw_ok h m) (H : gm_G 308 367 [some (.ref m), some (.int x1), none, none, none, some (.int x5), some (.int x6), some (.int x7), some (.int x8), none, none, none, none, none, none, none, none, some (.int x17), some (.int (Int32.ofNat 0))] [] h Q) : gm_G 308 364 [some (.ref m), some (.int x1), none, none, none, some (.int x5), some (.int x6), some (.int x7), some (.int x8), none, none, none, none, none, none, none, none, some (.int x17)] [] h Q := by
  refine g_iconst rfl rfl rfl (pc' := 365) ?_
  refine g_istore rfl rfl rfl (pc' := 367) ?_
  exact g_weak (show gm_Lle [some _, some _, none, none, none, some _, some _, some _, some _, none, none, none, none, none, none, none, none, some _, some _] _ from ⟨rfl, ⟨rfl, ⟨rfl, ⟨rfl, ⟨rfl, ⟨rfl, ⟨rfl, ⟨rfl, trivial⟩⟩⟩⟩⟩⟩⟩⟩) H
theorem w_308_367 {m : Nat} {x1 : Int32} {x5 : Int32} {x6 : Int32} {x7 : Int32} {x8 : Int32} {x17 : Int32} {x18 : Int32} {h : hh_T} {Q : Option Value ⊕ Nat → hh_T → Prop} (hT : tw_ok h m) (H : (¬ x18 < x6 → (gm_G 308 403 [some (.ref m), some (.int x1), none, none, none, some (.int x5), none, none, some (.int x8), none, none, none, none, none, none, none, none, some (.int x17), some (.int (Int32.ofNat 0))] [] h Q)) ∧ (x18 < x6 → (∃ n1, gm_ix (x7 + x18) n1 1024 ∧ (∃ n2, gm_ix x17 n2 1024 ∧ (∀ h3, h3 = hh_wi h (m + 86) n2 ((hh_i h (m + 85) n1).toInt8.toInt32) → (gm_G 308 367 [some (.ref m), some (.int x1), none, none, none, some (.int x5), some (.int x6), some (.int x7), some (.int x8), none, none, none, none, none, none, none, none, some (.int (x17 + (Int32.ofNat 1))), some (.int (x18 + (Int32.ofNat 1)))] [] h3 Q)))))) : gm_G 308 367 [some (.ref m), some (.int x1), none, none, none, some (.int x5), some (.int x6), some (.int x7), some (.int x8), none, none, none, none, none, none, none, none, some (.int x17), some (.int x18)] [] h Q := by
  refine g_iload rfl rfl rfl (pc' := 369) ?_
  refine g_iload rfl rfl rfl (pc' := 371) ?_
  refine g_ic_ge rfl (pc' := 374) (pt := 400) rfl rfl ⟨fun hc => ?_, fun hc => ?_⟩
  · have H := H.1 hc
    refine g_iconst rfl rfl rfl (pc' := 401) ?_
    refine g_istore rfl rfl rfl (pc' := 403) ?_
    exact g_weak (show gm_Lle [some _, some _, none, none, none, some _, none, none, some _, none, none, none, none, none, none, none, none, some _, some _] _ from ⟨rfl, ⟨rfl, ⟨rfl, ⟨rfl, ⟨rfl, ⟨rfl, trivial⟩⟩⟩⟩⟩⟩) H
  · have H := H.2 hc
    refine g_aload (r := some _) rfl rfl rfl (pc' := 375) ?_
    refine t_get (o := 86) rfl hT rfl rfl rfl (pc' := 378) rfl ?_
    refine g_iload rfl rfl rfl (pc' := 380) ?_
    refine g_iinc (c := (Int32.ofNat 1)) rfl rfl rfl rfl rfl (pc' := 383) ?_
    refine g_aload (r := some _) rfl rfl rfl (pc' := 384) ?_
    refine t_get (o := 85) rfl hT rfl rfl rfl (pc' := 387) rfl ?_
    refine g_iload rfl rfl rfl (pc' := 389) ?_
    refine g_iload rfl rfl rfl (pc' := 391) ?_
    refine g_iadd rfl rfl (pc' := 392) ?_
    obtain ⟨n1, hn1, H⟩ := H
    refine t_baload hT (o := 85) (l := 1024) rfl rfl rfl hn1 (pc' := 393) rfl ?_
    obtain ⟨n2, hn2, H⟩ := H
    refine t_bastore hT (o := 86) (l := 1024) rfl rfl rfl hn2  (pc' := 394) rfl (fun hT => ?_)
    have H := H _ rfl
    refine g_iinc (c := (Int32.ofNat 1)) rfl rfl rfl rfl rfl (pc' := 397) ?_
    refine g_goto rfl (pc' := 367) rfl ?_
    exact g_weak (show gm_Lle [some _, some _, none, none, none, some _, some _, some _, some _, none, none, none, none, none, none, none, none, some _, some _] _ from ⟨rfl, ⟨rfl, ⟨rfl, ⟨rfl, ⟨rfl, ⟨rfl, ⟨rfl, ⟨rfl, trivial⟩⟩⟩⟩⟩⟩⟩⟩) H
theorem w_308_403 {m : Nat} {x1 : Int32} {x5 : Int32} {x8 : Int32} {x17 : Int32} {x18 : Int32} {h : hh_T} {Q : Option Value ⊕ Nat → hh_T → Prop} (hT : tw_ok h m) (H : (¬ x18 < x17 → (gm_G 308 42 [some (.ref m), some (.int x1), none, none, none, some (.int x5), some (.int x17), some (.int (Int32.ofNat 0)), some (.int x8), some (.int (Int32.ofNat 0))] [] h Q)) ∧ (x18 < x17 → (∃ n1, gm_ix x18 n1 1024 ∧ (∃ n2, gm_ix x18 n2 1024 ∧ (∀ h3, h3 = hh_wi h (m + 85) n2 ((hh_i h (m + 86) n1).toInt8.toInt32) → (gm_G 308 403 [some (.ref m), some (.int x1), none, none, none, some (.int x5), none, none, some (.int x8), none, none, none, none, none, none, none, none, some (.int x17), some (.int (x18 + (Int32.ofNat 1)))] [] h3 Q)))))) : gm_G 308 403 [some (.ref m), some (.int x1), none, none, none, some (.int x5), none, none, some (.int x8), none, none, none, none, none, none, none, none, some (.int x17), some (.int x18)] [] h Q := by
  refine g_iload rfl rfl rfl (pc' := 405) ?_
  refine g_iload rfl rfl rfl (pc' := 407) ?_
  refine g_ic_ge rfl (pc' := 410) (pt := 430) rfl rfl ⟨fun hc => ?_, fun hc => ?_⟩
  · have H := H.1 hc
    refine g_iconst rfl rfl rfl (pc' := 431) ?_
    refine g_istore rfl rfl rfl (pc' := 433) ?_
    refine g_iload rfl rfl rfl (pc' := 435) ?_
    refine g_istore rfl rfl rfl (pc' := 437) ?_
    refine g_iconst rfl rfl rfl (pc' := 438) ?_
    refine g_istore rfl rfl rfl (pc' := 440) ?_
    refine g_goto rfl (pc' := 42) rfl ?_
    exact g_weak (show gm_Lle [some _, some _, none, none, none, some _, some _, some _, some _, some _] _ from ⟨rfl, ⟨rfl, ⟨rfl, ⟨rfl, ⟨rfl, ⟨rfl, ⟨rfl, trivial⟩⟩⟩⟩⟩⟩⟩) H
  · have H := H.2 hc
    refine g_aload (r := some _) rfl rfl rfl (pc' := 411) ?_
    refine t_get (o := 85) rfl hT rfl rfl rfl (pc' := 414) rfl ?_
    refine g_iload rfl rfl rfl (pc' := 416) ?_
    refine g_aload (r := some _) rfl rfl rfl (pc' := 417) ?_
    refine t_get (o := 86) rfl hT rfl rfl rfl (pc' := 420) rfl ?_
    refine g_iload rfl rfl rfl (pc' := 422) ?_
    obtain ⟨n1, hn1, H⟩ := H
    refine t_baload hT (o := 86) (l := 1024) rfl rfl rfl hn1 (pc' := 423) rfl ?_
    obtain ⟨n2, hn2, H⟩ := H
    refine t_bastore hT (o := 85) (l := 1024) rfl rfl rfl hn2  (pc' := 424) rfl (fun hT => ?_)
    have H := H _ rfl
    refine g_iinc (c := (Int32.ofNat 1)) rfl rfl rfl rfl rfl (pc' := 427) ?_
    refine g_goto rfl (pc' := 403) rfl ?_
    exact g_weak (show gm_Lle [some _, some _, none, none, none, some _, none, none, some _, none, none, none, none, none, none, none, none, some _, some _] _ from ⟨rfl, ⟨rfl, ⟨rfl, ⟨rfl, ⟨rfl, ⟨rfl, trivial⟩⟩⟩⟩⟩⟩) H
theorem w_309_0 {m : Nat} {x1 : Int32} {x2 : Int32} {b3 : Nat} {x4 : Int32} {h : hh_T} {Q : Option Value ⊕ Nat → hh_T → Prop} (hT : tw_ok h m) (H : ∃ n1, gm_ix x1 n1 8 ∧ (((hh_i h (m + 7) n1) = Int32.ofNat 0 → (gm_G 108 0 [some (.ref m)] [] h (pI (fun v3 h2 => (v3 = Int32.ofNat 0 → (gm_G 309 47 [some (.ref m), some (.int x1), none, some (.ref b3), some (.int x4), some (.int (((Int32.ofNat 64) * x1) + x2)), some (.int v3)] [.int (Int32.ofNat 8)] h2 Q)) ∧ (¬ v3 = Int32.ofNat 0 → (gm_G 309 47 [some (.ref m), some (.int x1), none, some (.ref b3), some (.int x4), some (.int (((Int32.ofNat 64) * x1) + x2)), some (.int v3)] [.int (hh_i h2 m 16)] h2 Q))) (fun _ _ => False)))) ∧ (¬ (hh_i h (m + 7) n1) = Int32.ofNat 0 → (∃ n4, gm_ix (((Int32.ofNat 64) * x1) + x2) n4 512 ∧ (∀ h5, h5 = hh_wi h (m + 9) n4 (Int32.ofNat 1) → (Q (.inl (some (.int (Int32.ofNat 1)))) h5)))))) : gm_G 309 0 [some (.ref m), some (.int x1), some (.int x2), some (.ref b3), some (.int x4)] [] h Q := by
  refine g_iconst rfl rfl rfl (pc' := 2) ?_
  refine g_iload rfl rfl rfl (pc' := 3) ?_
  refine g_imul rfl rfl (pc' := 4) ?_
  refine g_iload rfl rfl rfl (pc' := 5) ?_
  refine g_iadd rfl rfl (pc' := 6) ?_
  refine g_istore rfl rfl rfl (pc' := 8) ?_
  refine g_aload (r := some _) rfl rfl rfl (pc' := 9) ?_
  refine t_get (o := 7) rfl hT rfl rfl rfl (pc' := 12) rfl ?_
  refine g_iload rfl rfl rfl (pc' := 13) ?_
  obtain ⟨n1, hn1, H⟩ := H
  refine t_zaload hT (o := 7) (l := 8) rfl rfl rfl hn1 (pc' := 14) rfl ?_
  refine g_if_eq rfl (pc' := 17) (pt := 27) rfl rfl ⟨fun hc => ?_, fun hc => ?_⟩
  · have H := H.1 hc
    refine g_aload (r := some _) rfl rfl rfl (pc' := 28) ?_
    refine t_call hT (y := 108) (n := 1) (pc' := 31) rfl rfl (t_vt hT rfl rfl) rfl rfl ⟨(Nat.le_of_ble_eq_true rfl), (Nat.le_of_ble_eq_true rfl), (Nat.le_of_ble_eq_true rfl)⟩ rfl H (tI_elim (fun v3 h2 H hT => ?_))
    show gm_G _ 31 _ _ _ _
    refine g_istore rfl rfl rfl (pc' := 33) ?_
    refine g_iload rfl rfl rfl (pc' := 35) ?_
    refine g_if_eq rfl (pc' := 38) (pt := 45) rfl rfl ⟨fun hc => ?_, fun hc => ?_⟩
    · have H := H.1 hc
      refine g_iconst rfl rfl rfl (pc' := 47) ?_
      exact g_weak (show gm_Lle [some _, some _, none, some _, some _, some _, some _] _ from ⟨rfl, ⟨rfl, ⟨rfl, ⟨rfl, ⟨rfl, ⟨rfl, trivial⟩⟩⟩⟩⟩⟩) H
    · have H := H.2 hc
      refine g_aload (r := some _) rfl rfl rfl (pc' := 39) ?_
      refine t_getI rfl hT rfl rfl (pc' := 42) rfl ?_
      refine g_goto rfl (pc' := 47) rfl ?_
      exact g_weak (show gm_Lle [some _, some _, none, some _, some _, some _, some _] _ from ⟨rfl, ⟨rfl, ⟨rfl, ⟨rfl, ⟨rfl, ⟨rfl, trivial⟩⟩⟩⟩⟩⟩) H
  · have H := H.2 hc
    refine g_aload (r := some _) rfl rfl rfl (pc' := 18) ?_
    refine t_get (o := 9) rfl hT rfl rfl rfl (pc' := 21) rfl ?_
    refine g_iload rfl rfl rfl (pc' := 23) ?_
    refine g_iconst rfl rfl rfl (pc' := 24) ?_
    obtain ⟨n4, hn4, H⟩ := H
    refine t_zastore hT (o := 9) (l := 512) rfl rfl rfl hn4 (by decide) (pc' := 25) rfl (fun hT => ?_)
    have H := H _ rfl
    refine g_iconst rfl rfl rfl (pc' := 26) ?_
    exact g_ireturn rfl (Or.inr (by decide)) H
theorem w_309_47 {m : Nat} {x1 : Int32} {b3 : Nat} {x4 : Int32} {x5 : Int32} {x6 : Int32} {y0 : Int32} {h : hh_T} {Q : Option Value ⊕ Nat → hh_T → Prop} (hT : tw_ok h m) (H : gm_G 309 52 [some (.ref m), some (.int x1), none, some (.ref b3), some (.int x4), some (.int x5), some (.int x6), some (.int y0), some (.int (Int32.ofNat 0))] [] h Q) : gm_G 309 47 [some (.ref m), some (.int x1), none, some (.ref b3), some (.int x4), some (.int x5), some (.int x6)] [.int y0] h Q := by
  refine g_istore rfl rfl rfl (pc' := 49) ?_
  refine g_iconst rfl rfl rfl (pc' := 50) ?_
  refine g_istore rfl rfl rfl (pc' := 52) ?_
  exact g_weak (show gm_Lle [some _, some _, none, some _, some _, some _, some _, some _, some _] _ from ⟨rfl, ⟨rfl, ⟨rfl, ⟨rfl, ⟨rfl, ⟨rfl, ⟨rfl, ⟨rfl, trivial⟩⟩⟩⟩⟩⟩⟩⟩) H
theorem w_309_52 {m : Nat} {x1 : Int32} {b3 : Nat} {x4 : Int32} {x5 : Int32} {x6 : Int32} {x7 : Int32} {x8 : Int32} {h : hh_T} {Q : Option Value ⊕ Nat → hh_T → Prop} (hT : tw_ok h m) (H : (¬ x8 < x7 → ((x6 = Int32.ofNat 0 → (gm_G 165 0 [some (.ref m)] [] h (pV (fun h1 => ∃ n2, gm_ix x1 n2 8 ∧ (∃ n3, gm_ix x1 n3 8 ∧ (∀ h4, h4 = hh_wi h1 (m + 6) n3 ((hh_i h1 (m + 6) n2) + (Int32.ofNat 1)) → (∃ n5, gm_ix x5 n5 512 ∧ (∀ h6, h6 = hh_wi h4 (m + 8) n5 (Int32.ofNat 0) → (∃ n7, gm_ix x5 n7 512 ∧ (∀ h8, h8 = hh_wi h6 (m + 9) n7 (Int32.ofNat 0) → (Q (.inl (some (.int (Int32.ofNat 1)))) h8)))))))) (fun _ _ => False)))) ∧ (¬ x6 = Int32.ofNat 0 → (gm_G 109 0 [some (.ref m)] [] h (pV (fun h9 => Q (.inl (some (.int (Int32.ofNat 0)))) h9) (fun _ _ => False)))))) ∧ (x8 < x7 → ((hh_tg h b3 = 101 ∨ hh_tg h b3 = 102) ∧ (∃ n10, gm_ix (x4 + x8) n10 (hh_ln h b3) ∧ (∃ n12, gm_ix (((Int32.ofNat 8) * x5) + x8) n12 4096 ∧ (∀ h13, h13 = hh_wi h (m + 10) n12 ((hh_i h b3 n10).toInt8.toInt32) → (gm_G 309 52 [some (.ref m), some (.int x1), none, some (.ref b3), some (.int x4), some (.int x5), some (.int x6), some (.int x7), some (.int (x8 + (Int32.ofNat 1)))] [] h13 Q))))))) : gm_G 309 52 [some (.ref m), some (.int x1), none, some (.ref b3), some (.int x4), some (.int x5), some (.int x6), some (.int x7), some (.int x8)] [] h Q := by
  refine g_iload rfl rfl rfl (pc' := 54) ?_
  refine g_iload rfl rfl rfl (pc' := 56) ?_
  refine g_ic_ge rfl (pc' := 59) (pt := 85) rfl rfl ⟨fun hc => ?_, fun hc => ?_⟩
  · have H := H.1 hc
    refine g_iload rfl rfl rfl (pc' := 87) ?_
    refine g_if_eq rfl (pc' := 90) (pt := 96) rfl rfl ⟨fun hc => ?_, fun hc => ?_⟩
    · have H := H.1 hc
      refine g_aload (r := some _) rfl rfl rfl (pc' := 97) ?_
      refine t_call hT (y := 165) (n := 1) (pc' := 100) rfl rfl (t_vt hT rfl rfl) rfl rfl ⟨(Nat.le_of_ble_eq_true rfl), (Nat.le_of_ble_eq_true rfl), (Nat.le_of_ble_eq_true rfl)⟩ rfl H (tV_elim (fun h1 H hT => ?_))
      show gm_G _ 100 _ _ _ _
      refine g_aload (r := some _) rfl rfl rfl (pc' := 101) ?_
      refine t_get (o := 6) rfl hT rfl rfl rfl (pc' := 104) rfl ?_
      refine g_iload rfl rfl rfl (pc' := 105) ?_
      refine g_dup2_a rfl (pc' := 106) rfl ?_
      obtain ⟨n2, hn2, H⟩ := H
      refine t_iaload hT (o := 6) (l := 8) rfl rfl rfl hn2 (pc' := 107) rfl ?_
      refine g_iconst rfl rfl rfl (pc' := 108) ?_
      refine g_iadd rfl rfl (pc' := 109) ?_
      obtain ⟨n3, hn3, H⟩ := H
      refine t_iastore hT (o := 6) (l := 8) rfl rfl rfl hn3  (pc' := 110) rfl (fun hT => ?_)
      have H := H _ rfl
      refine g_aload (r := some _) rfl rfl rfl (pc' := 111) ?_
      refine t_get (o := 8) rfl hT rfl rfl rfl (pc' := 114) rfl ?_
      refine g_iload rfl rfl rfl (pc' := 116) ?_
      refine g_iconst rfl rfl rfl (pc' := 117) ?_
      obtain ⟨n5, hn5, H⟩ := H
      refine t_zastore hT (o := 8) (l := 512) rfl rfl rfl hn5 (by decide) (pc' := 118) rfl (fun hT => ?_)
      have H := H _ rfl
      refine g_aload (r := some _) rfl rfl rfl (pc' := 119) ?_
      refine t_get (o := 9) rfl hT rfl rfl rfl (pc' := 122) rfl ?_
      refine g_iload rfl rfl rfl (pc' := 124) ?_
      refine g_iconst rfl rfl rfl (pc' := 125) ?_
      obtain ⟨n7, hn7, H⟩ := H
      refine t_zastore hT (o := 9) (l := 512) rfl rfl rfl hn7 (by decide) (pc' := 126) rfl (fun hT => ?_)
      have H := H _ rfl
      refine g_iconst rfl rfl rfl (pc' := 127) ?_
      exact g_ireturn rfl (Or.inr (by decide)) H
    · have H := H.2 hc
      refine g_aload (r := some _) rfl rfl rfl (pc' := 91) ?_
      refine t_call hT (y := 109) (n := 1) (pc' := 94) rfl rfl (t_vt hT rfl rfl) rfl rfl ⟨(Nat.le_of_ble_eq_true rfl), (Nat.le_of_ble_eq_true rfl), (Nat.le_of_ble_eq_true rfl)⟩ rfl H (tV_elim (fun h9 H hT => ?_))
      show gm_G _ 94 _ _ _ _
      refine g_iconst rfl rfl rfl (pc' := 95) ?_
      exact g_ireturn rfl (Or.inr (by decide)) H
  · have H := H.2 hc
    refine g_aload (r := some _) rfl rfl rfl (pc' := 60) ?_
    refine t_get (o := 10) rfl hT rfl rfl rfl (pc' := 63) rfl ?_
    refine g_iconst rfl rfl rfl (pc' := 65) ?_
    refine g_iload rfl rfl rfl (pc' := 67) ?_
    refine g_imul rfl rfl (pc' := 68) ?_
    refine g_iload rfl rfl rfl (pc' := 70) ?_
    refine g_iadd rfl rfl (pc' := 71) ?_
    refine g_aload (r := some _) rfl rfl rfl (pc' := 72) ?_
    refine g_iload rfl rfl rfl (pc' := 74) ?_
    refine g_iload rfl rfl rfl (pc' := 76) ?_
    refine g_iadd rfl rfl (pc' := 77) ?_
    obtain ⟨ht11, H⟩ := H
    obtain ⟨n10, hn10, H⟩ := H
    refine g_baload rfl ht11 hn10 (pc' := 78) rfl ?_
    obtain ⟨n12, hn12, H⟩ := H
    refine t_bastore hT (o := 10) (l := 4096) rfl rfl rfl hn12  (pc' := 79) rfl (fun hT => ?_)
    have H := H _ rfl
    refine g_iinc (c := (Int32.ofNat 1)) rfl rfl rfl rfl rfl (pc' := 82) ?_
    refine g_goto rfl (pc' := 52) rfl ?_
    exact g_weak (show gm_Lle [some _, some _, none, some _, some _, some _, some _, some _, some _] _ from ⟨rfl, ⟨rfl, ⟨rfl, ⟨rfl, ⟨rfl, ⟨rfl, ⟨rfl, ⟨rfl, trivial⟩⟩⟩⟩⟩⟩⟩⟩) H
theorem w_363_0 {m : Nat} {x1 : Int32} {x2 : Int32} {x3 : Int32} {h : hh_T} {Q : Option Value ⊕ Nat → hh_T → Prop} (hT : tw_ok h m) (H : (¬ (hh_i h m 77) = Int32.ofNat 0 → ((x3 < Int32.ofNat 0 → (Q (.inl (some (.int (Int32.ofInt (-1))))) h)) ∧ (¬ x3 < Int32.ofNat 0 → ((¬ (Int32.ofNat 9) < x3 → (gm_G 307 0 [some (.ref m), some (.int x1)] [] h (pI (fun v2 h1 => (v2 < Int32.ofNat 0 → (Q (.inl (some (.int (Int32.ofInt (-2))))) h1)) ∧ (¬ v2 < Int32.ofNat 0 → (gm_G 137 0 [some (.ref m), some (.int v2), some (.int x2)] [] h1 (pI (fun v4 h3 => (v4 = Int32.ofNat 0 → ((¬ (0 ≤ x3.toInt ∧ x3.toInt ≤ 8) → (gm_G 363 190 [some (.ref m), none, none, none, none, some (.int (((Int32.ofNat 16) * v2) + x2)), some (.int (Int32.ofNat 0)), some (.int ((Int32.ofNat 8) * (((Int32.ofNat 16) * v2) + x2)))] [] h3 Q)) ∧ (x3.toInt = 0 → (∃ n5, gm_ix (((Int32.ofNat 16) * v2) + x2) n5 1536 ∧ (Q (.inl (some (.int (hh_i h3 (m + 40) n5)))) h3))) ∧ (x3.toInt = 1 → (∃ n6, gm_ix (((Int32.ofNat 16) * v2) + x2) n6 1536 ∧ (Q (.inl (some (.int (hh_i h3 (m + 41) n6)))) h3))) ∧ (x3.toInt = 2 → (∃ n7, gm_ix (((Int32.ofNat 16) * v2) + x2) n7 1536 ∧ (Q (.inl (some (.int (hh_i h3 (m + 42) n7)))) h3))) ∧ (x3.toInt = 3 → (∃ n8, gm_ix (((Int32.ofNat 16) * v2) + x2) n8 1536 ∧ (Q (.inl (some (.int (hh_i h3 (m + 43) n8)))) h3))) ∧ (x3.toInt = 4 → (∃ n9, gm_ix (((Int32.ofNat 16) * v2) + x2) n9 1536 ∧ (Q (.inl (some (.int (hh_i h3 (m + 44) n9)))) h3))) ∧ (x3.toInt = 5 → (∃ n10, gm_ix (((Int32.ofNat 16) * v2) + x2) n10 1536 ∧ (Q (.inl (some (.int (hh_i h3 (m + 45) n10)))) h3))) ∧ (x3.toInt = 6 → (∃ n11, gm_ix (((Int32.ofNat 16) * v2) + x2) n11 1536 ∧ (Q (.inl (some (.int (hh_i h3 (m + 46) n11)))) h3))) ∧ (x3.toInt = 7 → (∃ n12, gm_ix (((Int32.ofNat 16) * v2) + x2) n12 1536 ∧ (Q (.inl (some (.int (hh_i h3 (m + 47) n12)))) h3))) ∧ (x3.toInt = 8 → (∃ n13, gm_ix (((Int32.ofNat 16) * v2) + x2) n13 1536 ∧ (Q (.inl (some (.int (hh_i h3 (m + 49) n13)))) h3))))) ∧ (¬ v4 = Int32.ofNat 0 → (Q (.inl (some (.int (Int32.ofInt (-2))))) h3))) (fun _ _ => False))))) (fun _ _ => False)))) ∧ ((Int32.ofNat 9) < x3 → (Q (.inl (some (.int (Int32.ofInt (-1))))) h)))))) ∧ ((hh_i h m 77) = Int32.ofNat 0 → (Q (.inl (some (.int (Int32.ofInt (-9))))) h))) : gm_G 363 0 [some (.ref m), some (.int x1), some (.int x2), some (.int x3)] [] h Q := by
  refine g_aload (r := some _) rfl rfl rfl (pc' := 1) ?_
  refine t_getZ rfl hT rfl rfl (pc' := 4) rfl ?_
  refine g_if_ne rfl (pc' := 7) (pt := 10) rfl rfl ⟨fun hc => ?_, fun hc => ?_⟩
  · have H := H.1 hc
    refine g_iload rfl rfl rfl (pc' := 11) ?_
    refine g_if_lt rfl (pc' := 14) (pt := 20) rfl rfl ⟨fun hc => ?_, fun hc => ?_⟩
    · have H := H.1 hc
      refine g_iconst rfl rfl rfl (pc' := 21) ?_
      exact g_ireturn rfl (Or.inl rfl) H
    · have H := H.2 hc
      refine g_iload rfl rfl rfl (pc' := 15) ?_
      refine g_iconst rfl rfl rfl (pc' := 17) ?_
      refine g_ic_le rfl (pc' := 20) (pt := 22) rfl rfl ⟨fun hc => ?_, fun hc => ?_⟩
      · have H := H.1 hc
        refine g_aload (r := some _) rfl rfl rfl (pc' := 23) ?_
        refine g_iload rfl rfl rfl (pc' := 24) ?_
        refine t_call hT (y := 307) (n := 2) (pc' := 27) rfl rfl (t_vt hT rfl rfl) rfl rfl ⟨(Nat.le_of_ble_eq_true rfl), (Nat.le_of_ble_eq_true rfl), (Nat.le_of_ble_eq_true rfl)⟩ rfl H (tI_elim (fun v2 h1 H hT => ?_))
        show gm_G _ 27 _ _ _ _
        refine g_istore rfl rfl rfl (pc' := 29) ?_
        refine g_iload rfl rfl rfl (pc' := 31) ?_
        refine g_if_lt rfl (pc' := 34) (pt := 44) rfl rfl ⟨fun hc => ?_, fun hc => ?_⟩
        · have H := H.1 hc
          refine g_iconst rfl rfl rfl (pc' := 46) ?_
          exact g_ireturn rfl (Or.inl rfl) H
        · have H := H.2 hc
          refine g_aload (r := some _) rfl rfl rfl (pc' := 35) ?_
          refine g_iload rfl rfl rfl (pc' := 37) ?_
          refine g_iload rfl rfl rfl (pc' := 38) ?_
          refine t_call hT (y := 137) (n := 3) (pc' := 41) rfl rfl (t_vt hT rfl rfl) rfl rfl ⟨(Nat.le_of_ble_eq_true rfl), (Nat.le_of_ble_eq_true rfl), (Nat.le_of_ble_eq_true rfl)⟩ rfl H (tI_elim (fun v4 h3 H hT => ?_))
          show gm_G _ 41 _ _ _ _
          refine g_if_eq rfl (pc' := 44) (pt := 47) rfl rfl ⟨fun hc => ?_, fun hc => ?_⟩
          · have H := H.1 hc
            refine g_iconst rfl rfl rfl (pc' := 49) ?_
            refine g_iload rfl rfl rfl (pc' := 51) ?_
            refine g_imul rfl rfl (pc' := 52) ?_
            refine g_iload rfl rfl rfl (pc' := 53) ?_
            refine g_iadd rfl rfl (pc' := 54) ?_
            refine g_istore rfl rfl rfl (pc' := 56) ?_
            refine g_iload rfl rfl rfl (pc' := 57) ?_
            refine g_switch rfl ⟨fun hc => ?_, fun hc => ?_⟩
            · have H := H.1 (fun hq => by omega)
              refine g_iconst rfl rfl rfl (pc' := 181) ?_
              refine g_istore rfl rfl rfl (pc' := 183) ?_
              refine g_iconst rfl rfl rfl (pc' := 185) ?_
              refine g_iload rfl rfl rfl (pc' := 187) ?_
              refine g_imul rfl rfl (pc' := 188) ?_
              refine g_istore rfl rfl rfl (pc' := 190) ?_
              exact g_weak (show gm_Lle [some _, none, none, none, none, some _, some _, some _] _ from ⟨rfl, ⟨rfl, ⟨rfl, ⟨rfl, trivial⟩⟩⟩⟩) H
            · have H := H.2
              have hq : x3.toInt = 0 ∨ x3.toInt = 1 ∨ x3.toInt = 2 ∨ x3.toInt = 3 ∨ x3.toInt = 4 ∨ x3.toInt = 5 ∨ x3.toInt = 6 ∨ x3.toInt = 7 ∨ x3.toInt = 8 := by omega
              rcases hq with hq | hq | hq | hq | hq | hq | hq | hq | hq
              · have H := (H.1) hq
                refine ⟨108, by rw [hq]; rfl, ?_⟩
                show gm_G _ 108 _ _ _ _
                refine g_aload (r := some _) rfl rfl rfl (pc' := 109) ?_
                refine t_get (o := 40) rfl hT rfl rfl rfl (pc' := 112) rfl ?_
                refine g_iload rfl rfl rfl (pc' := 114) ?_
                obtain ⟨n5, hn5, H⟩ := H
                refine t_iaload hT (o := 40) (l := 1536) rfl rfl rfl hn5 (pc' := 115) rfl ?_
                exact g_ireturn rfl (Or.inl rfl) H
              · have H := (H.2.1) hq
                refine ⟨116, by rw [hq]; rfl, ?_⟩
                show gm_G _ 116 _ _ _ _
                refine g_aload (r := some _) rfl rfl rfl (pc' := 117) ?_
                refine t_get (o := 41) rfl hT rfl rfl rfl (pc' := 120) rfl ?_
                refine g_iload rfl rfl rfl (pc' := 122) ?_
                obtain ⟨n6, hn6, H⟩ := H
                refine t_iaload hT (o := 41) (l := 1536) rfl rfl rfl hn6 (pc' := 123) rfl ?_
                exact g_ireturn rfl (Or.inl rfl) H
              · have H := (H.2.2.1) hq
                refine ⟨124, by rw [hq]; rfl, ?_⟩
                show gm_G _ 124 _ _ _ _
                refine g_aload (r := some _) rfl rfl rfl (pc' := 125) ?_
                refine t_get (o := 42) rfl hT rfl rfl rfl (pc' := 128) rfl ?_
                refine g_iload rfl rfl rfl (pc' := 130) ?_
                obtain ⟨n7, hn7, H⟩ := H
                refine t_iaload hT (o := 42) (l := 1536) rfl rfl rfl hn7 (pc' := 131) rfl ?_
                exact g_ireturn rfl (Or.inl rfl) H
              · have H := (H.2.2.2.1) hq
                refine ⟨132, by rw [hq]; rfl, ?_⟩
                show gm_G _ 132 _ _ _ _
                refine g_aload (r := some _) rfl rfl rfl (pc' := 133) ?_
                refine t_get (o := 43) rfl hT rfl rfl rfl (pc' := 136) rfl ?_
                refine g_iload rfl rfl rfl (pc' := 138) ?_
                obtain ⟨n8, hn8, H⟩ := H
                refine t_iaload hT (o := 43) (l := 1536) rfl rfl rfl hn8 (pc' := 139) rfl ?_
                exact g_ireturn rfl (Or.inl rfl) H
              · have H := (H.2.2.2.2.1) hq
                refine ⟨140, by rw [hq]; rfl, ?_⟩
                show gm_G _ 140 _ _ _ _
                refine g_aload (r := some _) rfl rfl rfl (pc' := 141) ?_
                refine t_get (o := 44) rfl hT rfl rfl rfl (pc' := 144) rfl ?_
                refine g_iload rfl rfl rfl (pc' := 146) ?_
                obtain ⟨n9, hn9, H⟩ := H
                refine t_iaload hT (o := 44) (l := 1536) rfl rfl rfl hn9 (pc' := 147) rfl ?_
                exact g_ireturn rfl (Or.inl rfl) H
              · have H := (H.2.2.2.2.2.1) hq
                refine ⟨148, by rw [hq]; rfl, ?_⟩
                show gm_G _ 148 _ _ _ _
                refine g_aload (r := some _) rfl rfl rfl (pc' := 149) ?_
                refine t_get (o := 45) rfl hT rfl rfl rfl (pc' := 152) rfl ?_
                refine g_iload rfl rfl rfl (pc' := 154) ?_
                obtain ⟨n10, hn10, H⟩ := H
                refine t_iaload hT (o := 45) (l := 1536) rfl rfl rfl hn10 (pc' := 155) rfl ?_
                exact g_ireturn rfl (Or.inl rfl) H
              · have H := (H.2.2.2.2.2.2.1) hq
                refine ⟨156, by rw [hq]; rfl, ?_⟩
                show gm_G _ 156 _ _ _ _
                refine g_aload (r := some _) rfl rfl rfl (pc' := 157) ?_
                refine t_get (o := 46) rfl hT rfl rfl rfl (pc' := 160) rfl ?_
                refine g_iload rfl rfl rfl (pc' := 162) ?_
                obtain ⟨n11, hn11, H⟩ := H
                refine t_iaload hT (o := 46) (l := 1536) rfl rfl rfl hn11 (pc' := 163) rfl ?_
                exact g_ireturn rfl (Or.inl rfl) H
              · have H := (H.2.2.2.2.2.2.2.1) hq
                refine ⟨164, by rw [hq]; rfl, ?_⟩
                show gm_G _ 164 _ _ _ _
                refine g_aload (r := some _) rfl rfl rfl (pc' := 165) ?_
                refine t_get (o := 47) rfl hT rfl rfl rfl (pc' := 168) rfl ?_
                refine g_iload rfl rfl rfl (pc' := 170) ?_
                obtain ⟨n12, hn12, H⟩ := H
                refine t_iaload hT (o := 47) (l := 1536) rfl rfl rfl hn12 (pc' := 171) rfl ?_
                exact g_ireturn rfl (Or.inl rfl) H
              · have H := (H.2.2.2.2.2.2.2.2) hq
                refine ⟨172, by rw [hq]; rfl, ?_⟩
                show gm_G _ 172 _ _ _ _
                refine g_aload (r := some _) rfl rfl rfl (pc' := 173) ?_
                refine t_get (o := 49) rfl hT rfl rfl rfl (pc' := 176) rfl ?_
                refine g_iload rfl rfl rfl (pc' := 178) ?_
                obtain ⟨n13, hn13, H⟩ := H
                refine t_iaload hT (o := 49) (l := 1536) rfl rfl rfl hn13 (pc' := 179) rfl ?_
                exact g_ireturn rfl (Or.inl rfl) H
          · have H := H.2 hc
            refine g_iconst rfl rfl rfl (pc' := 46) ?_
            exact g_ireturn rfl (Or.inl rfl) H
      · have H := H.2 hc
        refine g_iconst rfl rfl rfl (pc' := 21) ?_
        exact g_ireturn rfl (Or.inl rfl) H
  · have H := H.2 hc
    refine g_iconst rfl rfl rfl (pc' := 9) ?_
    exact g_ireturn rfl (Or.inl rfl) H
theorem w_363_190 {m : Nat} {x5 : Int32} {x6 : Int32} {x7 : Int32} {h : hh_T} {Q : Option Value ⊕ Nat → hh_T → Prop} (hT : tw_ok h m) (H : (¬ x7 < (((Int32.ofNat 8) * x5) + (Int32.ofNat 8)) → (∃ n1, gm_ix x5 n1 1536 ∧ ((¬ (hh_i h (m + 40) n1) = (Int32.ofNat 2) → (∃ n2, gm_ix x5 n2 1536 ∧ ((¬ (hh_i h (m + 40) n2) = (Int32.ofNat 3) → (Q (.inl (some (.int x6))) h)) ∧ ((hh_i h (m + 40) n2) = (Int32.ofNat 3) → (Q (.inl (some (.int (Int32.ofNat 0)))) h))))) ∧ ((hh_i h (m + 40) n1) = (Int32.ofNat 2) → (∃ n3, gm_ix x5 n3 1536 ∧ (Q (.inl (some (.int (hh_i h (m + 48) n3)))) h)))))) ∧ (x7 < (((Int32.ofNat 8) * x5) + (Int32.ofNat 8)) → (∃ n4, gm_ix x7 n4 12288 ∧ (((hh_i h (m + 55) n4) < Int32.ofNat 0 → (gm_G 363 220 [some (.ref m), none, none, none, none, some (.int x5), none, some (.int x7)] [.int (Int32.ofNat 0), .int x6] h Q)) ∧ (¬ (hh_i h (m + 55) n4) < Int32.ofNat 0 → (gm_G 363 220 [some (.ref m), none, none, none, none, some (.int x5), none, some (.int x7)] [.int (Int32.ofNat 1), .int x6] h Q)))))) : gm_G 363 190 [some (.ref m), none, none, none, none, some (.int x5), some (.int x6), some (.int x7)] [] h Q := by
  refine g_iload rfl rfl rfl (pc' := 192) ?_
  refine g_iconst rfl rfl rfl (pc' := 194) ?_
  refine g_iload rfl rfl rfl (pc' := 196) ?_
  refine g_imul rfl rfl (pc' := 197) ?_
  refine g_iconst rfl rfl rfl (pc' := 199) ?_
  refine g_iadd rfl rfl (pc' := 200) ?_
  refine g_ic_ge rfl (pc' := 203) (pt := 229) rfl rfl ⟨fun hc => ?_, fun hc => ?_⟩
  · have H := H.1 hc
    refine g_aload (r := some _) rfl rfl rfl (pc' := 230) ?_
    refine t_get (o := 40) rfl hT rfl rfl rfl (pc' := 233) rfl ?_
    refine g_iload rfl rfl rfl (pc' := 235) ?_
    obtain ⟨n1, hn1, H⟩ := H
    refine t_iaload hT (o := 40) (l := 1536) rfl rfl rfl hn1 (pc' := 236) rfl ?_
    refine g_iconst rfl rfl rfl (pc' := 237) ?_
    refine g_ic_ne rfl (pc' := 240) (pt := 250) rfl rfl ⟨fun hc => ?_, fun hc => ?_⟩
    · have H := H.1 hc
      refine g_aload (r := some _) rfl rfl rfl (pc' := 251) ?_
      refine t_get (o := 40) rfl hT rfl rfl rfl (pc' := 254) rfl ?_
      refine g_iload rfl rfl rfl (pc' := 256) ?_
      obtain ⟨n2, hn2, H⟩ := H
      refine t_iaload hT (o := 40) (l := 1536) rfl rfl rfl hn2 (pc' := 257) rfl ?_
      refine g_iconst rfl rfl rfl (pc' := 258) ?_
      refine g_ic_ne rfl (pc' := 261) (pt := 265) rfl rfl ⟨fun hc => ?_, fun hc => ?_⟩
      · have H := H.1 hc
        refine g_iload rfl rfl rfl (pc' := 267) ?_
        exact g_ireturn rfl (Or.inl rfl) H
      · have H := H.2 hc
        refine g_iconst rfl rfl rfl (pc' := 262) ?_
        refine g_goto rfl (pc' := 267) rfl ?_
        exact g_ireturn rfl (Or.inl rfl) H
    · have H := H.2 hc
      refine g_aload (r := some _) rfl rfl rfl (pc' := 241) ?_
      refine t_get (o := 48) rfl hT rfl rfl rfl (pc' := 244) rfl ?_
      refine g_iload rfl rfl rfl (pc' := 246) ?_
      obtain ⟨n3, hn3, H⟩ := H
      refine t_iaload hT (o := 48) (l := 1536) rfl rfl rfl hn3 (pc' := 247) rfl ?_
      refine g_goto rfl (pc' := 267) rfl ?_
      exact g_ireturn rfl (Or.inl rfl) H
  · have H := H.2 hc
    refine g_iload rfl rfl rfl (pc' := 205) ?_
    refine g_aload (r := some _) rfl rfl rfl (pc' := 206) ?_
    refine t_get (o := 55) rfl hT rfl rfl rfl (pc' := 209) rfl ?_
    refine g_iload rfl rfl rfl (pc' := 211) ?_
    obtain ⟨n4, hn4, H⟩ := H
    refine t_iaload hT (o := 55) (l := 12288) rfl rfl rfl hn4 (pc' := 212) rfl ?_
    refine g_if_lt rfl (pc' := 215) (pt := 219) rfl rfl ⟨fun hc => ?_, fun hc => ?_⟩
    · have H := H.1 hc
      refine g_iconst rfl rfl rfl (pc' := 220) ?_
      exact g_weak (show gm_Lle [some _, none, none, none, none, some _, none, some _] _ from ⟨rfl, ⟨rfl, ⟨rfl, trivial⟩⟩⟩) H
    · have H := H.2 hc
      refine g_iconst rfl rfl rfl (pc' := 216) ?_
      refine g_goto rfl (pc' := 220) rfl ?_
      exact g_weak (show gm_Lle [some _, none, none, none, none, some _, none, some _] _ from ⟨rfl, ⟨rfl, ⟨rfl, trivial⟩⟩⟩) H
theorem w_363_220 {m : Nat} {x5 : Int32} {x7 : Int32} {y0 : Int32} {y1 : Int32} {h : hh_T} {Q : Option Value ⊕ Nat → hh_T → Prop} (hT : tw_ok h m) (H : gm_G 363 190 [some (.ref m), none, none, none, none, some (.int x5), some (.int (y1 + y0)), some (.int (x7 + (Int32.ofNat 1)))] [] h Q) : gm_G 363 220 [some (.ref m), none, none, none, none, some (.int x5), none, some (.int x7)] [.int y0, .int y1] h Q := by
  refine g_iadd rfl rfl (pc' := 221) ?_
  refine g_istore rfl rfl rfl (pc' := 223) ?_
  refine g_iinc (c := (Int32.ofNat 1)) rfl rfl rfl rfl rfl (pc' := 226) ?_
  refine g_goto rfl (pc' := 190) rfl ?_
  exact g_weak (show gm_Lle [some _, none, none, none, none, some _, some _, some _] _ from ⟨rfl, ⟨rfl, ⟨rfl, ⟨rfl, trivial⟩⟩⟩⟩) H
theorem w_364_0 {m : Nat} {x1 : Int32} {x2 : Int32} {x3 : Int32} {x4 : Int32} {x5 : Int32} {x6 : Int32} {x7 : Int32} {h : hh_T} {Q : Option Value ⊕ Nat → hh_T → Prop} (hT : tw_ok h m) (H : ∃ n1, gm_ix x1 n1 8 ∧ (∃ n2, gm_ix x1 n2 8 ∧ (∃ n3, gm_ix x1 n3 8 ∧ (∀ h4, h4 = hh_wi h (m + 80) n3 ((hh_i h (m + 80) n2) + (Int32.ofNat 1)) → ((¬ (hh_i h (m + 80) n1) < (Int32.ofNat 16) → (gm_G 364 41 [some (.ref m), some (.int x1), some (.int x2), some (.int x3), some (.int x4), some (.int x5), some (.int x6), some (.int x7)] [.int (Int32.ofInt (-1)), .ref m] h4 Q)) ∧ ((hh_i h (m + 80) n1) < (Int32.ofNat 16) → (gm_G 364 41 [some (.ref m), some (.int x1), some (.int x2), some (.int x3), some (.int x4), some (.int x5), some (.int x6), some (.int x7)] [.int ((((Int32.ofNat 16) * x1) + (hh_i h (m + 80) n1)) * (Int32.ofNat 290)), .ref m] h4 Q))))))) : gm_G 364 0 [some (.ref m), some (.int x1), some (.int x2), some (.int x3), some (.int x4), some (.int x5), some (.int x6), some (.int x7)] [] h Q := by
  refine g_aload (r := some _) rfl rfl rfl (pc' := 1) ?_
  refine t_get (o := 80) rfl hT rfl rfl rfl (pc' := 4) rfl ?_
  refine g_iload rfl rfl rfl (pc' := 5) ?_
  obtain ⟨n1, hn1, H⟩ := H
  refine t_iaload hT (o := 80) (l := 8) rfl rfl rfl hn1 (pc' := 6) rfl ?_
  refine g_istore rfl rfl rfl (pc' := 8) ?_
  refine g_aload (r := some _) rfl rfl rfl (pc' := 9) ?_
  refine t_get (o := 80) rfl hT rfl rfl rfl (pc' := 12) rfl ?_
  refine g_iload rfl rfl rfl (pc' := 13) ?_
  refine g_dup2_a rfl (pc' := 14) rfl ?_
  obtain ⟨n2, hn2, H⟩ := H
  refine t_iaload hT (o := 80) (l := 8) rfl rfl rfl hn2 (pc' := 15) rfl ?_
  refine g_iconst rfl rfl rfl (pc' := 16) ?_
  refine g_iadd rfl rfl (pc' := 17) ?_
  obtain ⟨n3, hn3, H⟩ := H
  refine t_iastore hT (o := 80) (l := 8) rfl rfl rfl hn3  (pc' := 18) rfl (fun hT => ?_)
  have H := H _ rfl
  refine g_aload (r := some _) rfl rfl rfl (pc' := 19) ?_
  refine g_iload rfl rfl rfl (pc' := 21) ?_
  refine g_iconst rfl rfl rfl (pc' := 23) ?_
  refine g_ic_ge rfl (pc' := 26) (pt := 40) rfl rfl ⟨fun hc => ?_, fun hc => ?_⟩
  · have H := H.1 hc
    refine g_iconst rfl rfl rfl (pc' := 41) ?_
    exact g_weak (show gm_Lle [some _, some _, some _, some _, some _, some _, some _, some _] _ from ⟨rfl, ⟨rfl, ⟨rfl, ⟨rfl, ⟨rfl, ⟨rfl, ⟨rfl, ⟨rfl, trivial⟩⟩⟩⟩⟩⟩⟩⟩) H
  · have H := H.2 hc
    refine g_iconst rfl rfl rfl (pc' := 28) ?_
    refine g_iload rfl rfl rfl (pc' := 29) ?_
    refine g_imul rfl rfl (pc' := 30) ?_
    refine g_iload rfl rfl rfl (pc' := 32) ?_
    refine g_iadd rfl rfl (pc' := 33) ?_
    refine g_iconst rfl rfl rfl (pc' := 36) ?_
    refine g_imul rfl rfl (pc' := 37) ?_
    refine g_goto rfl (pc' := 41) rfl ?_
    exact g_weak (show gm_Lle [some _, some _, some _, some _, some _, some _, some _, some _] _ from ⟨rfl, ⟨rfl, ⟨rfl, ⟨rfl, ⟨rfl, ⟨rfl, ⟨rfl, ⟨rfl, trivial⟩⟩⟩⟩⟩⟩⟩⟩) H
theorem w_364_41 {m : Nat} {x1 : Int32} {x2 : Int32} {x3 : Int32} {x4 : Int32} {x5 : Int32} {x6 : Int32} {x7 : Int32} {y0 : Int32} {h : hh_T} {Q : Option Value ⊕ Nat → hh_T → Prop} (hT : tw_ok h m) (H : ∀ h1, h1 = hh_wi h m 108 y0 → (((hh_i h1 m 108) < Int32.ofNat 0 → (gm_G 364 194 [some (.ref m), some (.int x1)] [] h1 Q)) ∧ (¬ (hh_i h1 m 108) < Int32.ofNat 0 → (∃ n2, gm_ix (hh_i h1 m 108) n2 37120 ∧ (∀ h3, h3 = hh_wi h1 (m + 82) n2 x2 → (∃ n4, gm_ix ((hh_i h3 m 108) + (Int32.ofNat 1)) n4 37120 ∧ (∀ h5, h5 = hh_wi h3 (m + 82) n4 x3 → (∃ n6, gm_ix ((hh_i h5 m 108) + (Int32.ofNat 2)) n6 37120 ∧ (∀ h7, h7 = hh_wi h5 (m + 82) n6 x4 → (∃ n8, gm_ix ((hh_i h7 m 108) + (Int32.ofNat 3)) n8 37120 ∧ (∀ h9, h9 = hh_wi h7 (m + 82) n8 x5 → (∃ n10, gm_ix ((hh_i h9 m 108) + (Int32.ofNat 4)) n10 37120 ∧ (∀ h11, h11 = hh_wi h9 (m + 82) n10 x6 → (∃ n12, gm_ix ((hh_i h11 m 108) + (Int32.ofNat 5)) n12 37120 ∧ (∀ h13, h13 = hh_wi h11 (m + 82) n12 x7 → (∃ n14, gm_ix ((hh_i h13 m 108) + (Int32.ofNat 6)) n14 37120 ∧ (∀ h15, h15 = hh_wi h13 (m + 82) n14 (hh_i h13 m 4) → (∃ n16, gm_ix ((hh_i h15 m 108) + (Int32.ofNat 7)) n16 37120 ∧ (∀ h17, h17 = hh_wi h15 (m + 82) n16 (hh_i h15 m 5) → (∃ n18, gm_ix ((hh_i h17 m 108) + (Int32.ofNat 8)) n18 37120 ∧ (∀ h19, h19 = hh_wi h17 (m + 82) n18 (Int32.ofNat 0) → (∃ n20, gm_ix ((hh_i h19 m 108) + (Int32.ofNat 9)) n20 37120 ∧ (∀ h21, h21 = hh_wi h19 (m + 82) n20 (Int32.ofNat 0) → (∀ h22, h22 = hh_wi h21 m 109 ((hh_i h21 m 108) + (Int32.ofNat 10)) → (gm_G 364 194 [some (.ref m), some (.int x1)] [] h22 Q))))))))))))))))))))))))) : gm_G 364 41 [some (.ref m), some (.int x1), some (.int x2), some (.int x3), some (.int x4), some (.int x5), some (.int x6), some (.int x7)] [.int y0, .ref m] h Q := by
  refine t_putI rfl hT rfl rfl  (pc' := 44) rfl (fun hT => ?_)
  have H := H _ rfl
  refine g_aload (r := some _) rfl rfl rfl (pc' := 45) ?_
  refine t_getI rfl hT rfl rfl (pc' := 48) rfl ?_
  refine g_if_lt rfl (pc' := 51) (pt := 194) rfl rfl ⟨fun hc => ?_, fun hc => ?_⟩
  · have H := H.1 hc
    exact g_weak (show gm_Lle [some _, some _] _ from ⟨rfl, ⟨rfl, trivial⟩⟩) H
  · have H := H.2 hc
    refine g_aload (r := some _) rfl rfl rfl (pc' := 52) ?_
    refine t_get (o := 82) rfl hT rfl rfl rfl (pc' := 55) rfl ?_
    refine g_aload (r := some _) rfl rfl rfl (pc' := 56) ?_
    refine t_getI rfl hT rfl rfl (pc' := 59) rfl ?_
    refine g_iload rfl rfl rfl (pc' := 60) ?_
    obtain ⟨n2, hn2, H⟩ := H
    refine t_iastore hT (o := 82) (l := 37120) rfl rfl rfl hn2  (pc' := 61) rfl (fun hT => ?_)
    have H := H _ rfl
    refine g_aload (r := some _) rfl rfl rfl (pc' := 62) ?_
    refine t_get (o := 82) rfl hT rfl rfl rfl (pc' := 65) rfl ?_
    refine g_aload (r := some _) rfl rfl rfl (pc' := 66) ?_
    refine t_getI rfl hT rfl rfl (pc' := 69) rfl ?_
    refine g_iconst rfl rfl rfl (pc' := 70) ?_
    refine g_iadd rfl rfl (pc' := 71) ?_
    refine g_iload rfl rfl rfl (pc' := 72) ?_
    obtain ⟨n4, hn4, H⟩ := H
    refine t_iastore hT (o := 82) (l := 37120) rfl rfl rfl hn4  (pc' := 73) rfl (fun hT => ?_)
    have H := H _ rfl
    refine g_aload (r := some _) rfl rfl rfl (pc' := 74) ?_
    refine t_get (o := 82) rfl hT rfl rfl rfl (pc' := 77) rfl ?_
    refine g_aload (r := some _) rfl rfl rfl (pc' := 78) ?_
    refine t_getI rfl hT rfl rfl (pc' := 81) rfl ?_
    refine g_iconst rfl rfl rfl (pc' := 82) ?_
    refine g_iadd rfl rfl (pc' := 83) ?_
    refine g_iload rfl rfl rfl (pc' := 85) ?_
    obtain ⟨n6, hn6, H⟩ := H
    refine t_iastore hT (o := 82) (l := 37120) rfl rfl rfl hn6  (pc' := 86) rfl (fun hT => ?_)
    have H := H _ rfl
    refine g_aload (r := some _) rfl rfl rfl (pc' := 87) ?_
    refine t_get (o := 82) rfl hT rfl rfl rfl (pc' := 90) rfl ?_
    refine g_aload (r := some _) rfl rfl rfl (pc' := 91) ?_
    refine t_getI rfl hT rfl rfl (pc' := 94) rfl ?_
    refine g_iconst rfl rfl rfl (pc' := 95) ?_
    refine g_iadd rfl rfl (pc' := 96) ?_
    refine g_iload rfl rfl rfl (pc' := 98) ?_
    obtain ⟨n8, hn8, H⟩ := H
    refine t_iastore hT (o := 82) (l := 37120) rfl rfl rfl hn8  (pc' := 99) rfl (fun hT => ?_)
    have H := H _ rfl
    refine g_aload (r := some _) rfl rfl rfl (pc' := 100) ?_
    refine t_get (o := 82) rfl hT rfl rfl rfl (pc' := 103) rfl ?_
    refine g_aload (r := some _) rfl rfl rfl (pc' := 104) ?_
    refine t_getI rfl hT rfl rfl (pc' := 107) rfl ?_
    refine g_iconst rfl rfl rfl (pc' := 108) ?_
    refine g_iadd rfl rfl (pc' := 109) ?_
    refine g_iload rfl rfl rfl (pc' := 111) ?_
    obtain ⟨n10, hn10, H⟩ := H
    refine t_iastore hT (o := 82) (l := 37120) rfl rfl rfl hn10  (pc' := 112) rfl (fun hT => ?_)
    have H := H _ rfl
    refine g_aload (r := some _) rfl rfl rfl (pc' := 113) ?_
    refine t_get (o := 82) rfl hT rfl rfl rfl (pc' := 116) rfl ?_
    refine g_aload (r := some _) rfl rfl rfl (pc' := 117) ?_
    refine t_getI rfl hT rfl rfl (pc' := 120) rfl ?_
    refine g_iconst rfl rfl rfl (pc' := 121) ?_
    refine g_iadd rfl rfl (pc' := 122) ?_
    refine g_iload rfl rfl rfl (pc' := 124) ?_
    obtain ⟨n12, hn12, H⟩ := H
    refine t_iastore hT (o := 82) (l := 37120) rfl rfl rfl hn12  (pc' := 125) rfl (fun hT => ?_)
    have H := H _ rfl
    refine g_aload (r := some _) rfl rfl rfl (pc' := 126) ?_
    refine t_get (o := 82) rfl hT rfl rfl rfl (pc' := 129) rfl ?_
    refine g_aload (r := some _) rfl rfl rfl (pc' := 130) ?_
    refine t_getI rfl hT rfl rfl (pc' := 133) rfl ?_
    refine g_iconst rfl rfl rfl (pc' := 135) ?_
    refine g_iadd rfl rfl (pc' := 136) ?_
    refine g_aload (r := some _) rfl rfl rfl (pc' := 137) ?_
    refine t_getI rfl hT rfl rfl (pc' := 140) rfl ?_
    obtain ⟨n14, hn14, H⟩ := H
    refine t_iastore hT (o := 82) (l := 37120) rfl rfl rfl hn14  (pc' := 141) rfl (fun hT => ?_)
    have H := H _ rfl
    refine g_aload (r := some _) rfl rfl rfl (pc' := 142) ?_
    refine t_get (o := 82) rfl hT rfl rfl rfl (pc' := 145) rfl ?_
    refine g_aload (r := some _) rfl rfl rfl (pc' := 146) ?_
    refine t_getI rfl hT rfl rfl (pc' := 149) rfl ?_
    refine g_iconst rfl rfl rfl (pc' := 151) ?_
    refine g_iadd rfl rfl (pc' := 152) ?_
    refine g_aload (r := some _) rfl rfl rfl (pc' := 153) ?_
    refine t_getI rfl hT rfl rfl (pc' := 156) rfl ?_
    obtain ⟨n16, hn16, H⟩ := H
    refine t_iastore hT (o := 82) (l := 37120) rfl rfl rfl hn16  (pc' := 157) rfl (fun hT => ?_)
    have H := H _ rfl
    refine g_aload (r := some _) rfl rfl rfl (pc' := 158) ?_
    refine t_get (o := 82) rfl hT rfl rfl rfl (pc' := 161) rfl ?_
    refine g_aload (r := some _) rfl rfl rfl (pc' := 162) ?_
    refine t_getI rfl hT rfl rfl (pc' := 165) rfl ?_
    refine g_iconst rfl rfl rfl (pc' := 167) ?_
    refine g_iadd rfl rfl (pc' := 168) ?_
    refine g_iconst rfl rfl rfl (pc' := 169) ?_
    obtain ⟨n18, hn18, H⟩ := H
    refine t_iastore hT (o := 82) (l := 37120) rfl rfl rfl hn18  (pc' := 170) rfl (fun hT => ?_)
    have H := H _ rfl
    refine g_aload (r := some _) rfl rfl rfl (pc' := 171) ?_
    refine t_get (o := 82) rfl hT rfl rfl rfl (pc' := 174) rfl ?_
    refine g_aload (r := some _) rfl rfl rfl (pc' := 175) ?_
    refine t_getI rfl hT rfl rfl (pc' := 178) rfl ?_
    refine g_iconst rfl rfl rfl (pc' := 180) ?_
    refine g_iadd rfl rfl (pc' := 181) ?_
    refine g_iconst rfl rfl rfl (pc' := 182) ?_
    obtain ⟨n20, hn20, H⟩ := H
    refine t_iastore hT (o := 82) (l := 37120) rfl rfl rfl hn20  (pc' := 183) rfl (fun hT => ?_)
    have H := H _ rfl
    refine g_aload (r := some _) rfl rfl rfl (pc' := 184) ?_
    refine g_aload (r := some _) rfl rfl rfl (pc' := 185) ?_
    refine t_getI rfl hT rfl rfl (pc' := 188) rfl ?_
    refine g_iconst rfl rfl rfl (pc' := 190) ?_
    refine g_iadd rfl rfl (pc' := 191) ?_
    refine t_putI rfl hT rfl rfl  (pc' := 194) rfl (fun hT => ?_)
    have H := H _ rfl
    exact g_weak (show gm_Lle [some _, some _] _ from ⟨rfl, ⟨rfl, trivial⟩⟩) H
theorem w_364_194 {m : Nat} {x1 : Int32} {h : hh_T} {Q : Option Value ⊕ Nat → hh_T → Prop} (hT : tw_ok h m) (H : ((hh_i h m 111) = Int32.ofNat 0 → (gm_G 297 0 [some (.ref m), some (.int x1), some (.int (Int32.ofNat 4))] [] h (pI (fun v2 h1 => (¬ v2 = (Int32.ofNat 1) → (Q (.inl none) h1)) ∧ (v2 = (Int32.ofNat 1) → (gm_G 145 0 [some (.ref m)] [] h1 (pI (fun v4 h3 => ∃ n5, gm_ix x1 n5 8 ∧ (∃ n6, gm_ix x1 n6 8 ∧ ((¬ (Int32.ofNat 16) < ((v4 - (hh_i h3 (m + 81) n5)) + (hh_i h3 (m + 80) n6)) → (∃ n7, gm_ix x1 n7 8 ∧ (∃ n8, gm_ix x1 n8 8 ∧ (∀ h9, h9 = hh_wi h3 (m + 81) n8 (hh_i h3 (m + 80) n7) → (Q (.inl none) h9))))) ∧ ((Int32.ofNat 16) < ((v4 - (hh_i h3 (m + 81) n5)) + (hh_i h3 (m + 80) n6)) → (∀ h10, h10 = hh_wi h3 m 112 (Int32.ofNat 1) → (Q (.inl none) h10)))))) (fun _ _ => False))))) (fun _ _ => False)))) ∧ (¬ (hh_i h m 111) = Int32.ofNat 0 → (∃ n11, gm_ix x1 n11 8 ∧ (∃ n12, gm_ix x1 n12 8 ∧ (∀ h13, h13 = hh_wi h (m + 81) n12 (hh_i h (m + 80) n11) → (Q (.inl none) h13)))))) : gm_G 364 194 [some (.ref m), some (.int x1)] [] h Q := by
  refine g_aload (r := some _) rfl rfl rfl (pc' := 195) ?_
  refine t_getZ rfl hT rfl rfl (pc' := 198) rfl ?_
  refine g_if_eq rfl (pc' := 201) (pt := 216) rfl rfl ⟨fun hc => ?_, fun hc => ?_⟩
  · have H := H.1 hc
    refine g_aload (r := some _) rfl rfl rfl (pc' := 217) ?_
    refine g_iload rfl rfl rfl (pc' := 218) ?_
    refine g_iconst rfl rfl rfl (pc' := 219) ?_
    refine t_call hT (y := 297) (n := 3) (pc' := 222) rfl rfl (t_vt hT rfl rfl) rfl rfl ⟨(Nat.le_of_ble_eq_true rfl), (Nat.le_of_ble_eq_true rfl), (Nat.le_of_ble_eq_true rfl)⟩ rfl H (tI_elim (fun v2 h1 H hT => ?_))
    show gm_G _ 222 _ _ _ _
    refine g_iconst rfl rfl rfl (pc' := 223) ?_
    refine g_ic_ne rfl (pc' := 226) (pt := 269) rfl rfl ⟨fun hc => ?_, fun hc => ?_⟩
    · have H := H.1 hc
      exact g_return rfl H
    · have H := H.2 hc
      refine g_aload (r := some _) rfl rfl rfl (pc' := 227) ?_
      refine t_call hT (y := 145) (n := 1) (pc' := 230) rfl rfl (t_vt hT rfl rfl) rfl rfl ⟨(Nat.le_of_ble_eq_true rfl), (Nat.le_of_ble_eq_true rfl), (Nat.le_of_ble_eq_true rfl)⟩ rfl H (tI_elim (fun v4 h3 H hT => ?_))
      show gm_G _ 230 _ _ _ _
      refine g_aload (r := some _) rfl rfl rfl (pc' := 231) ?_
      refine t_get (o := 81) rfl hT rfl rfl rfl (pc' := 234) rfl ?_
      refine g_iload rfl rfl rfl (pc' := 235) ?_
      obtain ⟨n5, hn5, H⟩ := H
      refine t_iaload hT (o := 81) (l := 8) rfl rfl rfl hn5 (pc' := 236) rfl ?_
      refine g_isub rfl rfl (pc' := 237) ?_
      refine g_aload (r := some _) rfl rfl rfl (pc' := 238) ?_
      refine t_get (o := 80) rfl hT rfl rfl rfl (pc' := 241) rfl ?_
      refine g_iload rfl rfl rfl (pc' := 242) ?_
      obtain ⟨n6, hn6, H⟩ := H
      refine t_iaload hT (o := 80) (l := 8) rfl rfl rfl hn6 (pc' := 243) rfl ?_
      refine g_iadd rfl rfl (pc' := 244) ?_
      refine g_iconst rfl rfl rfl (pc' := 246) ?_
      refine g_ic_le rfl (pc' := 249) (pt := 257) rfl rfl ⟨fun hc => ?_, fun hc => ?_⟩
      · have H := H.1 hc
        refine g_aload (r := some _) rfl rfl rfl (pc' := 258) ?_
        refine t_get (o := 81) rfl hT rfl rfl rfl (pc' := 261) rfl ?_
        refine g_iload rfl rfl rfl (pc' := 262) ?_
        refine g_aload (r := some _) rfl rfl rfl (pc' := 263) ?_
        refine t_get (o := 80) rfl hT rfl rfl rfl (pc' := 266) rfl ?_
        refine g_iload rfl rfl rfl (pc' := 267) ?_
        obtain ⟨n7, hn7, H⟩ := H
        refine t_iaload hT (o := 80) (l := 8) rfl rfl rfl hn7 (pc' := 268) rfl ?_
        obtain ⟨n8, hn8, H⟩ := H
        refine t_iastore hT (o := 81) (l := 8) rfl rfl rfl hn8  (pc' := 269) rfl (fun hT => ?_)
        have H := H _ rfl
        exact g_return rfl H
      · have H := H.2 hc
        refine g_aload (r := some _) rfl rfl rfl (pc' := 250) ?_
        refine g_iconst rfl rfl rfl (pc' := 251) ?_
        refine t_putZ rfl hT rfl rfl (by decide) (pc' := 254) rfl (fun hT => ?_)
        have H := H _ rfl
        refine g_goto rfl (pc' := 269) rfl ?_
        exact g_return rfl H
  · have H := H.2 hc
    refine g_aload (r := some _) rfl rfl rfl (pc' := 202) ?_
    refine t_get (o := 81) rfl hT rfl rfl rfl (pc' := 205) rfl ?_
    refine g_iload rfl rfl rfl (pc' := 206) ?_
    refine g_aload (r := some _) rfl rfl rfl (pc' := 207) ?_
    refine t_get (o := 80) rfl hT rfl rfl rfl (pc' := 210) rfl ?_
    refine g_iload rfl rfl rfl (pc' := 211) ?_
    obtain ⟨n11, hn11, H⟩ := H
    refine t_iaload hT (o := 80) (l := 8) rfl rfl rfl hn11 (pc' := 212) rfl ?_
    obtain ⟨n12, hn12, H⟩ := H
    refine t_iastore hT (o := 81) (l := 8) rfl rfl rfl hn12  (pc' := 213) rfl (fun hT => ?_)
    have H := H _ rfl
    refine g_goto rfl (pc' := 269) rfl ?_
    exact g_return rfl H
theorem w_365_0 {m : Nat} {x1 : Int32} {x2 : Int32} {h : hh_T} {Q : Option Value ⊕ Nat → hh_T → Prop} (hT : tw_ok h m) (H : gm_G 365 5 [some (.ref m), some (.int x1), some (.int x2), some (.int (Int32.ofInt (-1))), some (.int (Int32.ofNat 0))] [] h Q) : gm_G 365 0 [some (.ref m), some (.int x1), some (.int x2)] [] h Q := by
  refine g_iconst rfl rfl rfl (pc' := 1) ?_
  refine g_istore rfl rfl rfl (pc' := 2) ?_
  refine g_iconst rfl rfl rfl (pc' := 3) ?_
  refine g_istore rfl rfl rfl (pc' := 5) ?_
  exact g_weak (show gm_Lle [some _, some _, some _, some _, some _] _ from ⟨rfl, ⟨rfl, ⟨rfl, ⟨rfl, ⟨rfl, trivial⟩⟩⟩⟩⟩) H
theorem w_365_5 {m : Nat} {x1 : Int32} {x2 : Int32} {x3 : Int32} {x4 : Int32} {h : hh_T} {Q : Option Value ⊕ Nat → hh_T → Prop} (hT : tw_ok h m) (H : (¬ x4 < (hh_i h m 19) → (Q (.inl (some (.int x3))) h)) ∧ (x4 < (hh_i h m 19) → ((x4 = x2 → (gm_G 365 69 [some (.ref m), some (.int x1), some (.int x2), some (.int x3), some (.int x4)] [] h Q)) ∧ (¬ x4 = x2 → (gm_G 120 0 [some (.ref m), some (.int x4)] [] h (pI (fun v2 h1 => (v2 = Int32.ofNat 0 → (gm_G 365 69 [some (.ref m), some (.int x1), some (.int x2), some (.int x3), some (.int x4)] [] h1 Q)) ∧ (¬ v2 = Int32.ofNat 0 → (gm_G 149 0 [some (.ref m), some (.int x4), some (.int x1)] [] h1 (pI (fun v4 h3 => gm_G 280 0 [some (.ref m), some (.int x4), some (.int v4)] [] h3 (pI (fun v6 h5 => (¬ v6 < Int32.ofNat 0 → ((x3 < Int32.ofNat 0 → (gm_G 365 66 [some (.ref m), some (.int x1), some (.int x2), none, some (.int x4)] [] h5 Q)) ∧ (¬ x3 < Int32.ofNat 0 → (gm_G 279 0 [some (.ref m), some (.int x4)] [] h5 (pI (fun v8 h7 => gm_G 279 0 [some (.ref m), some (.int x3)] [] h7 (pI (fun v10 h9 => (¬ v10 < v8 → (gm_G 365 69 [some (.ref m), some (.int x1), some (.int x2), some (.int x3), some (.int x4)] [] h9 Q)) ∧ (v10 < v8 → (gm_G 365 66 [some (.ref m), some (.int x1), some (.int x2), none, some (.int x4)] [] h9 Q))) (fun _ _ => False))) (fun _ _ => False)))))) ∧ (v6 < Int32.ofNat 0 → (gm_G 365 69 [some (.ref m), some (.int x1), some (.int x2), some (.int x3), some (.int x4)] [] h5 Q))) (fun _ _ => False))) (fun _ _ => False))))) (fun _ _ => False))))))) : gm_G 365 5 [some (.ref m), some (.int x1), some (.int x2), some (.int x3), some (.int x4)] [] h Q := by
  refine g_iload rfl rfl rfl (pc' := 7) ?_
  refine g_aload (r := some _) rfl rfl rfl (pc' := 8) ?_
  refine t_getI rfl hT rfl rfl (pc' := 11) rfl ?_
  refine g_ic_ge rfl (pc' := 14) (pt := 75) rfl rfl ⟨fun hc => ?_, fun hc => ?_⟩
  · have H := H.1 hc
    refine g_iload rfl rfl rfl (pc' := 76) ?_
    exact g_ireturn rfl (Or.inl rfl) H
  · have H := H.2 hc
    refine g_iload rfl rfl rfl (pc' := 16) ?_
    refine g_iload rfl rfl rfl (pc' := 17) ?_
    refine g_ic_eq rfl (pc' := 20) (pt := 69) rfl rfl ⟨fun hc => ?_, fun hc => ?_⟩
    · have H := H.1 hc
      exact g_weak (show gm_Lle [some _, some _, some _, some _, some _] _ from ⟨rfl, ⟨rfl, ⟨rfl, ⟨rfl, ⟨rfl, trivial⟩⟩⟩⟩⟩) H
    · have H := H.2 hc
      refine g_aload (r := some _) rfl rfl rfl (pc' := 21) ?_
      refine g_iload rfl rfl rfl (pc' := 23) ?_
      refine t_call hT (y := 120) (n := 2) (pc' := 26) rfl rfl (t_vt hT rfl rfl) rfl rfl ⟨(Nat.le_of_ble_eq_true rfl), (Nat.le_of_ble_eq_true rfl), (Nat.le_of_ble_eq_true rfl)⟩ rfl H (tI_elim (fun v2 h1 H hT => ?_))
      show gm_G _ 26 _ _ _ _
      refine g_if_eq rfl (pc' := 29) (pt := 69) rfl rfl ⟨fun hc => ?_, fun hc => ?_⟩
      · have H := H.1 hc
        exact g_weak (show gm_Lle [some _, some _, some _, some _, some _] _ from ⟨rfl, ⟨rfl, ⟨rfl, ⟨rfl, ⟨rfl, trivial⟩⟩⟩⟩⟩) H
      · have H := H.2 hc
        refine g_aload (r := some _) rfl rfl rfl (pc' := 30) ?_
        refine g_iload rfl rfl rfl (pc' := 32) ?_
        refine g_aload (r := some _) rfl rfl rfl (pc' := 33) ?_
        refine g_iload rfl rfl rfl (pc' := 35) ?_
        refine g_iload rfl rfl rfl (pc' := 36) ?_
        refine t_call hT (y := 149) (n := 3) (pc' := 39) rfl rfl (t_vt hT rfl rfl) rfl rfl ⟨(Nat.le_of_ble_eq_true rfl), (Nat.le_of_ble_eq_true rfl), (Nat.le_of_ble_eq_true rfl)⟩ rfl H (tI_elim (fun v4 h3 H hT => ?_))
        show gm_G _ 39 _ _ _ _
        refine t_call hT (y := 280) (n := 3) (pc' := 42) rfl rfl (t_vt hT rfl rfl) rfl rfl ⟨(Nat.le_of_ble_eq_true rfl), (Nat.le_of_ble_eq_true rfl), (Nat.le_of_ble_eq_true rfl)⟩ rfl H (tI_elim (fun v6 h5 H hT => ?_))
        show gm_G _ 42 _ _ _ _
        refine g_if_ge rfl (pc' := 45) (pt := 48) rfl rfl ⟨fun hc => ?_, fun hc => ?_⟩
        · have H := H.1 hc
          refine g_iload rfl rfl rfl (pc' := 49) ?_
          refine g_if_lt rfl (pc' := 52) (pt := 66) rfl rfl ⟨fun hc => ?_, fun hc => ?_⟩
          · have H := H.1 hc
            exact g_weak (show gm_Lle [some _, some _, some _, none, some _] _ from ⟨rfl, ⟨rfl, ⟨rfl, ⟨rfl, trivial⟩⟩⟩⟩) H
          · have H := H.2 hc
            refine g_aload (r := some _) rfl rfl rfl (pc' := 53) ?_
            refine g_iload rfl rfl rfl (pc' := 55) ?_
            refine t_call hT (y := 279) (n := 2) (pc' := 58) rfl rfl (t_vt hT rfl rfl) rfl rfl ⟨(Nat.le_of_ble_eq_true rfl), (Nat.le_of_ble_eq_true rfl), (Nat.le_of_ble_eq_true rfl)⟩ rfl H (tI_elim (fun v8 h7 H hT => ?_))
            show gm_G _ 58 _ _ _ _
            refine g_aload (r := some _) rfl rfl rfl (pc' := 59) ?_
            refine g_iload rfl rfl rfl (pc' := 60) ?_
            refine t_call hT (y := 279) (n := 2) (pc' := 63) rfl rfl (t_vt hT rfl rfl) rfl rfl ⟨(Nat.le_of_ble_eq_true rfl), (Nat.le_of_ble_eq_true rfl), (Nat.le_of_ble_eq_true rfl)⟩ rfl H (tI_elim (fun v10 h9 H hT => ?_))
            show gm_G _ 63 _ _ _ _
            refine g_ic_le rfl (pc' := 66) (pt := 69) rfl rfl ⟨fun hc => ?_, fun hc => ?_⟩
            · have H := H.1 hc
              exact g_weak (show gm_Lle [some _, some _, some _, some _, some _] _ from ⟨rfl, ⟨rfl, ⟨rfl, ⟨rfl, ⟨rfl, trivial⟩⟩⟩⟩⟩) H
            · have H := H.2 hc
              exact g_weak (show gm_Lle [some _, some _, some _, none, some _] _ from ⟨rfl, ⟨rfl, ⟨rfl, ⟨rfl, trivial⟩⟩⟩⟩) H
        · have H := H.2 hc
          refine g_goto rfl (pc' := 69) rfl ?_
          exact g_weak (show gm_Lle [some _, some _, some _, some _, some _] _ from ⟨rfl, ⟨rfl, ⟨rfl, ⟨rfl, ⟨rfl, trivial⟩⟩⟩⟩⟩) H
theorem w_365_66 {m : Nat} {x1 : Int32} {x2 : Int32} {x4 : Int32} {h : hh_T} {Q : Option Value ⊕ Nat → hh_T → Prop} (hT : tw_ok h m) (H : gm_G 365 69 [some (.ref m), some (.int x1), some (.int x2), some (.int x4), some (.int x4)] [] h Q) : gm_G 365 66 [some (.ref m), some (.int x1), some (.int x2), none, some (.int x4)] [] h Q := by
  refine g_iload rfl rfl rfl (pc' := 68) ?_
  refine g_istore rfl rfl rfl (pc' := 69) ?_
  exact g_weak (show gm_Lle [some _, some _, some _, some _, some _] _ from ⟨rfl, ⟨rfl, ⟨rfl, ⟨rfl, ⟨rfl, trivial⟩⟩⟩⟩⟩) H
theorem w_365_69 {m : Nat} {x1 : Int32} {x2 : Int32} {x3 : Int32} {x4 : Int32} {h : hh_T} {Q : Option Value ⊕ Nat → hh_T → Prop} (hT : tw_ok h m) (H : gm_G 365 5 [some (.ref m), some (.int x1), some (.int x2), some (.int x3), some (.int (x4 + (Int32.ofNat 1)))] [] h Q) : gm_G 365 69 [some (.ref m), some (.int x1), some (.int x2), some (.int x3), some (.int x4)] [] h Q := by
  refine g_iinc (c := (Int32.ofNat 1)) rfl rfl rfl rfl rfl (pc' := 72) ?_
  refine g_goto rfl (pc' := 5) rfl ?_
  exact g_weak (show gm_Lle [some _, some _, some _, some _, some _] _ from ⟨rfl, ⟨rfl, ⟨rfl, ⟨rfl, ⟨rfl, trivial⟩⟩⟩⟩⟩) H
theorem w_366_0 {m : Nat} {x1 : Int32} {h : hh_T} {Q : Option Value ⊕ Nat → hh_T → Prop} (hT : tw_ok h m) (H : gm_G 152 0 [some (.ref m), some (.int x1)] [] h (pI (fun v2 h1 => (¬ v2 < Int32.ofNat 0 → (∃ n3, gm_ix v2 n3 32 ∧ ((¬ Int32.ofNat 0 < (hh_i h1 (m + 61) n3) → (gm_G 297 0 [some (.ref m), some (.int v2), some (.int (Int32.ofNat 3))] [] h1 (pI (fun v5 h4 => (¬ v5 = (Int32.ofNat 1) → (Q (.inl (some (.int (Int32.ofNat 0)))) h4)) ∧ (v5 = (Int32.ofNat 1) → (Q (.inl (some (.int (Int32.ofInt (-6))))) h4))) (fun _ _ => False)))) ∧ (Int32.ofNat 0 < (hh_i h1 (m + 61) n3) → (Q (.inl (some (.int (Int32.ofInt (-10))))) h1))))) ∧ (v2 < Int32.ofNat 0 → (Q (.inl (some (.int (Int32.ofInt (-2))))) h1))) (fun _ _ => False))) : gm_G 366 0 [some (.ref m), some (.int x1)] [] h Q := by
  refine g_aload (r := some _) rfl rfl rfl (pc' := 1) ?_
  refine g_iload rfl rfl rfl (pc' := 2) ?_
  refine t_call hT (y := 152) (n := 2) (pc' := 5) rfl rfl (t_vt hT rfl rfl) rfl rfl ⟨(Nat.le_of_ble_eq_true rfl), (Nat.le_of_ble_eq_true rfl), (Nat.le_of_ble_eq_true rfl)⟩ rfl H (tI_elim (fun v2 h1 H hT => ?_))
  show gm_G _ 5 _ _ _ _
  refine g_istore rfl rfl rfl (pc' := 6) ?_
  refine g_iload rfl rfl rfl (pc' := 7) ?_
  refine g_if_ge rfl (pc' := 10) (pt := 13) rfl rfl ⟨fun hc => ?_, fun hc => ?_⟩
  · have H := H.1 hc
    refine g_aload (r := some _) rfl rfl rfl (pc' := 14) ?_
    refine t_get (o := 61) rfl hT rfl rfl rfl (pc' := 17) rfl ?_
    refine g_iload rfl rfl rfl (pc' := 18) ?_
    obtain ⟨n3, hn3, H⟩ := H
    refine t_iaload hT (o := 61) (l := 32) rfl rfl rfl hn3 (pc' := 19) rfl ?_
    refine g_if_le rfl (pc' := 22) (pt := 27) rfl rfl ⟨fun hc => ?_, fun hc => ?_⟩
    · have H := H.1 hc
      refine g_aload (r := some _) rfl rfl rfl (pc' := 28) ?_
      refine g_iload rfl rfl rfl (pc' := 29) ?_
      refine g_iconst rfl rfl rfl (pc' := 30) ?_
      refine t_call hT (y := 297) (n := 3) (pc' := 33) rfl rfl (t_vt hT rfl rfl) rfl rfl ⟨(Nat.le_of_ble_eq_true rfl), (Nat.le_of_ble_eq_true rfl), (Nat.le_of_ble_eq_true rfl)⟩ rfl H (tI_elim (fun v5 h4 H hT => ?_))
      show gm_G _ 33 _ _ _ _
      refine g_iconst rfl rfl rfl (pc' := 34) ?_
      refine g_ic_ne rfl (pc' := 37) (pt := 42) rfl rfl ⟨fun hc => ?_, fun hc => ?_⟩
      · have H := H.1 hc
        refine g_iconst rfl rfl rfl (pc' := 43) ?_
        exact g_ireturn rfl (Or.inl rfl) H
      · have H := H.2 hc
        refine g_iconst rfl rfl rfl (pc' := 39) ?_
        refine g_goto rfl (pc' := 43) rfl ?_
        exact g_ireturn rfl (Or.inl rfl) H
    · have H := H.2 hc
      refine g_iconst rfl rfl rfl (pc' := 24) ?_
      refine g_goto rfl (pc' := 43) rfl ?_
      exact g_ireturn rfl (Or.inl rfl) H
  · have H := H.2 hc
    refine g_iconst rfl rfl rfl (pc' := 12) ?_
    exact g_ireturn rfl (Or.inl rfl) H
theorem w_367_0 {m : Nat} {x1 : Int32} {h : hh_T} {Q : Option Value ⊕ Nat → hh_T → Prop} (hT : tw_ok h m) (H : gm_G 307 0 [some (.ref m), some (.int x1)] [] h (pI (fun v2 h1 => (¬ v2 < Int32.ofNat 0 → (gm_G 306 0 [some (.ref m), some (.int x1)] [] h1 (pI (fun v4 h3 => (¬ Int32.ofNat 0 < v4 → (Q (.inl (some (.int (Int32.ofNat 0)))) h3)) ∧ (Int32.ofNat 0 < v4 → (Q (.inl (some (.int (Int32.ofInt (-10))))) h3))) (fun _ _ => False)))) ∧ (v2 < Int32.ofNat 0 → (Q (.inl (some (.int (Int32.ofInt (-2))))) h1))) (fun _ _ => False))) : gm_G 367 0 [some (.ref m), some (.int x1)] [] h Q := by
  refine g_aload (r := some _) rfl rfl rfl (pc' := 1) ?_
  refine g_iload rfl rfl rfl (pc' := 2) ?_
  refine t_call hT (y := 307) (n := 2) (pc' := 5) rfl rfl (t_vt hT rfl rfl) rfl rfl ⟨(Nat.le_of_ble_eq_true rfl), (Nat.le_of_ble_eq_true rfl), (Nat.le_of_ble_eq_true rfl)⟩ rfl H (tI_elim (fun v2 h1 H hT => ?_))
  show gm_G _ 5 _ _ _ _
  refine g_if_ge rfl (pc' := 8) (pt := 11) rfl rfl ⟨fun hc => ?_, fun hc => ?_⟩
  · have H := H.1 hc
    refine g_aload (r := some _) rfl rfl rfl (pc' := 12) ?_
    refine g_iload rfl rfl rfl (pc' := 13) ?_
    refine t_call hT (y := 306) (n := 2) (pc' := 16) rfl rfl (t_vt hT rfl rfl) rfl rfl ⟨(Nat.le_of_ble_eq_true rfl), (Nat.le_of_ble_eq_true rfl), (Nat.le_of_ble_eq_true rfl)⟩ rfl H (tI_elim (fun v4 h3 H hT => ?_))
    show gm_G _ 16 _ _ _ _
    refine g_if_le rfl (pc' := 19) (pt := 24) rfl rfl ⟨fun hc => ?_, fun hc => ?_⟩
    · have H := H.1 hc
      refine g_iconst rfl rfl rfl (pc' := 25) ?_
      exact g_ireturn rfl (Or.inl rfl) H
    · have H := H.2 hc
      refine g_iconst rfl rfl rfl (pc' := 21) ?_
      refine g_goto rfl (pc' := 25) rfl ?_
      exact g_ireturn rfl (Or.inl rfl) H
  · have H := H.2 hc
    refine g_iconst rfl rfl rfl (pc' := 10) ?_
    exact g_ireturn rfl (Or.inl rfl) H
theorem w_368_0 {m : Nat}  {h : hh_T} {Q : Option Value ⊕ Nat → hh_T → Prop} (hT : tw_ok h m) (H : ∀ h1, h1 = hh_wi h m 2 (Int32.ofNat 0) → ((¬ (hh_i h1 m 77) = Int32.ofNat 0 → (gm_G 368 24 [some (.ref m), some (.int (hh_i h m 2)), some (.int (Int32.ofNat 0)), some (.int (Int32.ofNat 0))] [] h1 Q)) ∧ ((hh_i h1 m 77) = Int32.ofNat 0 → (Q (.inl (some (.int (Int32.ofInt (-9))))) h1)))) : gm_G 368 0 [some (.ref m)] [] h Q := by
  refine g_aload (r := some _) rfl rfl rfl (pc' := 1) ?_
  refine t_getI rfl hT rfl rfl (pc' := 4) rfl ?_
  refine g_istore rfl rfl rfl (pc' := 5) ?_
  refine g_aload (r := some _) rfl rfl rfl (pc' := 6) ?_
  refine g_iconst rfl rfl rfl (pc' := 7) ?_
  refine t_putI rfl hT rfl rfl  (pc' := 10) rfl (fun hT => ?_)
  have H := H _ rfl
  refine g_aload (r := some _) rfl rfl rfl (pc' := 11) ?_
  refine t_getZ rfl hT rfl rfl (pc' := 14) rfl ?_
  refine g_if_ne rfl (pc' := 17) (pt := 20) rfl rfl ⟨fun hc => ?_, fun hc => ?_⟩
  · have H := H.1 hc
    refine g_iconst rfl rfl rfl (pc' := 21) ?_
    refine g_istore rfl rfl rfl (pc' := 22) ?_
    refine g_iconst rfl rfl rfl (pc' := 23) ?_
    refine g_istore rfl rfl rfl (pc' := 24) ?_
    exact g_weak (show gm_Lle [some _, some _, some _, some _] _ from ⟨rfl, ⟨rfl, ⟨rfl, ⟨rfl, trivial⟩⟩⟩⟩) H
  · have H := H.2 hc
    refine g_iconst rfl rfl rfl (pc' := 19) ?_
    exact g_ireturn rfl (Or.inl rfl) H
theorem w_368_24 {m : Nat} {x1 : Int32} {x2 : Int32} {x3 : Int32} {h : hh_T} {Q : Option Value ⊕ Nat → hh_T → Prop} (hT : tw_ok h m) (H : (¬ Int32.ofNat 0 < x1 → (gm_G 368 80 [some (.ref m), some (.int x1)] [] h Q)) ∧ (Int32.ofNat 0 < x1 → ((x1 < x3 → (gm_G 368 80 [some (.ref m), some (.int x1)] [] h Q)) ∧ (¬ x1 < x3 → ((¬ x3 < x1 → (gm_G 368 52 [some (.ref m), some (.int x1), some (.int x2), some (.int x3)] [] h Q)) ∧ (x3 < x1 → (∃ n1, gm_ix x3 n1 320 ∧ (((hh_i h (m + 1) n1) = (Int32.ofNat 47) → (gm_G 368 52 [some (.ref m), some (.int x1), some (.int x2), some (.int x3)] [] h Q)) ∧ (¬ (hh_i h (m + 1) n1) = (Int32.ofNat 47) → (gm_G 368 74 [some (.ref m), some (.int x1), some (.int x2), some (.int x3)] [] h Q)))))))))) : gm_G 368 24 [some (.ref m), some (.int x1), some (.int x2), some (.int x3)] [] h Q := by
  refine g_iload rfl rfl rfl (pc' := 25) ?_
  refine g_if_le rfl (pc' := 28) (pt := 80) rfl rfl ⟨fun hc => ?_, fun hc => ?_⟩
  · have H := H.1 hc
    exact g_weak (show gm_Lle [some _, some _] _ from ⟨rfl, ⟨rfl, trivial⟩⟩) H
  · have H := H.2 hc
    refine g_iload rfl rfl rfl (pc' := 29) ?_
    refine g_iload rfl rfl rfl (pc' := 30) ?_
    refine g_ic_gt rfl (pc' := 33) (pt := 80) rfl rfl ⟨fun hc => ?_, fun hc => ?_⟩
    · have H := H.1 hc
      exact g_weak (show gm_Lle [some _, some _] _ from ⟨rfl, ⟨rfl, trivial⟩⟩) H
    · have H := H.2 hc
      refine g_iload rfl rfl rfl (pc' := 34) ?_
      refine g_iload rfl rfl rfl (pc' := 35) ?_
      refine g_ic_ge rfl (pc' := 38) (pt := 52) rfl rfl ⟨fun hc => ?_, fun hc => ?_⟩
      · have H := H.1 hc
        exact g_weak (show gm_Lle [some _, some _, some _, some _] _ from ⟨rfl, ⟨rfl, ⟨rfl, ⟨rfl, trivial⟩⟩⟩⟩) H
      · have H := H.2 hc
        refine g_aload (r := some _) rfl rfl rfl (pc' := 39) ?_
        refine t_get (o := 1) rfl hT rfl rfl rfl (pc' := 42) rfl ?_
        refine g_iload rfl rfl rfl (pc' := 43) ?_
        obtain ⟨n1, hn1, H⟩ := H
        refine t_baload hT (o := 1) (l := 320) rfl rfl rfl hn1 (pc' := 44) rfl ?_
        refine g_iconst rfl rfl rfl (pc' := 46) ?_
        refine g_ic_eq rfl (pc' := 49) (pt := 52) rfl rfl ⟨fun hc => ?_, fun hc => ?_⟩
        · have H := H.1 hc
          exact g_weak (show gm_Lle [some _, some _, some _, some _] _ from ⟨rfl, ⟨rfl, ⟨rfl, ⟨rfl, trivial⟩⟩⟩⟩) H
        · have H := H.2 hc
          refine g_goto rfl (pc' := 74) rfl ?_
          exact g_weak (show gm_Lle [some _, some _, some _, some _] _ from ⟨rfl, ⟨rfl, ⟨rfl, ⟨rfl, trivial⟩⟩⟩⟩) H
theorem w_368_52 {m : Nat} {x1 : Int32} {x2 : Int32} {x3 : Int32} {h : hh_T} {Q : Option Value ⊕ Nat → hh_T → Prop} (hT : tw_ok h m) (H : gm_G 285 0 [some (.ref m), some (.ref (m + 1)), some (.int x2), some (.int (x3 - x2))] [] h (pI (fun v2 h1 => (¬ v2 = Int32.ofNat 0 → (gm_G 368 74 [some (.ref m), some (.int x1), some (.int (x3 + (Int32.ofNat 1))), some (.int x3)] [] h1 Q)) ∧ (v2 = Int32.ofNat 0 → (Q (.inl (some (.int (Int32.ofInt (-11))))) h1))) (fun _ _ => False))) : gm_G 368 52 [some (.ref m), some (.int x1), some (.int x2), some (.int x3)] [] h Q := by
  refine g_aload (r := some _) rfl rfl rfl (pc' := 53) ?_
  refine g_aload (r := some _) rfl rfl rfl (pc' := 54) ?_
  refine t_get (o := 1) rfl hT rfl rfl rfl (pc' := 57) rfl ?_
  refine g_iload rfl rfl rfl (pc' := 58) ?_
  refine g_iload rfl rfl rfl (pc' := 59) ?_
  refine g_iload rfl rfl rfl (pc' := 60) ?_
  refine g_isub rfl rfl (pc' := 61) ?_
  refine t_call hT (y := 285) (n := 4) (pc' := 64) rfl rfl (t_vt hT rfl rfl) rfl rfl ⟨(Nat.le_of_ble_eq_true rfl), (Nat.le_of_ble_eq_true rfl), (Nat.le_of_ble_eq_true rfl)⟩ rfl H (tI_elim (fun v2 h1 H hT => ?_))
  show gm_G _ 64 _ _ _ _
  refine g_if_ne rfl (pc' := 67) (pt := 70) rfl rfl ⟨fun hc => ?_, fun hc => ?_⟩
  · have H := H.1 hc
    refine g_iload rfl rfl rfl (pc' := 71) ?_
    refine g_iconst rfl rfl rfl (pc' := 72) ?_
    refine g_iadd rfl rfl (pc' := 73) ?_
    refine g_istore rfl rfl rfl (pc' := 74) ?_
    exact g_weak (show gm_Lle [some _, some _, some _, some _] _ from ⟨rfl, ⟨rfl, ⟨rfl, ⟨rfl, trivial⟩⟩⟩⟩) H
  · have H := H.2 hc
    refine g_iconst rfl rfl rfl (pc' := 69) ?_
    exact g_ireturn rfl (Or.inl rfl) H
theorem w_368_74 {m : Nat} {x1 : Int32} {x2 : Int32} {x3 : Int32} {h : hh_T} {Q : Option Value ⊕ Nat → hh_T → Prop} (hT : tw_ok h m) (H : gm_G 368 24 [some (.ref m), some (.int x1), some (.int x2), some (.int (x3 + (Int32.ofNat 1)))] [] h Q) : gm_G 368 74 [some (.ref m), some (.int x1), some (.int x2), some (.int x3)] [] h Q := by
  refine g_iinc (c := (Int32.ofNat 1)) rfl rfl rfl rfl rfl (pc' := 77) ?_
  refine g_goto rfl (pc' := 24) rfl ?_
  exact g_weak (show gm_Lle [some _, some _, some _, some _] _ from ⟨rfl, ⟨rfl, ⟨rfl, ⟨rfl, trivial⟩⟩⟩⟩) H
theorem w_368_80 {m : Nat} {x1 : Int32} {h : hh_T} {Q : Option Value ⊕ Nat → hh_T → Prop} (hT : tw_ok h m) (H : gm_G 368 87 [some (.ref m), some (.int x1), some (.int (Int32.ofNat 0)), some (.int (Int32.ofNat 0)), some (.int (Int32.ofNat 0))] [] h Q) : gm_G 368 80 [some (.ref m), some (.int x1)] [] h Q := by
  refine g_iconst rfl rfl rfl (pc' := 81) ?_
  refine g_istore rfl rfl rfl (pc' := 82) ?_
  refine g_iconst rfl rfl rfl (pc' := 83) ?_
  refine g_istore rfl rfl rfl (pc' := 84) ?_
  refine g_iconst rfl rfl rfl (pc' := 85) ?_
  refine g_istore rfl rfl rfl (pc' := 87) ?_
  exact g_weak (show gm_Lle [some _, some _, some _, some _, some _] _ from ⟨rfl, ⟨rfl, ⟨rfl, ⟨rfl, ⟨rfl, trivial⟩⟩⟩⟩⟩) H
theorem w_368_87 {m : Nat} {x1 : Int32} {x2 : Int32} {x3 : Int32} {x4 : Int32} {h : hh_T} {Q : Option Value ⊕ Nat → hh_T → Prop} (hT : tw_ok h m) (H : (¬ Int32.ofNat 0 < x1 → (gm_G 368 161 [none, none, none, some (.int x3)] [] h Q)) ∧ (Int32.ofNat 0 < x1 → ((x1 < x4 → (gm_G 368 161 [none, none, none, some (.int x3)] [] h Q)) ∧ (¬ x1 < x4 → ((¬ x4 < x1 → (gm_G 368 118 [some (.ref m), some (.int x1), some (.int x2), some (.int x3), some (.int x4)] [] h Q)) ∧ (x4 < x1 → (∃ n1, gm_ix x4 n1 320 ∧ (((hh_i h (m + 1) n1) = (Int32.ofNat 47) → (gm_G 368 118 [some (.ref m), some (.int x1), some (.int x2), some (.int x3), some (.int x4)] [] h Q)) ∧ (¬ (hh_i h (m + 1) n1) = (Int32.ofNat 47) → (gm_G 368 155 [some (.ref m), some (.int x1), some (.int x2), some (.int x3), some (.int x4)] [] h Q)))))))))) : gm_G 368 87 [some (.ref m), some (.int x1), some (.int x2), some (.int x3), some (.int x4)] [] h Q := by
  refine g_iload rfl rfl rfl (pc' := 88) ?_
  refine g_if_le rfl (pc' := 91) (pt := 161) rfl rfl ⟨fun hc => ?_, fun hc => ?_⟩
  · have H := H.1 hc
    exact g_weak (show gm_Lle [none, none, none, some _] _ from ⟨rfl, trivial⟩) H
  · have H := H.2 hc
    refine g_iload rfl rfl rfl (pc' := 93) ?_
    refine g_iload rfl rfl rfl (pc' := 94) ?_
    refine g_ic_gt rfl (pc' := 97) (pt := 161) rfl rfl ⟨fun hc => ?_, fun hc => ?_⟩
    · have H := H.1 hc
      exact g_weak (show gm_Lle [none, none, none, some _] _ from ⟨rfl, trivial⟩) H
    · have H := H.2 hc
      refine g_iload rfl rfl rfl (pc' := 99) ?_
      refine g_iload rfl rfl rfl (pc' := 100) ?_
      refine g_ic_ge rfl (pc' := 103) (pt := 118) rfl rfl ⟨fun hc => ?_, fun hc => ?_⟩
      · have H := H.1 hc
        exact g_weak (show gm_Lle [some _, some _, some _, some _, some _] _ from ⟨rfl, ⟨rfl, ⟨rfl, ⟨rfl, ⟨rfl, trivial⟩⟩⟩⟩⟩) H
      · have H := H.2 hc
        refine g_aload (r := some _) rfl rfl rfl (pc' := 104) ?_
        refine t_get (o := 1) rfl hT rfl rfl rfl (pc' := 107) rfl ?_
        refine g_iload rfl rfl rfl (pc' := 109) ?_
        obtain ⟨n1, hn1, H⟩ := H
        refine t_baload hT (o := 1) (l := 320) rfl rfl rfl hn1 (pc' := 110) rfl ?_
        refine g_iconst rfl rfl rfl (pc' := 112) ?_
        refine g_ic_eq rfl (pc' := 115) (pt := 118) rfl rfl ⟨fun hc => ?_, fun hc => ?_⟩
        · have H := H.1 hc
          exact g_weak (show gm_Lle [some _, some _, some _, some _, some _] _ from ⟨rfl, ⟨rfl, ⟨rfl, ⟨rfl, ⟨rfl, trivial⟩⟩⟩⟩⟩) H
        · have H := H.2 hc
          refine g_goto rfl (pc' := 155) rfl ?_
          exact g_weak (show gm_Lle [some _, some _, some _, some _, some _] _ from ⟨rfl, ⟨rfl, ⟨rfl, ⟨rfl, ⟨rfl, trivial⟩⟩⟩⟩⟩) H
theorem w_368_118 {m : Nat} {x1 : Int32} {x2 : Int32} {x3 : Int32} {x4 : Int32} {h : hh_T} {Q : Option Value ⊕ Nat → hh_T → Prop} (hT : tw_ok h m) (H : gm_G 94 0 [some (.ref m), some (.int x3), some (.ref (m + 1)), some (.int x2), some (.int (x4 - x2))] [] h (pI (fun v2 h1 => (¬ v2 < Int32.ofNat 0 → (∃ n3, gm_ix v2 n3 32 ∧ (gm_G 368 155 [some (.ref m), some (.int x1), some (.int (x4 + (Int32.ofNat 1))), some (.int (hh_i h1 (m + 59) n3)), some (.int x4)] [] h1 Q))) ∧ (v2 < Int32.ofNat 0 → (Q (.inl (some (.int (Int32.ofInt (-2))))) h1))) (fun _ _ => False))) : gm_G 368 118 [some (.ref m), some (.int x1), some (.int x2), some (.int x3), some (.int x4)] [] h Q := by
  refine g_aload (r := some _) rfl rfl rfl (pc' := 119) ?_
  refine g_iload rfl rfl rfl (pc' := 120) ?_
  refine g_aload (r := some _) rfl rfl rfl (pc' := 121) ?_
  refine t_get (o := 1) rfl hT rfl rfl rfl (pc' := 124) rfl ?_
  refine g_iload rfl rfl rfl (pc' := 125) ?_
  refine g_iload rfl rfl rfl (pc' := 127) ?_
  refine g_iload rfl rfl rfl (pc' := 128) ?_
  refine g_isub rfl rfl (pc' := 129) ?_
  refine t_call hT (y := 94) (n := 5) (pc' := 132) rfl rfl (t_vt hT rfl rfl) rfl rfl ⟨(Nat.le_of_ble_eq_true rfl), (Nat.le_of_ble_eq_true rfl), (Nat.le_of_ble_eq_true rfl)⟩ rfl H (tI_elim (fun v2 h1 H hT => ?_))
  show gm_G _ 132 _ _ _ _
  refine g_istore rfl rfl rfl (pc' := 134) ?_
  refine g_iload rfl rfl rfl (pc' := 136) ?_
  refine g_if_ge rfl (pc' := 139) (pt := 142) rfl rfl ⟨fun hc => ?_, fun hc => ?_⟩
  · have H := H.1 hc
    refine g_aload (r := some _) rfl rfl rfl (pc' := 143) ?_
    refine t_get (o := 59) rfl hT rfl rfl rfl (pc' := 146) rfl ?_
    refine g_iload rfl rfl rfl (pc' := 148) ?_
    obtain ⟨n3, hn3, H⟩ := H
    refine t_iaload hT (o := 59) (l := 32) rfl rfl rfl hn3 (pc' := 149) rfl ?_
    refine g_istore rfl rfl rfl (pc' := 150) ?_
    refine g_iload rfl rfl rfl (pc' := 152) ?_
    refine g_iconst rfl rfl rfl (pc' := 153) ?_
    refine g_iadd rfl rfl (pc' := 154) ?_
    refine g_istore rfl rfl rfl (pc' := 155) ?_
    exact g_weak (show gm_Lle [some _, some _, some _, some _, some _] _ from ⟨rfl, ⟨rfl, ⟨rfl, ⟨rfl, ⟨rfl, trivial⟩⟩⟩⟩⟩) H
  · have H := H.2 hc
    refine g_iconst rfl rfl rfl (pc' := 141) ?_
    exact g_ireturn rfl (Or.inl rfl) H
theorem w_368_155 {m : Nat} {x1 : Int32} {x2 : Int32} {x3 : Int32} {x4 : Int32} {h : hh_T} {Q : Option Value ⊕ Nat → hh_T → Prop} (hT : tw_ok h m) (H : gm_G 368 87 [some (.ref m), some (.int x1), some (.int x2), some (.int x3), some (.int (x4 + (Int32.ofNat 1)))] [] h Q) : gm_G 368 155 [some (.ref m), some (.int x1), some (.int x2), some (.int x3), some (.int x4)] [] h Q := by
  refine g_iinc (c := (Int32.ofNat 1)) rfl rfl rfl rfl rfl (pc' := 158) ?_
  refine g_goto rfl (pc' := 87) rfl ?_
  exact g_weak (show gm_Lle [some _, some _, some _, some _, some _] _ from ⟨rfl, ⟨rfl, ⟨rfl, ⟨rfl, ⟨rfl, trivial⟩⟩⟩⟩⟩) H
theorem w_368_161 {m : Nat} {x3 : Int32} {h : hh_T} {Q : Option Value ⊕ Nat → hh_T → Prop} (hT : tw_ok h m) (H : Q (.inl (some (.int x3))) h) : gm_G 368 161 [none, none, none, some (.int x3)] [] h Q := by
  refine g_iload rfl rfl rfl (pc' := 162) ?_
  exact g_ireturn rfl (Or.inl rfl) H
theorem w_369_0 {m : Nat} {x1 : Int32} {h : hh_T} {Q : Option Value ⊕ Nat → hh_T → Prop} (hT : tw_ok h m) (H : gm_G 114 0 [some (.ref m)] [] h (pI (fun v2 h1 => gm_G 114 0 [some (.ref m)] [] h1 (pI (fun v4 h3 => gm_G 281 0 [some (.ref m), some (.int (Int32.ofNat 2))] [] h3 (pI (fun v6 h5 => gm_G 114 0 [some (.ref m)] [] h5 (pI (fun v8 h7 => gm_G 114 0 [some (.ref m)] [] h7 (pI (fun v10 h9 => gm_G 114 0 [some (.ref m)] [] h9 (pI (fun v12 h11 => gm_G 281 0 [some (.ref m), some (.int (Int32.ofNat 2))] [] h11 (pI (fun v14 h13 => gm_G 281 0 [some (.ref m), some (.int (Int32.ofNat 4))] [] h13 (pI (fun v16 h15 => gm_G 281 0 [some (.ref m), some (.int (Int32.ofNat 2))] [] h15 (pI (fun v18 h17 => ∃ n19, gm_ix (((Int32.ofNat 16) * x1) + v2) n19 1536 ∧ (((hh_i h17 (m + 40) n19) = Int32.ofNat 0 → (gm_G 369 88 [some (.ref m), none, none, some (.int (((Int32.ofNat 16) * x1) + v2)), some (.int v4), some (.int v6), some (.int v8), some (.int v10), some (.int v12), some (.int v14), some (.int v16), some (.int v18)] [] h17 Q)) ∧ (¬ (hh_i h17 (m + 40) n19) = Int32.ofNat 0 → (∃ n20, gm_ix (((Int32.ofNat 16) * x1) + v2) n20 1536 ∧ ((((hh_i h17 (m + 47) n20) &&& (Int32.ofNat 65535)) = v18 → (gm_G 369 93 [some (.ref m), none, none, some (.int (((Int32.ofNat 16) * x1) + v2)), some (.int v4), some (.int v6), some (.int v8), some (.int v10), some (.int v12), some (.int v14), some (.int v16), some (.int v18)] [.int (Int32.ofNat 0)] h17 Q)) ∧ (¬ ((hh_i h17 (m + 47) n20) &&& (Int32.ofNat 65535)) = v18 → (gm_G 369 88 [some (.ref m), none, none, some (.int (((Int32.ofNat 16) * x1) + v2)), some (.int v4), some (.int v6), some (.int v8), some (.int v10), some (.int v12), some (.int v14), some (.int v16), some (.int v18)] [] h17 Q))))))) (fun _ _ => False))) (fun _ _ => False))) (fun _ _ => False))) (fun _ _ => False))) (fun _ _ => False))) (fun _ _ => False))) (fun _ _ => False))) (fun _ _ => False))) (fun _ _ => False))) : gm_G 369 0 [some (.ref m), some (.int x1)] [] h Q := by
  refine g_aload (r := some _) rfl rfl rfl (pc' := 1) ?_
  refine t_call hT (y := 114) (n := 1) (pc' := 4) rfl rfl (t_vt hT rfl rfl) rfl rfl ⟨(Nat.le_of_ble_eq_true rfl), (Nat.le_of_ble_eq_true rfl), (Nat.le_of_ble_eq_true rfl)⟩ rfl H (tI_elim (fun v2 h1 H hT => ?_))
  show gm_G _ 4 _ _ _ _
  refine g_istore rfl rfl rfl (pc' := 5) ?_
  refine g_iconst rfl rfl rfl (pc' := 7) ?_
  refine g_iload rfl rfl rfl (pc' := 8) ?_
  refine g_imul rfl rfl (pc' := 9) ?_
  refine g_iload rfl rfl rfl (pc' := 10) ?_
  refine g_iadd rfl rfl (pc' := 11) ?_
  refine g_istore rfl rfl rfl (pc' := 12) ?_
  refine g_aload (r := some _) rfl rfl rfl (pc' := 13) ?_
  refine t_call hT (y := 114) (n := 1) (pc' := 16) rfl rfl (t_vt hT rfl rfl) rfl rfl ⟨(Nat.le_of_ble_eq_true rfl), (Nat.le_of_ble_eq_true rfl), (Nat.le_of_ble_eq_true rfl)⟩ rfl H (tI_elim (fun v4 h3 H hT => ?_))
  show gm_G _ 16 _ _ _ _
  refine g_istore rfl rfl rfl (pc' := 18) ?_
  refine g_aload (r := some _) rfl rfl rfl (pc' := 19) ?_
  refine g_iconst rfl rfl rfl (pc' := 20) ?_
  refine t_call hT (y := 281) (n := 2) (pc' := 23) rfl rfl (t_vt hT rfl rfl) rfl rfl ⟨(Nat.le_of_ble_eq_true rfl), (Nat.le_of_ble_eq_true rfl), (Nat.le_of_ble_eq_true rfl)⟩ rfl H (tI_elim (fun v6 h5 H hT => ?_))
  show gm_G _ 23 _ _ _ _
  refine g_istore rfl rfl rfl (pc' := 25) ?_
  refine g_aload (r := some _) rfl rfl rfl (pc' := 26) ?_
  refine t_call hT (y := 114) (n := 1) (pc' := 29) rfl rfl (t_vt hT rfl rfl) rfl rfl ⟨(Nat.le_of_ble_eq_true rfl), (Nat.le_of_ble_eq_true rfl), (Nat.le_of_ble_eq_true rfl)⟩ rfl H (tI_elim (fun v8 h7 H hT => ?_))
  show gm_G _ 29 _ _ _ _
  refine g_istore rfl rfl rfl (pc' := 31) ?_
  refine g_aload (r := some _) rfl rfl rfl (pc' := 32) ?_
  refine t_call hT (y := 114) (n := 1) (pc' := 35) rfl rfl (t_vt hT rfl rfl) rfl rfl ⟨(Nat.le_of_ble_eq_true rfl), (Nat.le_of_ble_eq_true rfl), (Nat.le_of_ble_eq_true rfl)⟩ rfl H (tI_elim (fun v10 h9 H hT => ?_))
  show gm_G _ 35 _ _ _ _
  refine g_istore rfl rfl rfl (pc' := 37) ?_
  refine g_aload (r := some _) rfl rfl rfl (pc' := 38) ?_
  refine t_call hT (y := 114) (n := 1) (pc' := 41) rfl rfl (t_vt hT rfl rfl) rfl rfl ⟨(Nat.le_of_ble_eq_true rfl), (Nat.le_of_ble_eq_true rfl), (Nat.le_of_ble_eq_true rfl)⟩ rfl H (tI_elim (fun v12 h11 H hT => ?_))
  show gm_G _ 41 _ _ _ _
  refine g_istore rfl rfl rfl (pc' := 43) ?_
  refine g_aload (r := some _) rfl rfl rfl (pc' := 44) ?_
  refine g_iconst rfl rfl rfl (pc' := 45) ?_
  refine t_call hT (y := 281) (n := 2) (pc' := 48) rfl rfl (t_vt hT rfl rfl) rfl rfl ⟨(Nat.le_of_ble_eq_true rfl), (Nat.le_of_ble_eq_true rfl), (Nat.le_of_ble_eq_true rfl)⟩ rfl H (tI_elim (fun v14 h13 H hT => ?_))
  show gm_G _ 48 _ _ _ _
  refine g_istore rfl rfl rfl (pc' := 50) ?_
  refine g_aload (r := some _) rfl rfl rfl (pc' := 51) ?_
  refine g_iconst rfl rfl rfl (pc' := 52) ?_
  refine t_call hT (y := 281) (n := 2) (pc' := 55) rfl rfl (t_vt hT rfl rfl) rfl rfl ⟨(Nat.le_of_ble_eq_true rfl), (Nat.le_of_ble_eq_true rfl), (Nat.le_of_ble_eq_true rfl)⟩ rfl H (tI_elim (fun v16 h15 H hT => ?_))
  show gm_G _ 55 _ _ _ _
  refine g_istore rfl rfl rfl (pc' := 57) ?_
  refine g_aload (r := some _) rfl rfl rfl (pc' := 58) ?_
  refine g_iconst rfl rfl rfl (pc' := 59) ?_
  refine t_call hT (y := 281) (n := 2) (pc' := 62) rfl rfl (t_vt hT rfl rfl) rfl rfl ⟨(Nat.le_of_ble_eq_true rfl), (Nat.le_of_ble_eq_true rfl), (Nat.le_of_ble_eq_true rfl)⟩ rfl H (tI_elim (fun v18 h17 H hT => ?_))
  show gm_G _ 62 _ _ _ _
  refine g_istore rfl rfl rfl (pc' := 64) ?_
  refine g_aload (r := some _) rfl rfl rfl (pc' := 65) ?_
  refine t_get (o := 40) rfl hT rfl rfl rfl (pc' := 68) rfl ?_
  refine g_iload rfl rfl rfl (pc' := 69) ?_
  obtain ⟨n19, hn19, H⟩ := H
  refine t_iaload hT (o := 40) (l := 1536) rfl rfl rfl hn19 (pc' := 70) rfl ?_
  refine g_if_eq rfl (pc' := 73) (pt := 88) rfl rfl ⟨fun hc => ?_, fun hc => ?_⟩
  · have H := H.1 hc
    exact g_weak (show gm_Lle [some _, none, none, some _, some _, some _, some _, some _, some _, some _, some _, some _] _ from ⟨rfl, ⟨rfl, ⟨rfl, ⟨rfl, ⟨rfl, ⟨rfl, ⟨rfl, ⟨rfl, ⟨rfl, ⟨rfl, trivial⟩⟩⟩⟩⟩⟩⟩⟩⟩⟩) H
  · have H := H.2 hc
    refine g_aload (r := some _) rfl rfl rfl (pc' := 74) ?_
    refine t_get (o := 47) rfl hT rfl rfl rfl (pc' := 77) rfl ?_
    refine g_iload rfl rfl rfl (pc' := 78) ?_
    obtain ⟨n20, hn20, H⟩ := H
    refine t_iaload hT (o := 47) (l := 1536) rfl rfl rfl hn20 (pc' := 79) rfl ?_
    refine g_iconst rfl rfl rfl (pc' := 82) ?_
    refine g_iand rfl rfl (pc' := 83) ?_
    refine g_iload rfl rfl rfl (pc' := 85) ?_
    refine g_ic_eq rfl (pc' := 88) (pt := 92) rfl rfl ⟨fun hc => ?_, fun hc => ?_⟩
    · have H := H.1 hc
      refine g_iconst rfl rfl rfl (pc' := 93) ?_
      exact g_weak (show gm_Lle [some _, none, none, some _, some _, some _, some _, some _, some _, some _, some _, some _] _ from ⟨rfl, ⟨rfl, ⟨rfl, ⟨rfl, ⟨rfl, ⟨rfl, ⟨rfl, ⟨rfl, ⟨rfl, ⟨rfl, trivial⟩⟩⟩⟩⟩⟩⟩⟩⟩⟩) H
    · have H := H.2 hc
      exact g_weak (show gm_Lle [some _, none, none, some _, some _, some _, some _, some _, some _, some _, some _, some _] _ from ⟨rfl, ⟨rfl, ⟨rfl, ⟨rfl, ⟨rfl, ⟨rfl, ⟨rfl, ⟨rfl, ⟨rfl, ⟨rfl, trivial⟩⟩⟩⟩⟩⟩⟩⟩⟩⟩) H
theorem w_369_88 {m : Nat} {x3 : Int32} {x4 : Int32} {x5 : Int32} {x6 : Int32} {x7 : Int32} {x8 : Int32} {x9 : Int32} {x10 : Int32} {x11 : Int32} {h : hh_T} {Q : Option Value ⊕ Nat → hh_T → Prop} (hT : tw_ok h m) (H : gm_G 369 93 [some (.ref m), none, none, some (.int x3), some (.int x4), some (.int x5), some (.int x6), some (.int x7), some (.int x8), some (.int x9), some (.int x10), some (.int x11)] [.int (Int32.ofNat 1)] h Q) : gm_G 369 88 [some (.ref m), none, none, some (.int x3), some (.int x4), some (.int x5), some (.int x6), some (.int x7), some (.int x8), some (.int x9), some (.int x10), some (.int x11)] [] h Q := by
  refine g_iconst rfl rfl rfl (pc' := 89) ?_
  refine g_goto rfl (pc' := 93) rfl ?_
  exact g_weak (show gm_Lle [some _, none, none, some _, some _, some _, some _, some _, some _, some _, some _, some _] _ from ⟨rfl, ⟨rfl, ⟨rfl, ⟨rfl, ⟨rfl, ⟨rfl, ⟨rfl, ⟨rfl, ⟨rfl, ⟨rfl, trivial⟩⟩⟩⟩⟩⟩⟩⟩⟩⟩) H
theorem w_369_93 {m : Nat} {x3 : Int32} {x4 : Int32} {x5 : Int32} {x6 : Int32} {x7 : Int32} {x8 : Int32} {x9 : Int32} {x10 : Int32} {x11 : Int32} {y0 : Int32} {h : hh_T} {Q : Option Value ⊕ Nat → hh_T → Prop} (hT : tw_ok h m) (H : (y0 = Int32.ofNat 0 → (gm_G 369 105 [some (.ref m), none, none, some (.int x3), some (.int x4), some (.int x5), some (.int x6), some (.int x7), some (.int x8), some (.int x9), some (.int x10), some (.int x11), some (.int y0)] [] h Q)) ∧ (¬ y0 = Int32.ofNat 0 → (gm_G 95 0 [some (.ref m), some (.int x3)] [] h (pV (fun h1 => gm_G 369 105 [some (.ref m), none, none, some (.int x3), some (.int x4), some (.int x5), some (.int x6), some (.int x7), some (.int x8), some (.int x9), some (.int x10), some (.int x11), some (.int y0)] [] h1 Q) (fun _ _ => False))))) : gm_G 369 93 [some (.ref m), none, none, some (.int x3), some (.int x4), some (.int x5), some (.int x6), some (.int x7), some (.int x8), some (.int x9), some (.int x10), some (.int x11)] [.int y0] h Q := by
  refine g_istore rfl rfl rfl (pc' := 95) ?_
  refine g_iload rfl rfl rfl (pc' := 97) ?_
  refine g_if_eq rfl (pc' := 100) (pt := 105) rfl rfl ⟨fun hc => ?_, fun hc => ?_⟩
  · have H := H.1 hc
    exact g_weak (show gm_Lle [some _, none, none, some _, some _, some _, some _, some _, some _, some _, some _, some _, some _] _ from ⟨rfl, ⟨rfl, ⟨rfl, ⟨rfl, ⟨rfl, ⟨rfl, ⟨rfl, ⟨rfl, ⟨rfl, ⟨rfl, ⟨rfl, trivial⟩⟩⟩⟩⟩⟩⟩⟩⟩⟩⟩) H
  · have H := H.2 hc
    refine g_aload (r := some _) rfl rfl rfl (pc' := 101) ?_
    refine g_iload rfl rfl rfl (pc' := 102) ?_
    refine t_call hT (y := 95) (n := 2) (pc' := 105) rfl rfl (t_vt hT rfl rfl) rfl rfl ⟨(Nat.le_of_ble_eq_true rfl), (Nat.le_of_ble_eq_true rfl), (Nat.le_of_ble_eq_true rfl)⟩ rfl H (tV_elim (fun h1 H hT => ?_))
    show gm_G _ 105 _ _ _ _
    exact g_weak (show gm_Lle [some _, none, none, some _, some _, some _, some _, some _, some _, some _, some _, some _, some _] _ from ⟨rfl, ⟨rfl, ⟨rfl, ⟨rfl, ⟨rfl, ⟨rfl, ⟨rfl, ⟨rfl, ⟨rfl, ⟨rfl, ⟨rfl, trivial⟩⟩⟩⟩⟩⟩⟩⟩⟩⟩⟩) H
theorem w_369_105 {m : Nat} {x3 : Int32} {x4 : Int32} {x5 : Int32} {x6 : Int32} {x7 : Int32} {x8 : Int32} {x9 : Int32} {x10 : Int32} {x11 : Int32} {x12 : Int32} {h : hh_T} {Q : Option Value ⊕ Nat → hh_T → Prop} (hT : tw_ok h m) (H : ∃ n1, gm_ix x3 n1 1536 ∧ (∀ h2, h2 = hh_wi h (m + 40) n1 x4 → (∃ n3, gm_ix x3 n3 1536 ∧ (∀ h4, h4 = hh_wi h2 (m + 41) n3 x5 → (∃ n5, gm_ix x3 n5 1536 ∧ (∀ h6, h6 = hh_wi h4 (m + 42) n5 x6 → (∃ n7, gm_ix x3 n7 1536 ∧ (∀ h8, h8 = hh_wi h6 (m + 43) n7 x7 → (∃ n9, gm_ix x3 n9 1536 ∧ (∀ h10, h10 = hh_wi h8 (m + 44) n9 x8 → (∃ n11, gm_ix x3 n11 1536 ∧ (∀ h12, h12 = hh_wi h10 (m + 45) n11 x9 → (∃ n13, gm_ix x3 n13 1536 ∧ (∀ h14, h14 = hh_wi h12 (m + 46) n13 x10 → ((x12 = Int32.ofNat 0 → (gm_G 369 174 [some (.ref m), none, none, some (.int x3), some (.int x4)] [] h14 Q)) ∧ (¬ x12 = Int32.ofNat 0 → (∃ n15, gm_ix x3 n15 1536 ∧ (∀ h16, h16 = hh_wi h14 (m + 47) n15 x11 → (gm_G 369 174 [some (.ref m), none, none, some (.int x3), some (.int x4)] [] h16 Q))))))))))))))))))) : gm_G 369 105 [some (.ref m), none, none, some (.int x3), some (.int x4), some (.int x5), some (.int x6), some (.int x7), some (.int x8), some (.int x9), some (.int x10), some (.int x11), some (.int x12)] [] h Q := by
  refine g_aload (r := some _) rfl rfl rfl (pc' := 106) ?_
  refine t_get (o := 40) rfl hT rfl rfl rfl (pc' := 109) rfl ?_
  refine g_iload rfl rfl rfl (pc' := 110) ?_
  refine g_iload rfl rfl rfl (pc' := 112) ?_
  obtain ⟨n1, hn1, H⟩ := H
  refine t_iastore hT (o := 40) (l := 1536) rfl rfl rfl hn1  (pc' := 113) rfl (fun hT => ?_)
  have H := H _ rfl
  refine g_aload (r := some _) rfl rfl rfl (pc' := 114) ?_
  refine t_get (o := 41) rfl hT rfl rfl rfl (pc' := 117) rfl ?_
  refine g_iload rfl rfl rfl (pc' := 118) ?_
  refine g_iload rfl rfl rfl (pc' := 120) ?_
  obtain ⟨n3, hn3, H⟩ := H
  refine t_iastore hT (o := 41) (l := 1536) rfl rfl rfl hn3  (pc' := 121) rfl (fun hT => ?_)
  have H := H _ rfl
  refine g_aload (r := some _) rfl rfl rfl (pc' := 122) ?_
  refine t_get (o := 42) rfl hT rfl rfl rfl (pc' := 125) rfl ?_
  refine g_iload rfl rfl rfl (pc' := 126) ?_
  refine g_iload rfl rfl rfl (pc' := 128) ?_
  obtain ⟨n5, hn5, H⟩ := H
  refine t_iastore hT (o := 42) (l := 1536) rfl rfl rfl hn5  (pc' := 129) rfl (fun hT => ?_)
  have H := H _ rfl
  refine g_aload (r := some _) rfl rfl rfl (pc' := 130) ?_
  refine t_get (o := 43) rfl hT rfl rfl rfl (pc' := 133) rfl ?_
  refine g_iload rfl rfl rfl (pc' := 134) ?_
  refine g_iload rfl rfl rfl (pc' := 136) ?_
  obtain ⟨n7, hn7, H⟩ := H
  refine t_iastore hT (o := 43) (l := 1536) rfl rfl rfl hn7  (pc' := 137) rfl (fun hT => ?_)
  have H := H _ rfl
  refine g_aload (r := some _) rfl rfl rfl (pc' := 138) ?_
  refine t_get (o := 44) rfl hT rfl rfl rfl (pc' := 141) rfl ?_
  refine g_iload rfl rfl rfl (pc' := 142) ?_
  refine g_iload rfl rfl rfl (pc' := 144) ?_
  obtain ⟨n9, hn9, H⟩ := H
  refine t_iastore hT (o := 44) (l := 1536) rfl rfl rfl hn9  (pc' := 145) rfl (fun hT => ?_)
  have H := H _ rfl
  refine g_aload (r := some _) rfl rfl rfl (pc' := 146) ?_
  refine t_get (o := 45) rfl hT rfl rfl rfl (pc' := 149) rfl ?_
  refine g_iload rfl rfl rfl (pc' := 150) ?_
  refine g_iload rfl rfl rfl (pc' := 152) ?_
  obtain ⟨n11, hn11, H⟩ := H
  refine t_iastore hT (o := 45) (l := 1536) rfl rfl rfl hn11  (pc' := 153) rfl (fun hT => ?_)
  have H := H _ rfl
  refine g_aload (r := some _) rfl rfl rfl (pc' := 154) ?_
  refine t_get (o := 46) rfl hT rfl rfl rfl (pc' := 157) rfl ?_
  refine g_iload rfl rfl rfl (pc' := 158) ?_
  refine g_iload rfl rfl rfl (pc' := 160) ?_
  obtain ⟨n13, hn13, H⟩ := H
  refine t_iastore hT (o := 46) (l := 1536) rfl rfl rfl hn13  (pc' := 161) rfl (fun hT => ?_)
  have H := H _ rfl
  refine g_iload rfl rfl rfl (pc' := 163) ?_
  refine g_if_eq rfl (pc' := 166) (pt := 174) rfl rfl ⟨fun hc => ?_, fun hc => ?_⟩
  · have H := H.1 hc
    exact g_weak (show gm_Lle [some _, none, none, some _, some _] _ from ⟨rfl, ⟨rfl, ⟨rfl, trivial⟩⟩⟩) H
  · have H := H.2 hc
    refine g_aload (r := some _) rfl rfl rfl (pc' := 167) ?_
    refine t_get (o := 47) rfl hT rfl rfl rfl (pc' := 170) rfl ?_
    refine g_iload rfl rfl rfl (pc' := 171) ?_
    refine g_iload rfl rfl rfl (pc' := 173) ?_
    obtain ⟨n15, hn15, H⟩ := H
    refine t_iastore hT (o := 47) (l := 1536) rfl rfl rfl hn15  (pc' := 174) rfl (fun hT => ?_)
    have H := H _ rfl
    exact g_weak (show gm_Lle [some _, none, none, some _, some _] _ from ⟨rfl, ⟨rfl, ⟨rfl, trivial⟩⟩⟩) H
theorem w_369_174 {m : Nat} {x3 : Int32} {x4 : Int32} {h : hh_T} {Q : Option Value ⊕ Nat → hh_T → Prop} (hT : tw_ok h m) (H : gm_G 114 0 [some (.ref m)] [] h (pI (fun v2 h1 => ∃ n3, gm_ix x3 n3 1536 ∧ (∀ h4, h4 = hh_wi h1 (m + 49) n3 v2 → (gm_G 369 189 [some (.ref m), none, none, some (.int x3), some (.int x4), none, none, none, none, none, none, none, none, some (.int ((Int32.ofNat 4) * x3))] [] h4 Q))) (fun _ _ => False))) : gm_G 369 174 [some (.ref m), none, none, some (.int x3), some (.int x4)] [] h Q := by
  refine g_aload (r := some _) rfl rfl rfl (pc' := 175) ?_
  refine t_get (o := 49) rfl hT rfl rfl rfl (pc' := 178) rfl ?_
  refine g_iload rfl rfl rfl (pc' := 179) ?_
  refine g_aload (r := some _) rfl rfl rfl (pc' := 180) ?_
  refine t_call hT (y := 114) (n := 1) (pc' := 183) rfl rfl (t_vt hT rfl rfl) rfl rfl ⟨(Nat.le_of_ble_eq_true rfl), (Nat.le_of_ble_eq_true rfl), (Nat.le_of_ble_eq_true rfl)⟩ rfl H (tI_elim (fun v2 h1 H hT => ?_))
  show gm_G _ 183 _ _ _ _
  obtain ⟨n3, hn3, H⟩ := H
  refine t_iastore hT (o := 49) (l := 1536) rfl rfl rfl hn3  (pc' := 184) rfl (fun hT => ?_)
  have H := H _ rfl
  refine g_iconst rfl rfl rfl (pc' := 185) ?_
  refine g_iload rfl rfl rfl (pc' := 186) ?_
  refine g_imul rfl rfl (pc' := 187) ?_
  refine g_istore rfl rfl rfl (pc' := 189) ?_
  exact g_weak (show gm_Lle [some _, none, none, some _, some _, none, none, none, none, none, none, none, none, some _] _ from ⟨rfl, ⟨rfl, ⟨rfl, ⟨rfl, trivial⟩⟩⟩⟩) H
theorem w_369_189 {m : Nat} {x3 : Int32} {x4 : Int32} {x13 : Int32} {h : hh_T} {Q : Option Value ⊕ Nat → hh_T → Prop} (hT : tw_ok h m) (H : ∃ n1, gm_ix x3 n1 1536 ∧ ((¬ x13 < (((Int32.ofNat 4) * x3) + (hh_i h (m + 49) n1)) → ((¬ x4 = (Int32.ofNat 2) → (gm_G 369 348 [some (.ref m), none, none, some (.int x3), some (.int x4)] [] h Q)) ∧ (x4 = (Int32.ofNat 2) → (gm_G 114 0 [some (.ref m)] [] h (pI (fun v3 h2 => ∃ n4, gm_ix x3 n4 1536 ∧ (∀ h5, h5 = hh_wi h2 (m + 48) n4 v3 → (gm_G 369 265 [some (.ref m), none, none, some (.int x3), some (.int x4), none, none, none, none, none, none, none, none, some (.int ((Int32.ofNat 8) * x3))] [] h5 Q))) (fun _ _ => False)))))) ∧ (x13 < (((Int32.ofNat 4) * x3) + (hh_i h (m + 49) n1)) → (gm_G 114 0 [some (.ref m)] [] h (pI (fun v7 h6 => ∃ n8, gm_ix x13 n8 6144 ∧ (∀ h9, h9 = hh_wi h6 (m + 50) n8 v7 → (gm_G 114 0 [some (.ref m)] [] h9 (pI (fun v11 h10 => ∃ n12, gm_ix x13 n12 6144 ∧ (∀ h13, h13 = hh_wi h10 (m + 51) n12 v11 → (gm_G 114 0 [some (.ref m)] [] h13 (pI (fun v15 h14 => ∃ n16, gm_ix x13 n16 6144 ∧ (∀ h17, h17 = hh_wi h14 (m + 52) n16 v15 → (gm_G 369 189 [some (.ref m), none, none, some (.int x3), some (.int x4), none, none, none, none, none, none, none, none, some (.int (x13 + (Int32.ofNat 1)))] [] h17 Q))) (fun _ _ => False))))) (fun _ _ => False))))) (fun _ _ => False)))))) : gm_G 369 189 [some (.ref m), none, none, some (.int x3), some (.int x4), none, none, none, none, none, none, none, none, some (.int x13)] [] h Q := by
  refine g_iload rfl rfl rfl (pc' := 191) ?_
  refine g_iconst rfl rfl rfl (pc' := 192) ?_
  refine g_iload rfl rfl rfl (pc' := 193) ?_
  refine g_imul rfl rfl (pc' := 194) ?_
  refine g_aload (r := some _) rfl rfl rfl (pc' := 195) ?_
  refine t_get (o := 49) rfl hT rfl rfl rfl (pc' := 198) rfl ?_
  refine g_iload rfl rfl rfl (pc' := 199) ?_
  obtain ⟨n1, hn1, H⟩ := H
  refine t_iaload hT (o := 49) (l := 1536) rfl rfl rfl hn1 (pc' := 200) rfl ?_
  refine g_iadd rfl rfl (pc' := 201) ?_
  refine g_ic_ge rfl (pc' := 204) (pt := 243) rfl rfl ⟨fun hc => ?_, fun hc => ?_⟩
  · have H := H.1 hc
    refine g_iload rfl rfl rfl (pc' := 245) ?_
    refine g_iconst rfl rfl rfl (pc' := 246) ?_
    refine g_ic_ne rfl (pc' := 249) (pt := 348) rfl rfl ⟨fun hc => ?_, fun hc => ?_⟩
    · have H := H.1 hc
      exact g_weak (show gm_Lle [some _, none, none, some _, some _] _ from ⟨rfl, ⟨rfl, ⟨rfl, trivial⟩⟩⟩) H
    · have H := H.2 hc
      refine g_aload (r := some _) rfl rfl rfl (pc' := 250) ?_
      refine t_get (o := 48) rfl hT rfl rfl rfl (pc' := 253) rfl ?_
      refine g_iload rfl rfl rfl (pc' := 254) ?_
      refine g_aload (r := some _) rfl rfl rfl (pc' := 255) ?_
      refine t_call hT (y := 114) (n := 1) (pc' := 258) rfl rfl (t_vt hT rfl rfl) rfl rfl ⟨(Nat.le_of_ble_eq_true rfl), (Nat.le_of_ble_eq_true rfl), (Nat.le_of_ble_eq_true rfl)⟩ rfl H (tI_elim (fun v3 h2 H hT => ?_))
      show gm_G _ 258 _ _ _ _
      obtain ⟨n4, hn4, H⟩ := H
      refine t_iastore hT (o := 48) (l := 1536) rfl rfl rfl hn4  (pc' := 259) rfl (fun hT => ?_)
      have H := H _ rfl
      refine g_iconst rfl rfl rfl (pc' := 261) ?_
      refine g_iload rfl rfl rfl (pc' := 262) ?_
      refine g_imul rfl rfl (pc' := 263) ?_
      refine g_istore rfl rfl rfl (pc' := 265) ?_
      exact g_weak (show gm_Lle [some _, none, none, some _, some _, none, none, none, none, none, none, none, none, some _] _ from ⟨rfl, ⟨rfl, ⟨rfl, ⟨rfl, trivial⟩⟩⟩⟩) H
  · have H := H.2 hc
    refine g_aload (r := some _) rfl rfl rfl (pc' := 205) ?_
    refine t_get (o := 50) rfl hT rfl rfl rfl (pc' := 208) rfl ?_
    refine g_iload rfl rfl rfl (pc' := 210) ?_
    refine g_aload (r := some _) rfl rfl rfl (pc' := 211) ?_
    refine t_call hT (y := 114) (n := 1) (pc' := 214) rfl rfl (t_vt hT rfl rfl) rfl rfl ⟨(Nat.le_of_ble_eq_true rfl), (Nat.le_of_ble_eq_true rfl), (Nat.le_of_ble_eq_true rfl)⟩ rfl H (tI_elim (fun v7 h6 H hT => ?_))
    show gm_G _ 214 _ _ _ _
    obtain ⟨n8, hn8, H⟩ := H
    refine t_iastore hT (o := 50) (l := 6144) rfl rfl rfl hn8  (pc' := 215) rfl (fun hT => ?_)
    have H := H _ rfl
    refine g_aload (r := some _) rfl rfl rfl (pc' := 216) ?_
    refine t_get (o := 51) rfl hT rfl rfl rfl (pc' := 219) rfl ?_
    refine g_iload rfl rfl rfl (pc' := 221) ?_
    refine g_aload (r := some _) rfl rfl rfl (pc' := 222) ?_
    refine t_call hT (y := 114) (n := 1) (pc' := 225) rfl rfl (t_vt hT rfl rfl) rfl rfl ⟨(Nat.le_of_ble_eq_true rfl), (Nat.le_of_ble_eq_true rfl), (Nat.le_of_ble_eq_true rfl)⟩ rfl H (tI_elim (fun v11 h10 H hT => ?_))
    show gm_G _ 225 _ _ _ _
    obtain ⟨n12, hn12, H⟩ := H
    refine t_iastore hT (o := 51) (l := 6144) rfl rfl rfl hn12  (pc' := 226) rfl (fun hT => ?_)
    have H := H _ rfl
    refine g_aload (r := some _) rfl rfl rfl (pc' := 227) ?_
    refine t_get (o := 52) rfl hT rfl rfl rfl (pc' := 230) rfl ?_
    refine g_iload rfl rfl rfl (pc' := 232) ?_
    refine g_aload (r := some _) rfl rfl rfl (pc' := 233) ?_
    refine t_call hT (y := 114) (n := 1) (pc' := 236) rfl rfl (t_vt hT rfl rfl) rfl rfl ⟨(Nat.le_of_ble_eq_true rfl), (Nat.le_of_ble_eq_true rfl), (Nat.le_of_ble_eq_true rfl)⟩ rfl H (tI_elim (fun v15 h14 H hT => ?_))
    show gm_G _ 236 _ _ _ _
    obtain ⟨n16, hn16, H⟩ := H
    refine t_iastore hT (o := 52) (l := 6144) rfl rfl rfl hn16  (pc' := 237) rfl (fun hT => ?_)
    have H := H _ rfl
    refine g_iinc (c := (Int32.ofNat 1)) rfl rfl rfl rfl rfl (pc' := 240) ?_
    refine g_goto rfl (pc' := 189) rfl ?_
    exact g_weak (show gm_Lle [some _, none, none, some _, some _, none, none, none, none, none, none, none, none, some _] _ from ⟨rfl, ⟨rfl, ⟨rfl, ⟨rfl, trivial⟩⟩⟩⟩) H
theorem w_369_265 {m : Nat} {x3 : Int32} {x4 : Int32} {x13 : Int32} {h : hh_T} {Q : Option Value ⊕ Nat → hh_T → Prop} (hT : tw_ok h m) (H : ∃ n1, gm_ix x3 n1 1536 ∧ ((¬ x13 < (((Int32.ofNat 8) * x3) + (hh_i h (m + 45) n1)) → (gm_G 369 348 [some (.ref m), none, none, some (.int x3), some (.int x4)] [] h Q)) ∧ (x13 < (((Int32.ofNat 8) * x3) + (hh_i h (m + 45) n1)) → (gm_G 114 0 [some (.ref m)] [] h (pI (fun v3 h2 => ∃ n4, gm_ix x13 n4 12288 ∧ (∀ h5, h5 = hh_wi h2 (m + 54) n4 v3 → (gm_G 369 295 [some (.ref m), none, none, some (.int x3), some (.int x4), none, none, none, none, none, none, none, none, some (.int x13), some (.int (Int32.ofNat 0))] [] h5 Q))) (fun _ _ => False)))))) : gm_G 369 265 [some (.ref m), none, none, some (.int x3), some (.int x4), none, none, none, none, none, none, none, none, some (.int x13)] [] h Q := by
  refine g_iload rfl rfl rfl (pc' := 267) ?_
  refine g_iconst rfl rfl rfl (pc' := 269) ?_
  refine g_iload rfl rfl rfl (pc' := 270) ?_
  refine g_imul rfl rfl (pc' := 271) ?_
  refine g_aload (r := some _) rfl rfl rfl (pc' := 272) ?_
  refine t_get (o := 45) rfl hT rfl rfl rfl (pc' := 275) rfl ?_
  refine g_iload rfl rfl rfl (pc' := 276) ?_
  obtain ⟨n1, hn1, H⟩ := H
  refine t_iaload hT (o := 45) (l := 1536) rfl rfl rfl hn1 (pc' := 277) rfl ?_
  refine g_iadd rfl rfl (pc' := 278) ?_
  refine g_ic_ge rfl (pc' := 281) (pt := 348) rfl rfl ⟨fun hc => ?_, fun hc => ?_⟩
  · have H := H.1 hc
    exact g_weak (show gm_Lle [some _, none, none, some _, some _] _ from ⟨rfl, ⟨rfl, ⟨rfl, trivial⟩⟩⟩) H
  · have H := H.2 hc
    refine g_aload (r := some _) rfl rfl rfl (pc' := 282) ?_
    refine t_get (o := 54) rfl hT rfl rfl rfl (pc' := 285) rfl ?_
    refine g_iload rfl rfl rfl (pc' := 287) ?_
    refine g_aload (r := some _) rfl rfl rfl (pc' := 288) ?_
    refine t_call hT (y := 114) (n := 1) (pc' := 291) rfl rfl (t_vt hT rfl rfl) rfl rfl ⟨(Nat.le_of_ble_eq_true rfl), (Nat.le_of_ble_eq_true rfl), (Nat.le_of_ble_eq_true rfl)⟩ rfl H (tI_elim (fun v3 h2 H hT => ?_))
    show gm_G _ 291 _ _ _ _
    obtain ⟨n4, hn4, H⟩ := H
    refine t_iastore hT (o := 54) (l := 12288) rfl rfl rfl hn4  (pc' := 292) rfl (fun hT => ?_)
    have H := H _ rfl
    refine g_iconst rfl rfl rfl (pc' := 293) ?_
    refine g_istore rfl rfl rfl (pc' := 295) ?_
    exact g_weak (show gm_Lle [some _, none, none, some _, some _, none, none, none, none, none, none, none, none, some _, some _] _ from ⟨rfl, ⟨rfl, ⟨rfl, ⟨rfl, ⟨rfl, trivial⟩⟩⟩⟩⟩) H
theorem w_369_295 {m : Nat} {x3 : Int32} {x4 : Int32} {x13 : Int32} {x14 : Int32} {h : hh_T} {Q : Option Value ⊕ Nat → hh_T → Prop} (hT : tw_ok h m) (H : ∃ n1, gm_ix x13 n1 12288 ∧ ((¬ x14 < (hh_i h (m + 54) n1) → (gm_G 114 0 [some (.ref m)] [] h (pI (fun v3 h2 => ∃ n4, gm_ix x13 n4 12288 ∧ (∀ h5, h5 = hh_wi h2 (m + 53) n4 v3 → (gm_G 369 265 [some (.ref m), none, none, some (.int x3), some (.int x4), none, none, none, none, none, none, none, none, some (.int (x13 + (Int32.ofNat 1)))] [] h5 Q))) (fun _ _ => False)))) ∧ (x14 < (hh_i h (m + 54) n1) → (gm_G 114 0 [some (.ref m)] [] h (pI (fun v7 h6 => ∃ n8, gm_ix (((Int32.ofNat 8) * x13) + x14) n8 98304 ∧ (∀ h9, h9 = hh_wi h6 (m + 56) n8 ((v7.toInt8.toInt32).toInt8.toInt32) → (gm_G 369 295 [some (.ref m), none, none, some (.int x3), some (.int x4), none, none, none, none, none, none, none, none, some (.int x13), some (.int (x14 + (Int32.ofNat 1)))] [] h9 Q))) (fun _ _ => False)))))) : gm_G 369 295 [some (.ref m), none, none, some (.int x3), some (.int x4), none, none, none, none, none, none, none, none, some (.int x13), some (.int x14)] [] h Q := by
  refine g_iload rfl rfl rfl (pc' := 297) ?_
  refine g_aload (r := some _) rfl rfl rfl (pc' := 298) ?_
  refine t_get (o := 54) rfl hT rfl rfl rfl (pc' := 301) rfl ?_
  refine g_iload rfl rfl rfl (pc' := 303) ?_
  obtain ⟨n1, hn1, H⟩ := H
  refine t_iaload hT (o := 54) (l := 12288) rfl rfl rfl hn1 (pc' := 304) rfl ?_
  refine g_ic_ge rfl (pc' := 307) (pt := 331) rfl rfl ⟨fun hc => ?_, fun hc => ?_⟩
  · have H := H.1 hc
    refine g_aload (r := some _) rfl rfl rfl (pc' := 332) ?_
    refine t_get (o := 53) rfl hT rfl rfl rfl (pc' := 335) rfl ?_
    refine g_iload rfl rfl rfl (pc' := 337) ?_
    refine g_aload (r := some _) rfl rfl rfl (pc' := 338) ?_
    refine t_call hT (y := 114) (n := 1) (pc' := 341) rfl rfl (t_vt hT rfl rfl) rfl rfl ⟨(Nat.le_of_ble_eq_true rfl), (Nat.le_of_ble_eq_true rfl), (Nat.le_of_ble_eq_true rfl)⟩ rfl H (tI_elim (fun v3 h2 H hT => ?_))
    show gm_G _ 341 _ _ _ _
    obtain ⟨n4, hn4, H⟩ := H
    refine t_iastore hT (o := 53) (l := 12288) rfl rfl rfl hn4  (pc' := 342) rfl (fun hT => ?_)
    have H := H _ rfl
    refine g_iinc (c := (Int32.ofNat 1)) rfl rfl rfl rfl rfl (pc' := 345) ?_
    refine g_goto rfl (pc' := 265) rfl ?_
    exact g_weak (show gm_Lle [some _, none, none, some _, some _, none, none, none, none, none, none, none, none, some _] _ from ⟨rfl, ⟨rfl, ⟨rfl, ⟨rfl, trivial⟩⟩⟩⟩) H
  · have H := H.2 hc
    refine g_aload (r := some _) rfl rfl rfl (pc' := 308) ?_
    refine t_get (o := 56) rfl hT rfl rfl rfl (pc' := 311) rfl ?_
    refine g_iconst rfl rfl rfl (pc' := 313) ?_
    refine g_iload rfl rfl rfl (pc' := 315) ?_
    refine g_imul rfl rfl (pc' := 316) ?_
    refine g_iload rfl rfl rfl (pc' := 318) ?_
    refine g_iadd rfl rfl (pc' := 319) ?_
    refine g_aload (r := some _) rfl rfl rfl (pc' := 320) ?_
    refine t_call hT (y := 114) (n := 1) (pc' := 323) rfl rfl (t_vt hT rfl rfl) rfl rfl ⟨(Nat.le_of_ble_eq_true rfl), (Nat.le_of_ble_eq_true rfl), (Nat.le_of_ble_eq_true rfl)⟩ rfl H (tI_elim (fun v7 h6 H hT => ?_))
    show gm_G _ 323 _ _ _ _
    refine g_i2b rfl rfl (pc' := 324) ?_
    obtain ⟨n8, hn8, H⟩ := H
    refine t_bastore hT (o := 56) (l := 98304) rfl rfl rfl hn8  (pc' := 325) rfl (fun hT => ?_)
    have H := H _ rfl
    refine g_iinc (c := (Int32.ofNat 1)) rfl rfl rfl rfl rfl (pc' := 328) ?_
    refine g_goto rfl (pc' := 295) rfl ?_
    exact g_weak (show gm_Lle [some _, none, none, some _, some _, none, none, none, none, none, none, none, none, some _, some _] _ from ⟨rfl, ⟨rfl, ⟨rfl, ⟨rfl, ⟨rfl, trivial⟩⟩⟩⟩⟩) H
theorem w_369_348 {m : Nat} {x3 : Int32} {x4 : Int32} {h : hh_T} {Q : Option Value ⊕ Nat → hh_T → Prop} (hT : tw_ok h m) (H : (¬ x4 = (Int32.ofNat 3) → (Q (.inl none) h)) ∧ (x4 = (Int32.ofNat 3) → (gm_G 369 357 [some (.ref m), none, none, some (.int x3), none, none, none, none, none, none, none, none, none, some (.int (Int32.ofNat 0))] [] h Q))) : gm_G 369 348 [some (.ref m), none, none, some (.int x3), some (.int x4)] [] h Q := by
  refine g_iload rfl rfl rfl (pc' := 350) ?_
  refine g_iconst rfl rfl rfl (pc' := 351) ?_
  refine g_ic_ne rfl (pc' := 354) (pt := 391) rfl rfl ⟨fun hc => ?_, fun hc => ?_⟩
  · have H := H.1 hc
    exact g_return rfl H
  · have H := H.2 hc
    refine g_iconst rfl rfl rfl (pc' := 355) ?_
    refine g_istore rfl rfl rfl (pc' := 357) ?_
    exact g_weak (show gm_Lle [some _, none, none, some _, none, none, none, none, none, none, none, none, none, some _] _ from ⟨rfl, ⟨rfl, ⟨rfl, trivial⟩⟩⟩) H
theorem w_369_357 {m : Nat} {x3 : Int32} {x13 : Int32} {h : hh_T} {Q : Option Value ⊕ Nat → hh_T → Prop} (hT : tw_ok h m) (H : ∃ n1, gm_ix x3 n1 1536 ∧ ((¬ x13 < (hh_i h (m + 45) n1) → (Q (.inl none) h)) ∧ (x13 < (hh_i h (m + 45) n1) → (gm_G 114 0 [some (.ref m)] [] h (pI (fun v3 h2 => ∃ n4, gm_ix (((Int32.ofNat 24) * x3) + x13) n4 36864 ∧ (∀ h5, h5 = hh_wi h2 (m + 57) n4 ((v3.toInt8.toInt32).toInt8.toInt32) → (gm_G 369 357 [some (.ref m), none, none, some (.int x3), none, none, none, none, none, none, none, none, none, some (.int (x13 + (Int32.ofNat 1)))] [] h5 Q))) (fun _ _ => False)))))) : gm_G 369 357 [some (.ref m), none, none, some (.int x3), none, none, none, none, none, none, none, none, none, some (.int x13)] [] h Q := by
  refine g_iload rfl rfl rfl (pc' := 359) ?_
  refine g_aload (r := some _) rfl rfl rfl (pc' := 360) ?_
  refine t_get (o := 45) rfl hT rfl rfl rfl (pc' := 363) rfl ?_
  refine g_iload rfl rfl rfl (pc' := 364) ?_
  obtain ⟨n1, hn1, H⟩ := H
  refine t_iaload hT (o := 45) (l := 1536) rfl rfl rfl hn1 (pc' := 365) rfl ?_
  refine g_ic_ge rfl (pc' := 368) (pt := 391) rfl rfl ⟨fun hc => ?_, fun hc => ?_⟩
  · have H := H.1 hc
    exact g_return rfl H
  · have H := H.2 hc
    refine g_aload (r := some _) rfl rfl rfl (pc' := 369) ?_
    refine t_get (o := 57) rfl hT rfl rfl rfl (pc' := 372) rfl ?_
    refine g_iconst rfl rfl rfl (pc' := 374) ?_
    refine g_iload rfl rfl rfl (pc' := 375) ?_
    refine g_imul rfl rfl (pc' := 376) ?_
    refine g_iload rfl rfl rfl (pc' := 378) ?_
    refine g_iadd rfl rfl (pc' := 379) ?_
    refine g_aload (r := some _) rfl rfl rfl (pc' := 380) ?_
    refine t_call hT (y := 114) (n := 1) (pc' := 383) rfl rfl (t_vt hT rfl rfl) rfl rfl ⟨(Nat.le_of_ble_eq_true rfl), (Nat.le_of_ble_eq_true rfl), (Nat.le_of_ble_eq_true rfl)⟩ rfl H (tI_elim (fun v3 h2 H hT => ?_))
    show gm_G _ 383 _ _ _ _
    refine g_i2b rfl rfl (pc' := 384) ?_
    obtain ⟨n4, hn4, H⟩ := H
    refine t_bastore hT (o := 57) (l := 36864) rfl rfl rfl hn4  (pc' := 385) rfl (fun hT => ?_)
    have H := H _ rfl
    refine g_iinc (c := (Int32.ofNat 1)) rfl rfl rfl rfl rfl (pc' := 388) ?_
    refine g_goto rfl (pc' := 357) rfl ?_
    exact g_weak (show gm_Lle [some _, none, none, some _, none, none, none, none, none, none, none, none, none, some _] _ from ⟨rfl, ⟨rfl, ⟨rfl, trivial⟩⟩⟩) H
theorem w_370_0 {m : Nat} {b1 : Nat} {x2 : Int32} {x3 : Int32} {h : hh_T} {Q : Option Value ⊕ Nat → hh_T → Prop} (hT : tw_ok h m) (H : (¬ x3 = Int32.ofNat 0 → (gm_G 370 12 [some (.ref m), some (.ref b1), some (.int x2), some (.int x3), some (.int x2), some (.int x2)] [] h Q)) ∧ (x3 = Int32.ofNat 0 → (Q (.inl (some (.int (Int32.ofNat 1)))) h))) : gm_G 370 0 [some (.ref m), some (.ref b1), some (.int x2), some (.int x3)] [] h Q := by
  refine g_iload rfl rfl rfl (pc' := 1) ?_
  refine g_if_ne rfl (pc' := 4) (pt := 6) rfl rfl ⟨fun hc => ?_, fun hc => ?_⟩
  · have H := H.1 hc
    refine g_iload rfl rfl rfl (pc' := 7) ?_
    refine g_istore rfl rfl rfl (pc' := 9) ?_
    refine g_iload rfl rfl rfl (pc' := 10) ?_
    refine g_istore rfl rfl rfl (pc' := 12) ?_
    exact g_weak (show gm_Lle [some _, some _, some _, some _, some _, some _] _ from ⟨rfl, ⟨rfl, ⟨rfl, ⟨rfl, ⟨rfl, ⟨rfl, trivial⟩⟩⟩⟩⟩⟩) H
  · have H := H.2 hc
    refine g_iconst rfl rfl rfl (pc' := 5) ?_
    exact g_ireturn rfl (Or.inr (by decide)) H
theorem w_370_12 {m : Nat} {b1 : Nat} {x2 : Int32} {x3 : Int32} {x4 : Int32} {x5 : Int32} {h : hh_T} {Q : Option Value ⊕ Nat → hh_T → Prop} (hT : tw_ok h m) (H : ((x2 + x3) < x5 → (Q (.inl (some (.int (Int32.ofNat 1)))) h)) ∧ (¬ (x2 + x3) < x5 → ((¬ x5 < (x2 + x3) → (gm_G 370 40 [some (.ref m), some (.ref b1), some (.int x2), some (.int x3), some (.int x4), some (.int x5)] [] h Q)) ∧ (x5 < (x2 + x3) → ((hh_tg h b1 = 101 ∨ hh_tg h b1 = 102) ∧ (∃ n1, gm_ix x5 n1 (hh_ln h b1) ∧ (((hh_i h b1 n1) = (Int32.ofNat 47) → (gm_G 370 40 [some (.ref m), some (.ref b1), some (.int x2), some (.int x3), some (.int x4), some (.int x5)] [] h Q)) ∧ (¬ (hh_i h b1 n1) = (Int32.ofNat 47) → (gm_G 370 77 [some (.ref m), some (.ref b1), some (.int x2), some (.int x3), some (.int x4), some (.int x5)] [] h Q))))))))) : gm_G 370 12 [some (.ref m), some (.ref b1), some (.int x2), some (.int x3), some (.int x4), some (.int x5)] [] h Q := by
  refine g_iload rfl rfl rfl (pc' := 14) ?_
  refine g_iload rfl rfl rfl (pc' := 15) ?_
  refine g_iload rfl rfl rfl (pc' := 16) ?_
  refine g_iadd rfl rfl (pc' := 17) ?_
  refine g_ic_gt rfl (pc' := 20) (pt := 83) rfl rfl ⟨fun hc => ?_, fun hc => ?_⟩
  · have H := H.1 hc
    refine g_iconst rfl rfl rfl (pc' := 84) ?_
    exact g_ireturn rfl (Or.inr (by decide)) H
  · have H := H.2 hc
    refine g_iload rfl rfl rfl (pc' := 22) ?_
    refine g_iload rfl rfl rfl (pc' := 23) ?_
    refine g_iload rfl rfl rfl (pc' := 24) ?_
    refine g_iadd rfl rfl (pc' := 25) ?_
    refine g_ic_ge rfl (pc' := 28) (pt := 40) rfl rfl ⟨fun hc => ?_, fun hc => ?_⟩
    · have H := H.1 hc
      exact g_weak (show gm_Lle [some _, some _, some _, some _, some _, some _] _ from ⟨rfl, ⟨rfl, ⟨rfl, ⟨rfl, ⟨rfl, ⟨rfl, trivial⟩⟩⟩⟩⟩⟩) H
    · have H := H.2 hc
      refine g_aload (r := some _) rfl rfl rfl (pc' := 29) ?_
      refine g_iload rfl rfl rfl (pc' := 31) ?_
      obtain ⟨ht2, H⟩ := H
      obtain ⟨n1, hn1, H⟩ := H
      refine g_baload rfl ht2 hn1 (pc' := 32) rfl ?_
      refine g_iconst rfl rfl rfl (pc' := 34) ?_
      refine g_ic_eq rfl (pc' := 37) (pt := 40) rfl rfl ⟨fun hc => ?_, fun hc => ?_⟩
      · have H := H.1 hc
        exact g_weak (show gm_Lle [some _, some _, some _, some _, some _, some _] _ from ⟨rfl, ⟨rfl, ⟨rfl, ⟨rfl, ⟨rfl, ⟨rfl, trivial⟩⟩⟩⟩⟩⟩) H
      · have H := H.2 hc
        refine g_goto rfl (pc' := 77) rfl ?_
        exact g_weak (show gm_Lle [some _, some _, some _, some _, some _, some _] _ from ⟨rfl, ⟨rfl, ⟨rfl, ⟨rfl, ⟨rfl, ⟨rfl, trivial⟩⟩⟩⟩⟩⟩) H
theorem w_370_40 {m : Nat} {b1 : Nat} {x2 : Int32} {x3 : Int32} {x4 : Int32} {x5 : Int32} {h : hh_T} {Q : Option Value ⊕ Nat → hh_T → Prop} (hT : tw_ok h m) (H : gm_G 285 0 [some (.ref m), some (.ref b1), some (.int x4), some (.int (x5 - x4))] [] h (pI (fun v2 h1 => (¬ v2 = Int32.ofNat 0 → (gm_G 370 71 [some (.ref m), some (.ref b1), some (.int x2), some (.int x3), none, some (.int x5)] [] h1 Q)) ∧ (v2 = Int32.ofNat 0 → (gm_G 119 0 [some (.ref b1), some (.int x4), some (.int (x5 - x4))] [] h1 (pI (fun v4 h3 => (¬ v4 = Int32.ofNat 0 → (gm_G 370 71 [some (.ref m), some (.ref b1), some (.int x2), some (.int x3), none, some (.int x5)] [] h3 Q)) ∧ (v4 = Int32.ofNat 0 → (Q (.inl (some (.int (Int32.ofNat 0)))) h3))) (fun _ _ => False))))) (fun _ _ => False))) : gm_G 370 40 [some (.ref m), some (.ref b1), some (.int x2), some (.int x3), some (.int x4), some (.int x5)] [] h Q := by
  refine g_aload (r := some _) rfl rfl rfl (pc' := 41) ?_
  refine g_aload (r := some _) rfl rfl rfl (pc' := 42) ?_
  refine g_iload rfl rfl rfl (pc' := 44) ?_
  refine g_iload rfl rfl rfl (pc' := 46) ?_
  refine g_iload rfl rfl rfl (pc' := 48) ?_
  refine g_isub rfl rfl (pc' := 49) ?_
  refine t_call hT (y := 285) (n := 4) (pc' := 52) rfl rfl (t_vt hT rfl rfl) rfl rfl ⟨(Nat.le_of_ble_eq_true rfl), (Nat.le_of_ble_eq_true rfl), (Nat.le_of_ble_eq_true rfl)⟩ rfl H (tI_elim (fun v2 h1 H hT => ?_))
  show gm_G _ 52 _ _ _ _
  refine g_if_ne rfl (pc' := 55) (pt := 71) rfl rfl ⟨fun hc => ?_, fun hc => ?_⟩
  · have H := H.1 hc
    exact g_weak (show gm_Lle [some _, some _, some _, some _, none, some _] _ from ⟨rfl, ⟨rfl, ⟨rfl, ⟨rfl, ⟨rfl, trivial⟩⟩⟩⟩⟩) H
  · have H := H.2 hc
    refine g_aload (r := some _) rfl rfl rfl (pc' := 56) ?_
    refine g_iload rfl rfl rfl (pc' := 58) ?_
    refine g_iload rfl rfl rfl (pc' := 60) ?_
    refine g_iload rfl rfl rfl (pc' := 62) ?_
    refine g_isub rfl rfl (pc' := 63) ?_
    refine t_call hT (y := 119) (n := 3) (pc' := 66) rfl rfl (fun _ => rfl) rfl rfl ⟨(Nat.le_of_ble_eq_true rfl), (Nat.le_of_ble_eq_true rfl), (Nat.le_of_ble_eq_true rfl)⟩ rfl H (tI_elim (fun v4 h3 H hT => ?_))
    show gm_G _ 66 _ _ _ _
    refine g_if_ne rfl (pc' := 69) (pt := 71) rfl rfl ⟨fun hc => ?_, fun hc => ?_⟩
    · have H := H.1 hc
      exact g_weak (show gm_Lle [some _, some _, some _, some _, none, some _] _ from ⟨rfl, ⟨rfl, ⟨rfl, ⟨rfl, ⟨rfl, trivial⟩⟩⟩⟩⟩) H
    · have H := H.2 hc
      refine g_iconst rfl rfl rfl (pc' := 70) ?_
      exact g_ireturn rfl (Or.inr (by decide)) H
theorem w_370_71 {m : Nat} {b1 : Nat} {x2 : Int32} {x3 : Int32} {x5 : Int32} {h : hh_T} {Q : Option Value ⊕ Nat → hh_T → Prop} (hT : tw_ok h m) (H : gm_G 370 77 [some (.ref m), some (.ref b1), some (.int x2), some (.int x3), some (.int (x5 + (Int32.ofNat 1))), some (.int x5)] [] h Q) : gm_G 370 71 [some (.ref m), some (.ref b1), some (.int x2), some (.int x3), none, some (.int x5)] [] h Q := by
  refine g_iload rfl rfl rfl (pc' := 73) ?_
  refine g_iconst rfl rfl rfl (pc' := 74) ?_
  refine g_iadd rfl rfl (pc' := 75) ?_
  refine g_istore rfl rfl rfl (pc' := 77) ?_
  exact g_weak (show gm_Lle [some _, some _, some _, some _, some _, some _] _ from ⟨rfl, ⟨rfl, ⟨rfl, ⟨rfl, ⟨rfl, ⟨rfl, trivial⟩⟩⟩⟩⟩⟩) H
theorem w_370_77 {m : Nat} {b1 : Nat} {x2 : Int32} {x3 : Int32} {x4 : Int32} {x5 : Int32} {h : hh_T} {Q : Option Value ⊕ Nat → hh_T → Prop} (hT : tw_ok h m) (H : gm_G 370 12 [some (.ref m), some (.ref b1), some (.int x2), some (.int x3), some (.int x4), some (.int (x5 + (Int32.ofNat 1)))] [] h Q) : gm_G 370 77 [some (.ref m), some (.ref b1), some (.int x2), some (.int x3), some (.int x4), some (.int x5)] [] h Q := by
  refine g_iinc (c := (Int32.ofNat 1)) rfl rfl rfl rfl rfl (pc' := 80) ?_
  refine g_goto rfl (pc' := 12) rfl ?_
  exact g_weak (show gm_Lle [some _, some _, some _, some _, some _, some _] _ from ⟨rfl, ⟨rfl, ⟨rfl, ⟨rfl, ⟨rfl, ⟨rfl, trivial⟩⟩⟩⟩⟩⟩) H
theorem w_371_0 {m : Nat} {x1 : Int32} {h : hh_T} {Q : Option Value ⊕ Nat → hh_T → Prop} (hT : tw_ok h m) (H : gm_G 300 0 [some (.ref m), some (.int x1)] [] h (pI (fun v2 h1 => (¬ Int32.ofNat 0 < v2 → (Q (.inl (some (.int (Int32.ofNat 0)))) h1)) ∧ (Int32.ofNat 0 < v2 → (Q (.inl (some (.int (Int32.ofNat 1)))) h1))) (fun _ _ => False))) : gm_G 371 0 [some (.ref m), some (.int x1)] [] h Q := by
  refine g_aload (r := some _) rfl rfl rfl (pc' := 1) ?_
  refine g_iload rfl rfl rfl (pc' := 2) ?_
  refine t_call hT (y := 300) (n := 2) (pc' := 5) rfl rfl (t_vt hT rfl rfl) rfl rfl ⟨(Nat.le_of_ble_eq_true rfl), (Nat.le_of_ble_eq_true rfl), (Nat.le_of_ble_eq_true rfl)⟩ rfl H (tI_elim (fun v2 h1 H hT => ?_))
  show gm_G _ 5 _ _ _ _
  refine g_if_le rfl (pc' := 8) (pt := 12) rfl rfl ⟨fun hc => ?_, fun hc => ?_⟩
  · have H := H.1 hc
    refine g_iconst rfl rfl rfl (pc' := 13) ?_
    exact g_ireturn rfl (Or.inr (by decide)) H
  · have H := H.2 hc
    refine g_iconst rfl rfl rfl (pc' := 9) ?_
    refine g_goto rfl (pc' := 13) rfl ?_
    exact g_ireturn rfl (Or.inr (by decide)) H
theorem w_372_0 {m : Nat} {b1 : Nat} {x2 : Int32} {x3 : Int32} {h : hh_T} {Q : Option Value ⊕ Nat → hh_T → Prop} (hT : tw_ok h m) (H : gm_G 372 6 [some (.ref m), some (.ref b1), some (.int x2), some (.int x3), some (.int x2), some (.int x2)] [] h Q) : gm_G 372 0 [some (.ref m), some (.ref b1), some (.int x2), some (.int x3)] [] h Q := by
  refine g_iload rfl rfl rfl (pc' := 1) ?_
  refine g_istore rfl rfl rfl (pc' := 3) ?_
  refine g_iload rfl rfl rfl (pc' := 4) ?_
  refine g_istore rfl rfl rfl (pc' := 6) ?_
  exact g_weak (show gm_Lle [some _, some _, some _, some _, some _, some _] _ from ⟨rfl, ⟨rfl, ⟨rfl, ⟨rfl, ⟨rfl, ⟨rfl, trivial⟩⟩⟩⟩⟩⟩) H
theorem w_372_6 {m : Nat} {b1 : Nat} {x2 : Int32} {x3 : Int32} {x4 : Int32} {x5 : Int32} {h : hh_T} {Q : Option Value ⊕ Nat → hh_T → Prop} (hT : tw_ok h m) (H : (¬ x5 < (x2 + x3) → (gm_G 285 0 [some (.ref m), some (.ref b1), some (.int x4), some (.int ((x2 + x3) - x4))] [] h (pI (fun v2 h1 => (v2 = Int32.ofNat 0 → (Q (.inl (some (.int (Int32.ofInt (-1))))) h1)) ∧ (¬ v2 = Int32.ofNat 0 → (Q (.inl (some (.int x4))) h1))) (fun _ _ => False)))) ∧ (x5 < (x2 + x3) → ((hh_tg h b1 = 101 ∨ hh_tg h b1 = 102) ∧ (∃ n3, gm_ix x5 n3 (hh_ln h b1) ∧ ((¬ (hh_i h b1 n3) = (Int32.ofNat 47) → (gm_G 372 29 [some (.ref m), some (.ref b1), some (.int x2), some (.int x3), some (.int x4), some (.int x5)] [] h Q)) ∧ ((hh_i h b1 n3) = (Int32.ofNat 47) → (gm_G 372 29 [some (.ref m), some (.ref b1), some (.int x2), some (.int x3), some (.int (x5 + (Int32.ofNat 1))), some (.int x5)] [] h Q))))))) : gm_G 372 6 [some (.ref m), some (.ref b1), some (.int x2), some (.int x3), some (.int x4), some (.int x5)] [] h Q := by
  refine g_iload rfl rfl rfl (pc' := 8) ?_
  refine g_iload rfl rfl rfl (pc' := 9) ?_
  refine g_iload rfl rfl rfl (pc' := 10) ?_
  refine g_iadd rfl rfl (pc' := 11) ?_
  refine g_ic_ge rfl (pc' := 14) (pt := 35) rfl rfl ⟨fun hc => ?_, fun hc => ?_⟩
  · have H := H.1 hc
    refine g_aload (r := some _) rfl rfl rfl (pc' := 36) ?_
    refine g_aload (r := some _) rfl rfl rfl (pc' := 37) ?_
    refine g_iload rfl rfl rfl (pc' := 39) ?_
    refine g_iload rfl rfl rfl (pc' := 40) ?_
    refine g_iload rfl rfl rfl (pc' := 41) ?_
    refine g_iadd rfl rfl (pc' := 42) ?_
    refine g_iload rfl rfl rfl (pc' := 44) ?_
    refine g_isub rfl rfl (pc' := 45) ?_
    refine t_call hT (y := 285) (n := 4) (pc' := 48) rfl rfl (t_vt hT rfl rfl) rfl rfl ⟨(Nat.le_of_ble_eq_true rfl), (Nat.le_of_ble_eq_true rfl), (Nat.le_of_ble_eq_true rfl)⟩ rfl H (tI_elim (fun v2 h1 H hT => ?_))
    show gm_G _ 48 _ _ _ _
    refine g_if_eq rfl (pc' := 51) (pt := 56) rfl rfl ⟨fun hc => ?_, fun hc => ?_⟩
    · have H := H.1 hc
      refine g_iconst rfl rfl rfl (pc' := 57) ?_
      exact g_ireturn rfl (Or.inl rfl) H
    · have H := H.2 hc
      refine g_iload rfl rfl rfl (pc' := 53) ?_
      refine g_goto rfl (pc' := 57) rfl ?_
      exact g_ireturn rfl (Or.inl rfl) H
  · have H := H.2 hc
    refine g_aload (r := some _) rfl rfl rfl (pc' := 15) ?_
    refine g_iload rfl rfl rfl (pc' := 17) ?_
    obtain ⟨ht4, H⟩ := H
    obtain ⟨n3, hn3, H⟩ := H
    refine g_baload rfl ht4 hn3 (pc' := 18) rfl ?_
    refine g_iconst rfl rfl rfl (pc' := 20) ?_
    refine g_ic_ne rfl (pc' := 23) (pt := 29) rfl rfl ⟨fun hc => ?_, fun hc => ?_⟩
    · have H := H.1 hc
      exact g_weak (show gm_Lle [some _, some _, some _, some _, some _, some _] _ from ⟨rfl, ⟨rfl, ⟨rfl, ⟨rfl, ⟨rfl, ⟨rfl, trivial⟩⟩⟩⟩⟩⟩) H
    · have H := H.2 hc
      refine g_iload rfl rfl rfl (pc' := 25) ?_
      refine g_iconst rfl rfl rfl (pc' := 26) ?_
      refine g_iadd rfl rfl (pc' := 27) ?_
      refine g_istore rfl rfl rfl (pc' := 29) ?_
      exact g_weak (show gm_Lle [some _, some _, some _, some _, some _, some _] _ from ⟨rfl, ⟨rfl, ⟨rfl, ⟨rfl, ⟨rfl, ⟨rfl, trivial⟩⟩⟩⟩⟩⟩) H
theorem w_372_29 {m : Nat} {b1 : Nat} {x2 : Int32} {x3 : Int32} {x4 : Int32} {x5 : Int32} {h : hh_T} {Q : Option Value ⊕ Nat → hh_T → Prop} (hT : tw_ok h m) (H : gm_G 372 6 [some (.ref m), some (.ref b1), some (.int x2), some (.int x3), some (.int x4), some (.int (x5 + (Int32.ofNat 1)))] [] h Q) : gm_G 372 29 [some (.ref m), some (.ref b1), some (.int x2), some (.int x3), some (.int x4), some (.int x5)] [] h Q := by
  refine g_iinc (c := (Int32.ofNat 1)) rfl rfl rfl rfl rfl (pc' := 32) ?_
  refine g_goto rfl (pc' := 6) rfl ?_
  exact g_weak (show gm_Lle [some _, some _, some _, some _, some _, some _] _ from ⟨rfl, ⟨rfl, ⟨rfl, ⟨rfl, ⟨rfl, ⟨rfl, trivial⟩⟩⟩⟩⟩⟩) H
theorem w_373_0 {m : Nat} {x1 : Int32} {x2 : Int32} {x3 : Int32} {x4 : Int32} {h : hh_T} {Q : Option Value ⊕ Nat → hh_T → Prop} (hT : tw_ok h m) (H : (¬ (hh_i h m 77) = Int32.ofNat 0 → (gm_G 138 0 [some (.int x1)] [] h (pI (fun v2 h1 => (¬ v2 = Int32.ofNat 0 → (Q (.inl (some (.int (Int32.ofInt (-1))))) h1)) ∧ (v2 = Int32.ofNat 0 → ((x2 < Int32.ofNat 0 → (Q (.inl (some (.int (Int32.ofInt (-1))))) h1)) ∧ (¬ x2 < Int32.ofNat 0 → (((Int32.ofNat 255) < x2 → (Q (.inl (some (.int (Int32.ofInt (-1))))) h1)) ∧ (¬ (Int32.ofNat 255) < x2 → ((x3 < Int32.ofNat 0 → (Q (.inl (some (.int (Int32.ofInt (-1))))) h1)) ∧ (¬ x3 < Int32.ofNat 0 → (((Int32.ofNat 256) < x3 → (Q (.inl (some (.int (Int32.ofInt (-1))))) h1)) ∧ (¬ (Int32.ofNat 256) < x3 → ((x4 < Int32.ofNat 0 → (Q (.inl (some (.int (Int32.ofInt (-1))))) h1)) ∧ (¬ x4 < Int32.ofNat 0 → ((¬ (Int32.ofNat 2) < x4 → (∃ n3, gm_ix x1 n3 8 ∧ ((¬ (hh_i h1 (m + 88) n3) = Int32.ofNat 0 → ((¬ x3 = Int32.ofNat 0 → (gm_G 373 77 [some (.ref m), some (.int x1), some (.int x2), none, some (.int x4)] [.int (x2 + x3)] h1 Q)) ∧ (x3 = Int32.ofNat 0 → (gm_G 373 77 [some (.ref m), some (.int x1), some (.int x2), none, some (.int x4)] [.int (Int32.ofNat 1001)] h1 Q)))) ∧ ((hh_i h1 (m + 88) n3) = Int32.ofNat 0 → (Q (.inl (some (.int (Int32.ofInt (-2))))) h1))))) ∧ ((Int32.ofNat 2) < x4 → (Q (.inl (some (.int (Int32.ofInt (-1))))) h1))))))))))))))) (fun _ _ => False)))) ∧ ((hh_i h m 77) = Int32.ofNat 0 → (Q (.inl (some (.int (Int32.ofInt (-9))))) h))) : gm_G 373 0 [some (.ref m), some (.int x1), some (.int x2), some (.int x3), some (.int x4)] [] h Q := by
  refine g_aload (r := some _) rfl rfl rfl (pc' := 1) ?_
  refine t_getZ rfl hT rfl rfl (pc' := 4) rfl ?_
  refine g_if_ne rfl (pc' := 7) (pt := 10) rfl rfl ⟨fun hc => ?_, fun hc => ?_⟩
  · have H := H.1 hc
    refine g_iload rfl rfl rfl (pc' := 11) ?_
    refine t_call hT (y := 138) (n := 1) (pc' := 14) rfl rfl (fun _ => rfl) rfl rfl ⟨(Nat.le_of_ble_eq_true rfl), (Nat.le_of_ble_eq_true rfl), (Nat.le_of_ble_eq_true rfl)⟩ rfl H (tI_elim (fun v2 h1 H hT => ?_))
    show gm_G _ 14 _ _ _ _
    refine g_if_ne rfl (pc' := 17) (pt := 50) rfl rfl ⟨fun hc => ?_, fun hc => ?_⟩
    · have H := H.1 hc
      refine g_iconst rfl rfl rfl (pc' := 51) ?_
      exact g_ireturn rfl (Or.inl rfl) H
    · have H := H.2 hc
      refine g_iload rfl rfl rfl (pc' := 18) ?_
      refine g_if_lt rfl (pc' := 21) (pt := 50) rfl rfl ⟨fun hc => ?_, fun hc => ?_⟩
      · have H := H.1 hc
        refine g_iconst rfl rfl rfl (pc' := 51) ?_
        exact g_ireturn rfl (Or.inl rfl) H
      · have H := H.2 hc
        refine g_iload rfl rfl rfl (pc' := 22) ?_
        refine g_iconst rfl rfl rfl (pc' := 25) ?_
        refine g_ic_gt rfl (pc' := 28) (pt := 50) rfl rfl ⟨fun hc => ?_, fun hc => ?_⟩
        · have H := H.1 hc
          refine g_iconst rfl rfl rfl (pc' := 51) ?_
          exact g_ireturn rfl (Or.inl rfl) H
        · have H := H.2 hc
          refine g_iload rfl rfl rfl (pc' := 29) ?_
          refine g_if_lt rfl (pc' := 32) (pt := 50) rfl rfl ⟨fun hc => ?_, fun hc => ?_⟩
          · have H := H.1 hc
            refine g_iconst rfl rfl rfl (pc' := 51) ?_
            exact g_ireturn rfl (Or.inl rfl) H
          · have H := H.2 hc
            refine g_iload rfl rfl rfl (pc' := 33) ?_
            refine g_iconst rfl rfl rfl (pc' := 36) ?_
            refine g_ic_gt rfl (pc' := 39) (pt := 50) rfl rfl ⟨fun hc => ?_, fun hc => ?_⟩
            · have H := H.1 hc
              refine g_iconst rfl rfl rfl (pc' := 51) ?_
              exact g_ireturn rfl (Or.inl rfl) H
            · have H := H.2 hc
              refine g_iload rfl rfl rfl (pc' := 41) ?_
              refine g_if_lt rfl (pc' := 44) (pt := 50) rfl rfl ⟨fun hc => ?_, fun hc => ?_⟩
              · have H := H.1 hc
                refine g_iconst rfl rfl rfl (pc' := 51) ?_
                exact g_ireturn rfl (Or.inl rfl) H
              · have H := H.2 hc
                refine g_iload rfl rfl rfl (pc' := 46) ?_
                refine g_iconst rfl rfl rfl (pc' := 47) ?_
                refine g_ic_le rfl (pc' := 50) (pt := 52) rfl rfl ⟨fun hc => ?_, fun hc => ?_⟩
                · have H := H.1 hc
                  refine g_aload (r := some _) rfl rfl rfl (pc' := 53) ?_
                  refine t_get (o := 88) rfl hT rfl rfl rfl (pc' := 56) rfl ?_
                  refine g_iload rfl rfl rfl (pc' := 57) ?_
                  obtain ⟨n3, hn3, H⟩ := H
                  refine t_zaload hT (o := 88) (l := 8) rfl rfl rfl hn3 (pc' := 58) rfl ?_
                  refine g_if_ne rfl (pc' := 61) (pt := 64) rfl rfl ⟨fun hc => ?_, fun hc => ?_⟩
                  · have H := H.1 hc
                    refine g_iload rfl rfl rfl (pc' := 65) ?_
                    refine g_if_ne rfl (pc' := 68) (pt := 74) rfl rfl ⟨fun hc => ?_, fun hc => ?_⟩
                    · have H := H.1 hc
                      refine g_iload rfl rfl rfl (pc' := 75) ?_
                      refine g_iload rfl rfl rfl (pc' := 76) ?_
                      refine g_iadd rfl rfl (pc' := 77) ?_
                      exact g_weak (show gm_Lle [some _, some _, some _, none, some _] _ from ⟨rfl, ⟨rfl, ⟨rfl, ⟨rfl, trivial⟩⟩⟩⟩) H
                    · have H := H.2 hc
                      refine g_iconst rfl rfl rfl (pc' := 71) ?_
                      refine g_goto rfl (pc' := 77) rfl ?_
                      exact g_weak (show gm_Lle [some _, some _, some _, none, some _] _ from ⟨rfl, ⟨rfl, ⟨rfl, ⟨rfl, trivial⟩⟩⟩⟩) H
                  · have H := H.2 hc
                    refine g_iconst rfl rfl rfl (pc' := 63) ?_
                    exact g_ireturn rfl (Or.inl rfl) H
                · have H := H.2 hc
                  refine g_iconst rfl rfl rfl (pc' := 51) ?_
                  exact g_ireturn rfl (Or.inl rfl) H
  · have H := H.2 hc
    refine g_iconst rfl rfl rfl (pc' := 9) ?_
    exact g_ireturn rfl (Or.inl rfl) H
theorem w_373_77 {m : Nat} {x1 : Int32} {x2 : Int32} {x4 : Int32} {y0 : Int32} {h : hh_T} {Q : Option Value ⊕ Nat → hh_T → Prop} (hT : tw_ok h m) (H : (¬ Int32.ofNat 0 < x4 → (gm_G 373 109 [some (.ref m), some (.int x1), some (.int x2), none, some (.int x4), some (.int y0)] [] h Q)) ∧ (Int32.ofNat 0 < x4 → ((¬ x4 = (Int32.ofNat 1) → (gm_G 373 100 [some (.ref m), some (.int x1), some (.int x2), none, some (.int x4), some (.int y0)] [.int (Int32.ofNat 1), .int y0, .int x2, .int x1, .ref m] h Q)) ∧ (x4 = (Int32.ofNat 1) → (gm_G 373 100 [some (.ref m), some (.int x1), some (.int x2), none, some (.int x4), some (.int y0)] [.int (Int32.ofNat 2), .int y0, .int x2, .int x1, .ref m] h Q))))) : gm_G 373 77 [some (.ref m), some (.int x1), some (.int x2), none, some (.int x4)] [.int y0] h Q := by
  refine g_istore rfl rfl rfl (pc' := 79) ?_
  refine g_iload rfl rfl rfl (pc' := 81) ?_
  refine g_if_le rfl (pc' := 84) (pt := 109) rfl rfl ⟨fun hc => ?_, fun hc => ?_⟩
  · have H := H.1 hc
    exact g_weak (show gm_Lle [some _, some _, some _, none, some _, some _] _ from ⟨rfl, ⟨rfl, ⟨rfl, ⟨rfl, ⟨rfl, trivial⟩⟩⟩⟩⟩) H
  · have H := H.2 hc
    refine g_aload (r := some _) rfl rfl rfl (pc' := 85) ?_
    refine g_iload rfl rfl rfl (pc' := 86) ?_
    refine g_iload rfl rfl rfl (pc' := 87) ?_
    refine g_iload rfl rfl rfl (pc' := 89) ?_
    refine g_iload rfl rfl rfl (pc' := 91) ?_
    refine g_iconst rfl rfl rfl (pc' := 92) ?_
    refine g_ic_ne rfl (pc' := 95) (pt := 99) rfl rfl ⟨fun hc => ?_, fun hc => ?_⟩
    · have H := H.1 hc
      refine g_iconst rfl rfl rfl (pc' := 100) ?_
      exact g_weak (show gm_Lle [some _, some _, some _, none, some _, some _] _ from ⟨rfl, ⟨rfl, ⟨rfl, ⟨rfl, ⟨rfl, trivial⟩⟩⟩⟩⟩) H
    · have H := H.2 hc
      refine g_iconst rfl rfl rfl (pc' := 96) ?_
      refine g_goto rfl (pc' := 100) rfl ?_
      exact g_weak (show gm_Lle [some _, some _, some _, none, some _, some _] _ from ⟨rfl, ⟨rfl, ⟨rfl, ⟨rfl, ⟨rfl, trivial⟩⟩⟩⟩⟩) H
theorem w_373_100 {m : Nat} {x1 : Int32} {x2 : Int32} {x4 : Int32} {x5 : Int32} {y0 : Int32} {y1 : Int32} {y2 : Int32} {y3 : Int32} {h : hh_T} {Q : Option Value ⊕ Nat → hh_T → Prop} (hT : tw_ok h m) (H : gm_G 284 0 [some (.ref m), some (.int y3), some (.int y2), some (.int y1), some (.int y0)] [] h (pI (fun v2 h1 => (v2 = Int32.ofNat 0 → (gm_G 373 109 [some (.ref m), some (.int x1), some (.int x2), none, some (.int x4), some (.int x5)] [] h1 Q)) ∧ (¬ v2 = Int32.ofNat 0 → (Q (.inl (some (.int (Int32.ofInt (-5))))) h1))) (fun _ _ => False))) : gm_G 373 100 [some (.ref m), some (.int x1), some (.int x2), none, some (.int x4), some (.int x5)] [.int y0, .int y1, .int y2, .int y3, .ref m] h Q := by
  refine t_call hT (y := 284) (n := 5) (pc' := 103) rfl rfl (t_vt hT rfl rfl) rfl rfl ⟨(Nat.le_of_ble_eq_true rfl), (Nat.le_of_ble_eq_true rfl), (Nat.le_of_ble_eq_true rfl)⟩ rfl H (tI_elim (fun v2 h1 H hT => ?_))
  show gm_G _ 103 _ _ _ _
  refine g_if_eq rfl (pc' := 106) (pt := 109) rfl rfl ⟨fun hc => ?_, fun hc => ?_⟩
  · have H := H.1 hc
    exact g_weak (show gm_Lle [some _, some _, some _, none, some _, some _] _ from ⟨rfl, ⟨rfl, ⟨rfl, ⟨rfl, ⟨rfl, trivial⟩⟩⟩⟩⟩) H
  · have H := H.2 hc
    refine g_iconst rfl rfl rfl (pc' := 108) ?_
    exact g_ireturn rfl (Or.inl rfl) H
theorem w_373_109 {m : Nat} {x1 : Int32} {x2 : Int32} {x4 : Int32} {x5 : Int32} {h : hh_T} {Q : Option Value ⊕ Nat → hh_T → Prop} (hT : tw_ok h m) (H : gm_G 373 112 [some (.ref m), some (.int x1), none, none, some (.int x4), some (.int x5), some (.int x2)] [] h Q) : gm_G 373 109 [some (.ref m), some (.int x1), some (.int x2), none, some (.int x4), some (.int x5)] [] h Q := by
  refine g_iload rfl rfl rfl (pc' := 110) ?_
  refine g_istore rfl rfl rfl (pc' := 112) ?_
  exact g_weak (show gm_Lle [some _, some _, none, none, some _, some _, some _] _ from ⟨rfl, ⟨rfl, ⟨rfl, ⟨rfl, ⟨rfl, trivial⟩⟩⟩⟩⟩) H
theorem w_373_112 {m : Nat} {x1 : Int32} {x4 : Int32} {x5 : Int32} {x6 : Int32} {h : hh_T} {Q : Option Value ⊕ Nat → hh_T → Prop} (hT : tw_ok h m) (H : (¬ x6 < x5 → (Q (.inl (some (.int (Int32.ofNat 0)))) h)) ∧ (x6 < x5 → (∃ n1, gm_ix (((Int32.ofNat 1001) * x1) + x6) n1 8008 ∧ (∀ h2, h2 = hh_wi h (m + 96) n1 ((x4.toInt8.toInt32).toInt8.toInt32) → (gm_G 373 112 [some (.ref m), some (.int x1), none, none, some (.int x4), some (.int x5), some (.int (x6 + (Int32.ofNat 1)))] [] h2 Q))))) : gm_G 373 112 [some (.ref m), some (.int x1), none, none, some (.int x4), some (.int x5), some (.int x6)] [] h Q := by
  refine g_iload rfl rfl rfl (pc' := 114) ?_
  refine g_iload rfl rfl rfl (pc' := 116) ?_
  refine g_ic_ge rfl (pc' := 119) (pt := 141) rfl rfl ⟨fun hc => ?_, fun hc => ?_⟩
  · have H := H.1 hc
    refine g_iconst rfl rfl rfl (pc' := 142) ?_
    exact g_ireturn rfl (Or.inl rfl) H
  · have H := H.2 hc
    refine g_aload (r := some _) rfl rfl rfl (pc' := 120) ?_
    refine t_get (o := 96) rfl hT rfl rfl rfl (pc' := 123) rfl ?_
    refine g_iconst rfl rfl rfl (pc' := 126) ?_
    refine g_iload rfl rfl rfl (pc' := 127) ?_
    refine g_imul rfl rfl (pc' := 128) ?_
    refine g_iload rfl rfl rfl (pc' := 130) ?_
    refine g_iadd rfl rfl (pc' := 131) ?_
    refine g_iload rfl rfl rfl (pc' := 133) ?_
    refine g_i2b rfl rfl (pc' := 134) ?_
    obtain ⟨n1, hn1, H⟩ := H
    refine t_bastore hT (o := 96) (l := 8008) rfl rfl rfl hn1  (pc' := 135) rfl (fun hT => ?_)
    have H := H _ rfl
    refine g_iinc (c := (Int32.ofNat 1)) rfl rfl rfl rfl rfl (pc' := 138) ?_
    refine g_goto rfl (pc' := 112) rfl ?_
    exact g_weak (show gm_Lle [some _, some _, none, none, some _, some _, some _] _ from ⟨rfl, ⟨rfl, ⟨rfl, ⟨rfl, ⟨rfl, trivial⟩⟩⟩⟩⟩) H
theorem w_374_0 {m : Nat} {x1 : Int32} {x2 : Int32} {b3 : Nat} {x4 : Int32} {h : hh_T} {Q : Option Value ⊕ Nat → hh_T → Prop} (hT : tw_ok h m) (H : ∃ n1, gm_ix x2 n1 640 ∧ (∃ n2, gm_ix x1 n2 3 ∧ ((¬ (hh_i h (m + 11) n2) < (Int32.ofNat 2) → (∃ n3, gm_ix x1 n3 3 ∧ (∃ n4, gm_ix x1 n4 3 ∧ (gm_G 374 79 [some (.ref m), none, none, some (.ref b3), some (.int x4), some (.int (hh_i h (m + 21) n1)), some (.int (hh_i h (m + 12) n3)), some (.int ((hh_i h (m + 13) n4) - (hh_i h (m + 12) n3))), some (.int (Int32.ofNat 0)), some (.int (Int32.ofNat 0))] [] h Q)))) ∧ ((hh_i h (m + 11) n2) < (Int32.ofNat 2) → (gm_G 374 21 [some (.ref m), none, none, some (.ref b3), some (.int x4), some (.int (hh_i h (m + 21) n1)), some (.int (Int32.ofNat 0))] [] h Q))))) : gm_G 374 0 [some (.ref m), some (.int x1), some (.int x2), some (.ref b3), some (.int x4)] [] h Q := by
  refine g_aload (r := some _) rfl rfl rfl (pc' := 1) ?_
  refine t_get (o := 21) rfl hT rfl rfl rfl (pc' := 4) rfl ?_
  refine g_iload rfl rfl rfl (pc' := 5) ?_
  obtain ⟨n1, hn1, H⟩ := H
  refine t_iaload hT (o := 21) (l := 640) rfl rfl rfl hn1 (pc' := 6) rfl ?_
  refine g_istore rfl rfl rfl (pc' := 8) ?_
  refine g_aload (r := some _) rfl rfl rfl (pc' := 9) ?_
  refine t_get (o := 11) rfl hT rfl rfl rfl (pc' := 12) rfl ?_
  refine g_iload rfl rfl rfl (pc' := 13) ?_
  obtain ⟨n2, hn2, H⟩ := H
  refine t_iaload hT (o := 11) (l := 3) rfl rfl rfl hn2 (pc' := 14) rfl ?_
  refine g_iconst rfl rfl rfl (pc' := 15) ?_
  refine g_ic_ge rfl (pc' := 18) (pt := 54) rfl rfl ⟨fun hc => ?_, fun hc => ?_⟩
  · have H := H.1 hc
    refine g_aload (r := some _) rfl rfl rfl (pc' := 55) ?_
    refine t_get (o := 12) rfl hT rfl rfl rfl (pc' := 58) rfl ?_
    refine g_iload rfl rfl rfl (pc' := 59) ?_
    obtain ⟨n3, hn3, H⟩ := H
    refine t_iaload hT (o := 12) (l := 3) rfl rfl rfl hn3 (pc' := 60) rfl ?_
    refine g_istore rfl rfl rfl (pc' := 62) ?_
    refine g_aload (r := some _) rfl rfl rfl (pc' := 63) ?_
    refine t_get (o := 13) rfl hT rfl rfl rfl (pc' := 66) rfl ?_
    refine g_iload rfl rfl rfl (pc' := 67) ?_
    obtain ⟨n4, hn4, H⟩ := H
    refine t_iaload hT (o := 13) (l := 3) rfl rfl rfl hn4 (pc' := 68) rfl ?_
    refine g_iload rfl rfl rfl (pc' := 70) ?_
    refine g_isub rfl rfl (pc' := 71) ?_
    refine g_istore rfl rfl rfl (pc' := 73) ?_
    refine g_iconst rfl rfl rfl (pc' := 74) ?_
    refine g_istore rfl rfl rfl (pc' := 76) ?_
    refine g_iconst rfl rfl rfl (pc' := 77) ?_
    refine g_istore rfl rfl rfl (pc' := 79) ?_
    exact g_weak (show gm_Lle [some _, none, none, some _, some _, some _, some _, some _, some _, some _] _ from ⟨rfl, ⟨rfl, ⟨rfl, ⟨rfl, ⟨rfl, ⟨rfl, ⟨rfl, ⟨rfl, trivial⟩⟩⟩⟩⟩⟩⟩⟩) H
  · have H := H.2 hc
    refine g_iconst rfl rfl rfl (pc' := 19) ?_
    refine g_istore rfl rfl rfl (pc' := 21) ?_
    exact g_weak (show gm_Lle [some _, none, none, some _, some _, some _, some _] _ from ⟨rfl, ⟨rfl, ⟨rfl, ⟨rfl, ⟨rfl, trivial⟩⟩⟩⟩⟩) H
theorem w_374_21 {m : Nat} {b3 : Nat} {x4 : Int32} {x5 : Int32} {x6 : Int32} {h : hh_T} {Q : Option Value ⊕ Nat → hh_T → Prop} (hT : tw_ok h m) (H : (¬ x6 < ((Int32.ofNat 8) * x5) → (Q (.inl (some (.int x5))) h)) ∧ (x6 < ((Int32.ofNat 8) * x5) → ((hh_tg h b3 = 101 ∨ hh_tg h b3 = 102) ∧ (∃ n1, gm_ix (x4 + x6) n1 (hh_ln h b3) ∧ (∃ n3, gm_ix x6 n3 256 ∧ (∀ h4, h4 = hh_wi h (m + 16) n3 ((hh_i h b3 n1).toInt8.toInt32) → (gm_G 374 21 [some (.ref m), none, none, some (.ref b3), some (.int x4), some (.int x5), some (.int (x6 + (Int32.ofNat 1)))] [] h4 Q))))))) : gm_G 374 21 [some (.ref m), none, none, some (.ref b3), some (.int x4), some (.int x5), some (.int x6)] [] h Q := by
  refine g_iload rfl rfl rfl (pc' := 23) ?_
  refine g_iconst rfl rfl rfl (pc' := 25) ?_
  refine g_iload rfl rfl rfl (pc' := 27) ?_
  refine g_imul rfl rfl (pc' := 28) ?_
  refine g_ic_ge rfl (pc' := 31) (pt := 51) rfl rfl ⟨fun hc => ?_, fun hc => ?_⟩
  · have H := H.1 hc
    refine g_iload rfl rfl rfl (pc' := 53) ?_
    exact g_ireturn rfl (Or.inl rfl) H
  · have H := H.2 hc
    refine g_aload (r := some _) rfl rfl rfl (pc' := 32) ?_
    refine t_get (o := 16) rfl hT rfl rfl rfl (pc' := 35) rfl ?_
    refine g_iload rfl rfl rfl (pc' := 37) ?_
    refine g_aload (r := some _) rfl rfl rfl (pc' := 38) ?_
    refine g_iload rfl rfl rfl (pc' := 40) ?_
    refine g_iload rfl rfl rfl (pc' := 42) ?_
    refine g_iadd rfl rfl (pc' := 43) ?_
    obtain ⟨ht2, H⟩ := H
    obtain ⟨n1, hn1, H⟩ := H
    refine g_baload rfl ht2 hn1 (pc' := 44) rfl ?_
    obtain ⟨n3, hn3, H⟩ := H
    refine t_bastore hT (o := 16) (l := 256) rfl rfl rfl hn3  (pc' := 45) rfl (fun hT => ?_)
    have H := H _ rfl
    refine g_iinc (c := (Int32.ofNat 1)) rfl rfl rfl rfl rfl (pc' := 48) ?_
    refine g_goto rfl (pc' := 21) rfl ?_
    exact g_weak (show gm_Lle [some _, none, none, some _, some _, some _, some _] _ from ⟨rfl, ⟨rfl, ⟨rfl, ⟨rfl, ⟨rfl, trivial⟩⟩⟩⟩⟩) H
theorem w_374_79 {m : Nat} {b3 : Nat} {x4 : Int32} {x5 : Int32} {x6 : Int32} {x7 : Int32} {x8 : Int32} {x9 : Int32} {h : hh_T} {Q : Option Value ⊕ Nat → hh_T → Prop} (hT : tw_ok h m) (H : (¬ x9 < x5 → (Q (.inl (some (.int x8))) h)) ∧ (x9 < x5 → ((¬ (x5 - x9) < x7 → (gm_G 374 106 [some (.ref m), none, none, some (.ref b3), some (.int x4), some (.int x5), some (.int x6), some (.int x7), some (.int x8), some (.int x9)] [.int x7] h Q)) ∧ ((x5 - x9) < x7 → (gm_G 374 106 [some (.ref m), none, none, some (.ref b3), some (.int x4), some (.int x5), some (.int x6), some (.int x7), some (.int x8), some (.int x9)] [.int (x5 - x9)] h Q))))) : gm_G 374 79 [some (.ref m), none, none, some (.ref b3), some (.int x4), some (.int x5), some (.int x6), some (.int x7), some (.int x8), some (.int x9)] [] h Q := by
  refine g_iload rfl rfl rfl (pc' := 81) ?_
  refine g_iload rfl rfl rfl (pc' := 83) ?_
  refine g_ic_ge rfl (pc' := 86) (pt := 282) rfl rfl ⟨fun hc => ?_, fun hc => ?_⟩
  · have H := H.1 hc
    refine g_iload rfl rfl rfl (pc' := 284) ?_
    exact g_ireturn rfl (Or.inl rfl) H
  · have H := H.2 hc
    refine g_iload rfl rfl rfl (pc' := 88) ?_
    refine g_iload rfl rfl rfl (pc' := 90) ?_
    refine g_isub rfl rfl (pc' := 91) ?_
    refine g_iload rfl rfl rfl (pc' := 93) ?_
    refine g_ic_ge rfl (pc' := 96) (pt := 104) rfl rfl ⟨fun hc => ?_, fun hc => ?_⟩
    · have H := H.1 hc
      refine g_iload rfl rfl rfl (pc' := 106) ?_
      exact g_weak (show gm_Lle [some _, none, none, some _, some _, some _, some _, some _, some _, some _] _ from ⟨rfl, ⟨rfl, ⟨rfl, ⟨rfl, ⟨rfl, ⟨rfl, ⟨rfl, ⟨rfl, trivial⟩⟩⟩⟩⟩⟩⟩⟩) H
    · have H := H.2 hc
      refine g_iload rfl rfl rfl (pc' := 98) ?_
      refine g_iload rfl rfl rfl (pc' := 100) ?_
      refine g_isub rfl rfl (pc' := 101) ?_
      refine g_goto rfl (pc' := 106) rfl ?_
      exact g_weak (show gm_Lle [some _, none, none, some _, some _, some _, some _, some _, some _, some _] _ from ⟨rfl, ⟨rfl, ⟨rfl, ⟨rfl, ⟨rfl, ⟨rfl, ⟨rfl, ⟨rfl, trivial⟩⟩⟩⟩⟩⟩⟩⟩) H
theorem w_374_106 {m : Nat} {b3 : Nat} {x4 : Int32} {x5 : Int32} {x6 : Int32} {x7 : Int32} {x8 : Int32} {x9 : Int32} {y0 : Int32} {h : hh_T} {Q : Option Value ⊕ Nat → hh_T → Prop} (hT : tw_ok h m) (H : gm_G 374 111 [some (.ref m), none, none, some (.ref b3), some (.int x4), some (.int x5), some (.int x6), some (.int x7), some (.int x8), some (.int x9), some (.int y0), some (.int (Int32.ofNat 0))] [] h Q) : gm_G 374 106 [some (.ref m), none, none, some (.ref b3), some (.int x4), some (.int x5), some (.int x6), some (.int x7), some (.int x8), some (.int x9)] [.int y0] h Q := by
  refine g_istore rfl rfl rfl (pc' := 108) ?_
  refine g_iconst rfl rfl rfl (pc' := 109) ?_
  refine g_istore rfl rfl rfl (pc' := 111) ?_
  exact g_weak (show gm_Lle [some _, none, none, some _, some _, some _, some _, some _, some _, some _, some _, some _] _ from ⟨rfl, ⟨rfl, ⟨rfl, ⟨rfl, ⟨rfl, ⟨rfl, ⟨rfl, ⟨rfl, ⟨rfl, ⟨rfl, trivial⟩⟩⟩⟩⟩⟩⟩⟩⟩⟩) H
theorem w_374_111 {m : Nat} {b3 : Nat} {x4 : Int32} {x5 : Int32} {x6 : Int32} {x7 : Int32} {x8 : Int32} {x9 : Int32} {x10 : Int32} {x11 : Int32} {h : hh_T} {Q : Option Value ⊕ Nat → hh_T → Prop} (hT : tw_ok h m) (H : (¬ x11 < x6 → (gm_G 374 217 [some (.ref m), none, none, some (.ref b3), some (.int x4), some (.int x5), some (.int x6), some (.int x7), some (.int x8), some (.int x9), some (.int x10), some (.int (Int32.ofNat 0))] [] h Q)) ∧ (x11 < x6 → (gm_G 374 121 [some (.ref m), none, none, some (.ref b3), some (.int x4), some (.int x5), some (.int x6), some (.int x7), some (.int x8), some (.int x9), some (.int x10), some (.int x11), some (.int (Int32.ofNat 0))] [] h Q))) : gm_G 374 111 [some (.ref m), none, none, some (.ref b3), some (.int x4), some (.int x5), some (.int x6), some (.int x7), some (.int x8), some (.int x9), some (.int x10), some (.int x11)] [] h Q := by
  refine g_iload rfl rfl rfl (pc' := 113) ?_
  refine g_iload rfl rfl rfl (pc' := 115) ?_
  refine g_ic_ge rfl (pc' := 118) (pt := 214) rfl rfl ⟨fun hc => ?_, fun hc => ?_⟩
  · have H := H.1 hc
    refine g_iconst rfl rfl rfl (pc' := 215) ?_
    refine g_istore rfl rfl rfl (pc' := 217) ?_
    exact g_weak (show gm_Lle [some _, none, none, some _, some _, some _, some _, some _, some _, some _, some _, some _] _ from ⟨rfl, ⟨rfl, ⟨rfl, ⟨rfl, ⟨rfl, ⟨rfl, ⟨rfl, ⟨rfl, ⟨rfl, ⟨rfl, trivial⟩⟩⟩⟩⟩⟩⟩⟩⟩⟩) H
  · have H := H.2 hc
    refine g_iconst rfl rfl rfl (pc' := 119) ?_
    refine g_istore rfl rfl rfl (pc' := 121) ?_
    exact g_weak (show gm_Lle [some _, none, none, some _, some _, some _, some _, some _, some _, some _, some _, some _, some _] _ from ⟨rfl, ⟨rfl, ⟨rfl, ⟨rfl, ⟨rfl, ⟨rfl, ⟨rfl, ⟨rfl, ⟨rfl, ⟨rfl, ⟨rfl, trivial⟩⟩⟩⟩⟩⟩⟩⟩⟩⟩⟩) H
theorem w_374_121 {m : Nat} {b3 : Nat} {x4 : Int32} {x5 : Int32} {x6 : Int32} {x7 : Int32} {x8 : Int32} {x9 : Int32} {x10 : Int32} {x11 : Int32} {x12 : Int32} {h : hh_T} {Q : Option Value ⊕ Nat → hh_T → Prop} (hT : tw_ok h m) (H : (¬ x12 < (Int32.ofNat 8) → (gm_G 374 111 [some (.ref m), none, none, some (.ref b3), some (.int x4), some (.int x5), some (.int x6), some (.int x7), some (.int x8), some (.int x9), some (.int x10), some (.int (x11 + (Int32.ofNat 1)))] [] h Q)) ∧ (x12 < (Int32.ofNat 8) → (gm_G 374 134 [some (.ref m), none, none, some (.ref b3), some (.int x4), some (.int x5), some (.int x6), some (.int x7), some (.int x8), some (.int x9), some (.int x10), some (.int x11), some (.int x12), some (.int (Int32.ofNat 0)), some (.int (Int32.ofNat 0))] [] h Q))) : gm_G 374 121 [some (.ref m), none, none, some (.ref b3), some (.int x4), some (.int x5), some (.int x6), some (.int x7), some (.int x8), some (.int x9), some (.int x10), some (.int x11), some (.int x12)] [] h Q := by
  refine g_iload rfl rfl rfl (pc' := 123) ?_
  refine g_iconst rfl rfl rfl (pc' := 125) ?_
  refine g_ic_ge rfl (pc' := 128) (pt := 208) rfl rfl ⟨fun hc => ?_, fun hc => ?_⟩
  · have H := H.1 hc
    refine g_iinc (c := (Int32.ofNat 1)) rfl rfl rfl rfl rfl (pc' := 211) ?_
    refine g_goto rfl (pc' := 111) rfl ?_
    exact g_weak (show gm_Lle [some _, none, none, some _, some _, some _, some _, some _, some _, some _, some _, some _] _ from ⟨rfl, ⟨rfl, ⟨rfl, ⟨rfl, ⟨rfl, ⟨rfl, ⟨rfl, ⟨rfl, ⟨rfl, ⟨rfl, trivial⟩⟩⟩⟩⟩⟩⟩⟩⟩⟩) H
  · have H := H.2 hc
    refine g_iconst rfl rfl rfl (pc' := 129) ?_
    refine g_istore rfl rfl rfl (pc' := 131) ?_
    refine g_iconst rfl rfl rfl (pc' := 132) ?_
    refine g_istore rfl rfl rfl (pc' := 134) ?_
    exact g_weak (show gm_Lle [some _, none, none, some _, some _, some _, some _, some _, some _, some _, some _, some _, some _, some _, some _] _ from ⟨rfl, ⟨rfl, ⟨rfl, ⟨rfl, ⟨rfl, ⟨rfl, ⟨rfl, ⟨rfl, ⟨rfl, ⟨rfl, ⟨rfl, ⟨rfl, ⟨rfl, trivial⟩⟩⟩⟩⟩⟩⟩⟩⟩⟩⟩⟩⟩) H
theorem w_374_134 {m : Nat} {b3 : Nat} {x4 : Int32} {x5 : Int32} {x6 : Int32} {x7 : Int32} {x8 : Int32} {x9 : Int32} {x10 : Int32} {x11 : Int32} {x12 : Int32} {x13 : Int32} {x14 : Int32} {h : hh_T} {Q : Option Value ⊕ Nat → hh_T → Prop} (hT : tw_ok h m) (H : (¬ x14 < x10 → (∃ n1, gm_ix (((Int32.ofNat 8) * (x8 + x11)) + x12) n1 256 ∧ (∀ h2, h2 = hh_wi h (m + 16) n1 ((x13.toInt8.toInt32).toInt8.toInt32) → (gm_G 374 121 [some (.ref m), none, none, some (.ref b3), some (.int x4), some (.int x5), some (.int x6), some (.int x7), some (.int x8), some (.int x9), some (.int x10), some (.int x11), some (.int (x12 + (Int32.ofNat 1)))] [] h2 Q)))) ∧ (x14 < x10 → (gm_G 296 0 [some (.int (x11 * x14))] [] h (pI (fun v4 h3 => (hh_tg h3 b3 = 101 ∨ hh_tg h3 b3 = 102) ∧ (∃ n5, gm_ix ((x4 + ((Int32.ofNat 8) * (x9 + x14))) + x12) n5 (hh_ln h3 b3) ∧ (gm_G 161 0 [some (.int v4), some (.int ((hh_i h3 b3 n5) &&& (Int32.ofNat 255)))] [] h3 (pI (fun v8 h7 => gm_G 374 134 [some (.ref m), none, none, some (.ref b3), some (.int x4), some (.int x5), some (.int x6), some (.int x7), some (.int x8), some (.int x9), some (.int x10), some (.int x11), some (.int x12), some (.int (x13 ^^^ v8)), some (.int (x14 + (Int32.ofNat 1)))] [] h7 Q) (fun _ _ => False))))) (fun _ _ => False))))) : gm_G 374 134 [some (.ref m), none, none, some (.ref b3), some (.int x4), some (.int x5), some (.int x6), some (.int x7), some (.int x8), some (.int x9), some (.int x10), some (.int x11), some (.int x12), some (.int x13), some (.int x14)] [] h Q := by
  refine g_iload rfl rfl rfl (pc' := 136) ?_
  refine g_iload rfl rfl rfl (pc' := 138) ?_
  refine g_ic_ge rfl (pc' := 141) (pt := 183) rfl rfl ⟨fun hc => ?_, fun hc => ?_⟩
  · have H := H.1 hc
    refine g_aload (r := some _) rfl rfl rfl (pc' := 184) ?_
    refine t_get (o := 16) rfl hT rfl rfl rfl (pc' := 187) rfl ?_
    refine g_iconst rfl rfl rfl (pc' := 189) ?_
    refine g_iload rfl rfl rfl (pc' := 191) ?_
    refine g_iload rfl rfl rfl (pc' := 193) ?_
    refine g_iadd rfl rfl (pc' := 194) ?_
    refine g_imul rfl rfl (pc' := 195) ?_
    refine g_iload rfl rfl rfl (pc' := 197) ?_
    refine g_iadd rfl rfl (pc' := 198) ?_
    refine g_iload rfl rfl rfl (pc' := 200) ?_
    refine g_i2b rfl rfl (pc' := 201) ?_
    obtain ⟨n1, hn1, H⟩ := H
    refine t_bastore hT (o := 16) (l := 256) rfl rfl rfl hn1  (pc' := 202) rfl (fun hT => ?_)
    have H := H _ rfl
    refine g_iinc (c := (Int32.ofNat 1)) rfl rfl rfl rfl rfl (pc' := 205) ?_
    refine g_goto rfl (pc' := 121) rfl ?_
    exact g_weak (show gm_Lle [some _, none, none, some _, some _, some _, some _, some _, some _, some _, some _, some _, some _] _ from ⟨rfl, ⟨rfl, ⟨rfl, ⟨rfl, ⟨rfl, ⟨rfl, ⟨rfl, ⟨rfl, ⟨rfl, ⟨rfl, ⟨rfl, trivial⟩⟩⟩⟩⟩⟩⟩⟩⟩⟩⟩) H
  · have H := H.2 hc
    refine g_iload rfl rfl rfl (pc' := 143) ?_
    refine g_iload rfl rfl rfl (pc' := 145) ?_
    refine g_iload rfl rfl rfl (pc' := 147) ?_
    refine g_imul rfl rfl (pc' := 148) ?_
    refine t_call hT (y := 296) (n := 1) (pc' := 151) rfl rfl (fun _ => rfl) rfl rfl ⟨(Nat.le_of_ble_eq_true rfl), (Nat.le_of_ble_eq_true rfl), (Nat.le_of_ble_eq_true rfl)⟩ rfl H (tI_elim (fun v4 h3 H hT => ?_))
    show gm_G _ 151 _ _ _ _
    refine g_aload (r := some _) rfl rfl rfl (pc' := 152) ?_
    refine g_iload rfl rfl rfl (pc' := 154) ?_
    refine g_iconst rfl rfl rfl (pc' := 156) ?_
    refine g_iload rfl rfl rfl (pc' := 158) ?_
    refine g_iload rfl rfl rfl (pc' := 160) ?_
    refine g_iadd rfl rfl (pc' := 161) ?_
    refine g_imul rfl rfl (pc' := 162) ?_
    refine g_iadd rfl rfl (pc' := 163) ?_
    refine g_iload rfl rfl rfl (pc' := 165) ?_
    refine g_iadd rfl rfl (pc' := 166) ?_
    obtain ⟨ht6, H⟩ := H
    obtain ⟨n5, hn5, H⟩ := H
    refine g_baload rfl ht6 hn5 (pc' := 167) rfl ?_
    refine g_iconst rfl rfl rfl (pc' := 170) ?_
    refine g_iand rfl rfl (pc' := 171) ?_
    refine t_call hT (y := 161) (n := 2) (pc' := 174) rfl rfl (fun _ => rfl) rfl rfl ⟨(Nat.le_of_ble_eq_true rfl), (Nat.le_of_ble_eq_true rfl), (Nat.le_of_ble_eq_true rfl)⟩ rfl H (tI_elim (fun v8 h7 H hT => ?_))
    show gm_G _ 174 _ _ _ _
    refine g_ixor rfl rfl (pc' := 175) ?_
    refine g_istore rfl rfl rfl (pc' := 177) ?_
    refine g_iinc (c := (Int32.ofNat 1)) rfl rfl rfl rfl rfl (pc' := 180) ?_
    refine g_goto rfl (pc' := 134) rfl ?_
    exact g_weak (show gm_Lle [some _, none, none, some _, some _, some _, some _, some _, some _, some _, some _, some _, some _, some _, some _] _ from ⟨rfl, ⟨rfl, ⟨rfl, ⟨rfl, ⟨rfl, ⟨rfl, ⟨rfl, ⟨rfl, ⟨rfl, ⟨rfl, ⟨rfl, ⟨rfl, ⟨rfl, trivial⟩⟩⟩⟩⟩⟩⟩⟩⟩⟩⟩⟩⟩) H
theorem w_374_217 {m : Nat} {b3 : Nat} {x4 : Int32} {x5 : Int32} {x6 : Int32} {x7 : Int32} {x8 : Int32} {x9 : Int32} {x10 : Int32} {x11 : Int32} {h : hh_T} {Q : Option Value ⊕ Nat → hh_T → Prop} (hT : tw_ok h m) (H : (¬ x11 < ((Int32.ofNat 8) * x10) → (gm_G 374 79 [some (.ref m), none, none, some (.ref b3), some (.int x4), some (.int x5), some (.int x6), some (.int x7), some (.int (x8 + (x6 + x10))), some (.int (x9 + x7))] [] h Q)) ∧ (x11 < ((Int32.ofNat 8) * x10) → ((hh_tg h b3 = 101 ∨ hh_tg h b3 = 102) ∧ (∃ n1, gm_ix ((x4 + ((Int32.ofNat 8) * x9)) + x11) n1 (hh_ln h b3) ∧ (∃ n3, gm_ix (((Int32.ofNat 8) * (x8 + x6)) + x11) n3 256 ∧ (∀ h4, h4 = hh_wi h (m + 16) n3 ((hh_i h b3 n1).toInt8.toInt32) → (gm_G 374 217 [some (.ref m), none, none, some (.ref b3), some (.int x4), some (.int x5), some (.int x6), some (.int x7), some (.int x8), some (.int x9), some (.int x10), some (.int (x11 + (Int32.ofNat 1)))] [] h4 Q))))))) : gm_G 374 217 [some (.ref m), none, none, some (.ref b3), some (.int x4), some (.int x5), some (.int x6), some (.int x7), some (.int x8), some (.int x9), some (.int x10), some (.int x11)] [] h Q := by
  refine g_iload rfl rfl rfl (pc' := 219) ?_
  refine g_iconst rfl rfl rfl (pc' := 221) ?_
  refine g_iload rfl rfl rfl (pc' := 223) ?_
  refine g_imul rfl rfl (pc' := 224) ?_
  refine g_ic_ge rfl (pc' := 227) (pt := 262) rfl rfl ⟨fun hc => ?_, fun hc => ?_⟩
  · have H := H.1 hc
    refine g_iload rfl rfl rfl (pc' := 264) ?_
    refine g_iload rfl rfl rfl (pc' := 266) ?_
    refine g_iload rfl rfl rfl (pc' := 268) ?_
    refine g_iadd rfl rfl (pc' := 269) ?_
    refine g_iadd rfl rfl (pc' := 270) ?_
    refine g_istore rfl rfl rfl (pc' := 272) ?_
    refine g_iload rfl rfl rfl (pc' := 274) ?_
    refine g_iload rfl rfl rfl (pc' := 276) ?_
    refine g_iadd rfl rfl (pc' := 277) ?_
    refine g_istore rfl rfl rfl (pc' := 279) ?_
    refine g_goto rfl (pc' := 79) rfl ?_
    exact g_weak (show gm_Lle [some _, none, none, some _, some _, some _, some _, some _, some _, some _] _ from ⟨rfl, ⟨rfl, ⟨rfl, ⟨rfl, ⟨rfl, ⟨rfl, ⟨rfl, ⟨rfl, trivial⟩⟩⟩⟩⟩⟩⟩⟩) H
  · have H := H.2 hc
    refine g_aload (r := some _) rfl rfl rfl (pc' := 228) ?_
    refine t_get (o := 16) rfl hT rfl rfl rfl (pc' := 231) rfl ?_
    refine g_iconst rfl rfl rfl (pc' := 233) ?_
    refine g_iload rfl rfl rfl (pc' := 235) ?_
    refine g_iload rfl rfl rfl (pc' := 237) ?_
    refine g_iadd rfl rfl (pc' := 238) ?_
    refine g_imul rfl rfl (pc' := 239) ?_
    refine g_iload rfl rfl rfl (pc' := 241) ?_
    refine g_iadd rfl rfl (pc' := 242) ?_
    refine g_aload (r := some _) rfl rfl rfl (pc' := 243) ?_
    refine g_iload rfl rfl rfl (pc' := 245) ?_
    refine g_iconst rfl rfl rfl (pc' := 247) ?_
    refine g_iload rfl rfl rfl (pc' := 249) ?_
    refine g_imul rfl rfl (pc' := 250) ?_
    refine g_iadd rfl rfl (pc' := 251) ?_
    refine g_iload rfl rfl rfl (pc' := 253) ?_
    refine g_iadd rfl rfl (pc' := 254) ?_
    obtain ⟨ht2, H⟩ := H
    obtain ⟨n1, hn1, H⟩ := H
    refine g_baload rfl ht2 hn1 (pc' := 255) rfl ?_
    obtain ⟨n3, hn3, H⟩ := H
    refine t_bastore hT (o := 16) (l := 256) rfl rfl rfl hn3  (pc' := 256) rfl (fun hT => ?_)
    have H := H _ rfl
    refine g_iinc (c := (Int32.ofNat 1)) rfl rfl rfl rfl rfl (pc' := 259) ?_
    refine g_goto rfl (pc' := 217) rfl ?_
    exact g_weak (show gm_Lle [some _, none, none, some _, some _, some _, some _, some _, some _, some _, some _, some _] _ from ⟨rfl, ⟨rfl, ⟨rfl, ⟨rfl, ⟨rfl, ⟨rfl, ⟨rfl, ⟨rfl, ⟨rfl, ⟨rfl, trivial⟩⟩⟩⟩⟩⟩⟩⟩⟩⟩) H
theorem w_375_0 {m : Nat} {x1 : Int32} {h : hh_T} {Q : Option Value ⊕ Nat → hh_T → Prop} (hT : tw_ok h m) (H : (¬ Int32.ofNat 0 < (hh_i h (m + 33) 0) → (gm_G 375 52 [some (.ref m)] [] h Q)) ∧ (Int32.ofNat 0 < (hh_i h (m + 33) 0) → (((hh_i h m 46) < (hh_i h (m + 33) 0) → (gm_G 375 39 [some (.ref m)] [] h Q)) ∧ (¬ (hh_i h m 46) < (hh_i h (m + 33) 0) → ((¬ (hh_i h (m + 33) 0) = (hh_i h m 46) → (gm_G 375 52 [some (.ref m)] [] h Q)) ∧ ((hh_i h (m + 33) 0) = (hh_i h m 46) → ((x1 = Int32.ofNat 0 → (gm_G 375 52 [some (.ref m)] [] h Q)) ∧ (¬ x1 = Int32.ofNat 0 → (gm_G 375 39 [some (.ref m)] [] h Q))))))))) : gm_G 375 0 [some (.ref m), some (.int x1)] [] h Q := by
  refine g_aload (r := some _) rfl rfl rfl (pc' := 1) ?_
  refine t_get (o := 33) rfl hT rfl rfl rfl (pc' := 4) rfl ?_
  refine g_iconst rfl rfl rfl (pc' := 5) ?_
  refine t_iaload hT (o := 33) (l := 4) rfl rfl rfl ⟨rfl, by decide, by decide⟩ (pc' := 6) rfl ?_
  refine g_if_le rfl (pc' := 9) (pt := 52) rfl rfl ⟨fun hc => ?_, fun hc => ?_⟩
  · have H := H.1 hc
    exact g_weak (show gm_Lle [some _] _ from ⟨rfl, trivial⟩) H
  · have H := H.2 hc
    refine g_aload (r := some _) rfl rfl rfl (pc' := 10) ?_
    refine t_get (o := 33) rfl hT rfl rfl rfl (pc' := 13) rfl ?_
    refine g_iconst rfl rfl rfl (pc' := 14) ?_
    refine t_iaload hT (o := 33) (l := 4) rfl rfl rfl ⟨rfl, by decide, by decide⟩ (pc' := 15) rfl ?_
    refine g_aload (r := some _) rfl rfl rfl (pc' := 16) ?_
    refine t_getI rfl hT rfl rfl (pc' := 19) rfl ?_
    refine g_ic_gt rfl (pc' := 22) (pt := 39) rfl rfl ⟨fun hc => ?_, fun hc => ?_⟩
    · have H := H.1 hc
      exact g_weak (show gm_Lle [some _] _ from ⟨rfl, trivial⟩) H
    · have H := H.2 hc
      refine g_aload (r := some _) rfl rfl rfl (pc' := 23) ?_
      refine t_get (o := 33) rfl hT rfl rfl rfl (pc' := 26) rfl ?_
      refine g_iconst rfl rfl rfl (pc' := 27) ?_
      refine t_iaload hT (o := 33) (l := 4) rfl rfl rfl ⟨rfl, by decide, by decide⟩ (pc' := 28) rfl ?_
      refine g_aload (r := some _) rfl rfl rfl (pc' := 29) ?_
      refine t_getI rfl hT rfl rfl (pc' := 32) rfl ?_
      refine g_ic_ne rfl (pc' := 35) (pt := 52) rfl rfl ⟨fun hc => ?_, fun hc => ?_⟩
      · have H := H.1 hc
        exact g_weak (show gm_Lle [some _] _ from ⟨rfl, trivial⟩) H
      · have H := H.2 hc
        refine g_iload rfl rfl rfl (pc' := 36) ?_
        refine g_if_eq rfl (pc' := 39) (pt := 52) rfl rfl ⟨fun hc => ?_, fun hc => ?_⟩
        · have H := H.1 hc
          exact g_weak (show gm_Lle [some _] _ from ⟨rfl, trivial⟩) H
        · have H := H.2 hc
          exact g_weak (show gm_Lle [some _] _ from ⟨rfl, trivial⟩) H
theorem w_375_39 {m : Nat}  {h : hh_T} {Q : Option Value ⊕ Nat → hh_T → Prop} (hT : tw_ok h m) (H : gm_G 293 0 [some (.ref m), some (.int (Int32.ofNat 0))] [] h (pI (fun v2 h1 => gm_G 97 0 [some (.ref m), some (.int (Int32.ofNat 2)), some (.int v2)] [] h1 (pV (fun h3 => Q (.inl none) h3) (fun _ _ => False))) (fun _ _ => False))) : gm_G 375 39 [some (.ref m)] [] h Q := by
  refine g_aload (r := some _) rfl rfl rfl (pc' := 40) ?_
  refine g_iconst rfl rfl rfl (pc' := 41) ?_
  refine g_aload (r := some _) rfl rfl rfl (pc' := 42) ?_
  refine g_iconst rfl rfl rfl (pc' := 43) ?_
  refine t_call hT (y := 293) (n := 2) (pc' := 46) rfl rfl (t_vt hT rfl rfl) rfl rfl ⟨(Nat.le_of_ble_eq_true rfl), (Nat.le_of_ble_eq_true rfl), (Nat.le_of_ble_eq_true rfl)⟩ rfl H (tI_elim (fun v2 h1 H hT => ?_))
  show gm_G _ 46 _ _ _ _
  refine t_call hT (y := 97) (n := 3) (pc' := 49) rfl rfl (t_vt hT rfl rfl) rfl rfl ⟨(Nat.le_of_ble_eq_true rfl), (Nat.le_of_ble_eq_true rfl), (Nat.le_of_ble_eq_true rfl)⟩ rfl H (tV_elim (fun h3 H hT => ?_))
  show gm_G _ 49 _ _ _ _
  refine g_goto rfl (pc' := 71) rfl ?_
  exact g_return rfl H
theorem w_375_52 {m : Nat}  {h : hh_T} {Q : Option Value ⊕ Nat → hh_T → Prop} (hT : tw_ok h m) (H : (¬ Int32.ofNat 0 < (hh_i h (m + 33) 1) → (Q (.inl none) h)) ∧ (Int32.ofNat 0 < (hh_i h (m + 33) 1) → (gm_G 293 0 [some (.ref m), some (.int (Int32.ofNat 1))] [] h (pI (fun v2 h1 => gm_G 97 0 [some (.ref m), some (.int (Int32.ofNat 3)), some (.int v2)] [] h1 (pV (fun h3 => Q (.inl none) h3) (fun _ _ => False))) (fun _ _ => False))))) : gm_G 375 52 [some (.ref m)] [] h Q := by
  refine g_aload (r := some _) rfl rfl rfl (pc' := 53) ?_
  refine t_get (o := 33) rfl hT rfl rfl rfl (pc' := 56) rfl ?_
  refine g_iconst rfl rfl rfl (pc' := 57) ?_
  refine t_iaload hT (o := 33) (l := 4) rfl rfl rfl ⟨rfl, by decide, by decide⟩ (pc' := 58) rfl ?_
  refine g_if_le rfl (pc' := 61) (pt := 71) rfl rfl ⟨fun hc => ?_, fun hc => ?_⟩
  · have H := H.1 hc
    exact g_return rfl H
  · have H := H.2 hc
    refine g_aload (r := some _) rfl rfl rfl (pc' := 62) ?_
    refine g_iconst rfl rfl rfl (pc' := 63) ?_
    refine g_aload (r := some _) rfl rfl rfl (pc' := 64) ?_
    refine g_iconst rfl rfl rfl (pc' := 65) ?_
    refine t_call hT (y := 293) (n := 2) (pc' := 68) rfl rfl (t_vt hT rfl rfl) rfl rfl ⟨(Nat.le_of_ble_eq_true rfl), (Nat.le_of_ble_eq_true rfl), (Nat.le_of_ble_eq_true rfl)⟩ rfl H (tI_elim (fun v2 h1 H hT => ?_))
    show gm_G _ 68 _ _ _ _
    refine t_call hT (y := 97) (n := 3) (pc' := 71) rfl rfl (t_vt hT rfl rfl) rfl rfl ⟨(Nat.le_of_ble_eq_true rfl), (Nat.le_of_ble_eq_true rfl), (Nat.le_of_ble_eq_true rfl)⟩ rfl H (tV_elim (fun h3 H hT => ?_))
    show gm_G _ 71 _ _ _ _
    exact g_return rfl H
theorem w_376_0 {m : Nat} {x1 : Int32} {x2 : Int32} {x3 : Int32} {x4 : Int32} {h : hh_T} {Q : Option Value ⊕ Nat → hh_T → Prop} (hT : tw_ok h m) (H : (¬ (hh_i h m 77) = Int32.ofNat 0 → ((x3 < Int32.ofNat 0 → (Q (.inl (some (.int (Int32.ofInt (-1))))) h)) ∧ (¬ x3 < Int32.ofNat 0 → (((Int32.ofNat 7) < x3 → (Q (.inl (some (.int (Int32.ofInt (-1))))) h)) ∧ (¬ (Int32.ofNat 7) < x3 → ((x4 < (Int32.ofNat 1) → (Q (.inl (some (.int (Int32.ofInt (-1))))) h)) ∧ (¬ x4 < (Int32.ofNat 1) → ((¬ (Int32.ofNat 7) < x4 → (gm_G 307 0 [some (.ref m), some (.int x1)] [] h (pI (fun v2 h1 => (v2 < Int32.ofNat 0 → (Q (.inl (some (.int (Int32.ofInt (-2))))) h1)) ∧ (¬ v2 < Int32.ofNat 0 → (gm_G 137 0 [some (.ref m), some (.int v2), some (.int x2)] [] h1 (pI (fun v4 h3 => (v4 = Int32.ofNat 0 → (gm_G 282 0 [some (.ref m), some (.int (((Int32.ofNat 16) * v2) + x2)), some (.int x3), some (.int x4)] [] h3 (pI (fun v6 h5 => (v6 = Int32.ofNat 0 → (Q (.inl (some (.int (Int32.ofNat 0)))) h5)) ∧ (¬ v6 = Int32.ofNat 0 → (Q (.inl (some (.int (Int32.ofNat 1)))) h5))) (fun _ _ => False)))) ∧ (¬ v4 = Int32.ofNat 0 → (Q (.inl (some (.int (Int32.ofInt (-2))))) h3))) (fun _ _ => False))))) (fun _ _ => False)))) ∧ ((Int32.ofNat 7) < x4 → (Q (.inl (some (.int (Int32.ofInt (-1))))) h)))))))))) ∧ ((hh_i h m 77) = Int32.ofNat 0 → (Q (.inl (some (.int (Int32.ofInt (-9))))) h))) : gm_G 376 0 [some (.ref m), some (.int x1), some (.int x2), some (.int x3), some (.int x4)] [] h Q := by
  refine g_aload (r := some _) rfl rfl rfl (pc' := 1) ?_
  refine t_getZ rfl hT rfl rfl (pc' := 4) rfl ?_
  refine g_if_ne rfl (pc' := 7) (pt := 10) rfl rfl ⟨fun hc => ?_, fun hc => ?_⟩
  · have H := H.1 hc
    refine g_iload rfl rfl rfl (pc' := 11) ?_
    refine g_if_lt rfl (pc' := 14) (pt := 33) rfl rfl ⟨fun hc => ?_, fun hc => ?_⟩
    · have H := H.1 hc
      refine g_iconst rfl rfl rfl (pc' := 34) ?_
      exact g_ireturn rfl (Or.inl rfl) H
    · have H := H.2 hc
      refine g_iload rfl rfl rfl (pc' := 15) ?_
      refine g_iconst rfl rfl rfl (pc' := 17) ?_
      refine g_ic_gt rfl (pc' := 20) (pt := 33) rfl rfl ⟨fun hc => ?_, fun hc => ?_⟩
      · have H := H.1 hc
        refine g_iconst rfl rfl rfl (pc' := 34) ?_
        exact g_ireturn rfl (Or.inl rfl) H
      · have H := H.2 hc
        refine g_iload rfl rfl rfl (pc' := 22) ?_
        refine g_iconst rfl rfl rfl (pc' := 23) ?_
        refine g_ic_lt rfl (pc' := 26) (pt := 33) rfl rfl ⟨fun hc => ?_, fun hc => ?_⟩
        · have H := H.1 hc
          refine g_iconst rfl rfl rfl (pc' := 34) ?_
          exact g_ireturn rfl (Or.inl rfl) H
        · have H := H.2 hc
          refine g_iload rfl rfl rfl (pc' := 28) ?_
          refine g_iconst rfl rfl rfl (pc' := 30) ?_
          refine g_ic_le rfl (pc' := 33) (pt := 35) rfl rfl ⟨fun hc => ?_, fun hc => ?_⟩
          · have H := H.1 hc
            refine g_aload (r := some _) rfl rfl rfl (pc' := 36) ?_
            refine g_iload rfl rfl rfl (pc' := 37) ?_
            refine t_call hT (y := 307) (n := 2) (pc' := 40) rfl rfl (t_vt hT rfl rfl) rfl rfl ⟨(Nat.le_of_ble_eq_true rfl), (Nat.le_of_ble_eq_true rfl), (Nat.le_of_ble_eq_true rfl)⟩ rfl H (tI_elim (fun v2 h1 H hT => ?_))
            show gm_G _ 40 _ _ _ _
            refine g_istore rfl rfl rfl (pc' := 42) ?_
            refine g_iload rfl rfl rfl (pc' := 44) ?_
            refine g_if_lt rfl (pc' := 47) (pt := 57) rfl rfl ⟨fun hc => ?_, fun hc => ?_⟩
            · have H := H.1 hc
              refine g_iconst rfl rfl rfl (pc' := 59) ?_
              exact g_ireturn rfl (Or.inl rfl) H
            · have H := H.2 hc
              refine g_aload (r := some _) rfl rfl rfl (pc' := 48) ?_
              refine g_iload rfl rfl rfl (pc' := 50) ?_
              refine g_iload rfl rfl rfl (pc' := 51) ?_
              refine t_call hT (y := 137) (n := 3) (pc' := 54) rfl rfl (t_vt hT rfl rfl) rfl rfl ⟨(Nat.le_of_ble_eq_true rfl), (Nat.le_of_ble_eq_true rfl), (Nat.le_of_ble_eq_true rfl)⟩ rfl H (tI_elim (fun v4 h3 H hT => ?_))
              show gm_G _ 54 _ _ _ _
              refine g_if_eq rfl (pc' := 57) (pt := 60) rfl rfl ⟨fun hc => ?_, fun hc => ?_⟩
              · have H := H.1 hc
                refine g_aload (r := some _) rfl rfl rfl (pc' := 61) ?_
                refine g_iconst rfl rfl rfl (pc' := 63) ?_
                refine g_iload rfl rfl rfl (pc' := 65) ?_
                refine g_imul rfl rfl (pc' := 66) ?_
                refine g_iload rfl rfl rfl (pc' := 67) ?_
                refine g_iadd rfl rfl (pc' := 68) ?_
                refine g_iload rfl rfl rfl (pc' := 69) ?_
                refine g_iload rfl rfl rfl (pc' := 71) ?_
                refine t_call hT (y := 282) (n := 4) (pc' := 74) rfl rfl (t_vt hT rfl rfl) rfl rfl ⟨(Nat.le_of_ble_eq_true rfl), (Nat.le_of_ble_eq_true rfl), (Nat.le_of_ble_eq_true rfl)⟩ rfl H (tI_elim (fun v6 h5 H hT => ?_))
                show gm_G _ 74 _ _ _ _
                refine g_if_eq rfl (pc' := 77) (pt := 81) rfl rfl ⟨fun hc => ?_, fun hc => ?_⟩
                · have H := H.1 hc
                  refine g_iconst rfl rfl rfl (pc' := 82) ?_
                  exact g_ireturn rfl (Or.inl rfl) H
                · have H := H.2 hc
                  refine g_iconst rfl rfl rfl (pc' := 78) ?_
                  refine g_goto rfl (pc' := 82) rfl ?_
                  exact g_ireturn rfl (Or.inl rfl) H
              · have H := H.2 hc
                refine g_iconst rfl rfl rfl (pc' := 59) ?_
                exact g_ireturn rfl (Or.inl rfl) H
          · have H := H.2 hc
            refine g_iconst rfl rfl rfl (pc' := 34) ?_
            exact g_ireturn rfl (Or.inl rfl) H
  · have H := H.2 hc
    refine g_iconst rfl rfl rfl (pc' := 9) ?_
    exact g_ireturn rfl (Or.inl rfl) H
theorem w_377_0 {m : Nat} {x1 : Int32} {h : hh_T} {Q : Option Value ⊕ Nat → hh_T → Prop} (hT : tw_ok h m) (H : ∃ n1, gm_ix x1 n1 8 ∧ (gm_G 307 0 [some (.ref m), some (.int (hh_i h (m + 90) n1))] [] h (pI (fun v3 h2 => ∃ n4, gm_ix x1 n4 8 ∧ (Q (.inl (some (.int (((Int32.ofNat 16) * v3) + (hh_i h2 (m + 91) n4))))) h2)) (fun _ _ => False)))) : gm_G 377 0 [some (.ref m), some (.int x1)] [] h Q := by
  refine g_iconst rfl rfl rfl (pc' := 2) ?_
  refine g_aload (r := some _) rfl rfl rfl (pc' := 3) ?_
  refine g_aload (r := some _) rfl rfl rfl (pc' := 4) ?_
  refine t_get (o := 90) rfl hT rfl rfl rfl (pc' := 7) rfl ?_
  refine g_iload rfl rfl rfl (pc' := 8) ?_
  obtain ⟨n1, hn1, H⟩ := H
  refine t_iaload hT (o := 90) (l := 8) rfl rfl rfl hn1 (pc' := 9) rfl ?_
  refine t_call hT (y := 307) (n := 2) (pc' := 12) rfl rfl (t_vt hT rfl rfl) rfl rfl ⟨(Nat.le_of_ble_eq_true rfl), (Nat.le_of_ble_eq_true rfl), (Nat.le_of_ble_eq_true rfl)⟩ rfl H (tI_elim (fun v3 h2 H hT => ?_))
  show gm_G _ 12 _ _ _ _
  refine g_imul rfl rfl (pc' := 13) ?_
  refine g_aload (r := some _) rfl rfl rfl (pc' := 14) ?_
  refine t_get (o := 91) rfl hT rfl rfl rfl (pc' := 17) rfl ?_
  refine g_iload rfl rfl rfl (pc' := 18) ?_
  obtain ⟨n4, hn4, H⟩ := H
  refine t_iaload hT (o := 91) (l := 8) rfl rfl rfl hn4 (pc' := 19) rfl ?_
  refine g_iadd rfl rfl (pc' := 20) ?_
  exact g_ireturn rfl (Or.inl rfl) H
theorem w_378_0 {m : Nat} {x1 : Int32} {x2 : Int32} {h : hh_T} {Q : Option Value ⊕ Nat → hh_T → Prop} (hT : tw_ok h m) (H : (¬ (hh_i h m 77) = Int32.ofNat 0 → ((x2 < Int32.ofNat 0 → (Q (.inl (some (.int (Int32.ofInt (-1))))) h)) ∧ (¬ x2 < Int32.ofNat 0 → ((¬ (Int32.ofNat 4) < x2 → (gm_G 152 0 [some (.ref m), some (.int x1)] [] h (pI (fun v2 h1 => (¬ v2 < Int32.ofNat 0 → (gm_G 297 0 [some (.ref m), some (.int v2), some (.int x2)] [] h1 (pI (fun v4 h3 => Q (.inl (some (.int v4))) h3) (fun _ _ => False)))) ∧ (v2 < Int32.ofNat 0 → (Q (.inl (some (.int (Int32.ofInt (-2))))) h1))) (fun _ _ => False)))) ∧ ((Int32.ofNat 4) < x2 → (Q (.inl (some (.int (Int32.ofInt (-1))))) h)))))) ∧ ((hh_i h m 77) = Int32.ofNat 0 → (Q (.inl (some (.int (Int32.ofInt (-9))))) h))) : gm_G 378 0 [some (.ref m), some (.int x1), some (.int x2)] [] h Q := by
  refine g_aload (r := some _) rfl rfl rfl (pc' := 1) ?_
  refine t_getZ rfl hT rfl rfl (pc' := 4) rfl ?_
  refine g_if_ne rfl (pc' := 7) (pt := 10) rfl rfl ⟨fun hc => ?_, fun hc => ?_⟩
  · have H := H.1 hc
    refine g_iload rfl rfl rfl (pc' := 11) ?_
    refine g_if_lt rfl (pc' := 14) (pt := 19) rfl rfl ⟨fun hc => ?_, fun hc => ?_⟩
    · have H := H.1 hc
      refine g_iconst rfl rfl rfl (pc' := 20) ?_
      exact g_ireturn rfl (Or.inl rfl) H
    · have H := H.2 hc
      refine g_iload rfl rfl rfl (pc' := 15) ?_
      refine g_iconst rfl rfl rfl (pc' := 16) ?_
      refine g_ic_le rfl (pc' := 19) (pt := 21) rfl rfl ⟨fun hc => ?_, fun hc => ?_⟩
      · have H := H.1 hc
        refine g_aload (r := some _) rfl rfl rfl (pc' := 22) ?_
        refine g_iload rfl rfl rfl (pc' := 23) ?_
        refine t_call hT (y := 152) (n := 2) (pc' := 26) rfl rfl (t_vt hT rfl rfl) rfl rfl ⟨(Nat.le_of_ble_eq_true rfl), (Nat.le_of_ble_eq_true rfl), (Nat.le_of_ble_eq_true rfl)⟩ rfl H (tI_elim (fun v2 h1 H hT => ?_))
        show gm_G _ 26 _ _ _ _
        refine g_istore rfl rfl rfl (pc' := 27) ?_
        refine g_iload rfl rfl rfl (pc' := 28) ?_
        refine g_if_ge rfl (pc' := 31) (pt := 36) rfl rfl ⟨fun hc => ?_, fun hc => ?_⟩
        · have H := H.1 hc
          refine g_aload (r := some _) rfl rfl rfl (pc' := 37) ?_
          refine g_iload rfl rfl rfl (pc' := 38) ?_
          refine g_iload rfl rfl rfl (pc' := 39) ?_
          refine t_call hT (y := 297) (n := 3) (pc' := 42) rfl rfl (t_vt hT rfl rfl) rfl rfl ⟨(Nat.le_of_ble_eq_true rfl), (Nat.le_of_ble_eq_true rfl), (Nat.le_of_ble_eq_true rfl)⟩ rfl H (tI_elim (fun v4 h3 H hT => ?_))
          show gm_G _ 42 _ _ _ _
          exact g_ireturn rfl (Or.inl rfl) H
        · have H := H.2 hc
          refine g_iconst rfl rfl rfl (pc' := 33) ?_
          refine g_goto rfl (pc' := 42) rfl ?_
          exact g_ireturn rfl (Or.inl rfl) H
      · have H := H.2 hc
        refine g_iconst rfl rfl rfl (pc' := 20) ?_
        exact g_ireturn rfl (Or.inl rfl) H
  · have H := H.2 hc
    refine g_iconst rfl rfl rfl (pc' := 9) ?_
    exact g_ireturn rfl (Or.inl rfl) H
theorem w_379_0 {m : Nat} {x1 : Int32} {x2 : Int32} {h : hh_T} {Q : Option Value ⊕ Nat → hh_T → Prop} (hT : tw_ok h m) (H : ∀ h1, h1 = hh_wi h m 146 (Int32.ofNat 0) → (gm_G 146 0 [some (.ref m), some (.int (Int32.ofNat 83))] [] h1 (pV (fun h2 => gm_G 146 0 [some (.ref m), some (.int (Int32.ofNat 84))] [] h2 (pV (fun h3 => ∃ n4, gm_ix x1 n4 48 ∧ (gm_G 152 0 [some (.ref m), some (.int (hh_i h3 (m + 70) n4))] [] h3 (pI (fun v6 h5 => ∃ n7, gm_ix v6 n7 32 ∧ (gm_G 146 0 [some (.ref m), some (.int (hh_i h5 (m + 61) n7))] [] h5 (pV (fun h8 => (¬ x2 < Int32.ofNat 0 → (gm_G 379 46 [some (.ref m), some (.int x1), some (.int x2)] [.int (Int32.ofNat 1), .ref m] h8 Q)) ∧ (x2 < Int32.ofNat 0 → (gm_G 379 46 [some (.ref m), some (.int x1), some (.int x2)] [.int (Int32.ofNat 0), .ref m] h8 Q))) (fun _ _ => False)))) (fun _ _ => False)))) (fun _ _ => False))) (fun _ _ => False)))) : gm_G 379 0 [some (.ref m), some (.int x1), some (.int x2)] [] h Q := by
  refine g_aload (r := some _) rfl rfl rfl (pc' := 1) ?_
  refine g_iconst rfl rfl rfl (pc' := 2) ?_
  refine t_putI rfl hT rfl rfl  (pc' := 5) rfl (fun hT => ?_)
  have H := H _ rfl
  refine g_aload (r := some _) rfl rfl rfl (pc' := 6) ?_
  refine g_iconst rfl rfl rfl (pc' := 8) ?_
  refine t_call hT (y := 146) (n := 2) (pc' := 11) rfl rfl (t_vt hT rfl rfl) rfl rfl ⟨(Nat.le_of_ble_eq_true rfl), (Nat.le_of_ble_eq_true rfl), (Nat.le_of_ble_eq_true rfl)⟩ rfl H (tV_elim (fun h2 H hT => ?_))
  show gm_G _ 11 _ _ _ _
  refine g_aload (r := some _) rfl rfl rfl (pc' := 12) ?_
  refine g_iconst rfl rfl rfl (pc' := 14) ?_
  refine t_call hT (y := 146) (n := 2) (pc' := 17) rfl rfl (t_vt hT rfl rfl) rfl rfl ⟨(Nat.le_of_ble_eq_true rfl), (Nat.le_of_ble_eq_true rfl), (Nat.le_of_ble_eq_true rfl)⟩ rfl H (tV_elim (fun h3 H hT => ?_))
  show gm_G _ 17 _ _ _ _
  refine g_aload (r := some _) rfl rfl rfl (pc' := 18) ?_
  refine g_aload (r := some _) rfl rfl rfl (pc' := 19) ?_
  refine t_get (o := 61) rfl hT rfl rfl rfl (pc' := 22) rfl ?_
  refine g_aload (r := some _) rfl rfl rfl (pc' := 23) ?_
  refine g_aload (r := some _) rfl rfl rfl (pc' := 24) ?_
  refine t_get (o := 70) rfl hT rfl rfl rfl (pc' := 27) rfl ?_
  refine g_iload rfl rfl rfl (pc' := 28) ?_
  obtain ⟨n4, hn4, H⟩ := H
  refine t_iaload hT (o := 70) (l := 48) rfl rfl rfl hn4 (pc' := 29) rfl ?_
  refine t_call hT (y := 152) (n := 2) (pc' := 32) rfl rfl (t_vt hT rfl rfl) rfl rfl ⟨(Nat.le_of_ble_eq_true rfl), (Nat.le_of_ble_eq_true rfl), (Nat.le_of_ble_eq_true rfl)⟩ rfl H (tI_elim (fun v6 h5 H hT => ?_))
  show gm_G _ 32 _ _ _ _
  obtain ⟨n7, hn7, H⟩ := H
  refine t_iaload hT (o := 61) (l := 32) rfl rfl rfl hn7 (pc' := 33) rfl ?_
  refine t_call hT (y := 146) (n := 2) (pc' := 36) rfl rfl (t_vt hT rfl rfl) rfl rfl ⟨(Nat.le_of_ble_eq_true rfl), (Nat.le_of_ble_eq_true rfl), (Nat.le_of_ble_eq_true rfl)⟩ rfl H (tV_elim (fun h8 H hT => ?_))
  show gm_G _ 36 _ _ _ _
  refine g_aload (r := some _) rfl rfl rfl (pc' := 37) ?_
  refine g_iload rfl rfl rfl (pc' := 38) ?_
  refine g_if_ge rfl (pc' := 41) (pt := 45) rfl rfl ⟨fun hc => ?_, fun hc => ?_⟩
  · have H := H.1 hc
    refine g_iconst rfl rfl rfl (pc' := 46) ?_
    exact g_weak (show gm_Lle [some _, some _, some _] _ from ⟨rfl, ⟨rfl, ⟨rfl, trivial⟩⟩⟩) H
  · have H := H.2 hc
    refine g_iconst rfl rfl rfl (pc' := 42) ?_
    refine g_goto rfl (pc' := 46) rfl ?_
    exact g_weak (show gm_Lle [some _, some _, some _] _ from ⟨rfl, ⟨rfl, ⟨rfl, trivial⟩⟩⟩) H
theorem w_379_46 {m : Nat} {x1 : Int32} {x2 : Int32} {y0 : Int32} {h : hh_T} {Q : Option Value ⊕ Nat → hh_T → Prop} (hT : tw_ok h m) (H : gm_G 146 0 [some (.ref m), some (.int y0)] [] h (pV (fun h1 => (¬ x2 < Int32.ofNat 0 → (∃ n2, gm_ix x2 n2 48 ∧ (gm_G 379 65 [some (.ref m), some (.int x1)] [.long ((hh_i h1 (m + 73) n2).toInt64), .ref m] h1 Q))) ∧ (x2 < Int32.ofNat 0 → (gm_G 379 65 [some (.ref m), some (.int x1)] [.long (Int64.ofNat 0), .ref m] h1 Q))) (fun _ _ => False))) : gm_G 379 46 [some (.ref m), some (.int x1), some (.int x2)] [.int y0, .ref m] h Q := by
  refine t_call hT (y := 146) (n := 2) (pc' := 49) rfl rfl (t_vt hT rfl rfl) rfl rfl ⟨(Nat.le_of_ble_eq_true rfl), (Nat.le_of_ble_eq_true rfl), (Nat.le_of_ble_eq_true rfl)⟩ rfl H (tV_elim (fun h1 H hT => ?_))
  show gm_G _ 49 _ _ _ _
  refine g_aload (r := some _) rfl rfl rfl (pc' := 50) ?_
  refine g_iload rfl rfl rfl (pc' := 51) ?_
  refine g_if_ge rfl (pc' := 54) (pt := 58) rfl rfl ⟨fun hc => ?_, fun hc => ?_⟩
  · have H := H.1 hc
    refine g_aload (r := some _) rfl rfl rfl (pc' := 59) ?_
    refine t_get (o := 73) rfl hT rfl rfl rfl (pc' := 62) rfl ?_
    refine g_iload rfl rfl rfl (pc' := 63) ?_
    obtain ⟨n2, hn2, H⟩ := H
    refine t_iaload hT (o := 73) (l := 48) rfl rfl rfl hn2 (pc' := 64) rfl ?_
    refine g_i2l rfl rfl (pc' := 65) ?_
    exact g_weak (show gm_Lle [some _, some _] _ from ⟨rfl, ⟨rfl, trivial⟩⟩) H
  · have H := H.2 hc
    refine g_lconst rfl rfl rfl (pc' := 55) ?_
    refine g_goto rfl (pc' := 65) rfl ?_
    exact g_weak (show gm_Lle [some _, some _] _ from ⟨rfl, ⟨rfl, trivial⟩⟩) H
theorem w_379_65 {m : Nat} {x1 : Int32} {z0 : Int64} {h : hh_T} {Q : Option Value ⊕ Nat → hh_T → Prop} (hT : tw_ok h m) (H : gm_G 298 0 [some (.ref m), some (.long z0), none, some (.int (Int32.ofNat 4))] [] h (pV (fun h1 => ∃ n2, gm_ix x1 n2 48 ∧ (gm_G 298 0 [some (.ref m), some (.long ((hh_i h1 (m + 73) n2).toInt64)), none, some (.int (Int32.ofNat 4))] [] h1 (pV (fun h3 => ∃ n4, gm_ix x1 n4 48 ∧ (gm_G 146 0 [some (.ref m), some (.int (hh_i h3 (m + 75) n4))] [] h3 (pV (fun h5 => gm_G 379 93 [some (.ref m), some (.int x1), none, some (.int (Int32.ofNat 0))] [] h5 Q) (fun _ _ => False)))) (fun _ _ => False)))) (fun _ _ => False))) : gm_G 379 65 [some (.ref m), some (.int x1)] [.long z0, .ref m] h Q := by
  refine g_iconst rfl rfl rfl (pc' := 66) ?_
  refine t_call hT (y := 298) (n := 3) (pc' := 69) rfl rfl (t_vt hT rfl rfl) rfl rfl ⟨(Nat.le_of_ble_eq_true rfl), (Nat.le_of_ble_eq_true rfl), (Nat.le_of_ble_eq_true rfl)⟩ rfl H (tV_elim (fun h1 H hT => ?_))
  show gm_G _ 69 _ _ _ _
  refine g_aload (r := some _) rfl rfl rfl (pc' := 70) ?_
  refine g_aload (r := some _) rfl rfl rfl (pc' := 71) ?_
  refine t_get (o := 73) rfl hT rfl rfl rfl (pc' := 74) rfl ?_
  refine g_iload rfl rfl rfl (pc' := 75) ?_
  obtain ⟨n2, hn2, H⟩ := H
  refine t_iaload hT (o := 73) (l := 48) rfl rfl rfl hn2 (pc' := 76) rfl ?_
  refine g_i2l rfl rfl (pc' := 77) ?_
  refine g_iconst rfl rfl rfl (pc' := 78) ?_
  refine t_call hT (y := 298) (n := 3) (pc' := 81) rfl rfl (t_vt hT rfl rfl) rfl rfl ⟨(Nat.le_of_ble_eq_true rfl), (Nat.le_of_ble_eq_true rfl), (Nat.le_of_ble_eq_true rfl)⟩ rfl H (tV_elim (fun h3 H hT => ?_))
  show gm_G _ 81 _ _ _ _
  refine g_aload (r := some _) rfl rfl rfl (pc' := 82) ?_
  refine g_aload (r := some _) rfl rfl rfl (pc' := 83) ?_
  refine t_get (o := 75) rfl hT rfl rfl rfl (pc' := 86) rfl ?_
  refine g_iload rfl rfl rfl (pc' := 87) ?_
  obtain ⟨n4, hn4, H⟩ := H
  refine t_iaload hT (o := 75) (l := 48) rfl rfl rfl hn4 (pc' := 88) rfl ?_
  refine t_call hT (y := 146) (n := 2) (pc' := 91) rfl rfl (t_vt hT rfl rfl) rfl rfl ⟨(Nat.le_of_ble_eq_true rfl), (Nat.le_of_ble_eq_true rfl), (Nat.le_of_ble_eq_true rfl)⟩ rfl H (tV_elim (fun h5 H hT => ?_))
  show gm_G _ 91 _ _ _ _
  refine g_iconst rfl rfl rfl (pc' := 92) ?_
  refine g_istore rfl rfl rfl (pc' := 93) ?_
  exact g_weak (show gm_Lle [some _, some _, none, some _] _ from ⟨rfl, ⟨rfl, ⟨rfl, trivial⟩⟩⟩) H
theorem w_379_93 {m : Nat} {x1 : Int32} {x3 : Int32} {h : hh_T} {Q : Option Value ⊕ Nat → hh_T → Prop} (hT : tw_ok h m) (H : ∃ n1, gm_ix x1 n1 48 ∧ ((¬ x3 < (hh_i h (m + 75) n1) → (Q (.inl none) h)) ∧ (x3 < (hh_i h (m + 75) n1) → (∃ n2, gm_ix (((Int32.ofNat 8) * x1) + x3) n2 384 ∧ (gm_G 146 0 [some (.ref m), some (.int (hh_i h (m + 68) n2))] [] h (pV (fun h3 => gm_G 379 93 [some (.ref m), some (.int x1), none, some (.int (x3 + (Int32.ofNat 1)))] [] h3 Q) (fun _ _ => False))))))) : gm_G 379 93 [some (.ref m), some (.int x1), none, some (.int x3)] [] h Q := by
  refine g_iload rfl rfl rfl (pc' := 94) ?_
  refine g_aload (r := some _) rfl rfl rfl (pc' := 95) ?_
  refine t_get (o := 75) rfl hT rfl rfl rfl (pc' := 98) rfl ?_
  refine g_iload rfl rfl rfl (pc' := 99) ?_
  obtain ⟨n1, hn1, H⟩ := H
  refine t_iaload hT (o := 75) (l := 48) rfl rfl rfl hn1 (pc' := 100) rfl ?_
  refine g_ic_ge rfl (pc' := 103) (pt := 124) rfl rfl ⟨fun hc => ?_, fun hc => ?_⟩
  · have H := H.1 hc
    exact g_return rfl H
  · have H := H.2 hc
    refine g_aload (r := some _) rfl rfl rfl (pc' := 104) ?_
    refine g_aload (r := some _) rfl rfl rfl (pc' := 105) ?_
    refine t_get (o := 68) rfl hT rfl rfl rfl (pc' := 108) rfl ?_
    refine g_iconst rfl rfl rfl (pc' := 110) ?_
    refine g_iload rfl rfl rfl (pc' := 111) ?_
    refine g_imul rfl rfl (pc' := 112) ?_
    refine g_iload rfl rfl rfl (pc' := 113) ?_
    refine g_iadd rfl rfl (pc' := 114) ?_
    obtain ⟨n2, hn2, H⟩ := H
    refine t_baload hT (o := 68) (l := 384) rfl rfl rfl hn2 (pc' := 115) rfl ?_
    refine t_call hT (y := 146) (n := 2) (pc' := 118) rfl rfl (t_vt hT rfl rfl) rfl rfl ⟨(Nat.le_of_ble_eq_true rfl), (Nat.le_of_ble_eq_true rfl), (Nat.le_of_ble_eq_true rfl)⟩ rfl H (tV_elim (fun h3 H hT => ?_))
    show gm_G _ 118 _ _ _ _
    refine g_iinc (c := (Int32.ofNat 1)) rfl rfl rfl rfl rfl (pc' := 121) ?_
    refine g_goto rfl (pc' := 93) rfl ?_
    exact g_weak (show gm_Lle [some _, some _, none, some _] _ from ⟨rfl, ⟨rfl, ⟨rfl, trivial⟩⟩⟩) H
theorem w_380_0 {m : Nat} {x1 : Int32} {x2 : Int32} {h : hh_T} {Q : Option Value ⊕ Nat → hh_T → Prop} (hT : tw_ok h m) (H : gm_G 146 0 [some (.ref m), some (.int (Int32.ofNat 1))] [] h (pV (fun h1 => gm_G 146 0 [some (.ref m), some (.int x2)] [] h1 (pV (fun h2 => ∃ n3, gm_ix x1 n3 1536 ∧ (gm_G 146 0 [some (.ref m), some (.int (hh_i h2 (m + 40) n3))] [] h2 (pV (fun h4 => ∃ n5, gm_ix x1 n5 1536 ∧ (gm_G 298 0 [some (.ref m), some (.long ((hh_i h4 (m + 41) n5).toInt64)), none, some (.int (Int32.ofNat 2))] [] h4 (pV (fun h6 => ∃ n7, gm_ix x1 n7 1536 ∧ (gm_G 146 0 [some (.ref m), some (.int (hh_i h6 (m + 42) n7))] [] h6 (pV (fun h8 => ∃ n9, gm_ix x1 n9 1536 ∧ (gm_G 146 0 [some (.ref m), some (.int (hh_i h8 (m + 43) n9))] [] h8 (pV (fun h10 => ∃ n11, gm_ix x1 n11 1536 ∧ (gm_G 146 0 [some (.ref m), some (.int (hh_i h10 (m + 44) n11))] [] h10 (pV (fun h12 => ∃ n13, gm_ix x1 n13 1536 ∧ (gm_G 298 0 [some (.ref m), some (.long ((hh_i h12 (m + 45) n13).toInt64)), none, some (.int (Int32.ofNat 2))] [] h12 (pV (fun h14 => ∃ n15, gm_ix x1 n15 1536 ∧ (gm_G 298 0 [some (.ref m), some (.long ((hh_i h14 (m + 46) n15).toInt64)), none, some (.int (Int32.ofNat 4))] [] h14 (pV (fun h16 => ∃ n17, gm_ix x1 n17 1536 ∧ (gm_G 298 0 [some (.ref m), some (.long ((hh_i h16 (m + 47) n17).toInt64)), none, some (.int (Int32.ofNat 2))] [] h16 (pV (fun h18 => ∃ n19, gm_ix x1 n19 1536 ∧ (gm_G 146 0 [some (.ref m), some (.int (hh_i h18 (m + 49) n19))] [] h18 (pV (fun h20 => gm_G 380 112 [some (.ref m), some (.int x1), none, some (.int ((Int32.ofNat 4) * x1))] [] h20 Q) (fun _ _ => False)))) (fun _ _ => False)))) (fun _ _ => False)))) (fun _ _ => False)))) (fun _ _ => False)))) (fun _ _ => False)))) (fun _ _ => False)))) (fun _ _ => False)))) (fun _ _ => False)))) (fun _ _ => False))) (fun _ _ => False))) : gm_G 380 0 [some (.ref m), some (.int x1), some (.int x2)] [] h Q := by
  refine g_aload (r := some _) rfl rfl rfl (pc' := 1) ?_
  refine g_iconst rfl rfl rfl (pc' := 2) ?_
  refine t_call hT (y := 146) (n := 2) (pc' := 5) rfl rfl (t_vt hT rfl rfl) rfl rfl ⟨(Nat.le_of_ble_eq_true rfl), (Nat.le_of_ble_eq_true rfl), (Nat.le_of_ble_eq_true rfl)⟩ rfl H (tV_elim (fun h1 H hT => ?_))
  show gm_G _ 5 _ _ _ _
  refine g_aload (r := some _) rfl rfl rfl (pc' := 6) ?_
  refine g_iload rfl rfl rfl (pc' := 7) ?_
  refine t_call hT (y := 146) (n := 2) (pc' := 10) rfl rfl (t_vt hT rfl rfl) rfl rfl ⟨(Nat.le_of_ble_eq_true rfl), (Nat.le_of_ble_eq_true rfl), (Nat.le_of_ble_eq_true rfl)⟩ rfl H (tV_elim (fun h2 H hT => ?_))
  show gm_G _ 10 _ _ _ _
  refine g_aload (r := some _) rfl rfl rfl (pc' := 11) ?_
  refine g_aload (r := some _) rfl rfl rfl (pc' := 12) ?_
  refine t_get (o := 40) rfl hT rfl rfl rfl (pc' := 15) rfl ?_
  refine g_iload rfl rfl rfl (pc' := 16) ?_
  obtain ⟨n3, hn3, H⟩ := H
  refine t_iaload hT (o := 40) (l := 1536) rfl rfl rfl hn3 (pc' := 17) rfl ?_
  refine t_call hT (y := 146) (n := 2) (pc' := 20) rfl rfl (t_vt hT rfl rfl) rfl rfl ⟨(Nat.le_of_ble_eq_true rfl), (Nat.le_of_ble_eq_true rfl), (Nat.le_of_ble_eq_true rfl)⟩ rfl H (tV_elim (fun h4 H hT => ?_))
  show gm_G _ 20 _ _ _ _
  refine g_aload (r := some _) rfl rfl rfl (pc' := 21) ?_
  refine g_aload (r := some _) rfl rfl rfl (pc' := 22) ?_
  refine t_get (o := 41) rfl hT rfl rfl rfl (pc' := 25) rfl ?_
  refine g_iload rfl rfl rfl (pc' := 26) ?_
  obtain ⟨n5, hn5, H⟩ := H
  refine t_iaload hT (o := 41) (l := 1536) rfl rfl rfl hn5 (pc' := 27) rfl ?_
  refine g_i2l rfl rfl (pc' := 28) ?_
  refine g_iconst rfl rfl rfl (pc' := 29) ?_
  refine t_call hT (y := 298) (n := 3) (pc' := 32) rfl rfl (t_vt hT rfl rfl) rfl rfl ⟨(Nat.le_of_ble_eq_true rfl), (Nat.le_of_ble_eq_true rfl), (Nat.le_of_ble_eq_true rfl)⟩ rfl H (tV_elim (fun h6 H hT => ?_))
  show gm_G _ 32 _ _ _ _
  refine g_aload (r := some _) rfl rfl rfl (pc' := 33) ?_
  refine g_aload (r := some _) rfl rfl rfl (pc' := 34) ?_
  refine t_get (o := 42) rfl hT rfl rfl rfl (pc' := 37) rfl ?_
  refine g_iload rfl rfl rfl (pc' := 38) ?_
  obtain ⟨n7, hn7, H⟩ := H
  refine t_iaload hT (o := 42) (l := 1536) rfl rfl rfl hn7 (pc' := 39) rfl ?_
  refine t_call hT (y := 146) (n := 2) (pc' := 42) rfl rfl (t_vt hT rfl rfl) rfl rfl ⟨(Nat.le_of_ble_eq_true rfl), (Nat.le_of_ble_eq_true rfl), (Nat.le_of_ble_eq_true rfl)⟩ rfl H (tV_elim (fun h8 H hT => ?_))
  show gm_G _ 42 _ _ _ _
  refine g_aload (r := some _) rfl rfl rfl (pc' := 43) ?_
  refine g_aload (r := some _) rfl rfl rfl (pc' := 44) ?_
  refine t_get (o := 43) rfl hT rfl rfl rfl (pc' := 47) rfl ?_
  refine g_iload rfl rfl rfl (pc' := 48) ?_
  obtain ⟨n9, hn9, H⟩ := H
  refine t_iaload hT (o := 43) (l := 1536) rfl rfl rfl hn9 (pc' := 49) rfl ?_
  refine t_call hT (y := 146) (n := 2) (pc' := 52) rfl rfl (t_vt hT rfl rfl) rfl rfl ⟨(Nat.le_of_ble_eq_true rfl), (Nat.le_of_ble_eq_true rfl), (Nat.le_of_ble_eq_true rfl)⟩ rfl H (tV_elim (fun h10 H hT => ?_))
  show gm_G _ 52 _ _ _ _
  refine g_aload (r := some _) rfl rfl rfl (pc' := 53) ?_
  refine g_aload (r := some _) rfl rfl rfl (pc' := 54) ?_
  refine t_get (o := 44) rfl hT rfl rfl rfl (pc' := 57) rfl ?_
  refine g_iload rfl rfl rfl (pc' := 58) ?_
  obtain ⟨n11, hn11, H⟩ := H
  refine t_iaload hT (o := 44) (l := 1536) rfl rfl rfl hn11 (pc' := 59) rfl ?_
  refine t_call hT (y := 146) (n := 2) (pc' := 62) rfl rfl (t_vt hT rfl rfl) rfl rfl ⟨(Nat.le_of_ble_eq_true rfl), (Nat.le_of_ble_eq_true rfl), (Nat.le_of_ble_eq_true rfl)⟩ rfl H (tV_elim (fun h12 H hT => ?_))
  show gm_G _ 62 _ _ _ _
  refine g_aload (r := some _) rfl rfl rfl (pc' := 63) ?_
  refine g_aload (r := some _) rfl rfl rfl (pc' := 64) ?_
  refine t_get (o := 45) rfl hT rfl rfl rfl (pc' := 67) rfl ?_
  refine g_iload rfl rfl rfl (pc' := 68) ?_
  obtain ⟨n13, hn13, H⟩ := H
  refine t_iaload hT (o := 45) (l := 1536) rfl rfl rfl hn13 (pc' := 69) rfl ?_
  refine g_i2l rfl rfl (pc' := 70) ?_
  refine g_iconst rfl rfl rfl (pc' := 71) ?_
  refine t_call hT (y := 298) (n := 3) (pc' := 74) rfl rfl (t_vt hT rfl rfl) rfl rfl ⟨(Nat.le_of_ble_eq_true rfl), (Nat.le_of_ble_eq_true rfl), (Nat.le_of_ble_eq_true rfl)⟩ rfl H (tV_elim (fun h14 H hT => ?_))
  show gm_G _ 74 _ _ _ _
  refine g_aload (r := some _) rfl rfl rfl (pc' := 75) ?_
  refine g_aload (r := some _) rfl rfl rfl (pc' := 76) ?_
  refine t_get (o := 46) rfl hT rfl rfl rfl (pc' := 79) rfl ?_
  refine g_iload rfl rfl rfl (pc' := 80) ?_
  obtain ⟨n15, hn15, H⟩ := H
  refine t_iaload hT (o := 46) (l := 1536) rfl rfl rfl hn15 (pc' := 81) rfl ?_
  refine g_i2l rfl rfl (pc' := 82) ?_
  refine g_iconst rfl rfl rfl (pc' := 83) ?_
  refine t_call hT (y := 298) (n := 3) (pc' := 86) rfl rfl (t_vt hT rfl rfl) rfl rfl ⟨(Nat.le_of_ble_eq_true rfl), (Nat.le_of_ble_eq_true rfl), (Nat.le_of_ble_eq_true rfl)⟩ rfl H (tV_elim (fun h16 H hT => ?_))
  show gm_G _ 86 _ _ _ _
  refine g_aload (r := some _) rfl rfl rfl (pc' := 87) ?_
  refine g_aload (r := some _) rfl rfl rfl (pc' := 88) ?_
  refine t_get (o := 47) rfl hT rfl rfl rfl (pc' := 91) rfl ?_
  refine g_iload rfl rfl rfl (pc' := 92) ?_
  obtain ⟨n17, hn17, H⟩ := H
  refine t_iaload hT (o := 47) (l := 1536) rfl rfl rfl hn17 (pc' := 93) rfl ?_
  refine g_i2l rfl rfl (pc' := 94) ?_
  refine g_iconst rfl rfl rfl (pc' := 95) ?_
  refine t_call hT (y := 298) (n := 3) (pc' := 98) rfl rfl (t_vt hT rfl rfl) rfl rfl ⟨(Nat.le_of_ble_eq_true rfl), (Nat.le_of_ble_eq_true rfl), (Nat.le_of_ble_eq_true rfl)⟩ rfl H (tV_elim (fun h18 H hT => ?_))
  show gm_G _ 98 _ _ _ _
  refine g_aload (r := some _) rfl rfl rfl (pc' := 99) ?_
  refine g_aload (r := some _) rfl rfl rfl (pc' := 100) ?_
  refine t_get (o := 49) rfl hT rfl rfl rfl (pc' := 103) rfl ?_
  refine g_iload rfl rfl rfl (pc' := 104) ?_
  obtain ⟨n19, hn19, H⟩ := H
  refine t_iaload hT (o := 49) (l := 1536) rfl rfl rfl hn19 (pc' := 105) rfl ?_
  refine t_call hT (y := 146) (n := 2) (pc' := 108) rfl rfl (t_vt hT rfl rfl) rfl rfl ⟨(Nat.le_of_ble_eq_true rfl), (Nat.le_of_ble_eq_true rfl), (Nat.le_of_ble_eq_true rfl)⟩ rfl H (tV_elim (fun h20 H hT => ?_))
  show gm_G _ 108 _ _ _ _
  refine g_iconst rfl rfl rfl (pc' := 109) ?_
  refine g_iload rfl rfl rfl (pc' := 110) ?_
  refine g_imul rfl rfl (pc' := 111) ?_
  refine g_istore rfl rfl rfl (pc' := 112) ?_
  exact g_weak (show gm_Lle [some _, some _, none, some _] _ from ⟨rfl, ⟨rfl, ⟨rfl, trivial⟩⟩⟩) H
theorem w_380_112 {m : Nat} {x1 : Int32} {x3 : Int32} {h : hh_T} {Q : Option Value ⊕ Nat → hh_T → Prop} (hT : tw_ok h m) (H : ∃ n1, gm_ix x1 n1 1536 ∧ ((¬ x3 < (((Int32.ofNat 4) * x1) + (hh_i h (m + 49) n1)) → (∃ n2, gm_ix x1 n2 1536 ∧ ((¬ (hh_i h (m + 40) n2) = (Int32.ofNat 2) → (gm_G 380 273 [some (.ref m), some (.int x1)] [] h Q)) ∧ ((hh_i h (m + 40) n2) = (Int32.ofNat 2) → (∃ n3, gm_ix x1 n3 1536 ∧ (gm_G 146 0 [some (.ref m), some (.int (hh_i h (m + 48) n3))] [] h (pV (fun h4 => gm_G 380 184 [some (.ref m), some (.int x1), none, some (.int (Int32.ofNat 0))] [] h4 Q) (fun _ _ => False)))))))) ∧ (x3 < (((Int32.ofNat 4) * x1) + (hh_i h (m + 49) n1)) → (∃ n5, gm_ix x3 n5 6144 ∧ (gm_G 146 0 [some (.ref m), some (.int (hh_i h (m + 50) n5))] [] h (pV (fun h6 => ∃ n7, gm_ix x3 n7 6144 ∧ (gm_G 146 0 [some (.ref m), some (.int (hh_i h6 (m + 51) n7))] [] h6 (pV (fun h8 => ∃ n9, gm_ix x3 n9 6144 ∧ (gm_G 146 0 [some (.ref m), some (.int (hh_i h8 (m + 52) n9))] [] h8 (pV (fun h10 => gm_G 380 112 [some (.ref m), some (.int x1), none, some (.int (x3 + (Int32.ofNat 1)))] [] h10 Q) (fun _ _ => False)))) (fun _ _ => False)))) (fun _ _ => False))))))) : gm_G 380 112 [some (.ref m), some (.int x1), none, some (.int x3)] [] h Q := by
  refine g_iload rfl rfl rfl (pc' := 113) ?_
  refine g_iconst rfl rfl rfl (pc' := 114) ?_
  refine g_iload rfl rfl rfl (pc' := 115) ?_
  refine g_imul rfl rfl (pc' := 116) ?_
  refine g_aload (r := some _) rfl rfl rfl (pc' := 117) ?_
  refine t_get (o := 49) rfl hT rfl rfl rfl (pc' := 120) rfl ?_
  refine g_iload rfl rfl rfl (pc' := 121) ?_
  obtain ⟨n1, hn1, H⟩ := H
  refine t_iaload hT (o := 49) (l := 1536) rfl rfl rfl hn1 (pc' := 122) rfl ?_
  refine g_iadd rfl rfl (pc' := 123) ?_
  refine g_ic_ge rfl (pc' := 126) (pt := 162) rfl rfl ⟨fun hc => ?_, fun hc => ?_⟩
  · have H := H.1 hc
    refine g_aload (r := some _) rfl rfl rfl (pc' := 163) ?_
    refine t_get (o := 40) rfl hT rfl rfl rfl (pc' := 166) rfl ?_
    refine g_iload rfl rfl rfl (pc' := 167) ?_
    obtain ⟨n2, hn2, H⟩ := H
    refine t_iaload hT (o := 40) (l := 1536) rfl rfl rfl hn2 (pc' := 168) rfl ?_
    refine g_iconst rfl rfl rfl (pc' := 169) ?_
    refine g_ic_ne rfl (pc' := 172) (pt := 273) rfl rfl ⟨fun hc => ?_, fun hc => ?_⟩
    · have H := H.1 hc
      exact g_weak (show gm_Lle [some _, some _] _ from ⟨rfl, ⟨rfl, trivial⟩⟩) H
    · have H := H.2 hc
      refine g_aload (r := some _) rfl rfl rfl (pc' := 173) ?_
      refine g_aload (r := some _) rfl rfl rfl (pc' := 174) ?_
      refine t_get (o := 48) rfl hT rfl rfl rfl (pc' := 177) rfl ?_
      refine g_iload rfl rfl rfl (pc' := 178) ?_
      obtain ⟨n3, hn3, H⟩ := H
      refine t_iaload hT (o := 48) (l := 1536) rfl rfl rfl hn3 (pc' := 179) rfl ?_
      refine t_call hT (y := 146) (n := 2) (pc' := 182) rfl rfl (t_vt hT rfl rfl) rfl rfl ⟨(Nat.le_of_ble_eq_true rfl), (Nat.le_of_ble_eq_true rfl), (Nat.le_of_ble_eq_true rfl)⟩ rfl H (tV_elim (fun h4 H hT => ?_))
      show gm_G _ 182 _ _ _ _
      refine g_iconst rfl rfl rfl (pc' := 183) ?_
      refine g_istore rfl rfl rfl (pc' := 184) ?_
      exact g_weak (show gm_Lle [some _, some _, none, some _] _ from ⟨rfl, ⟨rfl, ⟨rfl, trivial⟩⟩⟩) H
  · have H := H.2 hc
    refine g_aload (r := some _) rfl rfl rfl (pc' := 127) ?_
    refine g_aload (r := some _) rfl rfl rfl (pc' := 128) ?_
    refine t_get (o := 50) rfl hT rfl rfl rfl (pc' := 131) rfl ?_
    refine g_iload rfl rfl rfl (pc' := 132) ?_
    obtain ⟨n5, hn5, H⟩ := H
    refine t_iaload hT (o := 50) (l := 6144) rfl rfl rfl hn5 (pc' := 133) rfl ?_
    refine t_call hT (y := 146) (n := 2) (pc' := 136) rfl rfl (t_vt hT rfl rfl) rfl rfl ⟨(Nat.le_of_ble_eq_true rfl), (Nat.le_of_ble_eq_true rfl), (Nat.le_of_ble_eq_true rfl)⟩ rfl H (tV_elim (fun h6 H hT => ?_))
    show gm_G _ 136 _ _ _ _
    refine g_aload (r := some _) rfl rfl rfl (pc' := 137) ?_
    refine g_aload (r := some _) rfl rfl rfl (pc' := 138) ?_
    refine t_get (o := 51) rfl hT rfl rfl rfl (pc' := 141) rfl ?_
    refine g_iload rfl rfl rfl (pc' := 142) ?_
    obtain ⟨n7, hn7, H⟩ := H
    refine t_iaload hT (o := 51) (l := 6144) rfl rfl rfl hn7 (pc' := 143) rfl ?_
    refine t_call hT (y := 146) (n := 2) (pc' := 146) rfl rfl (t_vt hT rfl rfl) rfl rfl ⟨(Nat.le_of_ble_eq_true rfl), (Nat.le_of_ble_eq_true rfl), (Nat.le_of_ble_eq_true rfl)⟩ rfl H (tV_elim (fun h8 H hT => ?_))
    show gm_G _ 146 _ _ _ _
    refine g_aload (r := some _) rfl rfl rfl (pc' := 147) ?_
    refine g_aload (r := some _) rfl rfl rfl (pc' := 148) ?_
    refine t_get (o := 52) rfl hT rfl rfl rfl (pc' := 151) rfl ?_
    refine g_iload rfl rfl rfl (pc' := 152) ?_
    obtain ⟨n9, hn9, H⟩ := H
    refine t_iaload hT (o := 52) (l := 6144) rfl rfl rfl hn9 (pc' := 153) rfl ?_
    refine t_call hT (y := 146) (n := 2) (pc' := 156) rfl rfl (t_vt hT rfl rfl) rfl rfl ⟨(Nat.le_of_ble_eq_true rfl), (Nat.le_of_ble_eq_true rfl), (Nat.le_of_ble_eq_true rfl)⟩ rfl H (tV_elim (fun h10 H hT => ?_))
    show gm_G _ 156 _ _ _ _
    refine g_iinc (c := (Int32.ofNat 1)) rfl rfl rfl rfl rfl (pc' := 159) ?_
    refine g_goto rfl (pc' := 112) rfl ?_
    exact g_weak (show gm_Lle [some _, some _, none, some _] _ from ⟨rfl, ⟨rfl, ⟨rfl, trivial⟩⟩⟩) H
theorem w_380_184 {m : Nat} {x1 : Int32} {x3 : Int32} {h : hh_T} {Q : Option Value ⊕ Nat → hh_T → Prop} (hT : tw_ok h m) (H : ∃ n1, gm_ix x1 n1 1536 ∧ ((¬ x3 < (hh_i h (m + 45) n1) → (gm_G 380 273 [some (.ref m), some (.int x1)] [] h Q)) ∧ (x3 < (hh_i h (m + 45) n1) → (gm_G 299 0 [some (.ref m), some (.int x1), some (.int x3)] [] h (pI (fun v3 h2 => ∃ n4, gm_ix (((Int32.ofNat 8) * x1) + v3) n4 12288 ∧ (gm_G 146 0 [some (.ref m), some (.int (hh_i h2 (m + 54) n4))] [] h2 (pV (fun h5 => gm_G 380 221 [some (.ref m), some (.int x1), none, some (.int x3), some (.int (((Int32.ofNat 8) * x1) + v3)), some (.int (Int32.ofNat 0))] [] h5 Q) (fun _ _ => False)))) (fun _ _ => False)))))) : gm_G 380 184 [some (.ref m), some (.int x1), none, some (.int x3)] [] h Q := by
  refine g_iload rfl rfl rfl (pc' := 185) ?_
  refine g_aload (r := some _) rfl rfl rfl (pc' := 186) ?_
  refine t_get (o := 45) rfl hT rfl rfl rfl (pc' := 189) rfl ?_
  refine g_iload rfl rfl rfl (pc' := 190) ?_
  obtain ⟨n1, hn1, H⟩ := H
  refine t_iaload hT (o := 45) (l := 1536) rfl rfl rfl hn1 (pc' := 191) rfl ?_
  refine g_ic_ge rfl (pc' := 194) (pt := 273) rfl rfl ⟨fun hc => ?_, fun hc => ?_⟩
  · have H := H.1 hc
    exact g_weak (show gm_Lle [some _, some _] _ from ⟨rfl, ⟨rfl, trivial⟩⟩) H
  · have H := H.2 hc
    refine g_iconst rfl rfl rfl (pc' := 196) ?_
    refine g_iload rfl rfl rfl (pc' := 197) ?_
    refine g_imul rfl rfl (pc' := 198) ?_
    refine g_aload (r := some _) rfl rfl rfl (pc' := 199) ?_
    refine g_iload rfl rfl rfl (pc' := 200) ?_
    refine g_iload rfl rfl rfl (pc' := 201) ?_
    refine t_call hT (y := 299) (n := 3) (pc' := 204) rfl rfl (t_vt hT rfl rfl) rfl rfl ⟨(Nat.le_of_ble_eq_true rfl), (Nat.le_of_ble_eq_true rfl), (Nat.le_of_ble_eq_true rfl)⟩ rfl H (tI_elim (fun v3 h2 H hT => ?_))
    show gm_G _ 204 _ _ _ _
    refine g_iadd rfl rfl (pc' := 205) ?_
    refine g_istore rfl rfl rfl (pc' := 207) ?_
    refine g_aload (r := some _) rfl rfl rfl (pc' := 208) ?_
    refine g_aload (r := some _) rfl rfl rfl (pc' := 209) ?_
    refine t_get (o := 54) rfl hT rfl rfl rfl (pc' := 212) rfl ?_
    refine g_iload rfl rfl rfl (pc' := 214) ?_
    obtain ⟨n4, hn4, H⟩ := H
    refine t_iaload hT (o := 54) (l := 12288) rfl rfl rfl hn4 (pc' := 215) rfl ?_
    refine t_call hT (y := 146) (n := 2) (pc' := 218) rfl rfl (t_vt hT rfl rfl) rfl rfl ⟨(Nat.le_of_ble_eq_true rfl), (Nat.le_of_ble_eq_true rfl), (Nat.le_of_ble_eq_true rfl)⟩ rfl H (tV_elim (fun h5 H hT => ?_))
    show gm_G _ 218 _ _ _ _
    refine g_iconst rfl rfl rfl (pc' := 219) ?_
    refine g_istore rfl rfl rfl (pc' := 221) ?_
    exact g_weak (show gm_Lle [some _, some _, none, some _, some _, some _] _ from ⟨rfl, ⟨rfl, ⟨rfl, ⟨rfl, ⟨rfl, trivial⟩⟩⟩⟩⟩) H
theorem w_380_221 {m : Nat} {x1 : Int32} {x3 : Int32} {x4 : Int32} {x5 : Int32} {h : hh_T} {Q : Option Value ⊕ Nat → hh_T → Prop} (hT : tw_ok h m) (H : ∃ n1, gm_ix x4 n1 12288 ∧ ((¬ x5 < (hh_i h (m + 54) n1) → (∃ n2, gm_ix x4 n2 12288 ∧ (gm_G 146 0 [some (.ref m), some (.int (hh_i h (m + 53) n2))] [] h (pV (fun h3 => gm_G 380 184 [some (.ref m), some (.int x1), none, some (.int (x3 + (Int32.ofNat 1)))] [] h3 Q) (fun _ _ => False))))) ∧ (x5 < (hh_i h (m + 54) n1) → (∃ n4, gm_ix (((Int32.ofNat 8) * x4) + x5) n4 98304 ∧ (gm_G 146 0 [some (.ref m), some (.int (hh_i h (m + 56) n4))] [] h (pV (fun h5 => gm_G 380 221 [some (.ref m), some (.int x1), none, some (.int x3), some (.int x4), some (.int (x5 + (Int32.ofNat 1)))] [] h5 Q) (fun _ _ => False))))))) : gm_G 380 221 [some (.ref m), some (.int x1), none, some (.int x3), some (.int x4), some (.int x5)] [] h Q := by
  refine g_iload rfl rfl rfl (pc' := 223) ?_
  refine g_aload (r := some _) rfl rfl rfl (pc' := 224) ?_
  refine t_get (o := 54) rfl hT rfl rfl rfl (pc' := 227) rfl ?_
  refine g_iload rfl rfl rfl (pc' := 229) ?_
  obtain ⟨n1, hn1, H⟩ := H
  refine t_iaload hT (o := 54) (l := 12288) rfl rfl rfl hn1 (pc' := 230) rfl ?_
  refine g_ic_ge rfl (pc' := 233) (pt := 256) rfl rfl ⟨fun hc => ?_, fun hc => ?_⟩
  · have H := H.1 hc
    refine g_aload (r := some _) rfl rfl rfl (pc' := 257) ?_
    refine g_aload (r := some _) rfl rfl rfl (pc' := 258) ?_
    refine t_get (o := 53) rfl hT rfl rfl rfl (pc' := 261) rfl ?_
    refine g_iload rfl rfl rfl (pc' := 263) ?_
    obtain ⟨n2, hn2, H⟩ := H
    refine t_iaload hT (o := 53) (l := 12288) rfl rfl rfl hn2 (pc' := 264) rfl ?_
    refine t_call hT (y := 146) (n := 2) (pc' := 267) rfl rfl (t_vt hT rfl rfl) rfl rfl ⟨(Nat.le_of_ble_eq_true rfl), (Nat.le_of_ble_eq_true rfl), (Nat.le_of_ble_eq_true rfl)⟩ rfl H (tV_elim (fun h3 H hT => ?_))
    show gm_G _ 267 _ _ _ _
    refine g_iinc (c := (Int32.ofNat 1)) rfl rfl rfl rfl rfl (pc' := 270) ?_
    refine g_goto rfl (pc' := 184) rfl ?_
    exact g_weak (show gm_Lle [some _, some _, none, some _] _ from ⟨rfl, ⟨rfl, ⟨rfl, trivial⟩⟩⟩) H
  · have H := H.2 hc
    refine g_aload (r := some _) rfl rfl rfl (pc' := 234) ?_
    refine g_aload (r := some _) rfl rfl rfl (pc' := 235) ?_
    refine t_get (o := 56) rfl hT rfl rfl rfl (pc' := 238) rfl ?_
    refine g_iconst rfl rfl rfl (pc' := 240) ?_
    refine g_iload rfl rfl rfl (pc' := 242) ?_
    refine g_imul rfl rfl (pc' := 243) ?_
    refine g_iload rfl rfl rfl (pc' := 245) ?_
    refine g_iadd rfl rfl (pc' := 246) ?_
    obtain ⟨n4, hn4, H⟩ := H
    refine t_baload hT (o := 56) (l := 98304) rfl rfl rfl hn4 (pc' := 247) rfl ?_
    refine t_call hT (y := 146) (n := 2) (pc' := 250) rfl rfl (t_vt hT rfl rfl) rfl rfl ⟨(Nat.le_of_ble_eq_true rfl), (Nat.le_of_ble_eq_true rfl), (Nat.le_of_ble_eq_true rfl)⟩ rfl H (tV_elim (fun h5 H hT => ?_))
    show gm_G _ 250 _ _ _ _
    refine g_iinc (c := (Int32.ofNat 1)) rfl rfl rfl rfl rfl (pc' := 253) ?_
    refine g_goto rfl (pc' := 221) rfl ?_
    exact g_weak (show gm_Lle [some _, some _, none, some _, some _, some _] _ from ⟨rfl, ⟨rfl, ⟨rfl, ⟨rfl, ⟨rfl, trivial⟩⟩⟩⟩⟩) H
theorem w_380_273 {m : Nat} {x1 : Int32} {h : hh_T} {Q : Option Value ⊕ Nat → hh_T → Prop} (hT : tw_ok h m) (H : ∃ n1, gm_ix x1 n1 1536 ∧ ((¬ (hh_i h (m + 40) n1) = (Int32.ofNat 3) → (Q (.inl none) h)) ∧ ((hh_i h (m + 40) n1) = (Int32.ofNat 3) → (gm_G 380 285 [some (.ref m), some (.int x1), none, some (.int (Int32.ofNat 0))] [] h Q)))) : gm_G 380 273 [some (.ref m), some (.int x1)] [] h Q := by
  refine g_aload (r := some _) rfl rfl rfl (pc' := 274) ?_
  refine t_get (o := 40) rfl hT rfl rfl rfl (pc' := 277) rfl ?_
  refine g_iload rfl rfl rfl (pc' := 278) ?_
  obtain ⟨n1, hn1, H⟩ := H
  refine t_iaload hT (o := 40) (l := 1536) rfl rfl rfl hn1 (pc' := 279) rfl ?_
  refine g_iconst rfl rfl rfl (pc' := 280) ?_
  refine g_ic_ne rfl (pc' := 283) (pt := 316) rfl rfl ⟨fun hc => ?_, fun hc => ?_⟩
  · have H := H.1 hc
    exact g_return rfl H
  · have H := H.2 hc
    refine g_iconst rfl rfl rfl (pc' := 284) ?_
    refine g_istore rfl rfl rfl (pc' := 285) ?_
    exact g_weak (show gm_Lle [some _, some _, none, some _] _ from ⟨rfl, ⟨rfl, ⟨rfl, trivial⟩⟩⟩) H
theorem w_380_285 {m : Nat} {x1 : Int32} {x3 : Int32} {h : hh_T} {Q : Option Value ⊕ Nat → hh_T → Prop} (hT : tw_ok h m) (H : ∃ n1, gm_ix x1 n1 1536 ∧ ((¬ x3 < (hh_i h (m + 45) n1) → (Q (.inl none) h)) ∧ (x3 < (hh_i h (m + 45) n1) → (∃ n2, gm_ix (((Int32.ofNat 24) * x1) + x3) n2 36864 ∧ (gm_G 146 0 [some (.ref m), some (.int (hh_i h (m + 57) n2))] [] h (pV (fun h3 => gm_G 380 285 [some (.ref m), some (.int x1), none, some (.int (x3 + (Int32.ofNat 1)))] [] h3 Q) (fun _ _ => False))))))) : gm_G 380 285 [some (.ref m), some (.int x1), none, some (.int x3)] [] h Q := by
  refine g_iload rfl rfl rfl (pc' := 286) ?_
  refine g_aload (r := some _) rfl rfl rfl (pc' := 287) ?_
  refine t_get (o := 45) rfl hT rfl rfl rfl (pc' := 290) rfl ?_
  refine g_iload rfl rfl rfl (pc' := 291) ?_
  obtain ⟨n1, hn1, H⟩ := H
  refine t_iaload hT (o := 45) (l := 1536) rfl rfl rfl hn1 (pc' := 292) rfl ?_
  refine g_ic_ge rfl (pc' := 295) (pt := 316) rfl rfl ⟨fun hc => ?_, fun hc => ?_⟩
  · have H := H.1 hc
    exact g_return rfl H
  · have H := H.2 hc
    refine g_aload (r := some _) rfl rfl rfl (pc' := 296) ?_
    refine g_aload (r := some _) rfl rfl rfl (pc' := 297) ?_
    refine t_get (o := 57) rfl hT rfl rfl rfl (pc' := 300) rfl ?_
    refine g_iconst rfl rfl rfl (pc' := 302) ?_
    refine g_iload rfl rfl rfl (pc' := 303) ?_
    refine g_imul rfl rfl (pc' := 304) ?_
    refine g_iload rfl rfl rfl (pc' := 305) ?_
    refine g_iadd rfl rfl (pc' := 306) ?_
    obtain ⟨n2, hn2, H⟩ := H
    refine t_baload hT (o := 57) (l := 36864) rfl rfl rfl hn2 (pc' := 307) rfl ?_
    refine t_call hT (y := 146) (n := 2) (pc' := 310) rfl rfl (t_vt hT rfl rfl) rfl rfl ⟨(Nat.le_of_ble_eq_true rfl), (Nat.le_of_ble_eq_true rfl), (Nat.le_of_ble_eq_true rfl)⟩ rfl H (tV_elim (fun h3 H hT => ?_))
    show gm_G _ 310 _ _ _ _
    refine g_iinc (c := (Int32.ofNat 1)) rfl rfl rfl rfl rfl (pc' := 313) ?_
    refine g_goto rfl (pc' := 285) rfl ?_
    exact g_weak (show gm_Lle [some _, some _, none, some _] _ from ⟨rfl, ⟨rfl, ⟨rfl, trivial⟩⟩⟩) H
theorem w_381_0 {m : Nat} {x1 : Int32} {x2 : Int32} {h : hh_T} {Q : Option Value ⊕ Nat → hh_T → Prop} (hT : tw_ok h m) (H : ∃ n1, gm_ix x1 n1 1536 ∧ (∃ n2, gm_ix x2 n2 1536 ∧ ((¬ (hh_i h (m + 40) n1) = (hh_i h (m + 40) n2) → (gm_G 381 124 [some (.ref m), some (.int x1), some (.int x2)] [] h Q)) ∧ ((hh_i h (m + 40) n1) = (hh_i h (m + 40) n2) → (∃ n3, gm_ix x1 n3 1536 ∧ (∃ n4, gm_ix x2 n4 1536 ∧ ((¬ (hh_i h (m + 41) n3) = (hh_i h (m + 41) n4) → (gm_G 381 124 [some (.ref m), some (.int x1), some (.int x2)] [] h Q)) ∧ ((hh_i h (m + 41) n3) = (hh_i h (m + 41) n4) → (∃ n5, gm_ix x1 n5 1536 ∧ (∃ n6, gm_ix x2 n6 1536 ∧ ((¬ (hh_i h (m + 42) n5) = (hh_i h (m + 42) n6) → (gm_G 381 124 [some (.ref m), some (.int x1), some (.int x2)] [] h Q)) ∧ ((hh_i h (m + 42) n5) = (hh_i h (m + 42) n6) → (∃ n7, gm_ix x1 n7 1536 ∧ (∃ n8, gm_ix x2 n8 1536 ∧ ((¬ (hh_i h (m + 43) n7) = (hh_i h (m + 43) n8) → (gm_G 381 124 [some (.ref m), some (.int x1), some (.int x2)] [] h Q)) ∧ ((hh_i h (m + 43) n7) = (hh_i h (m + 43) n8) → (∃ n9, gm_ix x1 n9 1536 ∧ (∃ n10, gm_ix x2 n10 1536 ∧ ((¬ (hh_i h (m + 44) n9) = (hh_i h (m + 44) n10) → (gm_G 381 124 [some (.ref m), some (.int x1), some (.int x2)] [] h Q)) ∧ ((hh_i h (m + 44) n9) = (hh_i h (m + 44) n10) → (∃ n11, gm_ix x1 n11 1536 ∧ (∃ n12, gm_ix x2 n12 1536 ∧ ((¬ (hh_i h (m + 45) n11) = (hh_i h (m + 45) n12) → (gm_G 381 124 [some (.ref m), some (.int x1), some (.int x2)] [] h Q)) ∧ ((hh_i h (m + 45) n11) = (hh_i h (m + 45) n12) → (∃ n13, gm_ix x1 n13 1536 ∧ (∃ n14, gm_ix x2 n14 1536 ∧ ((¬ (hh_i h (m + 46) n13) = (hh_i h (m + 46) n14) → (gm_G 381 124 [some (.ref m), some (.int x1), some (.int x2)] [] h Q)) ∧ ((hh_i h (m + 46) n13) = (hh_i h (m + 46) n14) → (∃ n15, gm_ix x1 n15 1536 ∧ (∃ n16, gm_ix x2 n16 1536 ∧ ((¬ (hh_i h (m + 49) n15) = (hh_i h (m + 49) n16) → (gm_G 381 124 [some (.ref m), some (.int x1), some (.int x2)] [] h Q)) ∧ ((hh_i h (m + 49) n15) = (hh_i h (m + 49) n16) → (gm_G 381 125 [some (.ref m), some (.int x1), some (.int x2)] [.int (Int32.ofNat 1)] h Q))))))))))))))))))))))))))))))))) : gm_G 381 0 [some (.ref m), some (.int x1), some (.int x2)] [] h Q := by
  refine g_aload (r := some _) rfl rfl rfl (pc' := 1) ?_
  refine t_get (o := 40) rfl hT rfl rfl rfl (pc' := 4) rfl ?_
  refine g_iload rfl rfl rfl (pc' := 5) ?_
  obtain ⟨n1, hn1, H⟩ := H
  refine t_iaload hT (o := 40) (l := 1536) rfl rfl rfl hn1 (pc' := 6) rfl ?_
  refine g_aload (r := some _) rfl rfl rfl (pc' := 7) ?_
  refine t_get (o := 40) rfl hT rfl rfl rfl (pc' := 10) rfl ?_
  refine g_iload rfl rfl rfl (pc' := 11) ?_
  obtain ⟨n2, hn2, H⟩ := H
  refine t_iaload hT (o := 40) (l := 1536) rfl rfl rfl hn2 (pc' := 12) rfl ?_
  refine g_ic_ne rfl (pc' := 15) (pt := 124) rfl rfl ⟨fun hc => ?_, fun hc => ?_⟩
  · have H := H.1 hc
    exact g_weak (show gm_Lle [some _, some _, some _] _ from ⟨rfl, ⟨rfl, ⟨rfl, trivial⟩⟩⟩) H
  · have H := H.2 hc
    refine g_aload (r := some _) rfl rfl rfl (pc' := 16) ?_
    refine t_get (o := 41) rfl hT rfl rfl rfl (pc' := 19) rfl ?_
    refine g_iload rfl rfl rfl (pc' := 20) ?_
    obtain ⟨n3, hn3, H⟩ := H
    refine t_iaload hT (o := 41) (l := 1536) rfl rfl rfl hn3 (pc' := 21) rfl ?_
    refine g_aload (r := some _) rfl rfl rfl (pc' := 22) ?_
    refine t_get (o := 41) rfl hT rfl rfl rfl (pc' := 25) rfl ?_
    refine g_iload rfl rfl rfl (pc' := 26) ?_
    obtain ⟨n4, hn4, H⟩ := H
    refine t_iaload hT (o := 41) (l := 1536) rfl rfl rfl hn4 (pc' := 27) rfl ?_
    refine g_ic_ne rfl (pc' := 30) (pt := 124) rfl rfl ⟨fun hc => ?_, fun hc => ?_⟩
    · have H := H.1 hc
      exact g_weak (show gm_Lle [some _, some _, some _] _ from ⟨rfl, ⟨rfl, ⟨rfl, trivial⟩⟩⟩) H
    · have H := H.2 hc
      refine g_aload (r := some _) rfl rfl rfl (pc' := 31) ?_
      refine t_get (o := 42) rfl hT rfl rfl rfl (pc' := 34) rfl ?_
      refine g_iload rfl rfl rfl (pc' := 35) ?_
      obtain ⟨n5, hn5, H⟩ := H
      refine t_iaload hT (o := 42) (l := 1536) rfl rfl rfl hn5 (pc' := 36) rfl ?_
      refine g_aload (r := some _) rfl rfl rfl (pc' := 37) ?_
      refine t_get (o := 42) rfl hT rfl rfl rfl (pc' := 40) rfl ?_
      refine g_iload rfl rfl rfl (pc' := 41) ?_
      obtain ⟨n6, hn6, H⟩ := H
      refine t_iaload hT (o := 42) (l := 1536) rfl rfl rfl hn6 (pc' := 42) rfl ?_
      refine g_ic_ne rfl (pc' := 45) (pt := 124) rfl rfl ⟨fun hc => ?_, fun hc => ?_⟩
      · have H := H.1 hc
        exact g_weak (show gm_Lle [some _, some _, some _] _ from ⟨rfl, ⟨rfl, ⟨rfl, trivial⟩⟩⟩) H
      · have H := H.2 hc
        refine g_aload (r := some _) rfl rfl rfl (pc' := 46) ?_
        refine t_get (o := 43) rfl hT rfl rfl rfl (pc' := 49) rfl ?_
        refine g_iload rfl rfl rfl (pc' := 50) ?_
        obtain ⟨n7, hn7, H⟩ := H
        refine t_iaload hT (o := 43) (l := 1536) rfl rfl rfl hn7 (pc' := 51) rfl ?_
        refine g_aload (r := some _) rfl rfl rfl (pc' := 52) ?_
        refine t_get (o := 43) rfl hT rfl rfl rfl (pc' := 55) rfl ?_
        refine g_iload rfl rfl rfl (pc' := 56) ?_
        obtain ⟨n8, hn8, H⟩ := H
        refine t_iaload hT (o := 43) (l := 1536) rfl rfl rfl hn8 (pc' := 57) rfl ?_
        refine g_ic_ne rfl (pc' := 60) (pt := 124) rfl rfl ⟨fun hc => ?_, fun hc => ?_⟩
        · have H := H.1 hc
          exact g_weak (show gm_Lle [some _, some _, some _] _ from ⟨rfl, ⟨rfl, ⟨rfl, trivial⟩⟩⟩) H
        · have H := H.2 hc
          refine g_aload (r := some _) rfl rfl rfl (pc' := 61) ?_
          refine t_get (o := 44) rfl hT rfl rfl rfl (pc' := 64) rfl ?_
          refine g_iload rfl rfl rfl (pc' := 65) ?_
          obtain ⟨n9, hn9, H⟩ := H
          refine t_iaload hT (o := 44) (l := 1536) rfl rfl rfl hn9 (pc' := 66) rfl ?_
          refine g_aload (r := some _) rfl rfl rfl (pc' := 67) ?_
          refine t_get (o := 44) rfl hT rfl rfl rfl (pc' := 70) rfl ?_
          refine g_iload rfl rfl rfl (pc' := 71) ?_
          obtain ⟨n10, hn10, H⟩ := H
          refine t_iaload hT (o := 44) (l := 1536) rfl rfl rfl hn10 (pc' := 72) rfl ?_
          refine g_ic_ne rfl (pc' := 75) (pt := 124) rfl rfl ⟨fun hc => ?_, fun hc => ?_⟩
          · have H := H.1 hc
            exact g_weak (show gm_Lle [some _, some _, some _] _ from ⟨rfl, ⟨rfl, ⟨rfl, trivial⟩⟩⟩) H
          · have H := H.2 hc
            refine g_aload (r := some _) rfl rfl rfl (pc' := 76) ?_
            refine t_get (o := 45) rfl hT rfl rfl rfl (pc' := 79) rfl ?_
            refine g_iload rfl rfl rfl (pc' := 80) ?_
            obtain ⟨n11, hn11, H⟩ := H
            refine t_iaload hT (o := 45) (l := 1536) rfl rfl rfl hn11 (pc' := 81) rfl ?_
            refine g_aload (r := some _) rfl rfl rfl (pc' := 82) ?_
            refine t_get (o := 45) rfl hT rfl rfl rfl (pc' := 85) rfl ?_
            refine g_iload rfl rfl rfl (pc' := 86) ?_
            obtain ⟨n12, hn12, H⟩ := H
            refine t_iaload hT (o := 45) (l := 1536) rfl rfl rfl hn12 (pc' := 87) rfl ?_
            refine g_ic_ne rfl (pc' := 90) (pt := 124) rfl rfl ⟨fun hc => ?_, fun hc => ?_⟩
            · have H := H.1 hc
              exact g_weak (show gm_Lle [some _, some _, some _] _ from ⟨rfl, ⟨rfl, ⟨rfl, trivial⟩⟩⟩) H
            · have H := H.2 hc
              refine g_aload (r := some _) rfl rfl rfl (pc' := 91) ?_
              refine t_get (o := 46) rfl hT rfl rfl rfl (pc' := 94) rfl ?_
              refine g_iload rfl rfl rfl (pc' := 95) ?_
              obtain ⟨n13, hn13, H⟩ := H
              refine t_iaload hT (o := 46) (l := 1536) rfl rfl rfl hn13 (pc' := 96) rfl ?_
              refine g_aload (r := some _) rfl rfl rfl (pc' := 97) ?_
              refine t_get (o := 46) rfl hT rfl rfl rfl (pc' := 100) rfl ?_
              refine g_iload rfl rfl rfl (pc' := 101) ?_
              obtain ⟨n14, hn14, H⟩ := H
              refine t_iaload hT (o := 46) (l := 1536) rfl rfl rfl hn14 (pc' := 102) rfl ?_
              refine g_ic_ne rfl (pc' := 105) (pt := 124) rfl rfl ⟨fun hc => ?_, fun hc => ?_⟩
              · have H := H.1 hc
                exact g_weak (show gm_Lle [some _, some _, some _] _ from ⟨rfl, ⟨rfl, ⟨rfl, trivial⟩⟩⟩) H
              · have H := H.2 hc
                refine g_aload (r := some _) rfl rfl rfl (pc' := 106) ?_
                refine t_get (o := 49) rfl hT rfl rfl rfl (pc' := 109) rfl ?_
                refine g_iload rfl rfl rfl (pc' := 110) ?_
                obtain ⟨n15, hn15, H⟩ := H
                refine t_iaload hT (o := 49) (l := 1536) rfl rfl rfl hn15 (pc' := 111) rfl ?_
                refine g_aload (r := some _) rfl rfl rfl (pc' := 112) ?_
                refine t_get (o := 49) rfl hT rfl rfl rfl (pc' := 115) rfl ?_
                refine g_iload rfl rfl rfl (pc' := 116) ?_
                obtain ⟨n16, hn16, H⟩ := H
                refine t_iaload hT (o := 49) (l := 1536) rfl rfl rfl hn16 (pc' := 117) rfl ?_
                refine g_ic_ne rfl (pc' := 120) (pt := 124) rfl rfl ⟨fun hc => ?_, fun hc => ?_⟩
                · have H := H.1 hc
                  exact g_weak (show gm_Lle [some _, some _, some _] _ from ⟨rfl, ⟨rfl, ⟨rfl, trivial⟩⟩⟩) H
                · have H := H.2 hc
                  refine g_iconst rfl rfl rfl (pc' := 121) ?_
                  refine g_goto rfl (pc' := 125) rfl ?_
                  exact g_weak (show gm_Lle [some _, some _, some _] _ from ⟨rfl, ⟨rfl, ⟨rfl, trivial⟩⟩⟩) H
theorem w_381_124 {m : Nat} {x1 : Int32} {x2 : Int32} {h : hh_T} {Q : Option Value ⊕ Nat → hh_T → Prop} (hT : tw_ok h m) (H : gm_G 381 125 [some (.ref m), some (.int x1), some (.int x2)] [.int (Int32.ofNat 0)] h Q) : gm_G 381 124 [some (.ref m), some (.int x1), some (.int x2)] [] h Q := by
  refine g_iconst rfl rfl rfl (pc' := 125) ?_
  exact g_weak (show gm_Lle [some _, some _, some _] _ from ⟨rfl, ⟨rfl, ⟨rfl, trivial⟩⟩⟩) H
theorem w_381_125 {m : Nat} {x1 : Int32} {x2 : Int32} {y0 : Int32} {h : hh_T} {Q : Option Value ⊕ Nat → hh_T → Prop} (hT : tw_ok h m) (H : gm_G 381 129 [some (.ref m), some (.int x1), some (.int x2), some (.int y0), some (.int (Int32.ofNat 0))] [] h Q) : gm_G 381 125 [some (.ref m), some (.int x1), some (.int x2)] [.int y0] h Q := by
  refine g_istore rfl rfl rfl (pc' := 126) ?_
  refine g_iconst rfl rfl rfl (pc' := 127) ?_
  refine g_istore rfl rfl rfl (pc' := 129) ?_
  exact g_weak (show gm_Lle [some _, some _, some _, some _, some _] _ from ⟨rfl, ⟨rfl, ⟨rfl, ⟨rfl, ⟨rfl, trivial⟩⟩⟩⟩⟩) H
theorem w_381_129 {m : Nat} {x1 : Int32} {x2 : Int32} {x3 : Int32} {x4 : Int32} {h : hh_T} {Q : Option Value ⊕ Nat → hh_T → Prop} (hT : tw_ok h m) (H : (x3 = Int32.ofNat 0 → (gm_G 381 231 [some (.ref m), some (.int x1), some (.int x2), some (.int x3)] [] h Q)) ∧ (¬ x3 = Int32.ofNat 0 → (∃ n1, gm_ix x1 n1 1536 ∧ ((¬ x4 < (hh_i h (m + 49) n1) → (gm_G 381 231 [some (.ref m), some (.int x1), some (.int x2), some (.int x3)] [] h Q)) ∧ (x4 < (hh_i h (m + 49) n1) → (∃ n2, gm_ix (((Int32.ofNat 4) * x1) + x4) n2 6144 ∧ (∃ n3, gm_ix (((Int32.ofNat 4) * x2) + x4) n3 6144 ∧ ((¬ (hh_i h (m + 50) n2) = (hh_i h (m + 50) n3) → (gm_G 381 223 [some (.ref m), some (.int x1), some (.int x2), none, some (.int x4)] [] h Q)) ∧ ((hh_i h (m + 50) n2) = (hh_i h (m + 50) n3) → (∃ n4, gm_ix (((Int32.ofNat 4) * x1) + x4) n4 6144 ∧ (∃ n5, gm_ix (((Int32.ofNat 4) * x2) + x4) n5 6144 ∧ ((¬ (hh_i h (m + 51) n4) = (hh_i h (m + 51) n5) → (gm_G 381 223 [some (.ref m), some (.int x1), some (.int x2), none, some (.int x4)] [] h Q)) ∧ ((hh_i h (m + 51) n4) = (hh_i h (m + 51) n5) → (∃ n6, gm_ix (((Int32.ofNat 4) * x1) + x4) n6 6144 ∧ (∃ n7, gm_ix (((Int32.ofNat 4) * x2) + x4) n7 6144 ∧ ((¬ (hh_i h (m + 52) n6) = (hh_i h (m + 52) n7) → (gm_G 381 223 [some (.ref m), some (.int x1), some (.int x2), none, some (.int x4)] [] h Q)) ∧ ((hh_i h (m + 52) n6) = (hh_i h (m + 52) n7) → (gm_G 381 224 [some (.ref m), some (.int x1), some (.int x2), none, some (.int x4)] [.int (Int32.ofNat 1)] h Q)))))))))))))))))) : gm_G 381 129 [some (.ref m), some (.int x1), some (.int x2), some (.int x3), some (.int x4)] [] h Q := by
  refine g_iload rfl rfl rfl (pc' := 130) ?_
  refine g_if_eq rfl (pc' := 133) (pt := 231) rfl rfl ⟨fun hc => ?_, fun hc => ?_⟩
  · have H := H.1 hc
    exact g_weak (show gm_Lle [some _, some _, some _, some _] _ from ⟨rfl, ⟨rfl, ⟨rfl, ⟨rfl, trivial⟩⟩⟩⟩) H
  · have H := H.2 hc
    refine g_iload rfl rfl rfl (pc' := 135) ?_
    refine g_aload (r := some _) rfl rfl rfl (pc' := 136) ?_
    refine t_get (o := 49) rfl hT rfl rfl rfl (pc' := 139) rfl ?_
    refine g_iload rfl rfl rfl (pc' := 140) ?_
    obtain ⟨n1, hn1, H⟩ := H
    refine t_iaload hT (o := 49) (l := 1536) rfl rfl rfl hn1 (pc' := 141) rfl ?_
    refine g_ic_ge rfl (pc' := 144) (pt := 231) rfl rfl ⟨fun hc => ?_, fun hc => ?_⟩
    · have H := H.1 hc
      exact g_weak (show gm_Lle [some _, some _, some _, some _] _ from ⟨rfl, ⟨rfl, ⟨rfl, ⟨rfl, trivial⟩⟩⟩⟩) H
    · have H := H.2 hc
      refine g_aload (r := some _) rfl rfl rfl (pc' := 145) ?_
      refine t_get (o := 50) rfl hT rfl rfl rfl (pc' := 148) rfl ?_
      refine g_iconst rfl rfl rfl (pc' := 149) ?_
      refine g_iload rfl rfl rfl (pc' := 150) ?_
      refine g_imul rfl rfl (pc' := 151) ?_
      refine g_iload rfl rfl rfl (pc' := 153) ?_
      refine g_iadd rfl rfl (pc' := 154) ?_
      obtain ⟨n2, hn2, H⟩ := H
      refine t_iaload hT (o := 50) (l := 6144) rfl rfl rfl hn2 (pc' := 155) rfl ?_
      refine g_aload (r := some _) rfl rfl rfl (pc' := 156) ?_
      refine t_get (o := 50) rfl hT rfl rfl rfl (pc' := 159) rfl ?_
      refine g_iconst rfl rfl rfl (pc' := 160) ?_
      refine g_iload rfl rfl rfl (pc' := 161) ?_
      refine g_imul rfl rfl (pc' := 162) ?_
      refine g_iload rfl rfl rfl (pc' := 164) ?_
      refine g_iadd rfl rfl (pc' := 165) ?_
      obtain ⟨n3, hn3, H⟩ := H
      refine t_iaload hT (o := 50) (l := 6144) rfl rfl rfl hn3 (pc' := 166) rfl ?_
      refine g_ic_ne rfl (pc' := 169) (pt := 223) rfl rfl ⟨fun hc => ?_, fun hc => ?_⟩
      · have H := H.1 hc
        exact g_weak (show gm_Lle [some _, some _, some _, none, some _] _ from ⟨rfl, ⟨rfl, ⟨rfl, ⟨rfl, trivial⟩⟩⟩⟩) H
      · have H := H.2 hc
        refine g_aload (r := some _) rfl rfl rfl (pc' := 170) ?_
        refine t_get (o := 51) rfl hT rfl rfl rfl (pc' := 173) rfl ?_
        refine g_iconst rfl rfl rfl (pc' := 174) ?_
        refine g_iload rfl rfl rfl (pc' := 175) ?_
        refine g_imul rfl rfl (pc' := 176) ?_
        refine g_iload rfl rfl rfl (pc' := 178) ?_
        refine g_iadd rfl rfl (pc' := 179) ?_
        obtain ⟨n4, hn4, H⟩ := H
        refine t_iaload hT (o := 51) (l := 6144) rfl rfl rfl hn4 (pc' := 180) rfl ?_
        refine g_aload (r := some _) rfl rfl rfl (pc' := 181) ?_
        refine t_get (o := 51) rfl hT rfl rfl rfl (pc' := 184) rfl ?_
        refine g_iconst rfl rfl rfl (pc' := 185) ?_
        refine g_iload rfl rfl rfl (pc' := 186) ?_
        refine g_imul rfl rfl (pc' := 187) ?_
        refine g_iload rfl rfl rfl (pc' := 189) ?_
        refine g_iadd rfl rfl (pc' := 190) ?_
        obtain ⟨n5, hn5, H⟩ := H
        refine t_iaload hT (o := 51) (l := 6144) rfl rfl rfl hn5 (pc' := 191) rfl ?_
        refine g_ic_ne rfl (pc' := 194) (pt := 223) rfl rfl ⟨fun hc => ?_, fun hc => ?_⟩
        · have H := H.1 hc
          exact g_weak (show gm_Lle [some _, some _, some _, none, some _] _ from ⟨rfl, ⟨rfl, ⟨rfl, ⟨rfl, trivial⟩⟩⟩⟩) H
        · have H := H.2 hc
          refine g_aload (r := some _) rfl rfl rfl (pc' := 195) ?_
          refine t_get (o := 52) rfl hT rfl rfl rfl (pc' := 198) rfl ?_
          refine g_iconst rfl rfl rfl (pc' := 199) ?_
          refine g_iload rfl rfl rfl (pc' := 200) ?_
          refine g_imul rfl rfl (pc' := 201) ?_
          refine g_iload rfl rfl rfl (pc' := 203) ?_
          refine g_iadd rfl rfl (pc' := 204) ?_
          obtain ⟨n6, hn6, H⟩ := H
          refine t_iaload hT (o := 52) (l := 6144) rfl rfl rfl hn6 (pc' := 205) rfl ?_
          refine g_aload (r := some _) rfl rfl rfl (pc' := 206) ?_
          refine t_get (o := 52) rfl hT rfl rfl rfl (pc' := 209) rfl ?_
          refine g_iconst rfl rfl rfl (pc' := 210) ?_
          refine g_iload rfl rfl rfl (pc' := 211) ?_
          refine g_imul rfl rfl (pc' := 212) ?_
          refine g_iload rfl rfl rfl (pc' := 214) ?_
          refine g_iadd rfl rfl (pc' := 215) ?_
          obtain ⟨n7, hn7, H⟩ := H
          refine t_iaload hT (o := 52) (l := 6144) rfl rfl rfl hn7 (pc' := 216) rfl ?_
          refine g_ic_ne rfl (pc' := 219) (pt := 223) rfl rfl ⟨fun hc => ?_, fun hc => ?_⟩
          · have H := H.1 hc
            exact g_weak (show gm_Lle [some _, some _, some _, none, some _] _ from ⟨rfl, ⟨rfl, ⟨rfl, ⟨rfl, trivial⟩⟩⟩⟩) H
          · have H := H.2 hc
            refine g_iconst rfl rfl rfl (pc' := 220) ?_
            refine g_goto rfl (pc' := 224) rfl ?_
            exact g_weak (show gm_Lle [some _, some _, some _, none, some _] _ from ⟨rfl, ⟨rfl, ⟨rfl, ⟨rfl, trivial⟩⟩⟩⟩) H
