/-! STAGE 2, 5: the twin, label by label (printed) -/
theorem w_542_67 {m : Nat} {x1 : Int32} {x2 : Int32} {x3 : Int32} {x4 : Int32} {x5 : Int32} {h : hh_T} {Q : Option Value ⊕ Nat → hh_T → Prop} (hT : tw_ok h m) (H : ((x2 &&& (Int32.ofNat 12)) = (Int32.ofNat 8) → (Q (.inl (some (.int (Int32.ofInt (-1))))) h)) ∧ (¬ (x2 &&& (Int32.ofNat 12)) = (Int32.ofNat 8) → (((x2 &&& (Int32.ofNat 48)) = Int32.ofNat 0 → (gm_G 542 90 [some (.ref m), some (.int x1), some (.int x2), some (.int x3), some (.int x4), some (.int x5)] [] h Q)) ∧ (¬ (x2 &&& (Int32.ofNat 48)) = Int32.ofNat 0 → ((¬ x5 = Int32.ofNat 0 → (gm_G 542 90 [some (.ref m), some (.int x1), some (.int x2), some (.int x3), some (.int x4), some (.int x5)] [] h Q)) ∧ (x5 = Int32.ofNat 0 → (Q (.inl (some (.int (Int32.ofInt (-1))))) h))))))) : gm_G 542 67 [some (.ref m), some (.int x1), some (.int x2), some (.int x3), some (.int x4), some (.int x5)] [] h Q := by
  refine g_iload rfl rfl rfl (pc' := 68) ?_
  refine g_iconst rfl rfl rfl (pc' := 70) ?_
  refine g_iand rfl rfl (pc' := 71) ?_
  refine g_iconst rfl rfl rfl (pc' := 73) ?_
  refine g_ic_eq rfl (pc' := 76) (pt := 88) rfl rfl ⟨fun hc => ?_, fun hc => ?_⟩
  · have H := H.1 hc
    refine g_iconst rfl rfl rfl (pc' := 89) ?_
    exact g_ireturn rfl (Or.inl rfl) H
  · have H := H.2 hc
    refine g_iload rfl rfl rfl (pc' := 77) ?_
    refine g_iconst rfl rfl rfl (pc' := 79) ?_
    refine g_iand rfl rfl (pc' := 80) ?_
    refine g_if_eq rfl (pc' := 83) (pt := 90) rfl rfl ⟨fun hc => ?_, fun hc => ?_⟩
    · have H := H.1 hc
      exact g_weak (show gm_Lle [some _, some _, some _, some _, some _, some _] _ from ⟨rfl, ⟨rfl, ⟨rfl, ⟨rfl, ⟨rfl, ⟨rfl, trivial⟩⟩⟩⟩⟩⟩) H
    · have H := H.2 hc
      refine g_iload rfl rfl rfl (pc' := 85) ?_
      refine g_if_ne rfl (pc' := 88) (pt := 90) rfl rfl ⟨fun hc => ?_, fun hc => ?_⟩
      · have H := H.1 hc
        exact g_weak (show gm_Lle [some _, some _, some _, some _, some _, some _] _ from ⟨rfl, ⟨rfl, ⟨rfl, ⟨rfl, ⟨rfl, ⟨rfl, trivial⟩⟩⟩⟩⟩⟩) H
      · have H := H.2 hc
        refine g_iconst rfl rfl rfl (pc' := 89) ?_
        exact g_ireturn rfl (Or.inl rfl) H
theorem w_542_90 {m : Nat} {x1 : Int32} {x2 : Int32} {x3 : Int32} {x4 : Int32} {x5 : Int32} {h : hh_T} {Q : Option Value ⊕ Nat → hh_T → Prop} (hT : tw_ok h m) (H : gm_G 370 0 [some (.ref m), some (.ref (m + 1)), some (.int (Int32.ofNat 0)), some (.int x3)] [] h (pI (fun v2 h1 => (¬ v2 = Int32.ofNat 0 → (gm_G 542 109 [some (.ref m), some (.int x1), some (.int x2), some (.int x3), some (.int x4), some (.int x5), some (.int (Int32.ofNat 0))] [] h1 Q)) ∧ (v2 = Int32.ofNat 0 → (Q (.inl (some (.int (Int32.ofInt (-11))))) h1))) (fun _ _ => False))) : gm_G 542 90 [some (.ref m), some (.int x1), some (.int x2), some (.int x3), some (.int x4), some (.int x5)] [] h Q := by
  refine g_aload (r := some _) rfl rfl rfl (pc' := 91) ?_
  refine g_aload (r := some _) rfl rfl rfl (pc' := 92) ?_
  refine t_get (o := 1) rfl hT rfl rfl rfl (pc' := 95) rfl ?_
  refine g_iconst rfl rfl rfl (pc' := 96) ?_
  refine g_iload rfl rfl rfl (pc' := 97) ?_
  refine t_call hT (y := 370) (n := 4) (pc' := 100) rfl rfl (t_vt hT rfl rfl) rfl rfl ⟨(Nat.le_of_ble_eq_true rfl), (Nat.le_of_ble_eq_true rfl), (Nat.le_of_ble_eq_true rfl)⟩ rfl H (tI_elim (fun v2 h1 H hT => ?_))
  show gm_G _ 100 _ _ _ _
  refine g_if_ne rfl (pc' := 103) (pt := 106) rfl rfl ⟨fun hc => ?_, fun hc => ?_⟩
  · have H := H.1 hc
    refine g_iconst rfl rfl rfl (pc' := 107) ?_
    refine g_istore rfl rfl rfl (pc' := 109) ?_
    exact g_weak (show gm_Lle [some _, some _, some _, some _, some _, some _, some _] _ from ⟨rfl, ⟨rfl, ⟨rfl, ⟨rfl, ⟨rfl, ⟨rfl, ⟨rfl, trivial⟩⟩⟩⟩⟩⟩⟩) H
  · have H := H.2 hc
    refine g_iconst rfl rfl rfl (pc' := 105) ?_
    exact g_ireturn rfl (Or.inl rfl) H
theorem w_542_109 {m : Nat} {x1 : Int32} {x2 : Int32} {x3 : Int32} {x4 : Int32} {x5 : Int32} {x6 : Int32} {h : hh_T} {Q : Option Value ⊕ Nat → hh_T → Prop} (hT : tw_ok h m) (H : (¬ x6 < (Int32.ofNat 8) → (gm_G 542 132 [some (.ref m), some (.int x1), some (.int x2), some (.int x3), some (.int x4), some (.int x5), some (.int x6)] [] h Q)) ∧ (x6 < (Int32.ofNat 8) → (∃ n1, gm_ix x6 n1 8 ∧ (((hh_i h (m + 88) n1) = Int32.ofNat 0 → (gm_G 542 132 [some (.ref m), some (.int x1), some (.int x2), some (.int x3), some (.int x4), some (.int x5), some (.int x6)] [] h Q)) ∧ (¬ (hh_i h (m + 88) n1) = Int32.ofNat 0 → (gm_G 542 109 [some (.ref m), some (.int x1), some (.int x2), some (.int x3), some (.int x4), some (.int x5), some (.int (x6 + (Int32.ofNat 1)))] [] h Q)))))) : gm_G 542 109 [some (.ref m), some (.int x1), some (.int x2), some (.int x3), some (.int x4), some (.int x5), some (.int x6)] [] h Q := by
  refine g_iload rfl rfl rfl (pc' := 111) ?_
  refine g_iconst rfl rfl rfl (pc' := 113) ?_
  refine g_ic_ge rfl (pc' := 116) (pt := 132) rfl rfl ⟨fun hc => ?_, fun hc => ?_⟩
  · have H := H.1 hc
    exact g_weak (show gm_Lle [some _, some _, some _, some _, some _, some _, some _] _ from ⟨rfl, ⟨rfl, ⟨rfl, ⟨rfl, ⟨rfl, ⟨rfl, ⟨rfl, trivial⟩⟩⟩⟩⟩⟩⟩) H
  · have H := H.2 hc
    refine g_aload (r := some _) rfl rfl rfl (pc' := 117) ?_
    refine t_get (o := 88) rfl hT rfl rfl rfl (pc' := 120) rfl ?_
    refine g_iload rfl rfl rfl (pc' := 122) ?_
    obtain ⟨n1, hn1, H⟩ := H
    refine t_zaload hT (o := 88) (l := 8) rfl rfl rfl hn1 (pc' := 123) rfl ?_
    refine g_if_eq rfl (pc' := 126) (pt := 132) rfl rfl ⟨fun hc => ?_, fun hc => ?_⟩
    · have H := H.1 hc
      exact g_weak (show gm_Lle [some _, some _, some _, some _, some _, some _, some _] _ from ⟨rfl, ⟨rfl, ⟨rfl, ⟨rfl, ⟨rfl, ⟨rfl, ⟨rfl, trivial⟩⟩⟩⟩⟩⟩⟩) H
    · have H := H.2 hc
      refine g_iinc (c := (Int32.ofNat 1)) rfl rfl rfl rfl rfl (pc' := 129) ?_
      refine g_goto rfl (pc' := 109) rfl ?_
      exact g_weak (show gm_Lle [some _, some _, some _, some _, some _, some _, some _] _ from ⟨rfl, ⟨rfl, ⟨rfl, ⟨rfl, ⟨rfl, ⟨rfl, ⟨rfl, trivial⟩⟩⟩⟩⟩⟩⟩) H
theorem w_542_132 {m : Nat} {x1 : Int32} {x2 : Int32} {x3 : Int32} {x4 : Int32} {x5 : Int32} {x6 : Int32} {h : hh_T} {Q : Option Value ⊕ Nat → hh_T → Prop} (hT : tw_ok h m) (H : (¬ x6 = (Int32.ofNat 8) → (gm_G 367 0 [some (.ref m), some (.int x1)] [] h (pI (fun v2 h1 => (¬ v2 < Int32.ofNat 0 → ((¬ (x1 - x1 / (Int32.ofNat 2) * (Int32.ofNat 2)) = Int32.ofNat 0 → (gm_G 542 174 [some (.ref m), some (.int x1), some (.int x2), some (.int x3), some (.int x4), some (.int x5), some (.int x6)] [.int (Int32.ofInt (-1))] h1 Q)) ∧ ((x1 - x1 / (Int32.ofNat 2) * (Int32.ofNat 2)) = Int32.ofNat 0 → (gm_G 152 0 [some (.ref m), some (.int (x1 / (Int32.ofNat 2)))] [] h1 (pI (fun v4 h3 => gm_G 542 174 [some (.ref m), some (.int x1), some (.int x2), some (.int x3), some (.int x4), some (.int x5), some (.int x6)] [.int v4] h3 Q) (fun _ _ => False)))))) ∧ (v2 < Int32.ofNat 0 → (Q (.inl (some (.int v2))) h1))) (fun _ _ => False)))) ∧ (x6 = (Int32.ofNat 8) → (Q (.inl (some (.int (Int32.ofInt (-3))))) h))) : gm_G 542 132 [some (.ref m), some (.int x1), some (.int x2), some (.int x3), some (.int x4), some (.int x5), some (.int x6)] [] h Q := by
  refine g_iload rfl rfl rfl (pc' := 134) ?_
  refine g_iconst rfl rfl rfl (pc' := 136) ?_
  refine g_ic_ne rfl (pc' := 139) (pt := 142) rfl rfl ⟨fun hc => ?_, fun hc => ?_⟩
  · have H := H.1 hc
    refine g_aload (r := some _) rfl rfl rfl (pc' := 143) ?_
    refine g_iload rfl rfl rfl (pc' := 144) ?_
    refine t_call hT (y := 367) (n := 2) (pc' := 147) rfl rfl (t_vt hT rfl rfl) rfl rfl ⟨(Nat.le_of_ble_eq_true rfl), (Nat.le_of_ble_eq_true rfl), (Nat.le_of_ble_eq_true rfl)⟩ rfl H (tI_elim (fun v2 h1 H hT => ?_))
    show gm_G _ 147 _ _ _ _
    refine g_istore rfl rfl rfl (pc' := 149) ?_
    refine g_iload rfl rfl rfl (pc' := 151) ?_
    refine g_if_ge rfl (pc' := 154) (pt := 157) rfl rfl ⟨fun hc => ?_, fun hc => ?_⟩
    · have H := H.1 hc
      refine g_iload rfl rfl rfl (pc' := 158) ?_
      refine g_iconst rfl rfl rfl (pc' := 159) ?_
      refine g_irem rfl (by decide) (pc' := 160) rfl ?_
      refine g_if_ne rfl (pc' := 163) (pt := 173) rfl rfl ⟨fun hc => ?_, fun hc => ?_⟩
      · have H := H.1 hc
        refine g_iconst rfl rfl rfl (pc' := 174) ?_
        exact g_weak (show gm_Lle [some _, some _, some _, some _, some _, some _, some _] _ from ⟨rfl, ⟨rfl, ⟨rfl, ⟨rfl, ⟨rfl, ⟨rfl, ⟨rfl, trivial⟩⟩⟩⟩⟩⟩⟩) H
      · have H := H.2 hc
        refine g_aload (r := some _) rfl rfl rfl (pc' := 164) ?_
        refine g_iload rfl rfl rfl (pc' := 165) ?_
        refine g_iconst rfl rfl rfl (pc' := 166) ?_
        refine g_idiv rfl (by decide) (pc' := 167) rfl ?_
        refine t_call hT (y := 152) (n := 2) (pc' := 170) rfl rfl (t_vt hT rfl rfl) rfl rfl ⟨(Nat.le_of_ble_eq_true rfl), (Nat.le_of_ble_eq_true rfl), (Nat.le_of_ble_eq_true rfl)⟩ rfl H (tI_elim (fun v4 h3 H hT => ?_))
        show gm_G _ 170 _ _ _ _
        refine g_goto rfl (pc' := 174) rfl ?_
        exact g_weak (show gm_Lle [some _, some _, some _, some _, some _, some _, some _] _ from ⟨rfl, ⟨rfl, ⟨rfl, ⟨rfl, ⟨rfl, ⟨rfl, ⟨rfl, trivial⟩⟩⟩⟩⟩⟩⟩) H
    · have H := H.2 hc
      refine g_iload rfl rfl rfl (pc' := 156) ?_
      exact g_ireturn rfl (Or.inl rfl) H
  · have H := H.2 hc
    refine g_iconst rfl rfl rfl (pc' := 141) ?_
    exact g_ireturn rfl (Or.inl rfl) H
theorem w_542_174 {m : Nat} {x1 : Int32} {x2 : Int32} {x3 : Int32} {x4 : Int32} {x5 : Int32} {x6 : Int32} {y0 : Int32} {h : hh_T} {Q : Option Value ⊕ Nat → hh_T → Prop} (hT : tw_ok h m) (H : ((x2 &&& (Int32.ofNat 6)) = Int32.ofNat 0 → (gm_G 542 202 [some (.ref m), some (.int x1), some (.int x2), some (.int x3), some (.int x4), some (.int x5), some (.int x6), none, some (.int y0)] [] h Q)) ∧ (¬ (x2 &&& (Int32.ofNat 6)) = Int32.ofNat 0 → ((y0 < Int32.ofNat 0 → (Q (.inl (some (.int (Int32.ofInt (-6))))) h)) ∧ (¬ y0 < Int32.ofNat 0 → (gm_G 297 0 [some (.ref m), some (.int y0), some (.int (Int32.ofNat 3))] [] h (pI (fun v2 h1 => (¬ v2 = (Int32.ofNat 1) → (gm_G 542 202 [some (.ref m), some (.int x1), some (.int x2), some (.int x3), some (.int x4), some (.int x5), some (.int x6), none, some (.int y0)] [] h1 Q)) ∧ (v2 = (Int32.ofNat 1) → (Q (.inl (some (.int (Int32.ofInt (-6))))) h1))) (fun _ _ => False))))))) : gm_G 542 174 [some (.ref m), some (.int x1), some (.int x2), some (.int x3), some (.int x4), some (.int x5), some (.int x6)] [.int y0] h Q := by
  refine g_istore rfl rfl rfl (pc' := 176) ?_
  refine g_iload rfl rfl rfl (pc' := 177) ?_
  refine g_iconst rfl rfl rfl (pc' := 179) ?_
  refine g_iand rfl rfl (pc' := 180) ?_
  refine g_if_eq rfl (pc' := 183) (pt := 202) rfl rfl ⟨fun hc => ?_, fun hc => ?_⟩
  · have H := H.1 hc
    exact g_weak (show gm_Lle [some _, some _, some _, some _, some _, some _, some _, none, some _] _ from ⟨rfl, ⟨rfl, ⟨rfl, ⟨rfl, ⟨rfl, ⟨rfl, ⟨rfl, ⟨rfl, trivial⟩⟩⟩⟩⟩⟩⟩⟩) H
  · have H := H.2 hc
    refine g_iload rfl rfl rfl (pc' := 185) ?_
    refine g_if_lt rfl (pc' := 188) (pt := 199) rfl rfl ⟨fun hc => ?_, fun hc => ?_⟩
    · have H := H.1 hc
      refine g_iconst rfl rfl rfl (pc' := 201) ?_
      exact g_ireturn rfl (Or.inl rfl) H
    · have H := H.2 hc
      refine g_aload (r := some _) rfl rfl rfl (pc' := 189) ?_
      refine g_iload rfl rfl rfl (pc' := 191) ?_
      refine g_iconst rfl rfl rfl (pc' := 192) ?_
      refine t_call hT (y := 297) (n := 3) (pc' := 195) rfl rfl (t_vt hT rfl rfl) rfl rfl ⟨(Nat.le_of_ble_eq_true rfl), (Nat.le_of_ble_eq_true rfl), (Nat.le_of_ble_eq_true rfl)⟩ rfl H (tI_elim (fun v2 h1 H hT => ?_))
      show gm_G _ 195 _ _ _ _
      refine g_iconst rfl rfl rfl (pc' := 196) ?_
      refine g_ic_ne rfl (pc' := 199) (pt := 202) rfl rfl ⟨fun hc => ?_, fun hc => ?_⟩
      · have H := H.1 hc
        exact g_weak (show gm_Lle [some _, some _, some _, some _, some _, some _, some _, none, some _] _ from ⟨rfl, ⟨rfl, ⟨rfl, ⟨rfl, ⟨rfl, ⟨rfl, ⟨rfl, ⟨rfl, trivial⟩⟩⟩⟩⟩⟩⟩⟩) H
      · have H := H.2 hc
        refine g_iconst rfl rfl rfl (pc' := 201) ?_
        exact g_ireturn rfl (Or.inl rfl) H
theorem w_542_202 {m : Nat} {x1 : Int32} {x2 : Int32} {x3 : Int32} {x4 : Int32} {x5 : Int32} {x6 : Int32} {x8 : Int32} {h : hh_T} {Q : Option Value ⊕ Nat → hh_T → Prop} (hT : tw_ok h m) (H : gm_G 307 0 [some (.ref m), some (.int x1)] [] h (pI (fun v2 h1 => gm_G 372 0 [some (.ref m), some (.ref (m + 1)), some (.int (Int32.ofNat 0)), some (.int x3)] [] h1 (pI (fun v4 h3 => ((x2 &&& (Int32.ofNat 4)) = Int32.ofNat 0 → (gm_G 542 396 [some (.ref m), some (.int x1), some (.int x2), some (.int x3), some (.int x4), some (.int x5), some (.int x6), none, some (.int x8), some (.int v2), none, some (.int (Int32.ofInt (-1))), some (.int (Int32.ofNat 0))] [] h3 Q)) ∧ (¬ (x2 &&& (Int32.ofNat 4)) = Int32.ofNat 0 → ((v4 < Int32.ofNat 0 → (gm_G 542 396 [some (.ref m), some (.int x1), some (.int x2), some (.int x3), some (.int x4), some (.int x5), some (.int x6), none, some (.int x8), some (.int v2), none, some (.int (Int32.ofInt (-1))), some (.int (Int32.ofNat 0))] [] h3 Q)) ∧ (¬ v4 < Int32.ofNat 0 → (gm_G 384 0 [some (.ref m), some (.int v2), some (.ref (m + 1)), some (.int (Int32.ofNat 0)), some (.int v4)] [] h3 (pI (fun v6 h5 => (¬ v6 < Int32.ofNat 0 → (gm_G 106 0 [some (.ref m), some (.int (((Int32.ofNat 16) * v2) + v6)), some (.ref (m + 1)), some (.int v4), some (.int (x3 - v4))] [] h5 (pI (fun v8 h7 => (¬ v8 < Int32.ofNat 0 → (gm_G 542 396 [some (.ref m), some (.int x1), some (.int x2), some (.int x3), some (.int x4), some (.int x5), some (.int x6), none, some (.int x8), some (.int v2), none, some (.int (Int32.ofInt (-1))), some (.int (Int32.ofNat 0))] [] h7 Q)) ∧ (v8 < Int32.ofNat 0 → (gm_G 115 0 [some (.ref m), some (.int (((Int32.ofNat 16) * v2) + v6)), some (.int (hh_i h7 m 5)), some (.int (Int32.ofNat 1))] [] h7 (pI (fun v10 h9 => (¬ v10 = Int32.ofNat 0 → (gm_G 282 0 [some (.ref m), some (.int (((Int32.ofNat 16) * v2) + v6)), some (.int (hh_i h9 m 5)), some (.int (Int32.ofNat 3))] [] h9 (pI (fun v12 h11 => (¬ v12 = Int32.ofNat 0 → (gm_G 111 0 [some (.ref m), some (.int v2)] [] h11 (pI (fun v14 h13 => ∃ n15, gm_ix (((Int32.ofNat 16) * v2) + v6) n15 1536 ∧ (((hh_i h13 (m + 45) n15) = (Int32.ofNat 8) → (Q (.inl (some (.int (Int32.ofInt (-3))))) h13)) ∧ (¬ (hh_i h13 (m + 45) n15) = (Int32.ofNat 8) → ((¬ v14 < Int32.ofNat 0 → (gm_G 437 0 [some (.ref m), some (.int x8), some (.int v6), some (.int v14), some (.int (Int32.ofNat 1)), some (.int (Int32.ofNat 420)), some (.ref (m + 1)), some (.int v4), some (.int (x3 - v4)), some (.ref (m + 1)), some (.int (Int32.ofNat 0)), some (.int (Int32.ofNat 0))] [] h13 (pV (fun h16 => gm_G 468 0 [some (.ref m), some (.int (Int32.ofNat 0))] [] h16 (pI (fun v18 h17 => (¬ v18 < Int32.ofNat 0 → (gm_G 542 396 [some (.ref m), some (.int x1), some (.int x2), some (.int x3), some (.int x4), some (.int x5), some (.int x6), none, some (.int x8), some (.int v2), none, some (.int v14), some (.int (Int32.ofNat 1))] [] h17 Q)) ∧ (v18 < Int32.ofNat 0 → (Q (.inl (some (.int (Int32.ofInt (-12))))) h17))) (fun _ _ => False))) (fun _ _ => False)))) ∧ (v14 < Int32.ofNat 0 → (Q (.inl (some (.int (Int32.ofInt (-3))))) h13)))))) (fun _ _ => False)))) ∧ (v12 = Int32.ofNat 0 → (Q (.inl (some (.int (Int32.ofInt (-6))))) h11))) (fun _ _ => False)))) ∧ (v10 = Int32.ofNat 0 → (Q (.inl (some (.int (Int32.ofInt (-6))))) h9))) (fun _ _ => False))))) (fun _ _ => False)))) ∧ (v6 < Int32.ofNat 0 → (Q (.inl (some (.int v6))) h5))) (fun _ _ => False))))))) (fun _ _ => False))) (fun _ _ => False))) : gm_G 542 202 [some (.ref m), some (.int x1), some (.int x2), some (.int x3), some (.int x4), some (.int x5), some (.int x6), none, some (.int x8)] [] h Q := by
  refine g_aload (r := some _) rfl rfl rfl (pc' := 203) ?_
  refine g_iload rfl rfl rfl (pc' := 204) ?_
  refine t_call hT (y := 307) (n := 2) (pc' := 207) rfl rfl (t_vt hT rfl rfl) rfl rfl ⟨(Nat.le_of_ble_eq_true rfl), (Nat.le_of_ble_eq_true rfl), (Nat.le_of_ble_eq_true rfl)⟩ rfl H (tI_elim (fun v2 h1 H hT => ?_))
  show gm_G _ 207 _ _ _ _
  refine g_istore rfl rfl rfl (pc' := 209) ?_
  refine g_aload (r := some _) rfl rfl rfl (pc' := 210) ?_
  refine g_aload (r := some _) rfl rfl rfl (pc' := 211) ?_
  refine t_get (o := 1) rfl hT rfl rfl rfl (pc' := 214) rfl ?_
  refine g_iconst rfl rfl rfl (pc' := 215) ?_
  refine g_iload rfl rfl rfl (pc' := 216) ?_
  refine t_call hT (y := 372) (n := 4) (pc' := 219) rfl rfl (t_vt hT rfl rfl) rfl rfl ⟨(Nat.le_of_ble_eq_true rfl), (Nat.le_of_ble_eq_true rfl), (Nat.le_of_ble_eq_true rfl)⟩ rfl H (tI_elim (fun v4 h3 H hT => ?_))
  show gm_G _ 219 _ _ _ _
  refine g_istore rfl rfl rfl (pc' := 221) ?_
  refine g_iconst rfl rfl rfl (pc' := 222) ?_
  refine g_istore rfl rfl rfl (pc' := 224) ?_
  refine g_iconst rfl rfl rfl (pc' := 225) ?_
  refine g_istore rfl rfl rfl (pc' := 227) ?_
  refine g_iload rfl rfl rfl (pc' := 228) ?_
  refine g_iconst rfl rfl rfl (pc' := 229) ?_
  refine g_iand rfl rfl (pc' := 230) ?_
  refine g_if_eq rfl (pc' := 233) (pt := 396) rfl rfl ⟨fun hc => ?_, fun hc => ?_⟩
  · have H := H.1 hc
    exact g_weak (show gm_Lle [some _, some _, some _, some _, some _, some _, some _, none, some _, some _, none, some _, some _] _ from ⟨rfl, ⟨rfl, ⟨rfl, ⟨rfl, ⟨rfl, ⟨rfl, ⟨rfl, ⟨rfl, ⟨rfl, ⟨rfl, ⟨rfl, trivial⟩⟩⟩⟩⟩⟩⟩⟩⟩⟩⟩) H
  · have H := H.2 hc
    refine g_iload rfl rfl rfl (pc' := 235) ?_
    refine g_if_lt rfl (pc' := 238) (pt := 396) rfl rfl ⟨fun hc => ?_, fun hc => ?_⟩
    · have H := H.1 hc
      exact g_weak (show gm_Lle [some _, some _, some _, some _, some _, some _, some _, none, some _, some _, none, some _, some _] _ from ⟨rfl, ⟨rfl, ⟨rfl, ⟨rfl, ⟨rfl, ⟨rfl, ⟨rfl, ⟨rfl, ⟨rfl, ⟨rfl, ⟨rfl, trivial⟩⟩⟩⟩⟩⟩⟩⟩⟩⟩⟩) H
    · have H := H.2 hc
      refine g_aload (r := some _) rfl rfl rfl (pc' := 239) ?_
      refine g_iload rfl rfl rfl (pc' := 241) ?_
      refine g_aload (r := some _) rfl rfl rfl (pc' := 242) ?_
      refine t_get (o := 1) rfl hT rfl rfl rfl (pc' := 245) rfl ?_
      refine g_iconst rfl rfl rfl (pc' := 246) ?_
      refine g_iload rfl rfl rfl (pc' := 248) ?_
      refine t_call hT (y := 384) (n := 5) (pc' := 251) rfl rfl (t_vt hT rfl rfl) rfl rfl ⟨(Nat.le_of_ble_eq_true rfl), (Nat.le_of_ble_eq_true rfl), (Nat.le_of_ble_eq_true rfl)⟩ rfl H (tI_elim (fun v6 h5 H hT => ?_))
      show gm_G _ 251 _ _ _ _
      refine g_istore rfl rfl rfl (pc' := 253) ?_
      refine g_iload rfl rfl rfl (pc' := 255) ?_
      refine g_if_ge rfl (pc' := 258) (pt := 261) rfl rfl ⟨fun hc => ?_, fun hc => ?_⟩
      · have H := H.1 hc
        refine g_iconst rfl rfl rfl (pc' := 263) ?_
        refine g_iload rfl rfl rfl (pc' := 265) ?_
        refine g_imul rfl rfl (pc' := 266) ?_
        refine g_iload rfl rfl rfl (pc' := 268) ?_
        refine g_iadd rfl rfl (pc' := 269) ?_
        refine g_istore rfl rfl rfl (pc' := 271) ?_
        refine g_aload (r := some _) rfl rfl rfl (pc' := 272) ?_
        refine g_iload rfl rfl rfl (pc' := 274) ?_
        refine g_aload (r := some _) rfl rfl rfl (pc' := 275) ?_
        refine t_get (o := 1) rfl hT rfl rfl rfl (pc' := 278) rfl ?_
        refine g_iload rfl rfl rfl (pc' := 280) ?_
        refine g_iload rfl rfl rfl (pc' := 281) ?_
        refine g_iload rfl rfl rfl (pc' := 283) ?_
        refine g_isub rfl rfl (pc' := 284) ?_
        refine t_call hT (y := 106) (n := 5) (pc' := 287) rfl rfl (t_vt hT rfl rfl) rfl rfl ⟨(Nat.le_of_ble_eq_true rfl), (Nat.le_of_ble_eq_true rfl), (Nat.le_of_ble_eq_true rfl)⟩ rfl H (tI_elim (fun v8 h7 H hT => ?_))
        show gm_G _ 287 _ _ _ _
        refine g_if_ge rfl (pc' := 290) (pt := 396) rfl rfl ⟨fun hc => ?_, fun hc => ?_⟩
        · have H := H.1 hc
          exact g_weak (show gm_Lle [some _, some _, some _, some _, some _, some _, some _, none, some _, some _, none, some _, some _] _ from ⟨rfl, ⟨rfl, ⟨rfl, ⟨rfl, ⟨rfl, ⟨rfl, ⟨rfl, ⟨rfl, ⟨rfl, ⟨rfl, ⟨rfl, trivial⟩⟩⟩⟩⟩⟩⟩⟩⟩⟩⟩) H
        · have H := H.2 hc
          refine g_aload (r := some _) rfl rfl rfl (pc' := 291) ?_
          refine g_iload rfl rfl rfl (pc' := 293) ?_
          refine g_aload (r := some _) rfl rfl rfl (pc' := 294) ?_
          refine t_getI rfl hT rfl rfl (pc' := 297) rfl ?_
          refine g_iconst rfl rfl rfl (pc' := 298) ?_
          refine t_call hT (y := 115) (n := 4) (pc' := 301) rfl rfl (t_vt hT rfl rfl) rfl rfl ⟨(Nat.le_of_ble_eq_true rfl), (Nat.le_of_ble_eq_true rfl), (Nat.le_of_ble_eq_true rfl)⟩ rfl H (tI_elim (fun v10 h9 H hT => ?_))
          show gm_G _ 301 _ _ _ _
          refine g_if_ne rfl (pc' := 304) (pt := 307) rfl rfl ⟨fun hc => ?_, fun hc => ?_⟩
          · have H := H.1 hc
            refine g_aload (r := some _) rfl rfl rfl (pc' := 308) ?_
            refine g_iload rfl rfl rfl (pc' := 310) ?_
            refine g_aload (r := some _) rfl rfl rfl (pc' := 311) ?_
            refine t_getI rfl hT rfl rfl (pc' := 314) rfl ?_
            refine g_iconst rfl rfl rfl (pc' := 315) ?_
            refine t_call hT (y := 282) (n := 4) (pc' := 318) rfl rfl (t_vt hT rfl rfl) rfl rfl ⟨(Nat.le_of_ble_eq_true rfl), (Nat.le_of_ble_eq_true rfl), (Nat.le_of_ble_eq_true rfl)⟩ rfl H (tI_elim (fun v12 h11 H hT => ?_))
            show gm_G _ 318 _ _ _ _
            refine g_if_ne rfl (pc' := 321) (pt := 324) rfl rfl ⟨fun hc => ?_, fun hc => ?_⟩
            · have H := H.1 hc
              refine g_aload (r := some _) rfl rfl rfl (pc' := 325) ?_
              refine g_iload rfl rfl rfl (pc' := 327) ?_
              refine t_call hT (y := 111) (n := 2) (pc' := 330) rfl rfl (t_vt hT rfl rfl) rfl rfl ⟨(Nat.le_of_ble_eq_true rfl), (Nat.le_of_ble_eq_true rfl), (Nat.le_of_ble_eq_true rfl)⟩ rfl H (tI_elim (fun v14 h13 H hT => ?_))
              show gm_G _ 330 _ _ _ _
              refine g_istore rfl rfl rfl (pc' := 332) ?_
              refine g_aload (r := some _) rfl rfl rfl (pc' := 333) ?_
              refine t_get (o := 45) rfl hT rfl rfl rfl (pc' := 336) rfl ?_
              refine g_iload rfl rfl rfl (pc' := 338) ?_
              obtain ⟨n15, hn15, H⟩ := H
              refine t_iaload hT (o := 45) (l := 1536) rfl rfl rfl hn15 (pc' := 339) rfl ?_
              refine g_iconst rfl rfl rfl (pc' := 341) ?_
              refine g_ic_eq rfl (pc' := 344) (pt := 349) rfl rfl ⟨fun hc => ?_, fun hc => ?_⟩
              · have H := H.1 hc
                refine g_iconst rfl rfl rfl (pc' := 351) ?_
                exact g_ireturn rfl (Or.inl rfl) H
              · have H := H.2 hc
                refine g_iload rfl rfl rfl (pc' := 346) ?_
                refine g_if_ge rfl (pc' := 349) (pt := 352) rfl rfl ⟨fun hc => ?_, fun hc => ?_⟩
                · have H := H.1 hc
                  refine g_aload (r := some _) rfl rfl rfl (pc' := 353) ?_
                  refine g_iload rfl rfl rfl (pc' := 355) ?_
                  refine g_iload rfl rfl rfl (pc' := 357) ?_
                  refine g_iload rfl rfl rfl (pc' := 359) ?_
                  refine g_iconst rfl rfl rfl (pc' := 360) ?_
                  refine g_iconst rfl rfl rfl (pc' := 363) ?_
                  refine g_aload (r := some _) rfl rfl rfl (pc' := 364) ?_
                  refine t_get (o := 1) rfl hT rfl rfl rfl (pc' := 367) rfl ?_
                  refine g_iload rfl rfl rfl (pc' := 369) ?_
                  refine g_iload rfl rfl rfl (pc' := 370) ?_
                  refine g_iload rfl rfl rfl (pc' := 372) ?_
                  refine g_isub rfl rfl (pc' := 373) ?_
                  refine g_aload (r := some _) rfl rfl rfl (pc' := 374) ?_
                  refine t_get (o := 1) rfl hT rfl rfl rfl (pc' := 377) rfl ?_
                  refine g_iconst rfl rfl rfl (pc' := 378) ?_
                  refine g_iconst rfl rfl rfl (pc' := 379) ?_
                  refine t_call hT (y := 437) (n := 12) (pc' := 382) rfl rfl (t_vt hT rfl rfl) rfl rfl ⟨(Nat.le_of_ble_eq_true rfl), (Nat.le_of_ble_eq_true rfl), (Nat.le_of_ble_eq_true rfl)⟩ rfl H (tV_elim (fun h16 H hT => ?_))
                  show gm_G _ 382 _ _ _ _
                  refine g_aload (r := some _) rfl rfl rfl (pc' := 383) ?_
                  refine g_iconst rfl rfl rfl (pc' := 384) ?_
                  refine t_call hT (y := 468) (n := 2) (pc' := 387) rfl rfl (t_vt hT rfl rfl) rfl rfl ⟨(Nat.le_of_ble_eq_true rfl), (Nat.le_of_ble_eq_true rfl), (Nat.le_of_ble_eq_true rfl)⟩ rfl H (tI_elim (fun v18 h17 H hT => ?_))
                  show gm_G _ 387 _ _ _ _
                  refine g_if_ge rfl (pc' := 390) (pt := 393) rfl rfl ⟨fun hc => ?_, fun hc => ?_⟩
                  · have H := H.1 hc
                    refine g_iconst rfl rfl rfl (pc' := 394) ?_
                    refine g_istore rfl rfl rfl (pc' := 396) ?_
                    exact g_weak (show gm_Lle [some _, some _, some _, some _, some _, some _, some _, none, some _, some _, none, some _, some _] _ from ⟨rfl, ⟨rfl, ⟨rfl, ⟨rfl, ⟨rfl, ⟨rfl, ⟨rfl, ⟨rfl, ⟨rfl, ⟨rfl, ⟨rfl, trivial⟩⟩⟩⟩⟩⟩⟩⟩⟩⟩⟩) H
                  · have H := H.2 hc
                    refine g_iconst rfl rfl rfl (pc' := 392) ?_
                    exact g_ireturn rfl (Or.inl rfl) H
                · have H := H.2 hc
                  refine g_iconst rfl rfl rfl (pc' := 351) ?_
                  exact g_ireturn rfl (Or.inl rfl) H
            · have H := H.2 hc
              refine g_iconst rfl rfl rfl (pc' := 323) ?_
              exact g_ireturn rfl (Or.inl rfl) H
          · have H := H.2 hc
            refine g_iconst rfl rfl rfl (pc' := 306) ?_
            exact g_ireturn rfl (Or.inl rfl) H
      · have H := H.2 hc
        refine g_iload rfl rfl rfl (pc' := 260) ?_
        exact g_ireturn rfl (Or.inl rfl) H
theorem w_542_396 {m : Nat} {x1 : Int32} {x2 : Int32} {x3 : Int32} {x4 : Int32} {x5 : Int32} {x6 : Int32} {x8 : Int32} {x9 : Int32} {x11 : Int32} {x12 : Int32} {h : hh_T} {Q : Option Value ⊕ Nat → hh_T → Prop} (hT : tw_ok h m) (H : (¬ x12 = Int32.ofNat 0 → (gm_G 542 730 [some (.ref m), some (.int x1), some (.int x2), none, none, none, some (.int x6), none, none, none, none, some (.int x11)] [] h Q)) ∧ (x12 = Int32.ofNat 0 → (gm_G 308 0 [some (.ref m), some (.int x9), some (.ref (m + 1)), some (.int (Int32.ofNat 0)), some (.int x3), some (.int (Int32.ofNat 1))] [] h (pI (fun v2 h1 => (¬ v2 < Int32.ofNat 0 → (((x2 &&& (Int32.ofNat 8)) = Int32.ofNat 0 → (∃ n3, gm_ix (((Int32.ofNat 16) * x9) + v2) n3 1536 ∧ (((hh_i h1 (m + 40) n3) = (Int32.ofNat 1) → ((x4 = Int32.ofNat 0 → (gm_G 542 477 [some (.ref m), some (.int x1), some (.int x2), none, none, some (.int x5), some (.int x6), none, some (.int x8), none, none, some (.int v2), none, some (.int (((Int32.ofNat 16) * x9) + v2))] [] h1 Q)) ∧ (¬ x4 = Int32.ofNat 0 → (gm_G 115 0 [some (.ref m), some (.int (((Int32.ofNat 16) * x9) + v2)), some (.int (hh_i h1 m 5)), some (.int (Int32.ofNat 4))] [] h1 (pI (fun v5 h4 => (v5 = Int32.ofNat 0 → (Q (.inl (some (.int (Int32.ofInt (-6))))) h4)) ∧ (¬ v5 = Int32.ofNat 0 → (gm_G 542 477 [some (.ref m), some (.int x1), some (.int x2), none, none, some (.int x5), some (.int x6), none, some (.int x8), none, none, some (.int v2), none, some (.int (((Int32.ofNat 16) * x9) + v2))] [] h4 Q))) (fun _ _ => False)))))) ∧ (¬ (hh_i h1 (m + 40) n3) = (Int32.ofNat 1) → (Q (.inl (some (.int (Int32.ofInt (-10))))) h1))))) ∧ (¬ (x2 &&& (Int32.ofNat 8)) = Int32.ofNat 0 → (Q (.inl (some (.int (Int32.ofInt (-4))))) h1)))) ∧ (v2 < Int32.ofNat 0 → (Q (.inl (some (.int v2))) h1))) (fun _ _ => False))))) : gm_G 542 396 [some (.ref m), some (.int x1), some (.int x2), some (.int x3), some (.int x4), some (.int x5), some (.int x6), none, some (.int x8), some (.int x9), none, some (.int x11), some (.int x12)] [] h Q := by
  refine g_iload rfl rfl rfl (pc' := 398) ?_
  refine g_if_ne rfl (pc' := 401) (pt := 730) rfl rfl ⟨fun hc => ?_, fun hc => ?_⟩
  · have H := H.1 hc
    exact g_weak (show gm_Lle [some _, some _, some _, none, none, none, some _, none, none, none, none, some _] _ from ⟨rfl, ⟨rfl, ⟨rfl, ⟨rfl, ⟨rfl, trivial⟩⟩⟩⟩⟩) H
  · have H := H.2 hc
    refine g_aload (r := some _) rfl rfl rfl (pc' := 402) ?_
    refine g_iload rfl rfl rfl (pc' := 404) ?_
    refine g_aload (r := some _) rfl rfl rfl (pc' := 405) ?_
    refine t_get (o := 1) rfl hT rfl rfl rfl (pc' := 408) rfl ?_
    refine g_iconst rfl rfl rfl (pc' := 409) ?_
    refine g_iload rfl rfl rfl (pc' := 410) ?_
    refine g_iconst rfl rfl rfl (pc' := 411) ?_
    refine t_call hT (y := 308) (n := 6) (pc' := 414) rfl rfl (t_vt hT rfl rfl) rfl rfl ⟨(Nat.le_of_ble_eq_true rfl), (Nat.le_of_ble_eq_true rfl), (Nat.le_of_ble_eq_true rfl)⟩ rfl H (tI_elim (fun v2 h1 H hT => ?_))
    show gm_G _ 414 _ _ _ _
    refine g_istore rfl rfl rfl (pc' := 416) ?_
    refine g_iload rfl rfl rfl (pc' := 418) ?_
    refine g_if_ge rfl (pc' := 421) (pt := 424) rfl rfl ⟨fun hc => ?_, fun hc => ?_⟩
    · have H := H.1 hc
      refine g_iconst rfl rfl rfl (pc' := 426) ?_
      refine g_iload rfl rfl rfl (pc' := 428) ?_
      refine g_imul rfl rfl (pc' := 429) ?_
      refine g_iload rfl rfl rfl (pc' := 431) ?_
      refine g_iadd rfl rfl (pc' := 432) ?_
      refine g_istore rfl rfl rfl (pc' := 434) ?_
      refine g_iload rfl rfl rfl (pc' := 435) ?_
      refine g_iconst rfl rfl rfl (pc' := 437) ?_
      refine g_iand rfl rfl (pc' := 438) ?_
      refine g_if_eq rfl (pc' := 441) (pt := 444) rfl rfl ⟨fun hc => ?_, fun hc => ?_⟩
      · have H := H.1 hc
        refine g_aload (r := some _) rfl rfl rfl (pc' := 445) ?_
        refine t_get (o := 40) rfl hT rfl rfl rfl (pc' := 448) rfl ?_
        refine g_iload rfl rfl rfl (pc' := 450) ?_
        obtain ⟨n3, hn3, H⟩ := H
        refine t_iaload hT (o := 40) (l := 1536) rfl rfl rfl hn3 (pc' := 451) rfl ?_
        refine g_iconst rfl rfl rfl (pc' := 452) ?_
        refine g_ic_eq rfl (pc' := 455) (pt := 458) rfl rfl ⟨fun hc => ?_, fun hc => ?_⟩
        · have H := H.1 hc
          refine g_iload rfl rfl rfl (pc' := 460) ?_
          refine g_if_eq rfl (pc' := 463) (pt := 477) rfl rfl ⟨fun hc => ?_, fun hc => ?_⟩
          · have H := H.1 hc
            exact g_weak (show gm_Lle [some _, some _, some _, none, none, some _, some _, none, some _, none, none, some _, none, some _] _ from ⟨rfl, ⟨rfl, ⟨rfl, ⟨rfl, ⟨rfl, ⟨rfl, ⟨rfl, ⟨rfl, trivial⟩⟩⟩⟩⟩⟩⟩⟩) H
          · have H := H.2 hc
            refine g_aload (r := some _) rfl rfl rfl (pc' := 464) ?_
            refine g_iload rfl rfl rfl (pc' := 466) ?_
            refine g_aload (r := some _) rfl rfl rfl (pc' := 467) ?_
            refine t_getI rfl hT rfl rfl (pc' := 470) rfl ?_
            refine g_iconst rfl rfl rfl (pc' := 471) ?_
            refine t_call hT (y := 115) (n := 4) (pc' := 474) rfl rfl (t_vt hT rfl rfl) rfl rfl ⟨(Nat.le_of_ble_eq_true rfl), (Nat.le_of_ble_eq_true rfl), (Nat.le_of_ble_eq_true rfl)⟩ rfl H (tI_elim (fun v5 h4 H hT => ?_))
            show gm_G _ 474 _ _ _ _
            refine g_if_eq rfl (pc' := 477) (pt := 496) rfl rfl ⟨fun hc => ?_, fun hc => ?_⟩
            · have H := H.1 hc
              refine g_iconst rfl rfl rfl (pc' := 498) ?_
              exact g_ireturn rfl (Or.inl rfl) H
            · have H := H.2 hc
              exact g_weak (show gm_Lle [some _, some _, some _, none, none, some _, some _, none, some _, none, none, some _, none, some _] _ from ⟨rfl, ⟨rfl, ⟨rfl, ⟨rfl, ⟨rfl, ⟨rfl, ⟨rfl, ⟨rfl, trivial⟩⟩⟩⟩⟩⟩⟩⟩) H
        · have H := H.2 hc
          refine g_iconst rfl rfl rfl (pc' := 457) ?_
          exact g_ireturn rfl (Or.inl rfl) H
      · have H := H.2 hc
        refine g_iconst rfl rfl rfl (pc' := 443) ?_
        exact g_ireturn rfl (Or.inl rfl) H
    · have H := H.2 hc
      refine g_iload rfl rfl rfl (pc' := 423) ?_
      exact g_ireturn rfl (Or.inl rfl) H
theorem w_542_477 {m : Nat} {x1 : Int32} {x2 : Int32} {x5 : Int32} {x6 : Int32} {x8 : Int32} {x11 : Int32} {x13 : Int32} {h : hh_T} {Q : Option Value ⊕ Nat → hh_T → Prop} (hT : tw_ok h m) (H : (x5 = Int32.ofNat 0 → (gm_G 542 499 [some (.ref m), some (.int x1), some (.int x2), none, none, some (.int x5), some (.int x6), none, some (.int x8), none, none, some (.int x11), none, some (.int x13)] [] h Q)) ∧ (¬ x5 = Int32.ofNat 0 → (gm_G 115 0 [some (.ref m), some (.int x13), some (.int (hh_i h m 5)), some (.int (Int32.ofNat 2))] [] h (pI (fun v2 h1 => (¬ v2 = Int32.ofNat 0 → (gm_G 542 499 [some (.ref m), some (.int x1), some (.int x2), none, none, some (.int x5), some (.int x6), none, some (.int x8), none, none, some (.int x11), none, some (.int x13)] [] h1 Q)) ∧ (v2 = Int32.ofNat 0 → (Q (.inl (some (.int (Int32.ofInt (-6))))) h1))) (fun _ _ => False))))) : gm_G 542 477 [some (.ref m), some (.int x1), some (.int x2), none, none, some (.int x5), some (.int x6), none, some (.int x8), none, none, some (.int x11), none, some (.int x13)] [] h Q := by
  refine g_iload rfl rfl rfl (pc' := 479) ?_
  refine g_if_eq rfl (pc' := 482) (pt := 499) rfl rfl ⟨fun hc => ?_, fun hc => ?_⟩
  · have H := H.1 hc
    exact g_weak (show gm_Lle [some _, some _, some _, none, none, some _, some _, none, some _, none, none, some _, none, some _] _ from ⟨rfl, ⟨rfl, ⟨rfl, ⟨rfl, ⟨rfl, ⟨rfl, ⟨rfl, ⟨rfl, trivial⟩⟩⟩⟩⟩⟩⟩⟩) H
  · have H := H.2 hc
    refine g_aload (r := some _) rfl rfl rfl (pc' := 483) ?_
    refine g_iload rfl rfl rfl (pc' := 485) ?_
    refine g_aload (r := some _) rfl rfl rfl (pc' := 486) ?_
    refine t_getI rfl hT rfl rfl (pc' := 489) rfl ?_
    refine g_iconst rfl rfl rfl (pc' := 490) ?_
    refine t_call hT (y := 115) (n := 4) (pc' := 493) rfl rfl (t_vt hT rfl rfl) rfl rfl ⟨(Nat.le_of_ble_eq_true rfl), (Nat.le_of_ble_eq_true rfl), (Nat.le_of_ble_eq_true rfl)⟩ rfl H (tI_elim (fun v2 h1 H hT => ?_))
    show gm_G _ 493 _ _ _ _
    refine g_if_ne rfl (pc' := 496) (pt := 499) rfl rfl ⟨fun hc => ?_, fun hc => ?_⟩
    · have H := H.1 hc
      exact g_weak (show gm_Lle [some _, some _, some _, none, none, some _, some _, none, some _, none, none, some _, none, some _] _ from ⟨rfl, ⟨rfl, ⟨rfl, ⟨rfl, ⟨rfl, ⟨rfl, ⟨rfl, ⟨rfl, trivial⟩⟩⟩⟩⟩⟩⟩⟩) H
    · have H := H.2 hc
      refine g_iconst rfl rfl rfl (pc' := 498) ?_
      exact g_ireturn rfl (Or.inl rfl) H
theorem w_542_499 {m : Nat} {x1 : Int32} {x2 : Int32} {x5 : Int32} {x6 : Int32} {x8 : Int32} {x11 : Int32} {x13 : Int32} {h : hh_T} {Q : Option Value ⊕ Nat → hh_T → Prop} (hT : tw_ok h m) (H : gm_G 542 502 [some (.ref m), some (.int x1), some (.int x2), none, none, some (.int x5), some (.int x6), none, some (.int x8), none, none, some (.int x11), none, some (.int x13), some (.int (Int32.ofNat 0))] [] h Q) : gm_G 542 499 [some (.ref m), some (.int x1), some (.int x2), none, none, some (.int x5), some (.int x6), none, some (.int x8), none, none, some (.int x11), none, some (.int x13)] [] h Q := by
  refine g_iconst rfl rfl rfl (pc' := 500) ?_
  refine g_istore rfl rfl rfl (pc' := 502) ?_
  exact g_weak (show gm_Lle [some _, some _, some _, none, none, some _, some _, none, some _, none, none, some _, none, some _, some _] _ from ⟨rfl, ⟨rfl, ⟨rfl, ⟨rfl, ⟨rfl, ⟨rfl, ⟨rfl, ⟨rfl, ⟨rfl, trivial⟩⟩⟩⟩⟩⟩⟩⟩⟩) H
theorem w_542_502 {m : Nat} {x1 : Int32} {x2 : Int32} {x5 : Int32} {x6 : Int32} {x8 : Int32} {x11 : Int32} {x13 : Int32} {x14 : Int32} {h : hh_T} {Q : Option Value ⊕ Nat → hh_T → Prop} (hT : tw_ok h m) (H : (¬ x14 < (Int32.ofNat 8) → (gm_G 542 577 [some (.ref m), some (.int x1), some (.int x2), none, none, some (.int x5), some (.int x6), none, some (.int x8), none, none, some (.int x11), none, some (.int x13), some (.int (Int32.ofNat 0)), some (.int (Int32.ofNat 0))] [] h Q)) ∧ (x14 < (Int32.ofNat 8) → (∃ n1, gm_ix x14 n1 8 ∧ (((hh_i h (m + 88) n1) = Int32.ofNat 0 → (gm_G 542 565 [some (.ref m), some (.int x1), some (.int x2), none, none, some (.int x5), some (.int x6), none, some (.int x8), none, none, some (.int x11), none, some (.int x13), some (.int x14)] [] h Q)) ∧ (¬ (hh_i h (m + 88) n1) = Int32.ofNat 0 → (∃ n2, gm_ix x14 n2 8 ∧ ((¬ (hh_i h (m + 90) n2) = x1 → (gm_G 542 565 [some (.ref m), some (.int x1), some (.int x2), none, none, some (.int x5), some (.int x6), none, some (.int x8), none, none, some (.int x11), none, some (.int x13), some (.int x14)] [] h Q)) ∧ ((hh_i h (m + 90) n2) = x1 → (∃ n3, gm_ix x14 n3 8 ∧ ((¬ (hh_i h (m + 91) n3) = x11 → (gm_G 542 565 [some (.ref m), some (.int x1), some (.int x2), none, none, some (.int x5), some (.int x6), none, some (.int x8), none, none, some (.int x11), none, some (.int x13), some (.int x14)] [] h Q)) ∧ ((hh_i h (m + 91) n3) = x11 → ((¬ (x2 &&& (Int32.ofNat 64)) = Int32.ofNat 0 → (Q (.inl (some (.int (Int32.ofInt (-5))))) h)) ∧ ((x2 &&& (Int32.ofNat 64)) = Int32.ofNat 0 → (∃ n4, gm_ix x14 n4 8 ∧ ((((hh_i h (m + 92) n4) &&& (Int32.ofNat 64)) = Int32.ofNat 0 → (gm_G 542 565 [some (.ref m), some (.int x1), some (.int x2), none, none, some (.int x5), some (.int x6), none, some (.int x8), none, none, some (.int x11), none, some (.int x13), some (.int x14)] [] h Q)) ∧ (¬ ((hh_i h (m + 92) n4) &&& (Int32.ofNat 64)) = Int32.ofNat 0 → (Q (.inl (some (.int (Int32.ofInt (-5))))) h))))))))))))))))) : gm_G 542 502 [some (.ref m), some (.int x1), some (.int x2), none, none, some (.int x5), some (.int x6), none, some (.int x8), none, none, some (.int x11), none, some (.int x13), some (.int x14)] [] h Q := by
  refine g_iload rfl rfl rfl (pc' := 504) ?_
  refine g_iconst rfl rfl rfl (pc' := 506) ?_
  refine g_ic_ge rfl (pc' := 509) (pt := 571) rfl rfl ⟨fun hc => ?_, fun hc => ?_⟩
  · have H := H.1 hc
    refine g_iconst rfl rfl rfl (pc' := 572) ?_
    refine g_istore rfl rfl rfl (pc' := 574) ?_
    refine g_iconst rfl rfl rfl (pc' := 575) ?_
    refine g_istore rfl rfl rfl (pc' := 577) ?_
    exact g_weak (show gm_Lle [some _, some _, some _, none, none, some _, some _, none, some _, none, none, some _, none, some _, some _, some _] _ from ⟨rfl, ⟨rfl, ⟨rfl, ⟨rfl, ⟨rfl, ⟨rfl, ⟨rfl, ⟨rfl, ⟨rfl, ⟨rfl, trivial⟩⟩⟩⟩⟩⟩⟩⟩⟩⟩) H
  · have H := H.2 hc
    refine g_aload (r := some _) rfl rfl rfl (pc' := 510) ?_
    refine t_get (o := 88) rfl hT rfl rfl rfl (pc' := 513) rfl ?_
    refine g_iload rfl rfl rfl (pc' := 515) ?_
    obtain ⟨n1, hn1, H⟩ := H
    refine t_zaload hT (o := 88) (l := 8) rfl rfl rfl hn1 (pc' := 516) rfl ?_
    refine g_if_eq rfl (pc' := 519) (pt := 565) rfl rfl ⟨fun hc => ?_, fun hc => ?_⟩
    · have H := H.1 hc
      exact g_weak (show gm_Lle [some _, some _, some _, none, none, some _, some _, none, some _, none, none, some _, none, some _, some _] _ from ⟨rfl, ⟨rfl, ⟨rfl, ⟨rfl, ⟨rfl, ⟨rfl, ⟨rfl, ⟨rfl, ⟨rfl, trivial⟩⟩⟩⟩⟩⟩⟩⟩⟩) H
    · have H := H.2 hc
      refine g_aload (r := some _) rfl rfl rfl (pc' := 520) ?_
      refine t_get (o := 90) rfl hT rfl rfl rfl (pc' := 523) rfl ?_
      refine g_iload rfl rfl rfl (pc' := 525) ?_
      obtain ⟨n2, hn2, H⟩ := H
      refine t_iaload hT (o := 90) (l := 8) rfl rfl rfl hn2 (pc' := 526) rfl ?_
      refine g_iload rfl rfl rfl (pc' := 527) ?_
      refine g_ic_ne rfl (pc' := 530) (pt := 565) rfl rfl ⟨fun hc => ?_, fun hc => ?_⟩
      · have H := H.1 hc
        exact g_weak (show gm_Lle [some _, some _, some _, none, none, some _, some _, none, some _, none, none, some _, none, some _, some _] _ from ⟨rfl, ⟨rfl, ⟨rfl, ⟨rfl, ⟨rfl, ⟨rfl, ⟨rfl, ⟨rfl, ⟨rfl, trivial⟩⟩⟩⟩⟩⟩⟩⟩⟩) H
      · have H := H.2 hc
        refine g_aload (r := some _) rfl rfl rfl (pc' := 531) ?_
        refine t_get (o := 91) rfl hT rfl rfl rfl (pc' := 534) rfl ?_
        refine g_iload rfl rfl rfl (pc' := 536) ?_
        obtain ⟨n3, hn3, H⟩ := H
        refine t_iaload hT (o := 91) (l := 8) rfl rfl rfl hn3 (pc' := 537) rfl ?_
        refine g_iload rfl rfl rfl (pc' := 539) ?_
        refine g_ic_ne rfl (pc' := 542) (pt := 565) rfl rfl ⟨fun hc => ?_, fun hc => ?_⟩
        · have H := H.1 hc
          exact g_weak (show gm_Lle [some _, some _, some _, none, none, some _, some _, none, some _, none, none, some _, none, some _, some _] _ from ⟨rfl, ⟨rfl, ⟨rfl, ⟨rfl, ⟨rfl, ⟨rfl, ⟨rfl, ⟨rfl, ⟨rfl, trivial⟩⟩⟩⟩⟩⟩⟩⟩⟩) H
        · have H := H.2 hc
          refine g_iload rfl rfl rfl (pc' := 543) ?_
          refine g_iconst rfl rfl rfl (pc' := 545) ?_
          refine g_iand rfl rfl (pc' := 546) ?_
          refine g_if_ne rfl (pc' := 549) (pt := 562) rfl rfl ⟨fun hc => ?_, fun hc => ?_⟩
          · have H := H.1 hc
            refine g_iconst rfl rfl rfl (pc' := 564) ?_
            exact g_ireturn rfl (Or.inl rfl) H
          · have H := H.2 hc
            refine g_aload (r := some _) rfl rfl rfl (pc' := 550) ?_
            refine t_get (o := 92) rfl hT rfl rfl rfl (pc' := 553) rfl ?_
            refine g_iload rfl rfl rfl (pc' := 555) ?_
            obtain ⟨n4, hn4, H⟩ := H
            refine t_iaload hT (o := 92) (l := 8) rfl rfl rfl hn4 (pc' := 556) rfl ?_
            refine g_iconst rfl rfl rfl (pc' := 558) ?_
            refine g_iand rfl rfl (pc' := 559) ?_
            refine g_if_eq rfl (pc' := 562) (pt := 565) rfl rfl ⟨fun hc => ?_, fun hc => ?_⟩
            · have H := H.1 hc
              exact g_weak (show gm_Lle [some _, some _, some _, none, none, some _, some _, none, some _, none, none, some _, none, some _, some _] _ from ⟨rfl, ⟨rfl, ⟨rfl, ⟨rfl, ⟨rfl, ⟨rfl, ⟨rfl, ⟨rfl, ⟨rfl, trivial⟩⟩⟩⟩⟩⟩⟩⟩⟩) H
            · have H := H.2 hc
              refine g_iconst rfl rfl rfl (pc' := 564) ?_
              exact g_ireturn rfl (Or.inl rfl) H
theorem w_542_565 {m : Nat} {x1 : Int32} {x2 : Int32} {x5 : Int32} {x6 : Int32} {x8 : Int32} {x11 : Int32} {x13 : Int32} {x14 : Int32} {h : hh_T} {Q : Option Value ⊕ Nat → hh_T → Prop} (hT : tw_ok h m) (H : gm_G 542 502 [some (.ref m), some (.int x1), some (.int x2), none, none, some (.int x5), some (.int x6), none, some (.int x8), none, none, some (.int x11), none, some (.int x13), some (.int (x14 + (Int32.ofNat 1)))] [] h Q) : gm_G 542 565 [some (.ref m), some (.int x1), some (.int x2), none, none, some (.int x5), some (.int x6), none, some (.int x8), none, none, some (.int x11), none, some (.int x13), some (.int x14)] [] h Q := by
  refine g_iinc (c := (Int32.ofNat 1)) rfl rfl rfl rfl rfl (pc' := 568) ?_
  refine g_goto rfl (pc' := 502) rfl ?_
  exact g_weak (show gm_Lle [some _, some _, some _, none, none, some _, some _, none, some _, none, none, some _, none, some _, some _] _ from ⟨rfl, ⟨rfl, ⟨rfl, ⟨rfl, ⟨rfl, ⟨rfl, ⟨rfl, ⟨rfl, ⟨rfl, trivial⟩⟩⟩⟩⟩⟩⟩⟩⟩) H
theorem w_542_577 {m : Nat} {x1 : Int32} {x2 : Int32} {x5 : Int32} {x6 : Int32} {x8 : Int32} {x11 : Int32} {x13 : Int32} {x14 : Int32} {x15 : Int32} {h : hh_T} {Q : Option Value ⊕ Nat → hh_T → Prop} (hT : tw_ok h m) (H : (¬ x15 < (Int32.ofNat 8) → ((x14 = Int32.ofNat 0 → (((x2 &&& (Int32.ofNat 16)) = Int32.ofNat 0 → (gm_G 542 730 [some (.ref m), some (.int x1), some (.int x2), none, none, none, some (.int x6), none, none, none, none, some (.int x11)] [] h Q)) ∧ (¬ (x2 &&& (Int32.ofNat 16)) = Int32.ofNat 0 → (∃ n1, gm_ix x13 n1 1536 ∧ ((¬ Int32.ofNat 0 < (hh_i h (m + 45) n1) → (gm_G 542 730 [some (.ref m), some (.int x1), some (.int x2), none, none, none, some (.int x6), none, none, none, none, some (.int x11)] [] h Q)) ∧ (Int32.ofNat 0 < (hh_i h (m + 45) n1) → (gm_G 510 0 [some (.ref m), some (.int x8), some (.int x11), some (.int (Int32.ofNat 0))] [] h (pI (fun v3 h2 => gm_G 468 0 [some (.ref m), some (.int (Int32.ofNat 0))] [] h2 (pI (fun v5 h4 => (¬ v5 < Int32.ofNat 0 → (gm_G 542 730 [some (.ref m), some (.int x1), some (.int x2), none, none, none, some (.int x6), none, none, none, none, some (.int x11)] [] h4 Q)) ∧ (v5 < Int32.ofNat 0 → (Q (.inl (some (.int (Int32.ofInt (-12))))) h4))) (fun _ _ => False))) (fun _ _ => False))))))))) ∧ (¬ x14 = Int32.ofNat 0 → (Q (.inl (some (.int (Int32.ofInt (-5))))) h)))) ∧ (x15 < (Int32.ofNat 8) → (∃ n6, gm_ix x15 n6 8 ∧ (((hh_i h (m + 88) n6) = Int32.ofNat 0 → (gm_G 542 678 [some (.ref m), some (.int x1), some (.int x2), none, none, some (.int x5), some (.int x6), none, some (.int x8), none, none, some (.int x11), none, some (.int x13), some (.int x14), some (.int x15)] [] h Q)) ∧ (¬ (hh_i h (m + 88) n6) = Int32.ofNat 0 → (∃ n7, gm_ix x15 n7 8 ∧ ((¬ (hh_i h (m + 90) n7) = x1 → (gm_G 542 678 [some (.ref m), some (.int x1), some (.int x2), none, none, some (.int x5), some (.int x6), none, some (.int x8), none, none, some (.int x11), none, some (.int x13), some (.int x14), some (.int x15)] [] h Q)) ∧ ((hh_i h (m + 90) n7) = x1 → (∃ n8, gm_ix x15 n8 8 ∧ ((¬ (hh_i h (m + 91) n8) = x11 → (gm_G 542 678 [some (.ref m), some (.int x1), some (.int x2), none, none, some (.int x5), some (.int x6), none, some (.int x8), none, none, some (.int x11), none, some (.int x13), some (.int x14), some (.int x15)] [] h Q)) ∧ ((hh_i h (m + 91) n8) = x11 → (∃ n9, gm_ix x15 n9 8 ∧ (((hh_i h (m + 94) n9) = Int32.ofNat 0 → (gm_G 542 678 [some (.ref m), some (.int x1), some (.int x2), none, none, some (.int x5), some (.int x6), none, some (.int x8), none, none, some (.int x11), none, some (.int x13), some (.int x14), some (.int x15)] [] h Q)) ∧ (¬ (hh_i h (m + 94) n9) = Int32.ofNat 0 → (∃ n10, gm_ix x15 n10 8 ∧ ((¬ (hh_i h (m + 94) n10) = (Int32.ofNat 1) → (gm_G 542 646 [some (.ref m), some (.int x1), some (.int x2), none, none, some (.int x5), some (.int x6), none, some (.int x8), none, none, some (.int x11), none, some (.int x13), none, some (.int x15)] [] h Q)) ∧ ((hh_i h (m + 94) n10) = (Int32.ofNat 1) → ((¬ x5 = Int32.ofNat 0 → (gm_G 542 646 [some (.ref m), some (.int x1), some (.int x2), none, none, some (.int x5), some (.int x6), none, some (.int x8), none, none, some (.int x11), none, some (.int x13), none, some (.int x15)] [] h Q)) ∧ (x5 = Int32.ofNat 0 → (gm_G 542 678 [some (.ref m), some (.int x1), some (.int x2), none, none, some (.int x5), some (.int x6), none, some (.int x8), none, none, some (.int x11), none, some (.int x13), some (.int x14), some (.int x15)] [] h Q)))))))))))))))))))) : gm_G 542 577 [some (.ref m), some (.int x1), some (.int x2), none, none, some (.int x5), some (.int x6), none, some (.int x8), none, none, some (.int x11), none, some (.int x13), some (.int x14), some (.int x15)] [] h Q := by
  refine g_iload rfl rfl rfl (pc' := 579) ?_
  refine g_iconst rfl rfl rfl (pc' := 581) ?_
  refine g_ic_ge rfl (pc' := 584) (pt := 684) rfl rfl ⟨fun hc => ?_, fun hc => ?_⟩
  · have H := H.1 hc
    refine g_iload rfl rfl rfl (pc' := 686) ?_
    refine g_if_eq rfl (pc' := 689) (pt := 692) rfl rfl ⟨fun hc => ?_, fun hc => ?_⟩
    · have H := H.1 hc
      refine g_iload rfl rfl rfl (pc' := 693) ?_
      refine g_iconst rfl rfl rfl (pc' := 695) ?_
      refine g_iand rfl rfl (pc' := 696) ?_
      refine g_if_eq rfl (pc' := 699) (pt := 730) rfl rfl ⟨fun hc => ?_, fun hc => ?_⟩
      · have H := H.1 hc
        exact g_weak (show gm_Lle [some _, some _, some _, none, none, none, some _, none, none, none, none, some _] _ from ⟨rfl, ⟨rfl, ⟨rfl, ⟨rfl, ⟨rfl, trivial⟩⟩⟩⟩⟩) H
      · have H := H.2 hc
        refine g_aload (r := some _) rfl rfl rfl (pc' := 700) ?_
        refine t_get (o := 45) rfl hT rfl rfl rfl (pc' := 703) rfl ?_
        refine g_iload rfl rfl rfl (pc' := 705) ?_
        obtain ⟨n1, hn1, H⟩ := H
        refine t_iaload hT (o := 45) (l := 1536) rfl rfl rfl hn1 (pc' := 706) rfl ?_
        refine g_if_le rfl (pc' := 709) (pt := 730) rfl rfl ⟨fun hc => ?_, fun hc => ?_⟩
        · have H := H.1 hc
          exact g_weak (show gm_Lle [some _, some _, some _, none, none, none, some _, none, none, none, none, some _] _ from ⟨rfl, ⟨rfl, ⟨rfl, ⟨rfl, ⟨rfl, trivial⟩⟩⟩⟩⟩) H
        · have H := H.2 hc
          refine g_aload (r := some _) rfl rfl rfl (pc' := 710) ?_
          refine g_iload rfl rfl rfl (pc' := 712) ?_
          refine g_iload rfl rfl rfl (pc' := 714) ?_
          refine g_iconst rfl rfl rfl (pc' := 715) ?_
          refine t_call hT (y := 510) (n := 4) (pc' := 718) rfl rfl (t_vt hT rfl rfl) rfl rfl ⟨(Nat.le_of_ble_eq_true rfl), (Nat.le_of_ble_eq_true rfl), (Nat.le_of_ble_eq_true rfl)⟩ rfl H (tI_elim (fun v3 h2 H hT => ?_))
          show gm_G _ 718 _ _ _ _
          refine g_pop_i rfl rfl (pc' := 719) ?_
          refine g_aload (r := some _) rfl rfl rfl (pc' := 720) ?_
          refine g_iconst rfl rfl rfl (pc' := 721) ?_
          refine t_call hT (y := 468) (n := 2) (pc' := 724) rfl rfl (t_vt hT rfl rfl) rfl rfl ⟨(Nat.le_of_ble_eq_true rfl), (Nat.le_of_ble_eq_true rfl), (Nat.le_of_ble_eq_true rfl)⟩ rfl H (tI_elim (fun v5 h4 H hT => ?_))
          show gm_G _ 724 _ _ _ _
          refine g_if_ge rfl (pc' := 727) (pt := 730) rfl rfl ⟨fun hc => ?_, fun hc => ?_⟩
          · have H := H.1 hc
            exact g_weak (show gm_Lle [some _, some _, some _, none, none, none, some _, none, none, none, none, some _] _ from ⟨rfl, ⟨rfl, ⟨rfl, ⟨rfl, ⟨rfl, trivial⟩⟩⟩⟩⟩) H
          · have H := H.2 hc
            refine g_iconst rfl rfl rfl (pc' := 729) ?_
            exact g_ireturn rfl (Or.inl rfl) H
    · have H := H.2 hc
      refine g_iconst rfl rfl rfl (pc' := 691) ?_
      exact g_ireturn rfl (Or.inl rfl) H
  · have H := H.2 hc
    refine g_aload (r := some _) rfl rfl rfl (pc' := 585) ?_
    refine t_get (o := 88) rfl hT rfl rfl rfl (pc' := 588) rfl ?_
    refine g_iload rfl rfl rfl (pc' := 590) ?_
    obtain ⟨n6, hn6, H⟩ := H
    refine t_zaload hT (o := 88) (l := 8) rfl rfl rfl hn6 (pc' := 591) rfl ?_
    refine g_if_eq rfl (pc' := 594) (pt := 678) rfl rfl ⟨fun hc => ?_, fun hc => ?_⟩
    · have H := H.1 hc
      exact g_weak (show gm_Lle [some _, some _, some _, none, none, some _, some _, none, some _, none, none, some _, none, some _, some _, some _] _ from ⟨rfl, ⟨rfl, ⟨rfl, ⟨rfl, ⟨rfl, ⟨rfl, ⟨rfl, ⟨rfl, ⟨rfl, ⟨rfl, trivial⟩⟩⟩⟩⟩⟩⟩⟩⟩⟩) H
    · have H := H.2 hc
      refine g_aload (r := some _) rfl rfl rfl (pc' := 595) ?_
      refine t_get (o := 90) rfl hT rfl rfl rfl (pc' := 598) rfl ?_
      refine g_iload rfl rfl rfl (pc' := 600) ?_
      obtain ⟨n7, hn7, H⟩ := H
      refine t_iaload hT (o := 90) (l := 8) rfl rfl rfl hn7 (pc' := 601) rfl ?_
      refine g_iload rfl rfl rfl (pc' := 602) ?_
      refine g_ic_ne rfl (pc' := 605) (pt := 678) rfl rfl ⟨fun hc => ?_, fun hc => ?_⟩
      · have H := H.1 hc
        exact g_weak (show gm_Lle [some _, some _, some _, none, none, some _, some _, none, some _, none, none, some _, none, some _, some _, some _] _ from ⟨rfl, ⟨rfl, ⟨rfl, ⟨rfl, ⟨rfl, ⟨rfl, ⟨rfl, ⟨rfl, ⟨rfl, ⟨rfl, trivial⟩⟩⟩⟩⟩⟩⟩⟩⟩⟩) H
      · have H := H.2 hc
        refine g_aload (r := some _) rfl rfl rfl (pc' := 606) ?_
        refine t_get (o := 91) rfl hT rfl rfl rfl (pc' := 609) rfl ?_
        refine g_iload rfl rfl rfl (pc' := 611) ?_
        obtain ⟨n8, hn8, H⟩ := H
        refine t_iaload hT (o := 91) (l := 8) rfl rfl rfl hn8 (pc' := 612) rfl ?_
        refine g_iload rfl rfl rfl (pc' := 614) ?_
        refine g_ic_ne rfl (pc' := 617) (pt := 678) rfl rfl ⟨fun hc => ?_, fun hc => ?_⟩
        · have H := H.1 hc
          exact g_weak (show gm_Lle [some _, some _, some _, none, none, some _, some _, none, some _, none, none, some _, none, some _, some _, some _] _ from ⟨rfl, ⟨rfl, ⟨rfl, ⟨rfl, ⟨rfl, ⟨rfl, ⟨rfl, ⟨rfl, ⟨rfl, ⟨rfl, trivial⟩⟩⟩⟩⟩⟩⟩⟩⟩⟩) H
        · have H := H.2 hc
          refine g_aload (r := some _) rfl rfl rfl (pc' := 618) ?_
          refine t_get (o := 94) rfl hT rfl rfl rfl (pc' := 621) rfl ?_
          refine g_iload rfl rfl rfl (pc' := 623) ?_
          obtain ⟨n9, hn9, H⟩ := H
          refine t_iaload hT (o := 94) (l := 8) rfl rfl rfl hn9 (pc' := 624) rfl ?_
          refine g_if_eq rfl (pc' := 627) (pt := 678) rfl rfl ⟨fun hc => ?_, fun hc => ?_⟩
          · have H := H.1 hc
            exact g_weak (show gm_Lle [some _, some _, some _, none, none, some _, some _, none, some _, none, none, some _, none, some _, some _, some _] _ from ⟨rfl, ⟨rfl, ⟨rfl, ⟨rfl, ⟨rfl, ⟨rfl, ⟨rfl, ⟨rfl, ⟨rfl, ⟨rfl, trivial⟩⟩⟩⟩⟩⟩⟩⟩⟩⟩) H
          · have H := H.2 hc
            refine g_aload (r := some _) rfl rfl rfl (pc' := 628) ?_
            refine t_get (o := 94) rfl hT rfl rfl rfl (pc' := 631) rfl ?_
            refine g_iload rfl rfl rfl (pc' := 633) ?_
            obtain ⟨n10, hn10, H⟩ := H
            refine t_iaload hT (o := 94) (l := 8) rfl rfl rfl hn10 (pc' := 634) rfl ?_
            refine g_iconst rfl rfl rfl (pc' := 635) ?_
            refine g_ic_ne rfl (pc' := 638) (pt := 646) rfl rfl ⟨fun hc => ?_, fun hc => ?_⟩
            · have H := H.1 hc
              exact g_weak (show gm_Lle [some _, some _, some _, none, none, some _, some _, none, some _, none, none, some _, none, some _, none, some _] _ from ⟨rfl, ⟨rfl, ⟨rfl, ⟨rfl, ⟨rfl, ⟨rfl, ⟨rfl, ⟨rfl, ⟨rfl, trivial⟩⟩⟩⟩⟩⟩⟩⟩⟩) H
            · have H := H.2 hc
              refine g_iload rfl rfl rfl (pc' := 640) ?_
              refine g_if_ne rfl (pc' := 643) (pt := 646) rfl rfl ⟨fun hc => ?_, fun hc => ?_⟩
              · have H := H.1 hc
                exact g_weak (show gm_Lle [some _, some _, some _, none, none, some _, some _, none, some _, none, none, some _, none, some _, none, some _] _ from ⟨rfl, ⟨rfl, ⟨rfl, ⟨rfl, ⟨rfl, ⟨rfl, ⟨rfl, ⟨rfl, ⟨rfl, trivial⟩⟩⟩⟩⟩⟩⟩⟩⟩) H
              · have H := H.2 hc
                refine g_goto rfl (pc' := 678) rfl ?_
                exact g_weak (show gm_Lle [some _, some _, some _, none, none, some _, some _, none, some _, none, none, some _, none, some _, some _, some _] _ from ⟨rfl, ⟨rfl, ⟨rfl, ⟨rfl, ⟨rfl, ⟨rfl, ⟨rfl, ⟨rfl, ⟨rfl, ⟨rfl, trivial⟩⟩⟩⟩⟩⟩⟩⟩⟩⟩) H
theorem w_542_646 {m : Nat} {x1 : Int32} {x2 : Int32} {x5 : Int32} {x6 : Int32} {x8 : Int32} {x11 : Int32} {x13 : Int32} {x15 : Int32} {h : hh_T} {Q : Option Value ⊕ Nat → hh_T → Prop} (hT : tw_ok h m) (H : ∃ n1, gm_ix x15 n1 8 ∧ ((¬ (hh_i h (m + 89) n1) = Int32.ofNat 0 → (gm_G 542 678 [some (.ref m), some (.int x1), some (.int x2), none, none, some (.int x5), some (.int x6), none, some (.int x8), none, none, some (.int x11), none, some (.int x13), some (.int (Int32.ofNat 1)), some (.int x15)] [] h Q)) ∧ ((hh_i h (m + 89) n1) = Int32.ofNat 0 → (∃ n2, gm_ix x15 n2 8 ∧ (∀ h3, h3 = hh_wi h (m + 89) n2 (Int32.ofNat 1) → (∃ n4, gm_ix x15 n4 8 ∧ (∀ h5, h5 = hh_wi h3 (m + 95) n4 (hh_i h3 m 4) → (gm_G 542 678 [some (.ref m), some (.int x1), some (.int x2), none, none, some (.int x5), some (.int x6), none, some (.int x8), none, none, some (.int x11), none, some (.int x13), some (.int (Int32.ofNat 1)), some (.int x15)] [] h5 Q)))))))) : gm_G 542 646 [some (.ref m), some (.int x1), some (.int x2), none, none, some (.int x5), some (.int x6), none, some (.int x8), none, none, some (.int x11), none, some (.int x13), none, some (.int x15)] [] h Q := by
  refine g_iconst rfl rfl rfl (pc' := 647) ?_
  refine g_istore rfl rfl rfl (pc' := 649) ?_
  refine g_aload (r := some _) rfl rfl rfl (pc' := 650) ?_
  refine t_get (o := 89) rfl hT rfl rfl rfl (pc' := 653) rfl ?_
  refine g_iload rfl rfl rfl (pc' := 655) ?_
  obtain ⟨n1, hn1, H⟩ := H
  refine t_zaload hT (o := 89) (l := 8) rfl rfl rfl hn1 (pc' := 656) rfl ?_
  refine g_if_ne rfl (pc' := 659) (pt := 678) rfl rfl ⟨fun hc => ?_, fun hc => ?_⟩
  · have H := H.1 hc
    exact g_weak (show gm_Lle [some _, some _, some _, none, none, some _, some _, none, some _, none, none, some _, none, some _, some _, some _] _ from ⟨rfl, ⟨rfl, ⟨rfl, ⟨rfl, ⟨rfl, ⟨rfl, ⟨rfl, ⟨rfl, ⟨rfl, ⟨rfl, trivial⟩⟩⟩⟩⟩⟩⟩⟩⟩⟩) H
  · have H := H.2 hc
    refine g_aload (r := some _) rfl rfl rfl (pc' := 660) ?_
    refine t_get (o := 89) rfl hT rfl rfl rfl (pc' := 663) rfl ?_
    refine g_iload rfl rfl rfl (pc' := 665) ?_
    refine g_iconst rfl rfl rfl (pc' := 666) ?_
    obtain ⟨n2, hn2, H⟩ := H
    refine t_zastore hT (o := 89) (l := 8) rfl rfl rfl hn2 (by decide) (pc' := 667) rfl (fun hT => ?_)
    have H := H _ rfl
    refine g_aload (r := some _) rfl rfl rfl (pc' := 668) ?_
    refine t_get (o := 95) rfl hT rfl rfl rfl (pc' := 671) rfl ?_
    refine g_iload rfl rfl rfl (pc' := 673) ?_
    refine g_aload (r := some _) rfl rfl rfl (pc' := 674) ?_
    refine t_getI rfl hT rfl rfl (pc' := 677) rfl ?_
    obtain ⟨n4, hn4, H⟩ := H
    refine t_iastore hT (o := 95) (l := 8) rfl rfl rfl hn4  (pc' := 678) rfl (fun hT => ?_)
    have H := H _ rfl
    exact g_weak (show gm_Lle [some _, some _, some _, none, none, some _, some _, none, some _, none, none, some _, none, some _, some _, some _] _ from ⟨rfl, ⟨rfl, ⟨rfl, ⟨rfl, ⟨rfl, ⟨rfl, ⟨rfl, ⟨rfl, ⟨rfl, ⟨rfl, trivial⟩⟩⟩⟩⟩⟩⟩⟩⟩⟩) H
theorem w_542_678 {m : Nat} {x1 : Int32} {x2 : Int32} {x5 : Int32} {x6 : Int32} {x8 : Int32} {x11 : Int32} {x13 : Int32} {x14 : Int32} {x15 : Int32} {h : hh_T} {Q : Option Value ⊕ Nat → hh_T → Prop} (hT : tw_ok h m) (H : gm_G 542 577 [some (.ref m), some (.int x1), some (.int x2), none, none, some (.int x5), some (.int x6), none, some (.int x8), none, none, some (.int x11), none, some (.int x13), some (.int x14), some (.int (x15 + (Int32.ofNat 1)))] [] h Q) : gm_G 542 678 [some (.ref m), some (.int x1), some (.int x2), none, none, some (.int x5), some (.int x6), none, some (.int x8), none, none, some (.int x11), none, some (.int x13), some (.int x14), some (.int x15)] [] h Q := by
  refine g_iinc (c := (Int32.ofNat 1)) rfl rfl rfl rfl rfl (pc' := 681) ?_
  refine g_goto rfl (pc' := 577) rfl ?_
  exact g_weak (show gm_Lle [some _, some _, some _, none, none, some _, some _, none, some _, none, none, some _, none, some _, some _, some _] _ from ⟨rfl, ⟨rfl, ⟨rfl, ⟨rfl, ⟨rfl, ⟨rfl, ⟨rfl, ⟨rfl, ⟨rfl, ⟨rfl, trivial⟩⟩⟩⟩⟩⟩⟩⟩⟩⟩) H
theorem w_542_730 {m : Nat} {x1 : Int32} {x2 : Int32} {x6 : Int32} {x11 : Int32} {h : hh_T} {Q : Option Value ⊕ Nat → hh_T → Prop} (hT : tw_ok h m) (H : ∃ n1, gm_ix x6 n1 8 ∧ (∀ h2, h2 = hh_wi h (m + 88) n1 (Int32.ofNat 1) → (∃ n3, gm_ix x6 n3 8 ∧ (∀ h4, h4 = hh_wi h2 (m + 90) n3 x1 → (∃ n5, gm_ix x6 n5 8 ∧ (∀ h6, h6 = hh_wi h4 (m + 91) n5 x11 → (∃ n7, gm_ix x6 n7 8 ∧ (∀ h8, h8 = hh_wi h6 (m + 92) n7 x2 → (∃ n9, gm_ix x6 n9 8 ∧ (∀ h10, h10 = hh_wi h8 (m + 93) n9 (Int32.ofNat 0) → (∃ n11, gm_ix x6 n11 8 ∧ (∀ h12, h12 = hh_wi h10 (m + 94) n11 (Int32.ofNat 0) → (∃ n13, gm_ix x6 n13 8 ∧ (∀ h14, h14 = hh_wi h12 (m + 89) n13 (Int32.ofNat 0) → (gm_G 542 795 [some (.ref m), none, none, none, none, none, some (.int x6), none, none, none, none, none, none, some (.int ((Int32.ofNat 1001) * x6))] [] h14 Q))))))))))))))) : gm_G 542 730 [some (.ref m), some (.int x1), some (.int x2), none, none, none, some (.int x6), none, none, none, none, some (.int x11)] [] h Q := by
  refine g_aload (r := some _) rfl rfl rfl (pc' := 731) ?_
  refine t_get (o := 88) rfl hT rfl rfl rfl (pc' := 734) rfl ?_
  refine g_iload rfl rfl rfl (pc' := 736) ?_
  refine g_iconst rfl rfl rfl (pc' := 737) ?_
  obtain ⟨n1, hn1, H⟩ := H
  refine t_zastore hT (o := 88) (l := 8) rfl rfl rfl hn1 (by decide) (pc' := 738) rfl (fun hT => ?_)
  have H := H _ rfl
  refine g_aload (r := some _) rfl rfl rfl (pc' := 739) ?_
  refine t_get (o := 90) rfl hT rfl rfl rfl (pc' := 742) rfl ?_
  refine g_iload rfl rfl rfl (pc' := 744) ?_
  refine g_iload rfl rfl rfl (pc' := 745) ?_
  obtain ⟨n3, hn3, H⟩ := H
  refine t_iastore hT (o := 90) (l := 8) rfl rfl rfl hn3  (pc' := 746) rfl (fun hT => ?_)
  have H := H _ rfl
  refine g_aload (r := some _) rfl rfl rfl (pc' := 747) ?_
  refine t_get (o := 91) rfl hT rfl rfl rfl (pc' := 750) rfl ?_
  refine g_iload rfl rfl rfl (pc' := 752) ?_
  refine g_iload rfl rfl rfl (pc' := 754) ?_
  obtain ⟨n5, hn5, H⟩ := H
  refine t_iastore hT (o := 91) (l := 8) rfl rfl rfl hn5  (pc' := 755) rfl (fun hT => ?_)
  have H := H _ rfl
  refine g_aload (r := some _) rfl rfl rfl (pc' := 756) ?_
  refine t_get (o := 92) rfl hT rfl rfl rfl (pc' := 759) rfl ?_
  refine g_iload rfl rfl rfl (pc' := 761) ?_
  refine g_iload rfl rfl rfl (pc' := 762) ?_
  obtain ⟨n7, hn7, H⟩ := H
  refine t_iastore hT (o := 92) (l := 8) rfl rfl rfl hn7  (pc' := 763) rfl (fun hT => ?_)
  have H := H _ rfl
  refine g_aload (r := some _) rfl rfl rfl (pc' := 764) ?_
  refine t_get (o := 93) rfl hT rfl rfl rfl (pc' := 767) rfl ?_
  refine g_iload rfl rfl rfl (pc' := 769) ?_
  refine g_iconst rfl rfl rfl (pc' := 770) ?_
  obtain ⟨n9, hn9, H⟩ := H
  refine t_iastore hT (o := 93) (l := 8) rfl rfl rfl hn9  (pc' := 771) rfl (fun hT => ?_)
  have H := H _ rfl
  refine g_aload (r := some _) rfl rfl rfl (pc' := 772) ?_
  refine t_get (o := 94) rfl hT rfl rfl rfl (pc' := 775) rfl ?_
  refine g_iload rfl rfl rfl (pc' := 777) ?_
  refine g_iconst rfl rfl rfl (pc' := 778) ?_
  obtain ⟨n11, hn11, H⟩ := H
  refine t_iastore hT (o := 94) (l := 8) rfl rfl rfl hn11  (pc' := 779) rfl (fun hT => ?_)
  have H := H _ rfl
  refine g_aload (r := some _) rfl rfl rfl (pc' := 780) ?_
  refine t_get (o := 89) rfl hT rfl rfl rfl (pc' := 783) rfl ?_
  refine g_iload rfl rfl rfl (pc' := 785) ?_
  refine g_iconst rfl rfl rfl (pc' := 786) ?_
  obtain ⟨n13, hn13, H⟩ := H
  refine t_zastore hT (o := 89) (l := 8) rfl rfl rfl hn13 (by decide) (pc' := 787) rfl (fun hT => ?_)
  have H := H _ rfl
  refine g_iconst rfl rfl rfl (pc' := 790) ?_
  refine g_iload rfl rfl rfl (pc' := 792) ?_
  refine g_imul rfl rfl (pc' := 793) ?_
  refine g_istore rfl rfl rfl (pc' := 795) ?_
  exact g_weak (show gm_Lle [some _, none, none, none, none, none, some _, none, none, none, none, none, none, some _] _ from ⟨rfl, ⟨rfl, ⟨rfl, trivial⟩⟩⟩) H
theorem w_542_795 {m : Nat} {x6 : Int32} {x13 : Int32} {h : hh_T} {Q : Option Value ⊕ Nat → hh_T → Prop} (hT : tw_ok h m) (H : (¬ x13 < (((Int32.ofNat 1001) * x6) + (Int32.ofNat 1001)) → (Q (.inl (some (.int x6))) h)) ∧ (x13 < (((Int32.ofNat 1001) * x6) + (Int32.ofNat 1001)) → (∃ n1, gm_ix x13 n1 8008 ∧ (∀ h2, h2 = hh_wi h (m + 96) n1 ((Int32.ofNat 0).toInt8.toInt32) → (gm_G 542 795 [some (.ref m), none, none, none, none, none, some (.int x6), none, none, none, none, none, none, some (.int (x13 + (Int32.ofNat 1)))] [] h2 Q))))) : gm_G 542 795 [some (.ref m), none, none, none, none, none, some (.int x6), none, none, none, none, none, none, some (.int x13)] [] h Q := by
  refine g_iload rfl rfl rfl (pc' := 797) ?_
  refine g_iconst rfl rfl rfl (pc' := 800) ?_
  refine g_iload rfl rfl rfl (pc' := 802) ?_
  refine g_imul rfl rfl (pc' := 803) ?_
  refine g_iconst rfl rfl rfl (pc' := 806) ?_
  refine g_iadd rfl rfl (pc' := 807) ?_
  refine g_ic_ge rfl (pc' := 810) (pt := 824) rfl rfl ⟨fun hc => ?_, fun hc => ?_⟩
  · have H := H.1 hc
    refine g_iload rfl rfl rfl (pc' := 826) ?_
    exact g_ireturn rfl (Or.inl rfl) H
  · have H := H.2 hc
    refine g_aload (r := some _) rfl rfl rfl (pc' := 811) ?_
    refine t_get (o := 96) rfl hT rfl rfl rfl (pc' := 814) rfl ?_
    refine g_iload rfl rfl rfl (pc' := 816) ?_
    refine g_iconst rfl rfl rfl (pc' := 817) ?_
    obtain ⟨n1, hn1, H⟩ := H
    refine t_bastore hT (o := 96) (l := 8008) rfl rfl rfl hn1  (pc' := 818) rfl (fun hT => ?_)
    have H := H _ rfl
    refine g_iinc (c := (Int32.ofNat 1)) rfl rfl rfl rfl rfl (pc' := 821) ?_
    refine g_goto rfl (pc' := 795) rfl ?_
    exact g_weak (show gm_Lle [some _, none, none, none, none, none, some _, none, none, none, none, none, none, some _] _ from ⟨rfl, ⟨rfl, ⟨rfl, trivial⟩⟩⟩) H
theorem w_543_0 {m : Nat} {x1 : Int32} {x2 : Int32} {h : hh_T} {Q : Option Value ⊕ Nat → hh_T → Prop} (hT : tw_ok h m) (H : (¬ (hh_i h m 77) = Int32.ofNat 0 → (gm_G 138 0 [some (.int x1)] [] h (pI (fun v2 h1 => (¬ v2 = Int32.ofNat 0 → (Q (.inl (some (.int (Int32.ofInt (-1))))) h1)) ∧ (v2 = Int32.ofNat 0 → ((x2 < Int32.ofNat 0 → (Q (.inl (some (.int (Int32.ofInt (-1))))) h1)) ∧ (¬ x2 < Int32.ofNat 0 → ((¬ (Int32.ofNat 256) < x2 → (∃ n3, gm_ix x1 n3 8 ∧ ((¬ (hh_i h1 (m + 88) n3) = Int32.ofNat 0 → (∃ n4, gm_ix x1 n4 8 ∧ ((¬ ((hh_i h1 (m + 92) n4) &&& (Int32.ofNat 1)) = Int32.ofNat 0 → (∃ n5, gm_ix x1 n5 8 ∧ (gm_G 284 0 [some (.ref m), some (.int x1), some (.int (hh_i h1 (m + 93) n5)), some (.int ((hh_i h1 (m + 93) n5) + x2)), some (.int (Int32.ofNat 2))] [] h1 (pI (fun v7 h6 => (v7 = Int32.ofNat 0 → (gm_G 377 0 [some (.ref m), some (.int x1)] [] h6 (pI (fun v9 h8 => ∃ n10, gm_ix v9 n10 1536 ∧ ((¬ ((hh_i h1 (m + 93) n5) + x2) < (hh_i h8 (m + 45) n10) → (∃ n11, gm_ix v9 n11 1536 ∧ (gm_G 543 112 [some (.ref m), some (.int x1), none, some (.int (hh_i h1 (m + 93) n5)), some (.int v9)] [.int (hh_i h8 (m + 45) n11)] h8 Q))) ∧ (((hh_i h1 (m + 93) n5) + x2) < (hh_i h8 (m + 45) n10) → (gm_G 543 112 [some (.ref m), some (.int x1), none, some (.int (hh_i h1 (m + 93) n5)), some (.int v9)] [.int ((hh_i h1 (m + 93) n5) + x2)] h8 Q)))) (fun _ _ => False)))) ∧ (¬ v7 = Int32.ofNat 0 → (Q (.inl (some (.int (Int32.ofInt (-5))))) h6))) (fun _ _ => False))))) ∧ (((hh_i h1 (m + 92) n4) &&& (Int32.ofNat 1)) = Int32.ofNat 0 → (Q (.inl (some (.int (Int32.ofInt (-6))))) h1))))) ∧ ((hh_i h1 (m + 88) n3) = Int32.ofNat 0 → (Q (.inl (some (.int (Int32.ofInt (-2))))) h1))))) ∧ ((Int32.ofNat 256) < x2 → (Q (.inl (some (.int (Int32.ofInt (-1))))) h1))))))) (fun _ _ => False)))) ∧ ((hh_i h m 77) = Int32.ofNat 0 → (Q (.inl (some (.int (Int32.ofInt (-9))))) h))) : gm_G 543 0 [some (.ref m), some (.int x1), some (.int x2)] [] h Q := by
  refine g_aload (r := some _) rfl rfl rfl (pc' := 1) ?_
  refine t_getZ rfl hT rfl rfl (pc' := 4) rfl ?_
  refine g_if_ne rfl (pc' := 7) (pt := 10) rfl rfl ⟨fun hc => ?_, fun hc => ?_⟩
  · have H := H.1 hc
    refine g_iload rfl rfl rfl (pc' := 11) ?_
    refine t_call hT (y := 138) (n := 1) (pc' := 14) rfl rfl (fun _ => rfl) rfl rfl ⟨(Nat.le_of_ble_eq_true rfl), (Nat.le_of_ble_eq_true rfl), (Nat.le_of_ble_eq_true rfl)⟩ rfl H (tI_elim (fun v2 h1 H hT => ?_))
    show gm_G _ 14 _ _ _ _
    refine g_if_ne rfl (pc' := 17) (pt := 28) rfl rfl ⟨fun hc => ?_, fun hc => ?_⟩
    · have H := H.1 hc
      refine g_iconst rfl rfl rfl (pc' := 29) ?_
      exact g_ireturn rfl (Or.inl rfl) H
    · have H := H.2 hc
      refine g_iload rfl rfl rfl (pc' := 18) ?_
      refine g_if_lt rfl (pc' := 21) (pt := 28) rfl rfl ⟨fun hc => ?_, fun hc => ?_⟩
      · have H := H.1 hc
        refine g_iconst rfl rfl rfl (pc' := 29) ?_
        exact g_ireturn rfl (Or.inl rfl) H
      · have H := H.2 hc
        refine g_iload rfl rfl rfl (pc' := 22) ?_
        refine g_iconst rfl rfl rfl (pc' := 25) ?_
        refine g_ic_le rfl (pc' := 28) (pt := 30) rfl rfl ⟨fun hc => ?_, fun hc => ?_⟩
        · have H := H.1 hc
          refine g_aload (r := some _) rfl rfl rfl (pc' := 31) ?_
          refine t_get (o := 88) rfl hT rfl rfl rfl (pc' := 34) rfl ?_
          refine g_iload rfl rfl rfl (pc' := 35) ?_
          obtain ⟨n3, hn3, H⟩ := H
          refine t_zaload hT (o := 88) (l := 8) rfl rfl rfl hn3 (pc' := 36) rfl ?_
          refine g_if_ne rfl (pc' := 39) (pt := 42) rfl rfl ⟨fun hc => ?_, fun hc => ?_⟩
          · have H := H.1 hc
            refine g_aload (r := some _) rfl rfl rfl (pc' := 43) ?_
            refine t_get (o := 92) rfl hT rfl rfl rfl (pc' := 46) rfl ?_
            refine g_iload rfl rfl rfl (pc' := 47) ?_
            obtain ⟨n4, hn4, H⟩ := H
            refine t_iaload hT (o := 92) (l := 8) rfl rfl rfl hn4 (pc' := 48) rfl ?_
            refine g_iconst rfl rfl rfl (pc' := 49) ?_
            refine g_iand rfl rfl (pc' := 50) ?_
            refine g_if_ne rfl (pc' := 53) (pt := 56) rfl rfl ⟨fun hc => ?_, fun hc => ?_⟩
            · have H := H.1 hc
              refine g_aload (r := some _) rfl rfl rfl (pc' := 57) ?_
              refine t_get (o := 93) rfl hT rfl rfl rfl (pc' := 60) rfl ?_
              refine g_iload rfl rfl rfl (pc' := 61) ?_
              obtain ⟨n5, hn5, H⟩ := H
              refine t_iaload hT (o := 93) (l := 8) rfl rfl rfl hn5 (pc' := 62) rfl ?_
              refine g_istore rfl rfl rfl (pc' := 63) ?_
              refine g_aload (r := some _) rfl rfl rfl (pc' := 64) ?_
              refine g_iload rfl rfl rfl (pc' := 65) ?_
              refine g_iload rfl rfl rfl (pc' := 66) ?_
              refine g_iload rfl rfl rfl (pc' := 67) ?_
              refine g_iload rfl rfl rfl (pc' := 68) ?_
              refine g_iadd rfl rfl (pc' := 69) ?_
              refine g_iconst rfl rfl rfl (pc' := 70) ?_
              refine t_call hT (y := 284) (n := 5) (pc' := 73) rfl rfl (t_vt hT rfl rfl) rfl rfl ⟨(Nat.le_of_ble_eq_true rfl), (Nat.le_of_ble_eq_true rfl), (Nat.le_of_ble_eq_true rfl)⟩ rfl H (tI_elim (fun v7 h6 H hT => ?_))
              show gm_G _ 73 _ _ _ _
              refine g_if_eq rfl (pc' := 76) (pt := 79) rfl rfl ⟨fun hc => ?_, fun hc => ?_⟩
              · have H := H.1 hc
                refine g_aload (r := some _) rfl rfl rfl (pc' := 80) ?_
                refine g_iload rfl rfl rfl (pc' := 81) ?_
                refine t_call hT (y := 377) (n := 2) (pc' := 84) rfl rfl (t_vt hT rfl rfl) rfl rfl ⟨(Nat.le_of_ble_eq_true rfl), (Nat.le_of_ble_eq_true rfl), (Nat.le_of_ble_eq_true rfl)⟩ rfl H (tI_elim (fun v9 h8 H hT => ?_))
                show gm_G _ 84 _ _ _ _
                refine g_istore rfl rfl rfl (pc' := 86) ?_
                refine g_iload rfl rfl rfl (pc' := 87) ?_
                refine g_iload rfl rfl rfl (pc' := 88) ?_
                refine g_iadd rfl rfl (pc' := 89) ?_
                refine g_aload (r := some _) rfl rfl rfl (pc' := 90) ?_
                refine t_get (o := 45) rfl hT rfl rfl rfl (pc' := 93) rfl ?_
                refine g_iload rfl rfl rfl (pc' := 95) ?_
                obtain ⟨n10, hn10, H⟩ := H
                refine t_iaload hT (o := 45) (l := 1536) rfl rfl rfl hn10 (pc' := 96) rfl ?_
                refine g_ic_ge rfl (pc' := 99) (pt := 105) rfl rfl ⟨fun hc => ?_, fun hc => ?_⟩
                · have H := H.1 hc
                  refine g_aload (r := some _) rfl rfl rfl (pc' := 106) ?_
                  refine t_get (o := 45) rfl hT rfl rfl rfl (pc' := 109) rfl ?_
                  refine g_iload rfl rfl rfl (pc' := 111) ?_
                  obtain ⟨n11, hn11, H⟩ := H
                  refine t_iaload hT (o := 45) (l := 1536) rfl rfl rfl hn11 (pc' := 112) rfl ?_
                  exact g_weak (show gm_Lle [some _, some _, none, some _, some _] _ from ⟨rfl, ⟨rfl, ⟨rfl, ⟨rfl, trivial⟩⟩⟩⟩) H
                · have H := H.2 hc
                  refine g_iload rfl rfl rfl (pc' := 100) ?_
                  refine g_iload rfl rfl rfl (pc' := 101) ?_
                  refine g_iadd rfl rfl (pc' := 102) ?_
                  refine g_goto rfl (pc' := 112) rfl ?_
                  exact g_weak (show gm_Lle [some _, some _, none, some _, some _] _ from ⟨rfl, ⟨rfl, ⟨rfl, ⟨rfl, trivial⟩⟩⟩⟩) H
              · have H := H.2 hc
                refine g_iconst rfl rfl rfl (pc' := 78) ?_
                exact g_ireturn rfl (Or.inl rfl) H
            · have H := H.2 hc
              refine g_iconst rfl rfl rfl (pc' := 55) ?_
              exact g_ireturn rfl (Or.inl rfl) H
          · have H := H.2 hc
            refine g_iconst rfl rfl rfl (pc' := 41) ?_
            exact g_ireturn rfl (Or.inl rfl) H
        · have H := H.2 hc
          refine g_iconst rfl rfl rfl (pc' := 29) ?_
          exact g_ireturn rfl (Or.inl rfl) H
  · have H := H.2 hc
    refine g_iconst rfl rfl rfl (pc' := 9) ?_
    exact g_ireturn rfl (Or.inl rfl) H
theorem w_543_112 {m : Nat} {x1 : Int32} {x3 : Int32} {x4 : Int32} {y0 : Int32} {h : hh_T} {Q : Option Value ⊕ Nat → hh_T → Prop} (hT : tw_ok h m) (H : (x3 < y0 → (gm_G 520 0 [some (.ref m), some (.int x4), some (.int x3), some (.int y0)] [] h (pI (fun v2 h1 => (¬ v2 < Int32.ofNat 0 → (gm_G 543 149 [some (.ref m), some (.int x1), none, some (.int x3), none, some (.int y0), none, some (.int x3)] [] h1 Q)) ∧ (v2 < Int32.ofNat 0 → (Q (.inl (some (.int v2))) h1))) (fun _ _ => False)))) ∧ (¬ x3 < y0 → (∀ h3, h3 = hh_wi h m 3 (Int32.ofNat 0) → (Q (.inl (some (.int (Int32.ofNat 0)))) h3)))) : gm_G 543 112 [some (.ref m), some (.int x1), none, some (.int x3), some (.int x4)] [.int y0] h Q := by
  refine g_istore rfl rfl rfl (pc' := 114) ?_
  refine g_iload rfl rfl rfl (pc' := 116) ?_
  refine g_iload rfl rfl rfl (pc' := 117) ?_
  refine g_ic_gt rfl (pc' := 120) (pt := 127) rfl rfl ⟨fun hc => ?_, fun hc => ?_⟩
  · have H := H.1 hc
    refine g_aload (r := some _) rfl rfl rfl (pc' := 128) ?_
    refine g_iload rfl rfl rfl (pc' := 130) ?_
    refine g_iload rfl rfl rfl (pc' := 131) ?_
    refine g_iload rfl rfl rfl (pc' := 133) ?_
    refine t_call hT (y := 520) (n := 4) (pc' := 136) rfl rfl (t_vt hT rfl rfl) rfl rfl ⟨(Nat.le_of_ble_eq_true rfl), (Nat.le_of_ble_eq_true rfl), (Nat.le_of_ble_eq_true rfl)⟩ rfl H (tI_elim (fun v2 h1 H hT => ?_))
    show gm_G _ 136 _ _ _ _
    refine g_istore rfl rfl rfl (pc' := 138) ?_
    refine g_iload rfl rfl rfl (pc' := 140) ?_
    refine g_if_ge rfl (pc' := 143) (pt := 146) rfl rfl ⟨fun hc => ?_, fun hc => ?_⟩
    · have H := H.1 hc
      refine g_iload rfl rfl rfl (pc' := 147) ?_
      refine g_istore rfl rfl rfl (pc' := 149) ?_
      exact g_weak (show gm_Lle [some _, some _, none, some _, none, some _, none, some _] _ from ⟨rfl, ⟨rfl, ⟨rfl, ⟨rfl, ⟨rfl, trivial⟩⟩⟩⟩⟩) H
    · have H := H.2 hc
      refine g_iload rfl rfl rfl (pc' := 145) ?_
      exact g_ireturn rfl (Or.inl rfl) H
  · have H := H.2 hc
    refine g_aload (r := some _) rfl rfl rfl (pc' := 121) ?_
    refine g_iconst rfl rfl rfl (pc' := 122) ?_
    refine t_putI rfl hT rfl rfl  (pc' := 125) rfl (fun hT => ?_)
    have H := H _ rfl
    refine g_iconst rfl rfl rfl (pc' := 126) ?_
    exact g_ireturn rfl (Or.inl rfl) H
theorem w_543_149 {m : Nat} {x1 : Int32} {x3 : Int32} {x5 : Int32} {x7 : Int32} {h : hh_T} {Q : Option Value ⊕ Nat → hh_T → Prop} (hT : tw_ok h m) (H : (¬ x7 < x5 → (∀ h1, h1 = hh_wi h m 3 (x5 - x3) → (∃ n2, gm_ix x1 n2 8 ∧ (∀ h3, h3 = hh_wi h1 (m + 93) n2 x5 → (Q (.inl (some (.int (x5 - x3)))) h3))))) ∧ (x7 < x5 → (∃ n4, gm_ix x7 n4 544 ∧ (∃ n5, gm_ix (x7 - x3) n5 512 ∧ (∀ h6, h6 = hh_wi h (m + 2) n5 ((hh_i h (m + 103) n4).toInt8.toInt32) → (gm_G 543 149 [some (.ref m), some (.int x1), none, some (.int x3), none, some (.int x5), none, some (.int (x7 + (Int32.ofNat 1)))] [] h6 Q)))))) : gm_G 543 149 [some (.ref m), some (.int x1), none, some (.int x3), none, some (.int x5), none, some (.int x7)] [] h Q := by
  refine g_iload rfl rfl rfl (pc' := 151) ?_
  refine g_iload rfl rfl rfl (pc' := 153) ?_
  refine g_ic_ge rfl (pc' := 156) (pt := 178) rfl rfl ⟨fun hc => ?_, fun hc => ?_⟩
  · have H := H.1 hc
    refine g_aload (r := some _) rfl rfl rfl (pc' := 179) ?_
    refine g_iload rfl rfl rfl (pc' := 181) ?_
    refine g_iload rfl rfl rfl (pc' := 182) ?_
    refine g_isub rfl rfl (pc' := 183) ?_
    refine t_putI rfl hT rfl rfl  (pc' := 186) rfl (fun hT => ?_)
    have H := H _ rfl
    refine g_aload (r := some _) rfl rfl rfl (pc' := 187) ?_
    refine t_get (o := 93) rfl hT rfl rfl rfl (pc' := 190) rfl ?_
    refine g_iload rfl rfl rfl (pc' := 191) ?_
    refine g_iload rfl rfl rfl (pc' := 193) ?_
    obtain ⟨n2, hn2, H⟩ := H
    refine t_iastore hT (o := 93) (l := 8) rfl rfl rfl hn2  (pc' := 194) rfl (fun hT => ?_)
    have H := H _ rfl
    refine g_iload rfl rfl rfl (pc' := 196) ?_
    refine g_iload rfl rfl rfl (pc' := 197) ?_
    refine g_isub rfl rfl (pc' := 198) ?_
    exact g_ireturn rfl (Or.inl rfl) H
  · have H := H.2 hc
    refine g_aload (r := some _) rfl rfl rfl (pc' := 157) ?_
    refine t_get (o := 2) rfl hT rfl rfl rfl (pc' := 160) rfl ?_
    refine g_iload rfl rfl rfl (pc' := 162) ?_
    refine g_iload rfl rfl rfl (pc' := 163) ?_
    refine g_isub rfl rfl (pc' := 164) ?_
    refine g_aload (r := some _) rfl rfl rfl (pc' := 165) ?_
    refine t_get (o := 103) rfl hT rfl rfl rfl (pc' := 168) rfl ?_
    refine g_iload rfl rfl rfl (pc' := 170) ?_
    obtain ⟨n4, hn4, H⟩ := H
    refine t_baload hT (o := 103) (l := 544) rfl rfl rfl hn4 (pc' := 171) rfl ?_
    obtain ⟨n5, hn5, H⟩ := H
    refine t_bastore hT (o := 2) (l := 512) rfl rfl rfl hn5  (pc' := 172) rfl (fun hT => ?_)
    have H := H _ rfl
    refine g_iinc (c := (Int32.ofNat 1)) rfl rfl rfl rfl rfl (pc' := 175) ?_
    refine g_goto rfl (pc' := 149) rfl ?_
    exact g_weak (show gm_Lle [some _, some _, none, some _, none, some _, none, some _] _ from ⟨rfl, ⟨rfl, ⟨rfl, ⟨rfl, ⟨rfl, trivial⟩⟩⟩⟩⟩) H
theorem w_544_0 {m : Nat} {x1 : Int32} {x2 : Int32} {x3 : Int32} {h : hh_T} {Q : Option Value ⊕ Nat → hh_T → Prop} (hT : tw_ok h m) (H : (¬ (hh_i h m 77) = Int32.ofNat 0 → ((x1 < Int32.ofNat 0 → (Q (.inl (some (.int (Int32.ofInt (-1))))) h)) ∧ (¬ x1 < Int32.ofNat 0 → ((¬ (Int32.ofNat 1) < x1 → ((¬ x2 = (Int32.ofInt (-1)) → (gm_G 153 0 [some (.ref m), some (.int x2)] [] h (pI (fun v2 h1 => gm_G 544 35 [some (.ref m), some (.int x1), some (.int x2), some (.int x3)] [.int v2] h1 Q) (fun _ _ => False)))) ∧ (x2 = (Int32.ofInt (-1)) → (gm_G 544 35 [some (.ref m), some (.int x1), some (.int x2), some (.int x3)] [.int (Int32.ofInt (-1))] h Q)))) ∧ ((Int32.ofNat 1) < x1 → (Q (.inl (some (.int (Int32.ofInt (-1))))) h)))))) ∧ ((hh_i h m 77) = Int32.ofNat 0 → (Q (.inl (some (.int (Int32.ofInt (-9))))) h))) : gm_G 544 0 [some (.ref m), some (.int x1), some (.int x2), some (.int x3)] [] h Q := by
  refine g_aload (r := some _) rfl rfl rfl (pc' := 1) ?_
  refine t_getZ rfl hT rfl rfl (pc' := 4) rfl ?_
  refine g_if_ne rfl (pc' := 7) (pt := 10) rfl rfl ⟨fun hc => ?_, fun hc => ?_⟩
  · have H := H.1 hc
    refine g_iload rfl rfl rfl (pc' := 11) ?_
    refine g_if_lt rfl (pc' := 14) (pt := 19) rfl rfl ⟨fun hc => ?_, fun hc => ?_⟩
    · have H := H.1 hc
      refine g_iconst rfl rfl rfl (pc' := 20) ?_
      exact g_ireturn rfl (Or.inl rfl) H
    · have H := H.2 hc
      refine g_iload rfl rfl rfl (pc' := 15) ?_
      refine g_iconst rfl rfl rfl (pc' := 16) ?_
      refine g_ic_le rfl (pc' := 19) (pt := 21) rfl rfl ⟨fun hc => ?_, fun hc => ?_⟩
      · have H := H.1 hc
        refine g_iload rfl rfl rfl (pc' := 22) ?_
        refine g_iconst rfl rfl rfl (pc' := 23) ?_
        refine g_ic_ne rfl (pc' := 26) (pt := 30) rfl rfl ⟨fun hc => ?_, fun hc => ?_⟩
        · have H := H.1 hc
          refine g_aload (r := some _) rfl rfl rfl (pc' := 31) ?_
          refine g_iload rfl rfl rfl (pc' := 32) ?_
          refine t_call hT (y := 153) (n := 2) (pc' := 35) rfl rfl (t_vt hT rfl rfl) rfl rfl ⟨(Nat.le_of_ble_eq_true rfl), (Nat.le_of_ble_eq_true rfl), (Nat.le_of_ble_eq_true rfl)⟩ rfl H (tI_elim (fun v2 h1 H hT => ?_))
          show gm_G _ 35 _ _ _ _
          exact g_weak (show gm_Lle [some _, some _, some _, some _] _ from ⟨rfl, ⟨rfl, ⟨rfl, ⟨rfl, trivial⟩⟩⟩⟩) H
        · have H := H.2 hc
          refine g_iconst rfl rfl rfl (pc' := 27) ?_
          refine g_goto rfl (pc' := 35) rfl ?_
          exact g_weak (show gm_Lle [some _, some _, some _, some _] _ from ⟨rfl, ⟨rfl, ⟨rfl, ⟨rfl, trivial⟩⟩⟩⟩) H
      · have H := H.2 hc
        refine g_iconst rfl rfl rfl (pc' := 20) ?_
        exact g_ireturn rfl (Or.inl rfl) H
  · have H := H.2 hc
    refine g_iconst rfl rfl rfl (pc' := 9) ?_
    exact g_ireturn rfl (Or.inl rfl) H
theorem w_544_35 {m : Nat} {x1 : Int32} {x2 : Int32} {x3 : Int32} {y0 : Int32} {h : hh_T} {Q : Option Value ⊕ Nat → hh_T → Prop} (hT : tw_ok h m) (H : (x2 = (Int32.ofInt (-1)) → (gm_G 544 50 [some (.ref m), some (.int x1), none, some (.int x3), some (.int y0)] [] h Q)) ∧ (¬ x2 = (Int32.ofInt (-1)) → ((¬ y0 < Int32.ofNat 0 → (gm_G 544 50 [some (.ref m), some (.int x1), none, some (.int x3), some (.int y0)] [] h Q)) ∧ (y0 < Int32.ofNat 0 → (Q (.inl (some (.int (Int32.ofInt (-2))))) h))))) : gm_G 544 35 [some (.ref m), some (.int x1), some (.int x2), some (.int x3)] [.int y0] h Q := by
  refine g_istore rfl rfl rfl (pc' := 37) ?_
  refine g_iload rfl rfl rfl (pc' := 38) ?_
  refine g_iconst rfl rfl rfl (pc' := 39) ?_
  refine g_ic_eq rfl (pc' := 42) (pt := 50) rfl rfl ⟨fun hc => ?_, fun hc => ?_⟩
  · have H := H.1 hc
    exact g_weak (show gm_Lle [some _, some _, none, some _, some _] _ from ⟨rfl, ⟨rfl, ⟨rfl, ⟨rfl, trivial⟩⟩⟩⟩) H
  · have H := H.2 hc
    refine g_iload rfl rfl rfl (pc' := 44) ?_
    refine g_if_ge rfl (pc' := 47) (pt := 50) rfl rfl ⟨fun hc => ?_, fun hc => ?_⟩
    · have H := H.1 hc
      exact g_weak (show gm_Lle [some _, some _, none, some _, some _] _ from ⟨rfl, ⟨rfl, ⟨rfl, ⟨rfl, trivial⟩⟩⟩⟩) H
    · have H := H.2 hc
      refine g_iconst rfl rfl rfl (pc' := 49) ?_
      exact g_ireturn rfl (Or.inl rfl) H
theorem w_544_50 {m : Nat} {x1 : Int32} {x3 : Int32} {x4 : Int32} {h : hh_T} {Q : Option Value ⊕ Nat → hh_T → Prop} (hT : tw_ok h m) (H : gm_G 153 0 [some (.ref m), some (.int x3)] [] h (pI (fun v2 h1 => (¬ v2 < Int32.ofNat 0 → ((x4 < Int32.ofNat 0 → (gm_G 544 107 [some (.ref m), some (.int x1), none, none, some (.int x4), some (.int v2)] [] h1 Q)) ∧ (¬ x4 < Int32.ofNat 0 → (∃ n3, gm_ix x4 n3 48 ∧ (∃ n4, gm_ix v2 n4 48 ∧ ((¬ (hh_i h1 (m + 70) n3) = (hh_i h1 (m + 70) n4) → (Q (.inl (some (.int (Int32.ofInt (-10))))) h1)) ∧ ((hh_i h1 (m + 70) n3) = (hh_i h1 (m + 70) n4) → (∃ n5, gm_ix x4 n5 48 ∧ (∃ n6, gm_ix v2 n6 48 ∧ (((hh_i h1 (m + 71) n5) < (hh_i h1 (m + 71) n6) → (gm_G 544 107 [some (.ref m), some (.int x1), none, none, some (.int x4), some (.int v2)] [] h1 Q)) ∧ (¬ (hh_i h1 (m + 71) n5) < (hh_i h1 (m + 71) n6) → (Q (.inl (some (.int (Int32.ofInt (-10))))) h1)))))))))))) ∧ (v2 < Int32.ofNat 0 → (Q (.inl (some (.int (Int32.ofInt (-2))))) h1))) (fun _ _ => False))) : gm_G 544 50 [some (.ref m), some (.int x1), none, some (.int x3), some (.int x4)] [] h Q := by
  refine g_aload (r := some _) rfl rfl rfl (pc' := 51) ?_
  refine g_iload rfl rfl rfl (pc' := 52) ?_
  refine t_call hT (y := 153) (n := 2) (pc' := 55) rfl rfl (t_vt hT rfl rfl) rfl rfl ⟨(Nat.le_of_ble_eq_true rfl), (Nat.le_of_ble_eq_true rfl), (Nat.le_of_ble_eq_true rfl)⟩ rfl H (tI_elim (fun v2 h1 H hT => ?_))
  show gm_G _ 55 _ _ _ _
  refine g_istore rfl rfl rfl (pc' := 57) ?_
  refine g_iload rfl rfl rfl (pc' := 59) ?_
  refine g_if_ge rfl (pc' := 62) (pt := 65) rfl rfl ⟨fun hc => ?_, fun hc => ?_⟩
  · have H := H.1 hc
    refine g_iload rfl rfl rfl (pc' := 67) ?_
    refine g_if_lt rfl (pc' := 70) (pt := 107) rfl rfl ⟨fun hc => ?_, fun hc => ?_⟩
    · have H := H.1 hc
      exact g_weak (show gm_Lle [some _, some _, none, none, some _, some _] _ from ⟨rfl, ⟨rfl, ⟨rfl, ⟨rfl, trivial⟩⟩⟩⟩) H
    · have H := H.2 hc
      refine g_aload (r := some _) rfl rfl rfl (pc' := 71) ?_
      refine t_get (o := 70) rfl hT rfl rfl rfl (pc' := 74) rfl ?_
      refine g_iload rfl rfl rfl (pc' := 76) ?_
      obtain ⟨n3, hn3, H⟩ := H
      refine t_iaload hT (o := 70) (l := 48) rfl rfl rfl hn3 (pc' := 77) rfl ?_
      refine g_aload (r := some _) rfl rfl rfl (pc' := 78) ?_
      refine t_get (o := 70) rfl hT rfl rfl rfl (pc' := 81) rfl ?_
      refine g_iload rfl rfl rfl (pc' := 83) ?_
      obtain ⟨n4, hn4, H⟩ := H
      refine t_iaload hT (o := 70) (l := 48) rfl rfl rfl hn4 (pc' := 84) rfl ?_
      refine g_ic_ne rfl (pc' := 87) (pt := 104) rfl rfl ⟨fun hc => ?_, fun hc => ?_⟩
      · have H := H.1 hc
        refine g_iconst rfl rfl rfl (pc' := 106) ?_
        exact g_ireturn rfl (Or.inl rfl) H
      · have H := H.2 hc
        refine g_aload (r := some _) rfl rfl rfl (pc' := 88) ?_
        refine t_get (o := 71) rfl hT rfl rfl rfl (pc' := 91) rfl ?_
        refine g_iload rfl rfl rfl (pc' := 93) ?_
        obtain ⟨n5, hn5, H⟩ := H
        refine t_iaload hT (o := 71) (l := 48) rfl rfl rfl hn5 (pc' := 94) rfl ?_
        refine g_aload (r := some _) rfl rfl rfl (pc' := 95) ?_
        refine t_get (o := 71) rfl hT rfl rfl rfl (pc' := 98) rfl ?_
        refine g_iload rfl rfl rfl (pc' := 100) ?_
        obtain ⟨n6, hn6, H⟩ := H
        refine t_iaload hT (o := 71) (l := 48) rfl rfl rfl hn6 (pc' := 101) rfl ?_
        refine g_ic_lt rfl (pc' := 104) (pt := 107) rfl rfl ⟨fun hc => ?_, fun hc => ?_⟩
        · have H := H.1 hc
          exact g_weak (show gm_Lle [some _, some _, none, none, some _, some _] _ from ⟨rfl, ⟨rfl, ⟨rfl, ⟨rfl, trivial⟩⟩⟩⟩) H
        · have H := H.2 hc
          refine g_iconst rfl rfl rfl (pc' := 106) ?_
          exact g_ireturn rfl (Or.inl rfl) H
  · have H := H.2 hc
    refine g_iconst rfl rfl rfl (pc' := 64) ?_
    exact g_ireturn rfl (Or.inl rfl) H
theorem w_544_107 {m : Nat} {x1 : Int32} {x4 : Int32} {x5 : Int32} {h : hh_T} {Q : Option Value ⊕ Nat → hh_T → Prop} (hT : tw_ok h m) (H : ∃ n1, gm_ix x5 n1 48 ∧ ((¬ x4 < Int32.ofNat 0 → (∃ n2, gm_ix x4 n2 48 ∧ (gm_G 544 132 [some (.ref m), some (.int x1), none, none, some (.int x4), some (.int x5), some (.int (hh_i h (m + 74) n1))] [.int (hh_i h (m + 74) n2)] h Q))) ∧ (x4 < Int32.ofNat 0 → (gm_G 544 132 [some (.ref m), some (.int x1), none, none, some (.int x4), some (.int x5), some (.int (hh_i h (m + 74) n1))] [.int (Int32.ofInt (-1))] h Q)))) : gm_G 544 107 [some (.ref m), some (.int x1), none, none, some (.int x4), some (.int x5)] [] h Q := by
  refine g_aload (r := some _) rfl rfl rfl (pc' := 108) ?_
  refine t_get (o := 74) rfl hT rfl rfl rfl (pc' := 111) rfl ?_
  refine g_iload rfl rfl rfl (pc' := 113) ?_
  obtain ⟨n1, hn1, H⟩ := H
  refine t_iaload hT (o := 74) (l := 48) rfl rfl rfl hn1 (pc' := 114) rfl ?_
  refine g_istore rfl rfl rfl (pc' := 116) ?_
  refine g_iload rfl rfl rfl (pc' := 118) ?_
  refine g_if_ge rfl (pc' := 121) (pt := 125) rfl rfl ⟨fun hc => ?_, fun hc => ?_⟩
  · have H := H.1 hc
    refine g_aload (r := some _) rfl rfl rfl (pc' := 126) ?_
    refine t_get (o := 74) rfl hT rfl rfl rfl (pc' := 129) rfl ?_
    refine g_iload rfl rfl rfl (pc' := 131) ?_
    obtain ⟨n2, hn2, H⟩ := H
    refine t_iaload hT (o := 74) (l := 48) rfl rfl rfl hn2 (pc' := 132) rfl ?_
    exact g_weak (show gm_Lle [some _, some _, none, none, some _, some _, some _] _ from ⟨rfl, ⟨rfl, ⟨rfl, ⟨rfl, ⟨rfl, trivial⟩⟩⟩⟩⟩) H
  · have H := H.2 hc
    refine g_iconst rfl rfl rfl (pc' := 122) ?_
    refine g_goto rfl (pc' := 132) rfl ?_
    exact g_weak (show gm_Lle [some _, some _, none, none, some _, some _, some _] _ from ⟨rfl, ⟨rfl, ⟨rfl, ⟨rfl, ⟨rfl, trivial⟩⟩⟩⟩⟩) H
theorem w_544_132 {m : Nat} {x1 : Int32} {x4 : Int32} {x5 : Int32} {x6 : Int32} {y0 : Int32} {h : hh_T} {Q : Option Value ⊕ Nat → hh_T → Prop} (hT : tw_ok h m) (H : gm_G 379 0 [some (.ref m), some (.int x5), some (.int x4)] [] h (pV (fun h1 => gm_G 517 0 [some (.ref m), some (.int y0), some (.int x6), some (.int (Int32.ofNat 0)), some (.int (Int32.ofNat 0))] [] h1 (pI (fun v3 h2 => (¬ (Int32.ofNat 6000) < ((hh_i h2 m 146) + (Int32.ofNat 8)) → (gm_G 379 0 [some (.ref m), some (.int x5), some (.int x4)] [] h2 (pV (fun h4 => gm_G 517 0 [some (.ref m), some (.int y0), some (.int x6), some (.int (Int32.ofNat 0)), some (.int (Int32.ofNat 1))] [] h4 (pI (fun v6 h5 => (¬ v6 < Int32.ofNat 0 → (gm_G 159 0 [some (.ref (m + 114)), some (.int (Int32.ofNat 0)), some (.int (hh_i h5 m 146))] [] h5 (pL (fun v8 h7 => gm_G 298 0 [some (.ref m), some (.long v8), none, some (.int (Int32.ofNat 8))] [] h7 (pV (fun h9 => gm_G 544 219 [some (.ref m), some (.int x1), none, none, none, none, none, none, none, some (.int (Int32.ofNat 0))] [] h9 Q) (fun _ _ => False))) (fun _ _ => False)))) ∧ (v6 < Int32.ofNat 0 → (Q (.inl (some (.int v6))) h5))) (fun _ _ => False))) (fun _ _ => False)))) ∧ ((Int32.ofNat 6000) < ((hh_i h2 m 146) + (Int32.ofNat 8)) → (Q (.inl (some (.int (Int32.ofInt (-3))))) h2))) (fun _ _ => False))) (fun _ _ => False))) : gm_G 544 132 [some (.ref m), some (.int x1), none, none, some (.int x4), some (.int x5), some (.int x6)] [.int y0] h Q := by
  refine g_istore rfl rfl rfl (pc' := 134) ?_
  refine g_aload (r := some _) rfl rfl rfl (pc' := 135) ?_
  refine g_iload rfl rfl rfl (pc' := 137) ?_
  refine g_iload rfl rfl rfl (pc' := 139) ?_
  refine t_call hT (y := 379) (n := 3) (pc' := 142) rfl rfl (t_vt hT rfl rfl) rfl rfl ⟨(Nat.le_of_ble_eq_true rfl), (Nat.le_of_ble_eq_true rfl), (Nat.le_of_ble_eq_true rfl)⟩ rfl H (tV_elim (fun h1 H hT => ?_))
  show gm_G _ 142 _ _ _ _
  refine g_aload (r := some _) rfl rfl rfl (pc' := 143) ?_
  refine g_iload rfl rfl rfl (pc' := 145) ?_
  refine g_iload rfl rfl rfl (pc' := 147) ?_
  refine g_iconst rfl rfl rfl (pc' := 148) ?_
  refine g_iconst rfl rfl rfl (pc' := 149) ?_
  refine t_call hT (y := 517) (n := 5) (pc' := 152) rfl rfl (t_vt hT rfl rfl) rfl rfl ⟨(Nat.le_of_ble_eq_true rfl), (Nat.le_of_ble_eq_true rfl), (Nat.le_of_ble_eq_true rfl)⟩ rfl H (tI_elim (fun v3 h2 H hT => ?_))
  show gm_G _ 152 _ _ _ _
  refine g_istore rfl rfl rfl (pc' := 154) ?_
  refine g_aload (r := some _) rfl rfl rfl (pc' := 155) ?_
  refine t_getI rfl hT rfl rfl (pc' := 158) rfl ?_
  refine g_iconst rfl rfl rfl (pc' := 160) ?_
  refine g_iadd rfl rfl (pc' := 161) ?_
  refine g_iconst rfl rfl rfl (pc' := 164) ?_
  refine g_ic_le rfl (pc' := 167) (pt := 170) rfl rfl ⟨fun hc => ?_, fun hc => ?_⟩
  · have H := H.1 hc
    refine g_aload (r := some _) rfl rfl rfl (pc' := 171) ?_
    refine g_iload rfl rfl rfl (pc' := 173) ?_
    refine g_iload rfl rfl rfl (pc' := 175) ?_
    refine t_call hT (y := 379) (n := 3) (pc' := 178) rfl rfl (t_vt hT rfl rfl) rfl rfl ⟨(Nat.le_of_ble_eq_true rfl), (Nat.le_of_ble_eq_true rfl), (Nat.le_of_ble_eq_true rfl)⟩ rfl H (tV_elim (fun h4 H hT => ?_))
    show gm_G _ 178 _ _ _ _
    refine g_aload (r := some _) rfl rfl rfl (pc' := 179) ?_
    refine g_iload rfl rfl rfl (pc' := 181) ?_
    refine g_iload rfl rfl rfl (pc' := 183) ?_
    refine g_iconst rfl rfl rfl (pc' := 184) ?_
    refine g_iconst rfl rfl rfl (pc' := 185) ?_
    refine t_call hT (y := 517) (n := 5) (pc' := 188) rfl rfl (t_vt hT rfl rfl) rfl rfl ⟨(Nat.le_of_ble_eq_true rfl), (Nat.le_of_ble_eq_true rfl), (Nat.le_of_ble_eq_true rfl)⟩ rfl H (tI_elim (fun v6 h5 H hT => ?_))
    show gm_G _ 188 _ _ _ _
    refine g_istore rfl rfl rfl (pc' := 190) ?_
    refine g_iload rfl rfl rfl (pc' := 192) ?_
    refine g_if_ge rfl (pc' := 195) (pt := 198) rfl rfl ⟨fun hc => ?_, fun hc => ?_⟩
    · have H := H.1 hc
      refine g_aload (r := some _) rfl rfl rfl (pc' := 199) ?_
      refine g_aload (r := some _) rfl rfl rfl (pc' := 200) ?_
      refine t_get (o := 114) rfl hT rfl rfl rfl (pc' := 203) rfl ?_
      refine g_iconst rfl rfl rfl (pc' := 204) ?_
      refine g_aload (r := some _) rfl rfl rfl (pc' := 205) ?_
      refine t_getI rfl hT rfl rfl (pc' := 208) rfl ?_
      refine t_call hT (y := 159) (n := 3) (pc' := 211) rfl rfl (fun _ => rfl) rfl rfl ⟨(Nat.le_of_ble_eq_true rfl), (Nat.le_of_ble_eq_true rfl), (Nat.le_of_ble_eq_true rfl)⟩ rfl H (tL_elim (fun v8 h7 H hT => ?_))
      show gm_G _ 211 _ _ _ _
      refine g_iconst rfl rfl rfl (pc' := 213) ?_
      refine t_call hT (y := 298) (n := 3) (pc' := 216) rfl rfl (t_vt hT rfl rfl) rfl rfl ⟨(Nat.le_of_ble_eq_true rfl), (Nat.le_of_ble_eq_true rfl), (Nat.le_of_ble_eq_true rfl)⟩ rfl H (tV_elim (fun h9 H hT => ?_))
      show gm_G _ 216 _ _ _ _
      refine g_iconst rfl rfl rfl (pc' := 217) ?_
      refine g_istore rfl rfl rfl (pc' := 219) ?_
      exact g_weak (show gm_Lle [some _, some _, none, none, none, none, none, none, none, some _] _ from ⟨rfl, ⟨rfl, ⟨rfl, trivial⟩⟩⟩) H
    · have H := H.2 hc
      refine g_iload rfl rfl rfl (pc' := 197) ?_
      exact g_ireturn rfl (Or.inl rfl) H
  · have H := H.2 hc
    refine g_iconst rfl rfl rfl (pc' := 169) ?_
    exact g_ireturn rfl (Or.inl rfl) H
theorem w_544_219 {m : Nat} {x1 : Int32} {x9 : Int32} {h : hh_T} {Q : Option Value ⊕ Nat → hh_T → Prop} (hT : tw_ok h m) (H : (¬ x9 < (hh_i h m 146) → (∃ n1, gm_ix x1 n1 2 ∧ (∀ h2, h2 = hh_wi h (m + 115) n1 (hh_i h m 146) → (Q (.inl (some (.int (hh_i h2 m 146)))) h2)))) ∧ (x9 < (hh_i h m 146) → (∃ n3, gm_ix x9 n3 6400 ∧ (∃ n4, gm_ix (((Int32.ofNat 6100) * x1) + x9) n4 12200 ∧ (∀ h5, h5 = hh_wi h (m + 112) n4 ((hh_i h (m + 114) n3).toInt8.toInt32) → (∃ n6, gm_ix x9 n6 6400 ∧ (∃ n7, gm_ix (((Int32.ofNat 6100) * x1) + x9) n7 12200 ∧ (∀ h8, h8 = hh_wi h5 (m + 113) n7 ((hh_i h5 (m + 114) n6).toInt8.toInt32) → (gm_G 544 219 [some (.ref m), some (.int x1), none, none, none, none, none, none, none, some (.int (x9 + (Int32.ofNat 1)))] [] h8 Q))))))))) : gm_G 544 219 [some (.ref m), some (.int x1), none, none, none, none, none, none, none, some (.int x9)] [] h Q := by
  refine g_iload rfl rfl rfl (pc' := 221) ?_
  refine g_aload (r := some _) rfl rfl rfl (pc' := 222) ?_
  refine t_getI rfl hT rfl rfl (pc' := 225) rfl ?_
  refine g_ic_ge rfl (pc' := 228) (pt := 274) rfl rfl ⟨fun hc => ?_, fun hc => ?_⟩
  · have H := H.1 hc
    refine g_aload (r := some _) rfl rfl rfl (pc' := 275) ?_
    refine t_get (o := 115) rfl hT rfl rfl rfl (pc' := 278) rfl ?_
    refine g_iload rfl rfl rfl (pc' := 279) ?_
    refine g_aload (r := some _) rfl rfl rfl (pc' := 280) ?_
    refine t_getI rfl hT rfl rfl (pc' := 283) rfl ?_
    obtain ⟨n1, hn1, H⟩ := H
    refine t_iastore hT (o := 115) (l := 2) rfl rfl rfl hn1  (pc' := 284) rfl (fun hT => ?_)
    have H := H _ rfl
    refine g_aload (r := some _) rfl rfl rfl (pc' := 285) ?_
    refine t_getI rfl hT rfl rfl (pc' := 288) rfl ?_
    exact g_ireturn rfl (Or.inl rfl) H
  · have H := H.2 hc
    refine g_aload (r := some _) rfl rfl rfl (pc' := 229) ?_
    refine t_get (o := 112) rfl hT rfl rfl rfl (pc' := 232) rfl ?_
    refine g_iconst rfl rfl rfl (pc' := 235) ?_
    refine g_iload rfl rfl rfl (pc' := 236) ?_
    refine g_imul rfl rfl (pc' := 237) ?_
    refine g_iload rfl rfl rfl (pc' := 239) ?_
    refine g_iadd rfl rfl (pc' := 240) ?_
    refine g_aload (r := some _) rfl rfl rfl (pc' := 241) ?_
    refine t_get (o := 114) rfl hT rfl rfl rfl (pc' := 244) rfl ?_
    refine g_iload rfl rfl rfl (pc' := 246) ?_
    obtain ⟨n3, hn3, H⟩ := H
    refine t_baload hT (o := 114) (l := 6400) rfl rfl rfl hn3 (pc' := 247) rfl ?_
    obtain ⟨n4, hn4, H⟩ := H
    refine t_bastore hT (o := 112) (l := 12200) rfl rfl rfl hn4  (pc' := 248) rfl (fun hT => ?_)
    have H := H _ rfl
    refine g_aload (r := some _) rfl rfl rfl (pc' := 249) ?_
    refine t_get (o := 113) rfl hT rfl rfl rfl (pc' := 252) rfl ?_
    refine g_iconst rfl rfl rfl (pc' := 255) ?_
    refine g_iload rfl rfl rfl (pc' := 256) ?_
    refine g_imul rfl rfl (pc' := 257) ?_
    refine g_iload rfl rfl rfl (pc' := 259) ?_
    refine g_iadd rfl rfl (pc' := 260) ?_
    refine g_aload (r := some _) rfl rfl rfl (pc' := 261) ?_
    refine t_get (o := 114) rfl hT rfl rfl rfl (pc' := 264) rfl ?_
    refine g_iload rfl rfl rfl (pc' := 266) ?_
    obtain ⟨n6, hn6, H⟩ := H
    refine t_baload hT (o := 114) (l := 6400) rfl rfl rfl hn6 (pc' := 267) rfl ?_
    obtain ⟨n7, hn7, H⟩ := H
    refine t_bastore hT (o := 113) (l := 12200) rfl rfl rfl hn7  (pc' := 268) rfl (fun hT => ?_)
    have H := H _ rfl
    refine g_iinc (c := (Int32.ofNat 1)) rfl rfl rfl rfl rfl (pc' := 271) ?_
    refine g_goto rfl (pc' := 219) rfl ?_
    exact g_weak (show gm_Lle [some _, some _, none, none, none, none, none, none, none, some _] _ from ⟨rfl, ⟨rfl, ⟨rfl, trivial⟩⟩⟩) H
theorem w_545_0 {m : Nat} {x1 : Int32} {h : hh_T} {Q : Option Value ⊕ Nat → hh_T → Prop} (hT : tw_ok h m) (H : (¬ ((hh_i h (m + 1) 1) &&& (Int32.ofNat 255)) = (Int32.ofNat 1) → ((((hh_i h (m + 1) 1) &&& (Int32.ofNat 255)) < (Int32.ofNat 1) → (Q (.inl (some (.int (Int32.ofInt (-11))))) h)) ∧ (¬ ((hh_i h (m + 1) 1) &&& (Int32.ofNat 255)) < (Int32.ofNat 1) → (((Int32.ofNat 8) < ((hh_i h (m + 1) 1) &&& (Int32.ofNat 255)) → (Q (.inl (some (.int (Int32.ofInt (-11))))) h)) ∧ (¬ (Int32.ofNat 8) < ((hh_i h (m + 1) 1) &&& (Int32.ofNat 255)) → ((¬ x1 < (Int32.ofNat 6) → ((¬ ((hh_i h (m + 1) 1) &&& (Int32.ofNat 255)) = (Int32.ofNat 5) → (gm_G 545 122 [some (.ref m), some (.int x1), some (.int ((hh_i h (m + 1) 1) &&& (Int32.ofNat 255)))] [.int (Int32.ofNat 6)] h Q)) ∧ (((hh_i h (m + 1) 1) &&& (Int32.ofNat 255)) = (Int32.ofNat 5) → (gm_G 545 122 [some (.ref m), some (.int x1), some (.int ((hh_i h (m + 1) 1) &&& (Int32.ofNat 255)))] [.int (Int32.ofNat 7)] h Q)))) ∧ (x1 < (Int32.ofNat 6) → (Q (.inl (some (.int (Int32.ofInt (-11))))) h)))))))) ∧ (((hh_i h (m + 1) 1) &&& (Int32.ofNat 255)) = (Int32.ofNat 1) → ((x1 = (Int32.ofNat 3) → ((¬ (Int32.ofNat 127) < ((hh_i h (m + 1) 2) &&& (Int32.ofNat 255)) → (gm_G 152 0 [some (.ref m), some (.int ((hh_i h (m + 1) 2) &&& (Int32.ofNat 255)))] [] h (pI (fun v2 h1 => gm_G 545 50 [some (.ref m), none, none, some (.int ((hh_i h (m + 1) 2) &&& (Int32.ofNat 255)))] [.int v2] h1 Q) (fun _ _ => False)))) ∧ ((Int32.ofNat 127) < ((hh_i h (m + 1) 2) &&& (Int32.ofNat 255)) → (gm_G 545 50 [some (.ref m), none, none, some (.int ((hh_i h (m + 1) 2) &&& (Int32.ofNat 255)))] [.int (Int32.ofInt (-1))] h Q)))) ∧ (¬ x1 = (Int32.ofNat 3) → (Q (.inl (some (.int (Int32.ofInt (-11))))) h))))) : gm_G 545 0 [some (.ref m), some (.int x1)] [] h Q := by
  refine g_aload (r := some _) rfl rfl rfl (pc' := 1) ?_
  refine t_get (o := 1) rfl hT rfl rfl rfl (pc' := 4) rfl ?_
  refine g_iconst rfl rfl rfl (pc' := 5) ?_
  refine t_baload hT (o := 1) (l := 320) rfl rfl rfl ⟨rfl, by decide, by decide⟩ (pc' := 6) rfl ?_
  refine g_iconst rfl rfl rfl (pc' := 9) ?_
  refine g_iand rfl rfl (pc' := 10) ?_
  refine g_istore rfl rfl rfl (pc' := 11) ?_
  refine g_iload rfl rfl rfl (pc' := 12) ?_
  refine g_iconst rfl rfl rfl (pc' := 13) ?_
  refine g_ic_ne rfl (pc' := 16) (pt := 90) rfl rfl ⟨fun hc => ?_, fun hc => ?_⟩
  · have H := H.1 hc
    refine g_iload rfl rfl rfl (pc' := 91) ?_
    refine g_iconst rfl rfl rfl (pc' := 92) ?_
    refine g_ic_lt rfl (pc' := 95) (pt := 107) rfl rfl ⟨fun hc => ?_, fun hc => ?_⟩
    · have H := H.1 hc
      refine g_iconst rfl rfl rfl (pc' := 109) ?_
      exact g_ireturn rfl (Or.inl rfl) H
    · have H := H.2 hc
      refine g_iload rfl rfl rfl (pc' := 96) ?_
      refine g_iconst rfl rfl rfl (pc' := 98) ?_
      refine g_ic_gt rfl (pc' := 101) (pt := 107) rfl rfl ⟨fun hc => ?_, fun hc => ?_⟩
      · have H := H.1 hc
        refine g_iconst rfl rfl rfl (pc' := 109) ?_
        exact g_ireturn rfl (Or.inl rfl) H
      · have H := H.2 hc
        refine g_iload rfl rfl rfl (pc' := 102) ?_
        refine g_iconst rfl rfl rfl (pc' := 104) ?_
        refine g_ic_ge rfl (pc' := 107) (pt := 110) rfl rfl ⟨fun hc => ?_, fun hc => ?_⟩
        · have H := H.1 hc
          refine g_iload rfl rfl rfl (pc' := 111) ?_
          refine g_iconst rfl rfl rfl (pc' := 112) ?_
          refine g_ic_ne rfl (pc' := 115) (pt := 120) rfl rfl ⟨fun hc => ?_, fun hc => ?_⟩
          · have H := H.1 hc
            refine g_iconst rfl rfl rfl (pc' := 122) ?_
            exact g_weak (show gm_Lle [some _, some _, some _] _ from ⟨rfl, ⟨rfl, ⟨rfl, trivial⟩⟩⟩) H
          · have H := H.2 hc
            refine g_iconst rfl rfl rfl (pc' := 117) ?_
            refine g_goto rfl (pc' := 122) rfl ?_
            exact g_weak (show gm_Lle [some _, some _, some _] _ from ⟨rfl, ⟨rfl, ⟨rfl, trivial⟩⟩⟩) H
        · have H := H.2 hc
          refine g_iconst rfl rfl rfl (pc' := 109) ?_
          exact g_ireturn rfl (Or.inl rfl) H
  · have H := H.2 hc
    refine g_iload rfl rfl rfl (pc' := 17) ?_
    refine g_iconst rfl rfl rfl (pc' := 18) ?_
    refine g_ic_eq rfl (pc' := 21) (pt := 24) rfl rfl ⟨fun hc => ?_, fun hc => ?_⟩
    · have H := H.1 hc
      refine g_aload (r := some _) rfl rfl rfl (pc' := 25) ?_
      refine t_get (o := 1) rfl hT rfl rfl rfl (pc' := 28) rfl ?_
      refine g_iconst rfl rfl rfl (pc' := 29) ?_
      refine t_baload hT (o := 1) (l := 320) rfl rfl rfl ⟨rfl, by decide, by decide⟩ (pc' := 30) rfl ?_
      refine g_iconst rfl rfl rfl (pc' := 33) ?_
      refine g_iand rfl rfl (pc' := 34) ?_
      refine g_istore rfl rfl rfl (pc' := 35) ?_
      refine g_iload rfl rfl rfl (pc' := 36) ?_
      refine g_iconst rfl rfl rfl (pc' := 38) ?_
      refine g_ic_le rfl (pc' := 41) (pt := 45) rfl rfl ⟨fun hc => ?_, fun hc => ?_⟩
      · have H := H.1 hc
        refine g_aload (r := some _) rfl rfl rfl (pc' := 46) ?_
        refine g_iload rfl rfl rfl (pc' := 47) ?_
        refine t_call hT (y := 152) (n := 2) (pc' := 50) rfl rfl (t_vt hT rfl rfl) rfl rfl ⟨(Nat.le_of_ble_eq_true rfl), (Nat.le_of_ble_eq_true rfl), (Nat.le_of_ble_eq_true rfl)⟩ rfl H (tI_elim (fun v2 h1 H hT => ?_))
        show gm_G _ 50 _ _ _ _
        exact g_weak (show gm_Lle [some _, none, none, some _] _ from ⟨rfl, ⟨rfl, trivial⟩⟩) H
      · have H := H.2 hc
        refine g_iconst rfl rfl rfl (pc' := 42) ?_
        refine g_goto rfl (pc' := 50) rfl ?_
        exact g_weak (show gm_Lle [some _, none, none, some _] _ from ⟨rfl, ⟨rfl, trivial⟩⟩) H
    · have H := H.2 hc
      refine g_iconst rfl rfl rfl (pc' := 23) ?_
      exact g_ireturn rfl (Or.inl rfl) H
theorem w_545_50 {m : Nat} {x3 : Int32} {y0 : Int32} {h : hh_T} {Q : Option Value ⊕ Nat → hh_T → Prop} (hT : tw_ok h m) (H : (¬ y0 < Int32.ofNat 0 → (∃ n1, gm_ix y0 n1 32 ∧ ((¬ Int32.ofNat 0 < (hh_i h (m + 61) n1) → (∃ n2, gm_ix y0 n2 32 ∧ (gm_G 269 0 [some (.ref m), some (.int ((Int32.ofNat 2) * x3)), some (.int (hh_i h (m + 63) n2)), some (.int (Int32.ofNat 0))] [] h (pV (fun h3 => Q (.inl (some (.int (Int32.ofNat 0)))) h3) (fun _ _ => False))))) ∧ (Int32.ofNat 0 < (hh_i h (m + 61) n1) → (Q (.inl (some (.int (Int32.ofInt (-10))))) h))))) ∧ (y0 < Int32.ofNat 0 → (Q (.inl (some (.int (Int32.ofInt (-2))))) h))) : gm_G 545 50 [some (.ref m), none, none, some (.int x3)] [.int y0] h Q := by
  refine g_istore rfl rfl rfl (pc' := 52) ?_
  refine g_iload rfl rfl rfl (pc' := 54) ?_
  refine g_if_ge rfl (pc' := 57) (pt := 60) rfl rfl ⟨fun hc => ?_, fun hc => ?_⟩
  · have H := H.1 hc
    refine g_aload (r := some _) rfl rfl rfl (pc' := 61) ?_
    refine t_get (o := 61) rfl hT rfl rfl rfl (pc' := 64) rfl ?_
    refine g_iload rfl rfl rfl (pc' := 66) ?_
    obtain ⟨n1, hn1, H⟩ := H
    refine t_iaload hT (o := 61) (l := 32) rfl rfl rfl hn1 (pc' := 67) rfl ?_
    refine g_if_le rfl (pc' := 70) (pt := 73) rfl rfl ⟨fun hc => ?_, fun hc => ?_⟩
    · have H := H.1 hc
      refine g_aload (r := some _) rfl rfl rfl (pc' := 74) ?_
      refine g_iconst rfl rfl rfl (pc' := 75) ?_
      refine g_iload rfl rfl rfl (pc' := 76) ?_
      refine g_imul rfl rfl (pc' := 77) ?_
      refine g_aload (r := some _) rfl rfl rfl (pc' := 78) ?_
      refine t_get (o := 63) rfl hT rfl rfl rfl (pc' := 81) rfl ?_
      refine g_iload rfl rfl rfl (pc' := 83) ?_
      obtain ⟨n2, hn2, H⟩ := H
      refine t_iaload hT (o := 63) (l := 32) rfl rfl rfl hn2 (pc' := 84) rfl ?_
      refine g_iconst rfl rfl rfl (pc' := 85) ?_
      refine t_call hT (y := 269) (n := 4) (pc' := 88) rfl rfl (t_vt hT rfl rfl) rfl rfl ⟨(Nat.le_of_ble_eq_true rfl), (Nat.le_of_ble_eq_true rfl), (Nat.le_of_ble_eq_true rfl)⟩ rfl H (tV_elim (fun h3 H hT => ?_))
      show gm_G _ 88 _ _ _ _
      refine g_iconst rfl rfl rfl (pc' := 89) ?_
      exact g_ireturn rfl (Or.inl rfl) H
    · have H := H.2 hc
      refine g_iconst rfl rfl rfl (pc' := 72) ?_
      exact g_ireturn rfl (Or.inl rfl) H
  · have H := H.2 hc
    refine g_iconst rfl rfl rfl (pc' := 59) ?_
    exact g_ireturn rfl (Or.inl rfl) H
theorem w_545_122 {m : Nat} {x1 : Int32} {x2 : Int32} {y0 : Int32} {h : hh_T} {Q : Option Value ⊕ Nat → hh_T → Prop} (hT : tw_ok h m) (H : (x2 = (Int32.ofNat 2) → (gm_G 545 139 [some (.ref m), some (.int x1), some (.int x2), some (.int y0)] [] h Q)) ∧ (¬ x2 = (Int32.ofNat 2) → ((x2 = (Int32.ofNat 5) → (gm_G 545 139 [some (.ref m), some (.int x1), some (.int x2), some (.int y0)] [] h Q)) ∧ (¬ x2 = (Int32.ofNat 5) → ((¬ x2 = (Int32.ofNat 6) → (gm_G 545 144 [some (.ref m), some (.int x1), some (.int x2), some (.int y0)] [.int (Int32.ofNat 0)] h Q)) ∧ (x2 = (Int32.ofNat 6) → (gm_G 545 139 [some (.ref m), some (.int x1), some (.int x2), some (.int y0)] [] h Q))))))) : gm_G 545 122 [some (.ref m), some (.int x1), some (.int x2)] [.int y0] h Q := by
  refine g_istore rfl rfl rfl (pc' := 123) ?_
  refine g_iload rfl rfl rfl (pc' := 124) ?_
  refine g_iconst rfl rfl rfl (pc' := 125) ?_
  refine g_ic_eq rfl (pc' := 128) (pt := 139) rfl rfl ⟨fun hc => ?_, fun hc => ?_⟩
  · have H := H.1 hc
    exact g_weak (show gm_Lle [some _, some _, some _, some _] _ from ⟨rfl, ⟨rfl, ⟨rfl, ⟨rfl, trivial⟩⟩⟩⟩) H
  · have H := H.2 hc
    refine g_iload rfl rfl rfl (pc' := 129) ?_
    refine g_iconst rfl rfl rfl (pc' := 130) ?_
    refine g_ic_eq rfl (pc' := 133) (pt := 139) rfl rfl ⟨fun hc => ?_, fun hc => ?_⟩
    · have H := H.1 hc
      exact g_weak (show gm_Lle [some _, some _, some _, some _] _ from ⟨rfl, ⟨rfl, ⟨rfl, ⟨rfl, trivial⟩⟩⟩⟩) H
    · have H := H.2 hc
      refine g_iload rfl rfl rfl (pc' := 134) ?_
      refine g_iconst rfl rfl rfl (pc' := 136) ?_
      refine g_ic_ne rfl (pc' := 139) (pt := 143) rfl rfl ⟨fun hc => ?_, fun hc => ?_⟩
      · have H := H.1 hc
        refine g_iconst rfl rfl rfl (pc' := 144) ?_
        exact g_weak (show gm_Lle [some _, some _, some _, some _] _ from ⟨rfl, ⟨rfl, ⟨rfl, ⟨rfl, trivial⟩⟩⟩⟩) H
      · have H := H.2 hc
        exact g_weak (show gm_Lle [some _, some _, some _, some _] _ from ⟨rfl, ⟨rfl, ⟨rfl, ⟨rfl, trivial⟩⟩⟩⟩) H
theorem w_545_139 {m : Nat} {x1 : Int32} {x2 : Int32} {x3 : Int32} {h : hh_T} {Q : Option Value ⊕ Nat → hh_T → Prop} (hT : tw_ok h m) (H : gm_G 545 144 [some (.ref m), some (.int x1), some (.int x2), some (.int x3)] [.int (Int32.ofNat 1)] h Q) : gm_G 545 139 [some (.ref m), some (.int x1), some (.int x2), some (.int x3)] [] h Q := by
  refine g_iconst rfl rfl rfl (pc' := 140) ?_
  refine g_goto rfl (pc' := 144) rfl ?_
  exact g_weak (show gm_Lle [some _, some _, some _, some _] _ from ⟨rfl, ⟨rfl, ⟨rfl, ⟨rfl, trivial⟩⟩⟩⟩) H
theorem w_545_144 {m : Nat} {x1 : Int32} {x2 : Int32} {x3 : Int32} {y0 : Int32} {h : hh_T} {Q : Option Value ⊕ Nat → hh_T → Prop} (hT : tw_ok h m) (H : (y0 = Int32.ofNat 0 → (gm_G 545 174 [some (.ref m), some (.int x1), some (.int x2)] [] h Q)) ∧ (¬ y0 = Int32.ofNat 0 → ((x1 < x3 → (Q (.inl (some (.int (Int32.ofInt (-11))))) h)) ∧ (¬ x1 < x3 → (gm_G 285 0 [some (.ref m), some (.ref (m + 1)), some (.int x3), some (.int (x1 - x3))] [] h (pI (fun v2 h1 => (¬ v2 = Int32.ofNat 0 → (gm_G 545 174 [some (.ref m), some (.int x1), some (.int x2)] [] h1 Q)) ∧ (v2 = Int32.ofNat 0 → (Q (.inl (some (.int (Int32.ofInt (-11))))) h1))) (fun _ _ => False))))))) : gm_G 545 144 [some (.ref m), some (.int x1), some (.int x2), some (.int x3)] [.int y0] h Q := by
  refine g_istore rfl rfl rfl (pc' := 146) ?_
  refine g_iload rfl rfl rfl (pc' := 148) ?_
  refine g_if_eq rfl (pc' := 151) (pt := 174) rfl rfl ⟨fun hc => ?_, fun hc => ?_⟩
  · have H := H.1 hc
    exact g_weak (show gm_Lle [some _, some _, some _] _ from ⟨rfl, ⟨rfl, ⟨rfl, trivial⟩⟩⟩) H
  · have H := H.2 hc
    refine g_iload rfl rfl rfl (pc' := 152) ?_
    refine g_iload rfl rfl rfl (pc' := 153) ?_
    refine g_ic_lt rfl (pc' := 156) (pt := 171) rfl rfl ⟨fun hc => ?_, fun hc => ?_⟩
    · have H := H.1 hc
      refine g_iconst rfl rfl rfl (pc' := 173) ?_
      exact g_ireturn rfl (Or.inl rfl) H
    · have H := H.2 hc
      refine g_aload (r := some _) rfl rfl rfl (pc' := 157) ?_
      refine g_aload (r := some _) rfl rfl rfl (pc' := 158) ?_
      refine t_get (o := 1) rfl hT rfl rfl rfl (pc' := 161) rfl ?_
      refine g_iload rfl rfl rfl (pc' := 162) ?_
      refine g_iload rfl rfl rfl (pc' := 163) ?_
      refine g_iload rfl rfl rfl (pc' := 164) ?_
      refine g_isub rfl rfl (pc' := 165) ?_
      refine t_call hT (y := 285) (n := 4) (pc' := 168) rfl rfl (t_vt hT rfl rfl) rfl rfl ⟨(Nat.le_of_ble_eq_true rfl), (Nat.le_of_ble_eq_true rfl), (Nat.le_of_ble_eq_true rfl)⟩ rfl H (tI_elim (fun v2 h1 H hT => ?_))
      show gm_G _ 168 _ _ _ _
      refine g_if_ne rfl (pc' := 171) (pt := 174) rfl rfl ⟨fun hc => ?_, fun hc => ?_⟩
      · have H := H.1 hc
        exact g_weak (show gm_Lle [some _, some _, some _] _ from ⟨rfl, ⟨rfl, ⟨rfl, trivial⟩⟩⟩) H
      · have H := H.2 hc
        refine g_iconst rfl rfl rfl (pc' := 173) ?_
        exact g_ireturn rfl (Or.inl rfl) H
theorem w_545_174 {m : Nat} {x1 : Int32} {x2 : Int32} {h : hh_T} {Q : Option Value ⊕ Nat → hh_T → Prop} (hT : tw_ok h m) (H : (¬ x2 = (Int32.ofNat 3) → (gm_G 545 185 [some (.ref m), some (.int x1), some (.int x2)] [] h Q)) ∧ (x2 = (Int32.ofNat 3) → ((¬ x1 = (Int32.ofNat 9) → (Q (.inl (some (.int (Int32.ofInt (-11))))) h)) ∧ (x1 = (Int32.ofNat 9) → (gm_G 545 185 [some (.ref m), some (.int x1), some (.int x2)] [] h Q))))) : gm_G 545 174 [some (.ref m), some (.int x1), some (.int x2)] [] h Q := by
  refine g_iload rfl rfl rfl (pc' := 175) ?_
  refine g_iconst rfl rfl rfl (pc' := 176) ?_
  refine g_ic_ne rfl (pc' := 179) (pt := 185) rfl rfl ⟨fun hc => ?_, fun hc => ?_⟩
  · have H := H.1 hc
    exact g_weak (show gm_Lle [some _, some _, some _] _ from ⟨rfl, ⟨rfl, ⟨rfl, trivial⟩⟩⟩) H
  · have H := H.2 hc
    refine g_iload rfl rfl rfl (pc' := 180) ?_
    refine g_iconst rfl rfl rfl (pc' := 182) ?_
    refine g_ic_ne rfl (pc' := 185) (pt := 235) rfl rfl ⟨fun hc => ?_, fun hc => ?_⟩
    · have H := H.1 hc
      refine g_iconst rfl rfl rfl (pc' := 237) ?_
      exact g_ireturn rfl (Or.inl rfl) H
    · have H := H.2 hc
      exact g_weak (show gm_Lle [some _, some _, some _] _ from ⟨rfl, ⟨rfl, ⟨rfl, trivial⟩⟩⟩) H
theorem w_545_185 {m : Nat} {x1 : Int32} {x2 : Int32} {h : hh_T} {Q : Option Value ⊕ Nat → hh_T → Prop} (hT : tw_ok h m) (H : (¬ x2 = (Int32.ofNat 4) → (gm_G 545 196 [some (.ref m), some (.int x1), some (.int x2)] [] h Q)) ∧ (x2 = (Int32.ofNat 4) → ((x1 < (Int32.ofNat 9) → (Q (.inl (some (.int (Int32.ofInt (-11))))) h)) ∧ (¬ x1 < (Int32.ofNat 9) → (gm_G 545 196 [some (.ref m), some (.int x1), some (.int x2)] [] h Q))))) : gm_G 545 185 [some (.ref m), some (.int x1), some (.int x2)] [] h Q := by
  refine g_iload rfl rfl rfl (pc' := 186) ?_
  refine g_iconst rfl rfl rfl (pc' := 187) ?_
  refine g_ic_ne rfl (pc' := 190) (pt := 196) rfl rfl ⟨fun hc => ?_, fun hc => ?_⟩
  · have H := H.1 hc
    exact g_weak (show gm_Lle [some _, some _, some _] _ from ⟨rfl, ⟨rfl, ⟨rfl, trivial⟩⟩⟩) H
  · have H := H.2 hc
    refine g_iload rfl rfl rfl (pc' := 191) ?_
    refine g_iconst rfl rfl rfl (pc' := 193) ?_
    refine g_ic_lt rfl (pc' := 196) (pt := 235) rfl rfl ⟨fun hc => ?_, fun hc => ?_⟩
    · have H := H.1 hc
      refine g_iconst rfl rfl rfl (pc' := 237) ?_
      exact g_ireturn rfl (Or.inl rfl) H
    · have H := H.2 hc
      exact g_weak (show gm_Lle [some _, some _, some _] _ from ⟨rfl, ⟨rfl, ⟨rfl, trivial⟩⟩⟩) H
theorem w_545_196 {m : Nat} {x1 : Int32} {x2 : Int32} {h : hh_T} {Q : Option Value ⊕ Nat → hh_T → Prop} (hT : tw_ok h m) (H : (¬ x2 = (Int32.ofNat 5) → (gm_G 545 223 [some (.ref m), some (.int x1), some (.int x2)] [] h Q)) ∧ (x2 = (Int32.ofNat 5) → (((hh_i h (m + 1) 6) = (Int32.ofNat 1) → (gm_G 545 223 [some (.ref m), some (.int x1), some (.int x2)] [] h Q)) ∧ (¬ (hh_i h (m + 1) 6) = (Int32.ofNat 1) → ((¬ (hh_i h (m + 1) 6) = (Int32.ofNat 2) → (Q (.inl (some (.int (Int32.ofInt (-11))))) h)) ∧ ((hh_i h (m + 1) 6) = (Int32.ofNat 2) → (gm_G 545 223 [some (.ref m), some (.int x1), some (.int x2)] [] h Q))))))) : gm_G 545 196 [some (.ref m), some (.int x1), some (.int x2)] [] h Q := by
  refine g_iload rfl rfl rfl (pc' := 197) ?_
  refine g_iconst rfl rfl rfl (pc' := 198) ?_
  refine g_ic_ne rfl (pc' := 201) (pt := 223) rfl rfl ⟨fun hc => ?_, fun hc => ?_⟩
  · have H := H.1 hc
    exact g_weak (show gm_Lle [some _, some _, some _] _ from ⟨rfl, ⟨rfl, ⟨rfl, trivial⟩⟩⟩) H
  · have H := H.2 hc
    refine g_aload (r := some _) rfl rfl rfl (pc' := 202) ?_
    refine t_get (o := 1) rfl hT rfl rfl rfl (pc' := 205) rfl ?_
    refine g_iconst rfl rfl rfl (pc' := 207) ?_
    refine t_baload hT (o := 1) (l := 320) rfl rfl rfl ⟨rfl, by decide, by decide⟩ (pc' := 208) rfl ?_
    refine g_iconst rfl rfl rfl (pc' := 209) ?_
    refine g_ic_eq rfl (pc' := 212) (pt := 223) rfl rfl ⟨fun hc => ?_, fun hc => ?_⟩
    · have H := H.1 hc
      exact g_weak (show gm_Lle [some _, some _, some _] _ from ⟨rfl, ⟨rfl, ⟨rfl, trivial⟩⟩⟩) H
    · have H := H.2 hc
      refine g_aload (r := some _) rfl rfl rfl (pc' := 213) ?_
      refine t_get (o := 1) rfl hT rfl rfl rfl (pc' := 216) rfl ?_
      refine g_iconst rfl rfl rfl (pc' := 218) ?_
      refine t_baload hT (o := 1) (l := 320) rfl rfl rfl ⟨rfl, by decide, by decide⟩ (pc' := 219) rfl ?_
      refine g_iconst rfl rfl rfl (pc' := 220) ?_
      refine g_ic_ne rfl (pc' := 223) (pt := 235) rfl rfl ⟨fun hc => ?_, fun hc => ?_⟩
      · have H := H.1 hc
        refine g_iconst rfl rfl rfl (pc' := 237) ?_
        exact g_ireturn rfl (Or.inl rfl) H
      · have H := H.2 hc
        exact g_weak (show gm_Lle [some _, some _, some _] _ from ⟨rfl, ⟨rfl, ⟨rfl, trivial⟩⟩⟩) H
theorem w_545_223 {m : Nat} {x1 : Int32} {x2 : Int32} {h : hh_T} {Q : Option Value ⊕ Nat → hh_T → Prop} (hT : tw_ok h m) (H : (x2 < (Int32.ofNat 7) → (gm_G 545 238 [some (.ref m), some (.int x1), some (.int x2)] [] h Q)) ∧ (¬ x2 < (Int32.ofNat 7) → ((x1 = (Int32.ofNat 6) → (gm_G 545 238 [some (.ref m), some (.int x1), some (.int x2)] [] h Q)) ∧ (¬ x1 = (Int32.ofNat 6) → (Q (.inl (some (.int (Int32.ofInt (-11))))) h))))) : gm_G 545 223 [some (.ref m), some (.int x1), some (.int x2)] [] h Q := by
  refine g_iload rfl rfl rfl (pc' := 224) ?_
  refine g_iconst rfl rfl rfl (pc' := 226) ?_
  refine g_ic_lt rfl (pc' := 229) (pt := 238) rfl rfl ⟨fun hc => ?_, fun hc => ?_⟩
  · have H := H.1 hc
    exact g_weak (show gm_Lle [some _, some _, some _] _ from ⟨rfl, ⟨rfl, ⟨rfl, trivial⟩⟩⟩) H
  · have H := H.2 hc
    refine g_iload rfl rfl rfl (pc' := 230) ?_
    refine g_iconst rfl rfl rfl (pc' := 232) ?_
    refine g_ic_eq rfl (pc' := 235) (pt := 238) rfl rfl ⟨fun hc => ?_, fun hc => ?_⟩
    · have H := H.1 hc
      exact g_weak (show gm_Lle [some _, some _, some _] _ from ⟨rfl, ⟨rfl, ⟨rfl, trivial⟩⟩⟩) H
    · have H := H.2 hc
      refine g_iconst rfl rfl rfl (pc' := 237) ?_
      exact g_ireturn rfl (Or.inl rfl) H
theorem w_545_238 {m : Nat} {x1 : Int32} {x2 : Int32} {h : hh_T} {Q : Option Value ⊕ Nat → hh_T → Prop} (hT : tw_ok h m) (H : (((hh_i h (m + 1) 5) &&& (Int32.ofNat 255)) = ((((((Int32.ofNat 7) * ((hh_i h (m + 1) 2) &&& (Int32.ofNat 255))) + ((Int32.ofNat 13) * ((hh_i h (m + 1) 3) &&& (Int32.ofNat 255)))) + ((Int32.ofNat 29) * ((hh_i h (m + 1) 4) &&& (Int32.ofNat 255)))) + (Int32.ofNat 5)) &&& (Int32.ofNat 255)) → (gm_G 307 0 [some (.ref m), some (.int ((hh_i h (m + 1) 2) &&& (Int32.ofNat 255)))] [] h (pI (fun v2 h1 => (v2 < Int32.ofNat 0 → (Q (.inl (some (.int (Int32.ofInt (-14))))) h1)) ∧ (¬ v2 < Int32.ofNat 0 → (gm_G 137 0 [some (.ref m), some (.int v2), some (.int ((hh_i h (m + 1) 3) &&& (Int32.ofNat 255)))] [] h1 (pI (fun v4 h3 => (¬ v4 = Int32.ofNat 0 → (Q (.inl (some (.int (Int32.ofInt (-14))))) h3)) ∧ (v4 = Int32.ofNat 0 → (∃ n5, gm_ix (((Int32.ofNat 16) * v2) + ((hh_i h (m + 1) 3) &&& (Int32.ofNat 255))) n5 1536 ∧ ((((hh_i h3 (m + 47) n5) &&& (Int32.ofNat 255)) = ((hh_i h (m + 1) 4) &&& (Int32.ofNat 255)) → (((((hh_i h (m + 1) 2) &&& (Int32.ofNat 255)) - ((hh_i h (m + 1) 2) &&& (Int32.ofNat 255)) / (Int32.ofNat 2) * (Int32.ofNat 2)) = (Int32.ofNat 1) → (gm_G 545 397 [some (.ref m), some (.int x1), some (.int x2), none, none, some (.int ((hh_i h (m + 1) 2) &&& (Int32.ofNat 255))), some (.int ((hh_i h (m + 1) 3) &&& (Int32.ofNat 255))), none, some (.int v2), some (.int (((Int32.ofNat 16) * v2) + ((hh_i h (m + 1) 3) &&& (Int32.ofNat 255))))] [] h3 Q)) ∧ (¬ (((hh_i h (m + 1) 2) &&& (Int32.ofNat 255)) - ((hh_i h (m + 1) 2) &&& (Int32.ofNat 255)) / (Int32.ofNat 2) * (Int32.ofNat 2)) = (Int32.ofNat 1) → (gm_G 152 0 [some (.ref m), some (.int (((hh_i h (m + 1) 2) &&& (Int32.ofNat 255)) / (Int32.ofNat 2)))] [] h3 (pI (fun v7 h6 => gm_G 297 0 [some (.ref m), some (.int v7), some (.int (Int32.ofNat 3))] [] h6 (pI (fun v9 h8 => (¬ v9 = (Int32.ofNat 1) → (gm_G 545 402 [some (.ref m), some (.int x1), some (.int x2), none, none, some (.int ((hh_i h (m + 1) 2) &&& (Int32.ofNat 255))), some (.int ((hh_i h (m + 1) 3) &&& (Int32.ofNat 255))), none, some (.int v2), some (.int (((Int32.ofNat 16) * v2) + ((hh_i h (m + 1) 3) &&& (Int32.ofNat 255))))] [.int (Int32.ofNat 0)] h8 Q)) ∧ (v9 = (Int32.ofNat 1) → (gm_G 545 397 [some (.ref m), some (.int x1), some (.int x2), none, none, some (.int ((hh_i h (m + 1) 2) &&& (Int32.ofNat 255))), some (.int ((hh_i h (m + 1) 3) &&& (Int32.ofNat 255))), none, some (.int v2), some (.int (((Int32.ofNat 16) * v2) + ((hh_i h (m + 1) 3) &&& (Int32.ofNat 255))))] [] h8 Q))) (fun _ _ => False))) (fun _ _ => False)))))) ∧ (¬ ((hh_i h3 (m + 47) n5) &&& (Int32.ofNat 255)) = ((hh_i h (m + 1) 4) &&& (Int32.ofNat 255)) → (Q (.inl (some (.int (Int32.ofInt (-14))))) h3)))))) (fun _ _ => False))))) (fun _ _ => False)))) ∧ (¬ ((hh_i h (m + 1) 5) &&& (Int32.ofNat 255)) = ((((((Int32.ofNat 7) * ((hh_i h (m + 1) 2) &&& (Int32.ofNat 255))) + ((Int32.ofNat 13) * ((hh_i h (m + 1) 3) &&& (Int32.ofNat 255)))) + ((Int32.ofNat 29) * ((hh_i h (m + 1) 4) &&& (Int32.ofNat 255)))) + (Int32.ofNat 5)) &&& (Int32.ofNat 255)) → (Q (.inl (some (.int (Int32.ofInt (-11))))) h))) : gm_G 545 238 [some (.ref m), some (.int x1), some (.int x2)] [] h Q := by
  refine g_aload (r := some _) rfl rfl rfl (pc' := 239) ?_
  refine t_get (o := 1) rfl hT rfl rfl rfl (pc' := 242) rfl ?_
  refine g_iconst rfl rfl rfl (pc' := 243) ?_
  refine t_baload hT (o := 1) (l := 320) rfl rfl rfl ⟨rfl, by decide, by decide⟩ (pc' := 244) rfl ?_
  refine g_iconst rfl rfl rfl (pc' := 247) ?_
  refine g_iand rfl rfl (pc' := 248) ?_
  refine g_istore rfl rfl rfl (pc' := 250) ?_
  refine g_aload (r := some _) rfl rfl rfl (pc' := 251) ?_
  refine t_get (o := 1) rfl hT rfl rfl rfl (pc' := 254) rfl ?_
  refine g_iconst rfl rfl rfl (pc' := 255) ?_
  refine t_baload hT (o := 1) (l := 320) rfl rfl rfl ⟨rfl, by decide, by decide⟩ (pc' := 256) rfl ?_
  refine g_iconst rfl rfl rfl (pc' := 259) ?_
  refine g_iand rfl rfl (pc' := 260) ?_
  refine g_istore rfl rfl rfl (pc' := 262) ?_
  refine g_aload (r := some _) rfl rfl rfl (pc' := 263) ?_
  refine t_get (o := 1) rfl hT rfl rfl rfl (pc' := 266) rfl ?_
  refine g_iconst rfl rfl rfl (pc' := 267) ?_
  refine t_baload hT (o := 1) (l := 320) rfl rfl rfl ⟨rfl, by decide, by decide⟩ (pc' := 268) rfl ?_
  refine g_iconst rfl rfl rfl (pc' := 271) ?_
  refine g_iand rfl rfl (pc' := 272) ?_
  refine g_istore rfl rfl rfl (pc' := 274) ?_
  refine g_aload (r := some _) rfl rfl rfl (pc' := 275) ?_
  refine t_get (o := 1) rfl hT rfl rfl rfl (pc' := 278) rfl ?_
  refine g_iconst rfl rfl rfl (pc' := 279) ?_
  refine t_baload hT (o := 1) (l := 320) rfl rfl rfl ⟨rfl, by decide, by decide⟩ (pc' := 280) rfl ?_
  refine g_iconst rfl rfl rfl (pc' := 283) ?_
  refine g_iand rfl rfl (pc' := 284) ?_
  refine g_iconst rfl rfl rfl (pc' := 286) ?_
  refine g_iload rfl rfl rfl (pc' := 288) ?_
  refine g_imul rfl rfl (pc' := 289) ?_
  refine g_iconst rfl rfl rfl (pc' := 291) ?_
  refine g_iload rfl rfl rfl (pc' := 293) ?_
  refine g_imul rfl rfl (pc' := 294) ?_
  refine g_iadd rfl rfl (pc' := 295) ?_
  refine g_iconst rfl rfl rfl (pc' := 297) ?_
  refine g_iload rfl rfl rfl (pc' := 299) ?_
  refine g_imul rfl rfl (pc' := 300) ?_
  refine g_iadd rfl rfl (pc' := 301) ?_
  refine g_iconst rfl rfl rfl (pc' := 302) ?_
  refine g_iadd rfl rfl (pc' := 303) ?_
  refine g_iconst rfl rfl rfl (pc' := 306) ?_
  refine g_iand rfl rfl (pc' := 307) ?_
  refine g_ic_eq rfl (pc' := 310) (pt := 313) rfl rfl ⟨fun hc => ?_, fun hc => ?_⟩
  · have H := H.1 hc
    refine g_aload (r := some _) rfl rfl rfl (pc' := 314) ?_
    refine g_iload rfl rfl rfl (pc' := 316) ?_
    refine t_call hT (y := 307) (n := 2) (pc' := 319) rfl rfl (t_vt hT rfl rfl) rfl rfl ⟨(Nat.le_of_ble_eq_true rfl), (Nat.le_of_ble_eq_true rfl), (Nat.le_of_ble_eq_true rfl)⟩ rfl H (tI_elim (fun v2 h1 H hT => ?_))
    show gm_G _ 319 _ _ _ _
    refine g_istore rfl rfl rfl (pc' := 321) ?_
    refine g_iload rfl rfl rfl (pc' := 323) ?_
    refine g_if_lt rfl (pc' := 326) (pt := 359) rfl rfl ⟨fun hc => ?_, fun hc => ?_⟩
    · have H := H.1 hc
      refine g_iconst rfl rfl rfl (pc' := 361) ?_
      exact g_ireturn rfl (Or.inl rfl) H
    · have H := H.2 hc
      refine g_aload (r := some _) rfl rfl rfl (pc' := 327) ?_
      refine g_iload rfl rfl rfl (pc' := 329) ?_
      refine g_iload rfl rfl rfl (pc' := 331) ?_
      refine t_call hT (y := 137) (n := 3) (pc' := 334) rfl rfl (t_vt hT rfl rfl) rfl rfl ⟨(Nat.le_of_ble_eq_true rfl), (Nat.le_of_ble_eq_true rfl), (Nat.le_of_ble_eq_true rfl)⟩ rfl H (tI_elim (fun v4 h3 H hT => ?_))
      show gm_G _ 334 _ _ _ _
      refine g_if_ne rfl (pc' := 337) (pt := 359) rfl rfl ⟨fun hc => ?_, fun hc => ?_⟩
      · have H := H.1 hc
        refine g_iconst rfl rfl rfl (pc' := 361) ?_
        exact g_ireturn rfl (Or.inl rfl) H
      · have H := H.2 hc
        refine g_aload (r := some _) rfl rfl rfl (pc' := 338) ?_
        refine t_get (o := 47) rfl hT rfl rfl rfl (pc' := 341) rfl ?_
        refine g_iconst rfl rfl rfl (pc' := 343) ?_
        refine g_iload rfl rfl rfl (pc' := 345) ?_
        refine g_imul rfl rfl (pc' := 346) ?_
        refine g_iload rfl rfl rfl (pc' := 348) ?_
        refine g_iadd rfl rfl (pc' := 349) ?_
        obtain ⟨n5, hn5, H⟩ := H
        refine t_iaload hT (o := 47) (l := 1536) rfl rfl rfl hn5 (pc' := 350) rfl ?_
        refine g_iconst rfl rfl rfl (pc' := 353) ?_
        refine g_iand rfl rfl (pc' := 354) ?_
        refine g_iload rfl rfl rfl (pc' := 356) ?_
        refine g_ic_eq rfl (pc' := 359) (pt := 362) rfl rfl ⟨fun hc => ?_, fun hc => ?_⟩
        · have H := H.1 hc
          refine g_iconst rfl rfl rfl (pc' := 364) ?_
          refine g_iload rfl rfl rfl (pc' := 366) ?_
          refine g_imul rfl rfl (pc' := 367) ?_
          refine g_iload rfl rfl rfl (pc' := 369) ?_
          refine g_iadd rfl rfl (pc' := 370) ?_
          refine g_istore rfl rfl rfl (pc' := 372) ?_
          refine g_iload rfl rfl rfl (pc' := 374) ?_
          refine g_iconst rfl rfl rfl (pc' := 375) ?_
          refine g_irem rfl (by decide) (pc' := 376) rfl ?_
          refine g_iconst rfl rfl rfl (pc' := 377) ?_
          refine g_ic_eq rfl (pc' := 380) (pt := 397) rfl rfl ⟨fun hc => ?_, fun hc => ?_⟩
          · have H := H.1 hc
            exact g_weak (show gm_Lle [some _, some _, some _, none, none, some _, some _, none, some _, some _] _ from ⟨rfl, ⟨rfl, ⟨rfl, ⟨rfl, ⟨rfl, ⟨rfl, ⟨rfl, trivial⟩⟩⟩⟩⟩⟩⟩) H
          · have H := H.2 hc
            refine g_aload (r := some _) rfl rfl rfl (pc' := 381) ?_
            refine g_aload (r := some _) rfl rfl rfl (pc' := 382) ?_
            refine g_iload rfl rfl rfl (pc' := 384) ?_
            refine g_iconst rfl rfl rfl (pc' := 385) ?_
            refine g_idiv rfl (by decide) (pc' := 386) rfl ?_
            refine t_call hT (y := 152) (n := 2) (pc' := 389) rfl rfl (t_vt hT rfl rfl) rfl rfl ⟨(Nat.le_of_ble_eq_true rfl), (Nat.le_of_ble_eq_true rfl), (Nat.le_of_ble_eq_true rfl)⟩ rfl H (tI_elim (fun v7 h6 H hT => ?_))
            show gm_G _ 389 _ _ _ _
            refine g_iconst rfl rfl rfl (pc' := 390) ?_
            refine t_call hT (y := 297) (n := 3) (pc' := 393) rfl rfl (t_vt hT rfl rfl) rfl rfl ⟨(Nat.le_of_ble_eq_true rfl), (Nat.le_of_ble_eq_true rfl), (Nat.le_of_ble_eq_true rfl)⟩ rfl H (tI_elim (fun v9 h8 H hT => ?_))
            show gm_G _ 393 _ _ _ _
            refine g_iconst rfl rfl rfl (pc' := 394) ?_
            refine g_ic_ne rfl (pc' := 397) (pt := 401) rfl rfl ⟨fun hc => ?_, fun hc => ?_⟩
            · have H := H.1 hc
              refine g_iconst rfl rfl rfl (pc' := 402) ?_
              exact g_weak (show gm_Lle [some _, some _, some _, none, none, some _, some _, none, some _, some _] _ from ⟨rfl, ⟨rfl, ⟨rfl, ⟨rfl, ⟨rfl, ⟨rfl, ⟨rfl, trivial⟩⟩⟩⟩⟩⟩⟩) H
            · have H := H.2 hc
              exact g_weak (show gm_Lle [some _, some _, some _, none, none, some _, some _, none, some _, some _] _ from ⟨rfl, ⟨rfl, ⟨rfl, ⟨rfl, ⟨rfl, ⟨rfl, ⟨rfl, trivial⟩⟩⟩⟩⟩⟩⟩) H
        · have H := H.2 hc
          refine g_iconst rfl rfl rfl (pc' := 361) ?_
          exact g_ireturn rfl (Or.inl rfl) H
  · have H := H.2 hc
    refine g_iconst rfl rfl rfl (pc' := 312) ?_
    exact g_ireturn rfl (Or.inl rfl) H
theorem w_545_397 {m : Nat} {x1 : Int32} {x2 : Int32} {x5 : Int32} {x6 : Int32} {x8 : Int32} {x9 : Int32} {h : hh_T} {Q : Option Value ⊕ Nat → hh_T → Prop} (hT : tw_ok h m) (H : gm_G 545 402 [some (.ref m), some (.int x1), some (.int x2), none, none, some (.int x5), some (.int x6), none, some (.int x8), some (.int x9)] [.int (Int32.ofNat 1)] h Q) : gm_G 545 397 [some (.ref m), some (.int x1), some (.int x2), none, none, some (.int x5), some (.int x6), none, some (.int x8), some (.int x9)] [] h Q := by
  refine g_iconst rfl rfl rfl (pc' := 398) ?_
  refine g_goto rfl (pc' := 402) rfl ?_
  exact g_weak (show gm_Lle [some _, some _, some _, none, none, some _, some _, none, some _, some _] _ from ⟨rfl, ⟨rfl, ⟨rfl, ⟨rfl, ⟨rfl, ⟨rfl, ⟨rfl, trivial⟩⟩⟩⟩⟩⟩⟩) H
theorem w_545_402 {m : Nat} {x1 : Int32} {x2 : Int32} {x5 : Int32} {x6 : Int32} {x8 : Int32} {x9 : Int32} {y0 : Int32} {h : hh_T} {Q : Option Value ⊕ Nat → hh_T → Prop} (hT : tw_ok h m) (H : (¬ (x5 - x5 / (Int32.ofNat 2) * (Int32.ofNat 2)) = (Int32.ofNat 1) → (gm_G 152 0 [some (.ref m), some (.int (x5 / (Int32.ofNat 2)))] [] h (pI (fun v2 h1 => gm_G 545 424 [some (.ref m), some (.int x1), some (.int x2), none, none, some (.int x5), some (.int x6), none, some (.int x8), some (.int x9), some (.int y0)] [.int v2] h1 Q) (fun _ _ => False)))) ∧ ((x5 - x5 / (Int32.ofNat 2) * (Int32.ofNat 2)) = (Int32.ofNat 1) → (gm_G 545 424 [some (.ref m), some (.int x1), some (.int x2), none, none, some (.int x5), some (.int x6), none, some (.int x8), some (.int x9), some (.int y0)] [.int (Int32.ofInt (-1))] h Q))) : gm_G 545 402 [some (.ref m), some (.int x1), some (.int x2), none, none, some (.int x5), some (.int x6), none, some (.int x8), some (.int x9)] [.int y0] h Q := by
  refine g_istore rfl rfl rfl (pc' := 404) ?_
  refine g_iload rfl rfl rfl (pc' := 406) ?_
  refine g_iconst rfl rfl rfl (pc' := 407) ?_
  refine g_irem rfl (by decide) (pc' := 408) rfl ?_
  refine g_iconst rfl rfl rfl (pc' := 409) ?_
  refine g_ic_ne rfl (pc' := 412) (pt := 416) rfl rfl ⟨fun hc => ?_, fun hc => ?_⟩
  · have H := H.1 hc
    refine g_aload (r := some _) rfl rfl rfl (pc' := 417) ?_
    refine g_iload rfl rfl rfl (pc' := 419) ?_
    refine g_iconst rfl rfl rfl (pc' := 420) ?_
    refine g_idiv rfl (by decide) (pc' := 421) rfl ?_
    refine t_call hT (y := 152) (n := 2) (pc' := 424) rfl rfl (t_vt hT rfl rfl) rfl rfl ⟨(Nat.le_of_ble_eq_true rfl), (Nat.le_of_ble_eq_true rfl), (Nat.le_of_ble_eq_true rfl)⟩ rfl H (tI_elim (fun v2 h1 H hT => ?_))
    show gm_G _ 424 _ _ _ _
    exact g_weak (show gm_Lle [some _, some _, some _, none, none, some _, some _, none, some _, some _, some _] _ from ⟨rfl, ⟨rfl, ⟨rfl, ⟨rfl, ⟨rfl, ⟨rfl, ⟨rfl, ⟨rfl, trivial⟩⟩⟩⟩⟩⟩⟩⟩) H
  · have H := H.2 hc
    refine g_iconst rfl rfl rfl (pc' := 413) ?_
    refine g_goto rfl (pc' := 424) rfl ?_
    exact g_weak (show gm_Lle [some _, some _, some _, none, none, some _, some _, none, some _, some _, some _] _ from ⟨rfl, ⟨rfl, ⟨rfl, ⟨rfl, ⟨rfl, ⟨rfl, ⟨rfl, ⟨rfl, trivial⟩⟩⟩⟩⟩⟩⟩⟩) H
theorem w_545_424 {m : Nat} {x1 : Int32} {x2 : Int32} {x5 : Int32} {x6 : Int32} {x8 : Int32} {x9 : Int32} {x10 : Int32} {y0 : Int32} {h : hh_T} {Q : Option Value ⊕ Nat → hh_T → Prop} (hT : tw_ok h m) (H : (¬ (2 ≤ x2.toInt ∧ x2.toInt ≤ 7) → ((y0 < Int32.ofNat 0 → (gm_G 545 1198 [some (.ref m)] [.int (Int32.ofNat 0)] h Q)) ∧ (¬ y0 < Int32.ofNat 0 → (∃ n1, gm_ix y0 n1 32 ∧ (gm_G 482 0 [some (.ref m), some (.int (hh_i h (m + 59) n1))] [] h (pI (fun v3 h2 => gm_G 545 1198 [some (.ref m)] [.int v3] h2 Q) (fun _ _ => False))))))) ∧ (x2.toInt = 2 → (∃ n4, gm_ix x9 n4 1536 ∧ (((hh_i h (m + 40) n4) = (Int32.ofNat 2) → (gm_G 115 0 [some (.ref m), some (.int x9), some (.int (hh_i h m 5)), some (.int (Int32.ofNat 1))] [] h (pI (fun v6 h5 => (¬ v6 = Int32.ofNat 0 → (gm_G 106 0 [some (.ref m), some (.int x9), some (.ref (m + 1)), some (.int (Int32.ofNat 6)), some (.int (x1 - (Int32.ofNat 6)))] [] h5 (pI (fun v8 h7 => (¬ v8 < Int32.ofNat 0 → (∃ n9, gm_ix (((Int32.ofNat 8) * x9) + v8) n9 12288 ∧ (gm_G 269 0 [some (.ref m), some (.int x5), some (.int x8), some (.int (hh_i h7 (m + 53) n9))] [] h7 (pV (fun h10 => Q (.inl (some (.int (Int32.ofNat 0)))) h10) (fun _ _ => False))))) ∧ (v8 < Int32.ofNat 0 → (Q (.inl (some (.int (Int32.ofInt (-2))))) h7))) (fun _ _ => False)))) ∧ (v6 = Int32.ofNat 0 → (Q (.inl (some (.int (Int32.ofInt (-6))))) h5))) (fun _ _ => False)))) ∧ (¬ (hh_i h (m + 40) n4) = (Int32.ofNat 2) → (Q (.inl (some (.int (Int32.ofInt (-10))))) h))))) ∧ (x2.toInt = 3 → (∃ n11, gm_ix x9 n11 1536 ∧ (((hh_i h (m + 40) n11) = (Int32.ofNat 1) → (gm_G 115 0 [some (.ref m), some (.int x9), some (.int (hh_i h m 5)), some (.int (Int32.ofNat 4))] [] h (pI (fun v13 h12 => (¬ v13 = Int32.ofNat 0 → (gm_G 162 0 [some (.ref m), some (.int (Int32.ofNat 6))] [] h12 (pI (fun v15 h14 => ∃ n16, gm_ix x9 n16 1536 ∧ ((¬ (v15 + ((hh_i h14 (m + 1) 8) &&& (Int32.ofNat 255))) < (hh_i h14 (m + 45) n16) → (∃ n17, gm_ix x9 n17 1536 ∧ (gm_G 545 631 [some (.ref m), none, none, none, none, none, none, none, none, some (.int x9), none, none, some (.int v15)] [.int (hh_i h14 (m + 45) n17)] h14 Q))) ∧ ((v15 + ((hh_i h14 (m + 1) 8) &&& (Int32.ofNat 255))) < (hh_i h14 (m + 45) n16) → (gm_G 545 631 [some (.ref m), none, none, none, none, none, none, none, none, some (.int x9), none, none, some (.int v15)] [.int (v15 + ((hh_i h14 (m + 1) 8) &&& (Int32.ofNat 255)))] h14 Q)))) (fun _ _ => False)))) ∧ (v13 = Int32.ofNat 0 → (Q (.inl (some (.int (Int32.ofInt (-6))))) h12))) (fun _ _ => False)))) ∧ (¬ (hh_i h (m + 40) n11) = (Int32.ofNat 1) → (Q (.inl (some (.int (Int32.ofInt (-10))))) h))))) ∧ (x2.toInt = 4 → (∃ n18, gm_ix x9 n18 1536 ∧ (((hh_i h (m + 40) n18) = (Int32.ofNat 1) → ((¬ x10 = Int32.ofNat 0 → (Q (.inl (some (.int (Int32.ofInt (-6))))) h)) ∧ (x10 = Int32.ofNat 0 → (gm_G 115 0 [some (.ref m), some (.int x9), some (.int (hh_i h m 5)), some (.int (Int32.ofNat 2))] [] h (pI (fun v20 h19 => (¬ v20 = Int32.ofNat 0 → (gm_G 162 0 [some (.ref m), some (.int (Int32.ofNat 6))] [] h19 (pI (fun v22 h21 => (¬ (Int32.ofNat 256) < ((v22 + x1) - (Int32.ofNat 8)) → (gm_G 513 0 [some (.ref m), some (.int y0), some (.int x6), some (.ref (m + 1)), some (.int (Int32.ofNat 8)), some (.int (x1 - (Int32.ofNat 8))), some (.int v22)] [] h21 (pI (fun v24 h23 => (¬ v24 < Int32.ofNat 0 → (gm_G 89 0 [some (.ref m), some (.int (x1 - (Int32.ofNat 8)))] [] h23 (pV (fun h25 => Q (.inl (some (.int (Int32.ofNat 0)))) h25) (fun _ _ => False)))) ∧ (v24 < Int32.ofNat 0 → (Q (.inl (some (.int v24))) h23))) (fun _ _ => False)))) ∧ ((Int32.ofNat 256) < ((v22 + x1) - (Int32.ofNat 8)) → (Q (.inl (some (.int (Int32.ofInt (-3))))) h21))) (fun _ _ => False)))) ∧ (v20 = Int32.ofNat 0 → (Q (.inl (some (.int (Int32.ofInt (-6))))) h19))) (fun _ _ => False)))))) ∧ (¬ (hh_i h (m + 40) n18) = (Int32.ofNat 1) → (Q (.inl (some (.int (Int32.ofInt (-10))))) h))))) ∧ (x2.toInt = 5 → ((x10 = Int32.ofNat 0 → (∃ n26, gm_ix x9 n26 1536 ∧ (((hh_i h (m + 40) n26) = (Int32.ofNat 2) → (gm_G 282 0 [some (.ref m), some (.int x9), some (.int (hh_i h m 5)), some (.int (Int32.ofNat 3))] [] h (pI (fun v28 h27 => (¬ v28 = Int32.ofNat 0 → (gm_G 106 0 [some (.ref m), some (.int x9), some (.ref (m + 1)), some (.int (Int32.ofNat 7)), some (.int (x1 - (Int32.ofNat 7)))] [] h27 (pI (fun v30 h29 => (v30 < Int32.ofNat 0 → (gm_G 111 0 [some (.ref m), some (.int x8)] [] h29 (pI (fun v32 h31 => ∃ n33, gm_ix x9 n33 1536 ∧ (((hh_i h31 (m + 45) n33) = (Int32.ofNat 8) → (Q (.inl (some (.int (Int32.ofInt (-3))))) h31)) ∧ (¬ (hh_i h31 (m + 45) n33) = (Int32.ofNat 8) → ((¬ v32 < Int32.ofNat 0 → ((¬ (hh_i h31 (m + 1) 6) = (Int32.ofNat 1) → (gm_G 545 915 [some (.ref m), some (.int x1), none, none, none, some (.int x5), none, none, none, none, none, some (.int y0), some (.int v32)] [.int (Int32.ofNat 493), .int (hh_i h31 (m + 1) 6), .int v32, .int x6, .int y0, .ref m] h31 Q)) ∧ ((hh_i h31 (m + 1) 6) = (Int32.ofNat 1) → (gm_G 545 915 [some (.ref m), some (.int x1), none, none, none, some (.int x5), none, none, none, none, none, some (.int y0), some (.int v32)] [.int (Int32.ofNat 420), .int (hh_i h31 (m + 1) 6), .int v32, .int x6, .int y0, .ref m] h31 Q)))) ∧ (v32 < Int32.ofNat 0 → (Q (.inl (some (.int (Int32.ofInt (-3))))) h31)))))) (fun _ _ => False)))) ∧ (¬ v30 < Int32.ofNat 0 → (Q (.inl (some (.int (Int32.ofInt (-4))))) h29))) (fun _ _ => False)))) ∧ (v28 = Int32.ofNat 0 → (Q (.inl (some (.int (Int32.ofInt (-6))))) h27))) (fun _ _ => False)))) ∧ (¬ (hh_i h (m + 40) n26) = (Int32.ofNat 2) → (Q (.inl (some (.int (Int32.ofInt (-10))))) h))))) ∧ (¬ x10 = Int32.ofNat 0 → (Q (.inl (some (.int (Int32.ofInt (-6))))) h)))) ∧ (x2.toInt = 6 → ((x10 = Int32.ofNat 0 → (∃ n34, gm_ix x9 n34 1536 ∧ (((hh_i h (m + 40) n34) = (Int32.ofNat 2) → (gm_G 106 0 [some (.ref m), some (.int x9), some (.ref (m + 1)), some (.int (Int32.ofNat 6)), some (.int (x1 - (Int32.ofNat 6)))] [] h (pI (fun v36 h35 => (¬ v36 < Int32.ofNat 0 → (gm_G 282 0 [some (.ref m), some (.int x9), some (.int (hh_i h35 m 5)), some (.int (Int32.ofNat 3))] [] h35 (pI (fun v38 h37 => (¬ v38 = Int32.ofNat 0 → (∃ n39, gm_ix (((Int32.ofNat 8) * x9) + v36) n39 12288 ∧ (gm_G 272 0 [some (.ref m), some (.int y0), some (.int (hh_i h37 (m + 53) n39))] [] h37 (pI (fun v41 h40 => (¬ v41 < Int32.ofNat 0 → (gm_G 439 0 [some (.ref m), some (.int y0), some (.int x6), some (.int v36)] [] h40 (pV (fun h42 => Q (.inl (some (.int (Int32.ofNat 0)))) h42) (fun _ _ => False)))) ∧ (v41 < Int32.ofNat 0 → (Q (.inl (some (.int (Int32.ofInt (-5))))) h40))) (fun _ _ => False))))) ∧ (v38 = Int32.ofNat 0 → (Q (.inl (some (.int (Int32.ofInt (-6))))) h37))) (fun _ _ => False)))) ∧ (v36 < Int32.ofNat 0 → (Q (.inl (some (.int (Int32.ofInt (-2))))) h35))) (fun _ _ => False)))) ∧ (¬ (hh_i h (m + 40) n34) = (Int32.ofNat 2) → (Q (.inl (some (.int (Int32.ofInt (-10))))) h))))) ∧ (¬ x10 = Int32.ofNat 0 → (Q (.inl (some (.int (Int32.ofInt (-6))))) h)))) ∧ (x2.toInt = 7 → (∃ n43, gm_ix x9 n43 1536 ∧ (gm_G 89 0 [some (.ref m), some (.int (hh_i h (m + 40) n43))] [] h (pV (fun h44 => ∃ n45, gm_ix x9 n45 1536 ∧ (gm_G 89 0 [some (.ref m), some (.int ((hh_i h44 (m + 41) n45) >>> ((Int32.ofNat 8) &&& 31)))] [] h44 (pV (fun h46 => ∃ n47, gm_ix x9 n47 1536 ∧ (gm_G 89 0 [some (.ref m), some (.int (hh_i h46 (m + 41) n47))] [] h46 (pV (fun h48 => ∃ n49, gm_ix x9 n49 1536 ∧ (gm_G 89 0 [some (.ref m), some (.int (hh_i h48 (m + 42) n49))] [] h48 (pV (fun h50 => ∃ n51, gm_ix x9 n51 1536 ∧ (gm_G 89 0 [some (.ref m), some (.int (hh_i h50 (m + 43) n51))] [] h50 (pV (fun h52 => ∃ n53, gm_ix x9 n53 1536 ∧ (gm_G 89 0 [some (.ref m), some (.int (hh_i h52 (m + 44) n53))] [] h52 (pV (fun h54 => ∃ n55, gm_ix x9 n55 1536 ∧ (gm_G 89 0 [some (.ref m), some (.int ((hh_i h54 (m + 45) n55) >>> ((Int32.ofNat 8) &&& 31)))] [] h54 (pV (fun h56 => ∃ n57, gm_ix x9 n57 1536 ∧ (gm_G 89 0 [some (.ref m), some (.int (hh_i h56 (m + 45) n57))] [] h56 (pV (fun h58 => gm_G 545 1151 [some (.ref m), none, none, none, none, none, none, none, none, some (.int x9), none, none, some (.int (Int32.ofNat 24))] [] h58 Q) (fun _ _ => False)))) (fun _ _ => False)))) (fun _ _ => False)))) (fun _ _ => False)))) (fun _ _ => False)))) (fun _ _ => False)))) (fun _ _ => False)))) (fun _ _ => False)))))) : gm_G 545 424 [some (.ref m), some (.int x1), some (.int x2), none, none, some (.int x5), some (.int x6), none, some (.int x8), some (.int x9), some (.int x10)] [.int y0] h Q := by
  refine g_istore rfl rfl rfl (pc' := 426) ?_
  refine g_iload rfl rfl rfl (pc' := 427) ?_
  refine g_switch rfl ⟨fun hc => ?_, fun hc => ?_⟩
  · have H := H.1 (fun hq => by omega)
    refine g_iload rfl rfl rfl (pc' := 1180) ?_
    refine g_if_lt rfl (pc' := 1183) (pt := 1197) rfl rfl ⟨fun hc => ?_, fun hc => ?_⟩
    · have H := H.1 hc
      refine g_iconst rfl rfl rfl (pc' := 1198) ?_
      exact g_weak (show gm_Lle [some _] _ from ⟨rfl, trivial⟩) H
    · have H := H.2 hc
      refine g_aload (r := some _) rfl rfl rfl (pc' := 1184) ?_
      refine g_aload (r := some _) rfl rfl rfl (pc' := 1185) ?_
      refine t_get (o := 59) rfl hT rfl rfl rfl (pc' := 1188) rfl ?_
      refine g_iload rfl rfl rfl (pc' := 1190) ?_
      obtain ⟨n1, hn1, H⟩ := H
      refine t_iaload hT (o := 59) (l := 32) rfl rfl rfl hn1 (pc' := 1191) rfl ?_
      refine t_call hT (y := 482) (n := 2) (pc' := 1194) rfl rfl (t_vt hT rfl rfl) rfl rfl ⟨(Nat.le_of_ble_eq_true rfl), (Nat.le_of_ble_eq_true rfl), (Nat.le_of_ble_eq_true rfl)⟩ rfl H (tI_elim (fun v3 h2 H hT => ?_))
      show gm_G _ 1194 _ _ _ _
      refine g_goto rfl (pc' := 1198) rfl ?_
      exact g_weak (show gm_Lle [some _] _ from ⟨rfl, trivial⟩) H
  · have H := H.2
    have hq : x2.toInt = 2 ∨ x2.toInt = 3 ∨ x2.toInt = 4 ∨ x2.toInt = 5 ∨ x2.toInt = 6 ∨ x2.toInt = 7 := by omega
    rcases hq with hq | hq | hq | hq | hq | hq
    · have H := (H.1) hq
      refine ⟨464, by rw [hq]; rfl, ?_⟩
      show gm_G _ 464 _ _ _ _
      refine g_aload (r := some _) rfl rfl rfl (pc' := 465) ?_
      refine t_get (o := 40) rfl hT rfl rfl rfl (pc' := 468) rfl ?_
      refine g_iload rfl rfl rfl (pc' := 470) ?_
      obtain ⟨n4, hn4, H⟩ := H
      refine t_iaload hT (o := 40) (l := 1536) rfl rfl rfl hn4 (pc' := 471) rfl ?_
      refine g_iconst rfl rfl rfl (pc' := 472) ?_
      refine g_ic_eq rfl (pc' := 475) (pt := 478) rfl rfl ⟨fun hc => ?_, fun hc => ?_⟩
      · have H := H.1 hc
        refine g_aload (r := some _) rfl rfl rfl (pc' := 479) ?_
        refine g_iload rfl rfl rfl (pc' := 481) ?_
        refine g_aload (r := some _) rfl rfl rfl (pc' := 482) ?_
        refine t_getI rfl hT rfl rfl (pc' := 485) rfl ?_
        refine g_iconst rfl rfl rfl (pc' := 486) ?_
        refine t_call hT (y := 115) (n := 4) (pc' := 489) rfl rfl (t_vt hT rfl rfl) rfl rfl ⟨(Nat.le_of_ble_eq_true rfl), (Nat.le_of_ble_eq_true rfl), (Nat.le_of_ble_eq_true rfl)⟩ rfl H (tI_elim (fun v6 h5 H hT => ?_))
        show gm_G _ 489 _ _ _ _
        refine g_if_ne rfl (pc' := 492) (pt := 495) rfl rfl ⟨fun hc => ?_, fun hc => ?_⟩
        · have H := H.1 hc
          refine g_aload (r := some _) rfl rfl rfl (pc' := 496) ?_
          refine g_iload rfl rfl rfl (pc' := 498) ?_
          refine g_aload (r := some _) rfl rfl rfl (pc' := 499) ?_
          refine t_get (o := 1) rfl hT rfl rfl rfl (pc' := 502) rfl ?_
          refine g_iconst rfl rfl rfl (pc' := 504) ?_
          refine g_iload rfl rfl rfl (pc' := 505) ?_
          refine g_iconst rfl rfl rfl (pc' := 507) ?_
          refine g_isub rfl rfl (pc' := 508) ?_
          refine t_call hT (y := 106) (n := 5) (pc' := 511) rfl rfl (t_vt hT rfl rfl) rfl rfl ⟨(Nat.le_of_ble_eq_true rfl), (Nat.le_of_ble_eq_true rfl), (Nat.le_of_ble_eq_true rfl)⟩ rfl H (tI_elim (fun v8 h7 H hT => ?_))
          show gm_G _ 511 _ _ _ _
          refine g_istore rfl rfl rfl (pc' := 513) ?_
          refine g_iload rfl rfl rfl (pc' := 515) ?_
          refine g_if_ge rfl (pc' := 518) (pt := 521) rfl rfl ⟨fun hc => ?_, fun hc => ?_⟩
          · have H := H.1 hc
            refine g_aload (r := some _) rfl rfl rfl (pc' := 522) ?_
            refine g_iload rfl rfl rfl (pc' := 524) ?_
            refine g_iload rfl rfl rfl (pc' := 526) ?_
            refine g_aload (r := some _) rfl rfl rfl (pc' := 527) ?_
            refine t_get (o := 53) rfl hT rfl rfl rfl (pc' := 530) rfl ?_
            refine g_iconst rfl rfl rfl (pc' := 532) ?_
            refine g_iload rfl rfl rfl (pc' := 534) ?_
            refine g_imul rfl rfl (pc' := 535) ?_
            refine g_iload rfl rfl rfl (pc' := 537) ?_
            refine g_iadd rfl rfl (pc' := 538) ?_
            obtain ⟨n9, hn9, H⟩ := H
            refine t_iaload hT (o := 53) (l := 12288) rfl rfl rfl hn9 (pc' := 539) rfl ?_
            refine t_call hT (y := 269) (n := 4) (pc' := 542) rfl rfl (t_vt hT rfl rfl) rfl rfl ⟨(Nat.le_of_ble_eq_true rfl), (Nat.le_of_ble_eq_true rfl), (Nat.le_of_ble_eq_true rfl)⟩ rfl H (tV_elim (fun h10 H hT => ?_))
            show gm_G _ 542 _ _ _ _
            refine g_iconst rfl rfl rfl (pc' := 543) ?_
            exact g_ireturn rfl (Or.inl rfl) H
          · have H := H.2 hc
            refine g_iconst rfl rfl rfl (pc' := 520) ?_
            exact g_ireturn rfl (Or.inl rfl) H
        · have H := H.2 hc
          refine g_iconst rfl rfl rfl (pc' := 494) ?_
          exact g_ireturn rfl (Or.inl rfl) H
      · have H := H.2 hc
        refine g_iconst rfl rfl rfl (pc' := 477) ?_
        exact g_ireturn rfl (Or.inl rfl) H
    · have H := (H.2.1) hq
      refine ⟨544, by rw [hq]; rfl, ?_⟩
      show gm_G _ 544 _ _ _ _
      refine g_aload (r := some _) rfl rfl rfl (pc' := 545) ?_
      refine t_get (o := 40) rfl hT rfl rfl rfl (pc' := 548) rfl ?_
      refine g_iload rfl rfl rfl (pc' := 550) ?_
      obtain ⟨n11, hn11, H⟩ := H
      refine t_iaload hT (o := 40) (l := 1536) rfl rfl rfl hn11 (pc' := 551) rfl ?_
      refine g_iconst rfl rfl rfl (pc' := 552) ?_
      refine g_ic_eq rfl (pc' := 555) (pt := 558) rfl rfl ⟨fun hc => ?_, fun hc => ?_⟩
      · have H := H.1 hc
        refine g_aload (r := some _) rfl rfl rfl (pc' := 559) ?_
        refine g_iload rfl rfl rfl (pc' := 561) ?_
        refine g_aload (r := some _) rfl rfl rfl (pc' := 562) ?_
        refine t_getI rfl hT rfl rfl (pc' := 565) rfl ?_
        refine g_iconst rfl rfl rfl (pc' := 566) ?_
        refine t_call hT (y := 115) (n := 4) (pc' := 569) rfl rfl (t_vt hT rfl rfl) rfl rfl ⟨(Nat.le_of_ble_eq_true rfl), (Nat.le_of_ble_eq_true rfl), (Nat.le_of_ble_eq_true rfl)⟩ rfl H (tI_elim (fun v13 h12 H hT => ?_))
        show gm_G _ 569 _ _ _ _
        refine g_if_ne rfl (pc' := 572) (pt := 575) rfl rfl ⟨fun hc => ?_, fun hc => ?_⟩
        · have H := H.1 hc
          refine g_aload (r := some _) rfl rfl rfl (pc' := 576) ?_
          refine g_iconst rfl rfl rfl (pc' := 578) ?_
          refine t_call hT (y := 162) (n := 2) (pc' := 581) rfl rfl (t_vt hT rfl rfl) rfl rfl ⟨(Nat.le_of_ble_eq_true rfl), (Nat.le_of_ble_eq_true rfl), (Nat.le_of_ble_eq_true rfl)⟩ rfl H (tI_elim (fun v15 h14 H hT => ?_))
          show gm_G _ 581 _ _ _ _
          refine g_istore rfl rfl rfl (pc' := 583) ?_
          refine g_iload rfl rfl rfl (pc' := 585) ?_
          refine g_aload (r := some _) rfl rfl rfl (pc' := 586) ?_
          refine t_get (o := 1) rfl hT rfl rfl rfl (pc' := 589) rfl ?_
          refine g_iconst rfl rfl rfl (pc' := 591) ?_
          refine t_baload hT (o := 1) (l := 320) rfl rfl rfl ⟨rfl, by decide, by decide⟩ (pc' := 592) rfl ?_
          refine g_iconst rfl rfl rfl (pc' := 595) ?_
          refine g_iand rfl rfl (pc' := 596) ?_
          refine g_iadd rfl rfl (pc' := 597) ?_
          refine g_aload (r := some _) rfl rfl rfl (pc' := 598) ?_
          refine t_get (o := 45) rfl hT rfl rfl rfl (pc' := 601) rfl ?_
          refine g_iload rfl rfl rfl (pc' := 603) ?_
          obtain ⟨n16, hn16, H⟩ := H
          refine t_iaload hT (o := 45) (l := 1536) rfl rfl rfl hn16 (pc' := 604) rfl ?_
          refine g_ic_ge rfl (pc' := 607) (pt := 624) rfl rfl ⟨fun hc => ?_, fun hc => ?_⟩
          · have H := H.1 hc
            refine g_aload (r := some _) rfl rfl rfl (pc' := 625) ?_
            refine t_get (o := 45) rfl hT rfl rfl rfl (pc' := 628) rfl ?_
            refine g_iload rfl rfl rfl (pc' := 630) ?_
            obtain ⟨n17, hn17, H⟩ := H
            refine t_iaload hT (o := 45) (l := 1536) rfl rfl rfl hn17 (pc' := 631) rfl ?_
            exact g_weak (show gm_Lle [some _, none, none, none, none, none, none, none, none, some _, none, none, some _] _ from ⟨rfl, ⟨rfl, ⟨rfl, trivial⟩⟩⟩) H
          · have H := H.2 hc
            refine g_iload rfl rfl rfl (pc' := 609) ?_
            refine g_aload (r := some _) rfl rfl rfl (pc' := 610) ?_
            refine t_get (o := 1) rfl hT rfl rfl rfl (pc' := 613) rfl ?_
            refine g_iconst rfl rfl rfl (pc' := 615) ?_
            refine t_baload hT (o := 1) (l := 320) rfl rfl rfl ⟨rfl, by decide, by decide⟩ (pc' := 616) rfl ?_
            refine g_iconst rfl rfl rfl (pc' := 619) ?_
            refine g_iand rfl rfl (pc' := 620) ?_
            refine g_iadd rfl rfl (pc' := 621) ?_
            refine g_goto rfl (pc' := 631) rfl ?_
            exact g_weak (show gm_Lle [some _, none, none, none, none, none, none, none, none, some _, none, none, some _] _ from ⟨rfl, ⟨rfl, ⟨rfl, trivial⟩⟩⟩) H
        · have H := H.2 hc
          refine g_iconst rfl rfl rfl (pc' := 574) ?_
          exact g_ireturn rfl (Or.inl rfl) H
      · have H := H.2 hc
        refine g_iconst rfl rfl rfl (pc' := 557) ?_
        exact g_ireturn rfl (Or.inl rfl) H
    · have H := (H.2.2.1) hq
      refine ⟨692, by rw [hq]; rfl, ?_⟩
      show gm_G _ 692 _ _ _ _
      refine g_aload (r := some _) rfl rfl rfl (pc' := 693) ?_
      refine t_get (o := 40) rfl hT rfl rfl rfl (pc' := 696) rfl ?_
      refine g_iload rfl rfl rfl (pc' := 698) ?_
      obtain ⟨n18, hn18, H⟩ := H
      refine t_iaload hT (o := 40) (l := 1536) rfl rfl rfl hn18 (pc' := 699) rfl ?_
      refine g_iconst rfl rfl rfl (pc' := 700) ?_
      refine g_ic_eq rfl (pc' := 703) (pt := 706) rfl rfl ⟨fun hc => ?_, fun hc => ?_⟩
      · have H := H.1 hc
        refine g_iload rfl rfl rfl (pc' := 708) ?_
        refine g_if_ne rfl (pc' := 711) (pt := 725) rfl rfl ⟨fun hc => ?_, fun hc => ?_⟩
        · have H := H.1 hc
          refine g_iconst rfl rfl rfl (pc' := 727) ?_
          exact g_ireturn rfl (Or.inl rfl) H
        · have H := H.2 hc
          refine g_aload (r := some _) rfl rfl rfl (pc' := 712) ?_
          refine g_iload rfl rfl rfl (pc' := 714) ?_
          refine g_aload (r := some _) rfl rfl rfl (pc' := 715) ?_
          refine t_getI rfl hT rfl rfl (pc' := 718) rfl ?_
          refine g_iconst rfl rfl rfl (pc' := 719) ?_
          refine t_call hT (y := 115) (n := 4) (pc' := 722) rfl rfl (t_vt hT rfl rfl) rfl rfl ⟨(Nat.le_of_ble_eq_true rfl), (Nat.le_of_ble_eq_true rfl), (Nat.le_of_ble_eq_true rfl)⟩ rfl H (tI_elim (fun v20 h19 H hT => ?_))
          show gm_G _ 722 _ _ _ _
          refine g_if_ne rfl (pc' := 725) (pt := 728) rfl rfl ⟨fun hc => ?_, fun hc => ?_⟩
          · have H := H.1 hc
            refine g_aload (r := some _) rfl rfl rfl (pc' := 729) ?_
            refine g_iconst rfl rfl rfl (pc' := 731) ?_
            refine t_call hT (y := 162) (n := 2) (pc' := 734) rfl rfl (t_vt hT rfl rfl) rfl rfl ⟨(Nat.le_of_ble_eq_true rfl), (Nat.le_of_ble_eq_true rfl), (Nat.le_of_ble_eq_true rfl)⟩ rfl H (tI_elim (fun v22 h21 H hT => ?_))
            show gm_G _ 734 _ _ _ _
            refine g_istore rfl rfl rfl (pc' := 736) ?_
            refine g_iload rfl rfl rfl (pc' := 738) ?_
            refine g_iload rfl rfl rfl (pc' := 739) ?_
            refine g_iadd rfl rfl (pc' := 740) ?_
            refine g_iconst rfl rfl rfl (pc' := 742) ?_
            refine g_isub rfl rfl (pc' := 743) ?_
            refine g_iconst rfl rfl rfl (pc' := 746) ?_
            refine g_ic_le rfl (pc' := 749) (pt := 752) rfl rfl ⟨fun hc => ?_, fun hc => ?_⟩
            · have H := H.1 hc
              refine g_aload (r := some _) rfl rfl rfl (pc' := 753) ?_
              refine g_iload rfl rfl rfl (pc' := 755) ?_
              refine g_iload rfl rfl rfl (pc' := 757) ?_
              refine g_aload (r := some _) rfl rfl rfl (pc' := 758) ?_
              refine t_get (o := 1) rfl hT rfl rfl rfl (pc' := 761) rfl ?_
              refine g_iconst rfl rfl rfl (pc' := 763) ?_
              refine g_iload rfl rfl rfl (pc' := 764) ?_
              refine g_iconst rfl rfl rfl (pc' := 766) ?_
              refine g_isub rfl rfl (pc' := 767) ?_
              refine g_iload rfl rfl rfl (pc' := 769) ?_
              refine t_call hT (y := 513) (n := 7) (pc' := 772) rfl rfl (t_vt hT rfl rfl) rfl rfl ⟨(Nat.le_of_ble_eq_true rfl), (Nat.le_of_ble_eq_true rfl), (Nat.le_of_ble_eq_true rfl)⟩ rfl H (tI_elim (fun v24 h23 H hT => ?_))
              show gm_G _ 772 _ _ _ _
              refine g_istore rfl rfl rfl (pc' := 774) ?_
              refine g_iload rfl rfl rfl (pc' := 776) ?_
              refine g_if_ge rfl (pc' := 779) (pt := 782) rfl rfl ⟨fun hc => ?_, fun hc => ?_⟩
              · have H := H.1 hc
                refine g_aload (r := some _) rfl rfl rfl (pc' := 783) ?_
                refine g_iload rfl rfl rfl (pc' := 784) ?_
                refine g_iconst rfl rfl rfl (pc' := 786) ?_
                refine g_isub rfl rfl (pc' := 787) ?_
                refine t_call hT (y := 89) (n := 2) (pc' := 790) rfl rfl (t_vt hT rfl rfl) rfl rfl ⟨(Nat.le_of_ble_eq_true rfl), (Nat.le_of_ble_eq_true rfl), (Nat.le_of_ble_eq_true rfl)⟩ rfl H (tV_elim (fun h25 H hT => ?_))
                show gm_G _ 790 _ _ _ _
                refine g_iconst rfl rfl rfl (pc' := 791) ?_
                exact g_ireturn rfl (Or.inl rfl) H
              · have H := H.2 hc
                refine g_iload rfl rfl rfl (pc' := 781) ?_
                exact g_ireturn rfl (Or.inl rfl) H
            · have H := H.2 hc
              refine g_iconst rfl rfl rfl (pc' := 751) ?_
              exact g_ireturn rfl (Or.inl rfl) H
          · have H := H.2 hc
            refine g_iconst rfl rfl rfl (pc' := 727) ?_
            exact g_ireturn rfl (Or.inl rfl) H
      · have H := H.2 hc
        refine g_iconst rfl rfl rfl (pc' := 705) ?_
        exact g_ireturn rfl (Or.inl rfl) H
    · have H := (H.2.2.2.1) hq
      refine ⟨792, by rw [hq]; rfl, ?_⟩
      show gm_G _ 792 _ _ _ _
      refine g_iload rfl rfl rfl (pc' := 794) ?_
      refine g_if_eq rfl (pc' := 797) (pt := 800) rfl rfl ⟨fun hc => ?_, fun hc => ?_⟩
      · have H := H.1 hc
        refine g_aload (r := some _) rfl rfl rfl (pc' := 801) ?_
        refine t_get (o := 40) rfl hT rfl rfl rfl (pc' := 804) rfl ?_
        refine g_iload rfl rfl rfl (pc' := 806) ?_
        obtain ⟨n26, hn26, H⟩ := H
        refine t_iaload hT (o := 40) (l := 1536) rfl rfl rfl hn26 (pc' := 807) rfl ?_
        refine g_iconst rfl rfl rfl (pc' := 808) ?_
        refine g_ic_eq rfl (pc' := 811) (pt := 814) rfl rfl ⟨fun hc => ?_, fun hc => ?_⟩
        · have H := H.1 hc
          refine g_aload (r := some _) rfl rfl rfl (pc' := 815) ?_
          refine g_iload rfl rfl rfl (pc' := 817) ?_
          refine g_aload (r := some _) rfl rfl rfl (pc' := 818) ?_
          refine t_getI rfl hT rfl rfl (pc' := 821) rfl ?_
          refine g_iconst rfl rfl rfl (pc' := 822) ?_
          refine t_call hT (y := 282) (n := 4) (pc' := 825) rfl rfl (t_vt hT rfl rfl) rfl rfl ⟨(Nat.le_of_ble_eq_true rfl), (Nat.le_of_ble_eq_true rfl), (Nat.le_of_ble_eq_true rfl)⟩ rfl H (tI_elim (fun v28 h27 H hT => ?_))
          show gm_G _ 825 _ _ _ _
          refine g_if_ne rfl (pc' := 828) (pt := 831) rfl rfl ⟨fun hc => ?_, fun hc => ?_⟩
          · have H := H.1 hc
            refine g_aload (r := some _) rfl rfl rfl (pc' := 832) ?_
            refine g_iload rfl rfl rfl (pc' := 834) ?_
            refine g_aload (r := some _) rfl rfl rfl (pc' := 835) ?_
            refine t_get (o := 1) rfl hT rfl rfl rfl (pc' := 838) rfl ?_
            refine g_iconst rfl rfl rfl (pc' := 840) ?_
            refine g_iload rfl rfl rfl (pc' := 841) ?_
            refine g_iconst rfl rfl rfl (pc' := 843) ?_
            refine g_isub rfl rfl (pc' := 844) ?_
            refine t_call hT (y := 106) (n := 5) (pc' := 847) rfl rfl (t_vt hT rfl rfl) rfl rfl ⟨(Nat.le_of_ble_eq_true rfl), (Nat.le_of_ble_eq_true rfl), (Nat.le_of_ble_eq_true rfl)⟩ rfl H (tI_elim (fun v30 h29 H hT => ?_))
            show gm_G _ 847 _ _ _ _
            refine g_if_lt rfl (pc' := 850) (pt := 853) rfl rfl ⟨fun hc => ?_, fun hc => ?_⟩
            · have H := H.1 hc
              refine g_aload (r := some _) rfl rfl rfl (pc' := 854) ?_
              refine g_iload rfl rfl rfl (pc' := 856) ?_
              refine t_call hT (y := 111) (n := 2) (pc' := 859) rfl rfl (t_vt hT rfl rfl) rfl rfl ⟨(Nat.le_of_ble_eq_true rfl), (Nat.le_of_ble_eq_true rfl), (Nat.le_of_ble_eq_true rfl)⟩ rfl H (tI_elim (fun v32 h31 H hT => ?_))
              show gm_G _ 859 _ _ _ _
              refine g_istore rfl rfl rfl (pc' := 861) ?_
              refine g_aload (r := some _) rfl rfl rfl (pc' := 862) ?_
              refine t_get (o := 45) rfl hT rfl rfl rfl (pc' := 865) rfl ?_
              refine g_iload rfl rfl rfl (pc' := 867) ?_
              obtain ⟨n33, hn33, H⟩ := H
              refine t_iaload hT (o := 45) (l := 1536) rfl rfl rfl hn33 (pc' := 868) rfl ?_
              refine g_iconst rfl rfl rfl (pc' := 870) ?_
              refine g_ic_eq rfl (pc' := 873) (pt := 878) rfl rfl ⟨fun hc => ?_, fun hc => ?_⟩
              · have H := H.1 hc
                refine g_iconst rfl rfl rfl (pc' := 880) ?_
                exact g_ireturn rfl (Or.inl rfl) H
              · have H := H.2 hc
                refine g_iload rfl rfl rfl (pc' := 875) ?_
                refine g_if_ge rfl (pc' := 878) (pt := 881) rfl rfl ⟨fun hc => ?_, fun hc => ?_⟩
                · have H := H.1 hc
                  refine g_aload (r := some _) rfl rfl rfl (pc' := 882) ?_
                  refine g_iload rfl rfl rfl (pc' := 884) ?_
                  refine g_iload rfl rfl rfl (pc' := 886) ?_
                  refine g_iload rfl rfl rfl (pc' := 888) ?_
                  refine g_aload (r := some _) rfl rfl rfl (pc' := 889) ?_
                  refine t_get (o := 1) rfl hT rfl rfl rfl (pc' := 892) rfl ?_
                  refine g_iconst rfl rfl rfl (pc' := 894) ?_
                  refine t_baload hT (o := 1) (l := 320) rfl rfl rfl ⟨rfl, by decide, by decide⟩ (pc' := 895) rfl ?_
                  refine g_aload (r := some _) rfl rfl rfl (pc' := 896) ?_
                  refine t_get (o := 1) rfl hT rfl rfl rfl (pc' := 899) rfl ?_
                  refine g_iconst rfl rfl rfl (pc' := 901) ?_
                  refine t_baload hT (o := 1) (l := 320) rfl rfl rfl ⟨rfl, by decide, by decide⟩ (pc' := 902) rfl ?_
                  refine g_iconst rfl rfl rfl (pc' := 903) ?_
                  refine g_ic_ne rfl (pc' := 906) (pt := 912) rfl rfl ⟨fun hc => ?_, fun hc => ?_⟩
                  · have H := H.1 hc
                    refine g_iconst rfl rfl rfl (pc' := 915) ?_
                    exact g_weak (show gm_Lle [some _, some _, none, none, none, some _, none, none, none, none, none, some _, some _] _ from ⟨rfl, ⟨rfl, ⟨rfl, ⟨rfl, ⟨rfl, trivial⟩⟩⟩⟩⟩) H
                  · have H := H.2 hc
                    refine g_iconst rfl rfl rfl (pc' := 909) ?_
                    refine g_goto rfl (pc' := 915) rfl ?_
                    exact g_weak (show gm_Lle [some _, some _, none, none, none, some _, none, none, none, none, none, some _, some _] _ from ⟨rfl, ⟨rfl, ⟨rfl, ⟨rfl, ⟨rfl, trivial⟩⟩⟩⟩⟩) H
                · have H := H.2 hc
                  refine g_iconst rfl rfl rfl (pc' := 880) ?_
                  exact g_ireturn rfl (Or.inl rfl) H
            · have H := H.2 hc
              refine g_iconst rfl rfl rfl (pc' := 852) ?_
              exact g_ireturn rfl (Or.inl rfl) H
          · have H := H.2 hc
            refine g_iconst rfl rfl rfl (pc' := 830) ?_
            exact g_ireturn rfl (Or.inl rfl) H
        · have H := H.2 hc
          refine g_iconst rfl rfl rfl (pc' := 813) ?_
          exact g_ireturn rfl (Or.inl rfl) H
      · have H := H.2 hc
        refine g_iconst rfl rfl rfl (pc' := 799) ?_
        exact g_ireturn rfl (Or.inl rfl) H
    · have H := (H.2.2.2.2.1) hq
      refine ⟨951, by rw [hq]; rfl, ?_⟩
      show gm_G _ 951 _ _ _ _
      refine g_iload rfl rfl rfl (pc' := 953) ?_
      refine g_if_eq rfl (pc' := 956) (pt := 959) rfl rfl ⟨fun hc => ?_, fun hc => ?_⟩
      · have H := H.1 hc
        refine g_aload (r := some _) rfl rfl rfl (pc' := 960) ?_
        refine t_get (o := 40) rfl hT rfl rfl rfl (pc' := 963) rfl ?_
        refine g_iload rfl rfl rfl (pc' := 965) ?_
        obtain ⟨n34, hn34, H⟩ := H
        refine t_iaload hT (o := 40) (l := 1536) rfl rfl rfl hn34 (pc' := 966) rfl ?_
        refine g_iconst rfl rfl rfl (pc' := 967) ?_
        refine g_ic_eq rfl (pc' := 970) (pt := 973) rfl rfl ⟨fun hc => ?_, fun hc => ?_⟩
        · have H := H.1 hc
          refine g_aload (r := some _) rfl rfl rfl (pc' := 974) ?_
          refine g_iload rfl rfl rfl (pc' := 976) ?_
          refine g_aload (r := some _) rfl rfl rfl (pc' := 977) ?_
          refine t_get (o := 1) rfl hT rfl rfl rfl (pc' := 980) rfl ?_
          refine g_iconst rfl rfl rfl (pc' := 982) ?_
          refine g_iload rfl rfl rfl (pc' := 983) ?_
          refine g_iconst rfl rfl rfl (pc' := 985) ?_
          refine g_isub rfl rfl (pc' := 986) ?_
          refine t_call hT (y := 106) (n := 5) (pc' := 989) rfl rfl (t_vt hT rfl rfl) rfl rfl ⟨(Nat.le_of_ble_eq_true rfl), (Nat.le_of_ble_eq_true rfl), (Nat.le_of_ble_eq_true rfl)⟩ rfl H (tI_elim (fun v36 h35 H hT => ?_))
          show gm_G _ 989 _ _ _ _
          refine g_istore rfl rfl rfl (pc' := 991) ?_
          refine g_iload rfl rfl rfl (pc' := 993) ?_
          refine g_if_ge rfl (pc' := 996) (pt := 999) rfl rfl ⟨fun hc => ?_, fun hc => ?_⟩
          · have H := H.1 hc
            refine g_aload (r := some _) rfl rfl rfl (pc' := 1000) ?_
            refine g_iload rfl rfl rfl (pc' := 1002) ?_
            refine g_aload (r := some _) rfl rfl rfl (pc' := 1003) ?_
            refine t_getI rfl hT rfl rfl (pc' := 1006) rfl ?_
            refine g_iconst rfl rfl rfl (pc' := 1007) ?_
            refine t_call hT (y := 282) (n := 4) (pc' := 1010) rfl rfl (t_vt hT rfl rfl) rfl rfl ⟨(Nat.le_of_ble_eq_true rfl), (Nat.le_of_ble_eq_true rfl), (Nat.le_of_ble_eq_true rfl)⟩ rfl H (tI_elim (fun v38 h37 H hT => ?_))
            show gm_G _ 1010 _ _ _ _
            refine g_if_ne rfl (pc' := 1013) (pt := 1016) rfl rfl ⟨fun hc => ?_, fun hc => ?_⟩
            · have H := H.1 hc
              refine g_aload (r := some _) rfl rfl rfl (pc' := 1017) ?_
              refine g_iload rfl rfl rfl (pc' := 1019) ?_
              refine g_aload (r := some _) rfl rfl rfl (pc' := 1020) ?_
              refine t_get (o := 53) rfl hT rfl rfl rfl (pc' := 1023) rfl ?_
              refine g_iconst rfl rfl rfl (pc' := 1025) ?_
              refine g_iload rfl rfl rfl (pc' := 1027) ?_
              refine g_imul rfl rfl (pc' := 1028) ?_
              refine g_iload rfl rfl rfl (pc' := 1030) ?_
              refine g_iadd rfl rfl (pc' := 1031) ?_
              obtain ⟨n39, hn39, H⟩ := H
              refine t_iaload hT (o := 53) (l := 12288) rfl rfl rfl hn39 (pc' := 1032) rfl ?_
              refine t_call hT (y := 272) (n := 3) (pc' := 1035) rfl rfl (t_vt hT rfl rfl) rfl rfl ⟨(Nat.le_of_ble_eq_true rfl), (Nat.le_of_ble_eq_true rfl), (Nat.le_of_ble_eq_true rfl)⟩ rfl H (tI_elim (fun v41 h40 H hT => ?_))
              show gm_G _ 1035 _ _ _ _
              refine g_if_ge rfl (pc' := 1038) (pt := 1041) rfl rfl ⟨fun hc => ?_, fun hc => ?_⟩
              · have H := H.1 hc
                refine g_aload (r := some _) rfl rfl rfl (pc' := 1042) ?_
                refine g_iload rfl rfl rfl (pc' := 1044) ?_
                refine g_iload rfl rfl rfl (pc' := 1046) ?_
                refine g_iload rfl rfl rfl (pc' := 1048) ?_
                refine t_call hT (y := 439) (n := 4) (pc' := 1051) rfl rfl (t_vt hT rfl rfl) rfl rfl ⟨(Nat.le_of_ble_eq_true rfl), (Nat.le_of_ble_eq_true rfl), (Nat.le_of_ble_eq_true rfl)⟩ rfl H (tV_elim (fun h42 H hT => ?_))
                show gm_G _ 1051 _ _ _ _
                refine g_iconst rfl rfl rfl (pc' := 1052) ?_
                exact g_ireturn rfl (Or.inl rfl) H
              · have H := H.2 hc
                refine g_iconst rfl rfl rfl (pc' := 1040) ?_
                exact g_ireturn rfl (Or.inl rfl) H
            · have H := H.2 hc
              refine g_iconst rfl rfl rfl (pc' := 1015) ?_
              exact g_ireturn rfl (Or.inl rfl) H
          · have H := H.2 hc
            refine g_iconst rfl rfl rfl (pc' := 998) ?_
            exact g_ireturn rfl (Or.inl rfl) H
        · have H := H.2 hc
          refine g_iconst rfl rfl rfl (pc' := 972) ?_
          exact g_ireturn rfl (Or.inl rfl) H
      · have H := H.2 hc
        refine g_iconst rfl rfl rfl (pc' := 958) ?_
        exact g_ireturn rfl (Or.inl rfl) H
    · have H := (H.2.2.2.2.2) hq
      refine ⟨1053, by rw [hq]; rfl, ?_⟩
      show gm_G _ 1053 _ _ _ _
      refine g_aload (r := some _) rfl rfl rfl (pc' := 1054) ?_
      refine g_aload (r := some _) rfl rfl rfl (pc' := 1055) ?_
      refine t_get (o := 40) rfl hT rfl rfl rfl (pc' := 1058) rfl ?_
      refine g_iload rfl rfl rfl (pc' := 1060) ?_
      obtain ⟨n43, hn43, H⟩ := H
      refine t_iaload hT (o := 40) (l := 1536) rfl rfl rfl hn43 (pc' := 1061) rfl ?_
      refine t_call hT (y := 89) (n := 2) (pc' := 1064) rfl rfl (t_vt hT rfl rfl) rfl rfl ⟨(Nat.le_of_ble_eq_true rfl), (Nat.le_of_ble_eq_true rfl), (Nat.le_of_ble_eq_true rfl)⟩ rfl H (tV_elim (fun h44 H hT => ?_))
      show gm_G _ 1064 _ _ _ _
      refine g_aload (r := some _) rfl rfl rfl (pc' := 1065) ?_
      refine g_aload (r := some _) rfl rfl rfl (pc' := 1066) ?_
      refine t_get (o := 41) rfl hT rfl rfl rfl (pc' := 1069) rfl ?_
      refine g_iload rfl rfl rfl (pc' := 1071) ?_
      obtain ⟨n45, hn45, H⟩ := H
      refine t_iaload hT (o := 41) (l := 1536) rfl rfl rfl hn45 (pc' := 1072) rfl ?_
      refine g_iconst rfl rfl rfl (pc' := 1074) ?_
      refine g_ishr rfl rfl (pc' := 1075) ?_
      refine t_call hT (y := 89) (n := 2) (pc' := 1078) rfl rfl (t_vt hT rfl rfl) rfl rfl ⟨(Nat.le_of_ble_eq_true rfl), (Nat.le_of_ble_eq_true rfl), (Nat.le_of_ble_eq_true rfl)⟩ rfl H (tV_elim (fun h46 H hT => ?_))
      show gm_G _ 1078 _ _ _ _
      refine g_aload (r := some _) rfl rfl rfl (pc' := 1079) ?_
      refine g_aload (r := some _) rfl rfl rfl (pc' := 1080) ?_
      refine t_get (o := 41) rfl hT rfl rfl rfl (pc' := 1083) rfl ?_
      refine g_iload rfl rfl rfl (pc' := 1085) ?_
      obtain ⟨n47, hn47, H⟩ := H
      refine t_iaload hT (o := 41) (l := 1536) rfl rfl rfl hn47 (pc' := 1086) rfl ?_
      refine t_call hT (y := 89) (n := 2) (pc' := 1089) rfl rfl (t_vt hT rfl rfl) rfl rfl ⟨(Nat.le_of_ble_eq_true rfl), (Nat.le_of_ble_eq_true rfl), (Nat.le_of_ble_eq_true rfl)⟩ rfl H (tV_elim (fun h48 H hT => ?_))
      show gm_G _ 1089 _ _ _ _
      refine g_aload (r := some _) rfl rfl rfl (pc' := 1090) ?_
      refine g_aload (r := some _) rfl rfl rfl (pc' := 1091) ?_
      refine t_get (o := 42) rfl hT rfl rfl rfl (pc' := 1094) rfl ?_
      refine g_iload rfl rfl rfl (pc' := 1096) ?_
      obtain ⟨n49, hn49, H⟩ := H
      refine t_iaload hT (o := 42) (l := 1536) rfl rfl rfl hn49 (pc' := 1097) rfl ?_
      refine t_call hT (y := 89) (n := 2) (pc' := 1100) rfl rfl (t_vt hT rfl rfl) rfl rfl ⟨(Nat.le_of_ble_eq_true rfl), (Nat.le_of_ble_eq_true rfl), (Nat.le_of_ble_eq_true rfl)⟩ rfl H (tV_elim (fun h50 H hT => ?_))
      show gm_G _ 1100 _ _ _ _
      refine g_aload (r := some _) rfl rfl rfl (pc' := 1101) ?_
      refine g_aload (r := some _) rfl rfl rfl (pc' := 1102) ?_
      refine t_get (o := 43) rfl hT rfl rfl rfl (pc' := 1105) rfl ?_
      refine g_iload rfl rfl rfl (pc' := 1107) ?_
      obtain ⟨n51, hn51, H⟩ := H
      refine t_iaload hT (o := 43) (l := 1536) rfl rfl rfl hn51 (pc' := 1108) rfl ?_
      refine t_call hT (y := 89) (n := 2) (pc' := 1111) rfl rfl (t_vt hT rfl rfl) rfl rfl ⟨(Nat.le_of_ble_eq_true rfl), (Nat.le_of_ble_eq_true rfl), (Nat.le_of_ble_eq_true rfl)⟩ rfl H (tV_elim (fun h52 H hT => ?_))
      show gm_G _ 1111 _ _ _ _
      refine g_aload (r := some _) rfl rfl rfl (pc' := 1112) ?_
      refine g_aload (r := some _) rfl rfl rfl (pc' := 1113) ?_
      refine t_get (o := 44) rfl hT rfl rfl rfl (pc' := 1116) rfl ?_
      refine g_iload rfl rfl rfl (pc' := 1118) ?_
      obtain ⟨n53, hn53, H⟩ := H
      refine t_iaload hT (o := 44) (l := 1536) rfl rfl rfl hn53 (pc' := 1119) rfl ?_
      refine t_call hT (y := 89) (n := 2) (pc' := 1122) rfl rfl (t_vt hT rfl rfl) rfl rfl ⟨(Nat.le_of_ble_eq_true rfl), (Nat.le_of_ble_eq_true rfl), (Nat.le_of_ble_eq_true rfl)⟩ rfl H (tV_elim (fun h54 H hT => ?_))
      show gm_G _ 1122 _ _ _ _
      refine g_aload (r := some _) rfl rfl rfl (pc' := 1123) ?_
      refine g_aload (r := some _) rfl rfl rfl (pc' := 1124) ?_
      refine t_get (o := 45) rfl hT rfl rfl rfl (pc' := 1127) rfl ?_
      refine g_iload rfl rfl rfl (pc' := 1129) ?_
      obtain ⟨n55, hn55, H⟩ := H
      refine t_iaload hT (o := 45) (l := 1536) rfl rfl rfl hn55 (pc' := 1130) rfl ?_
      refine g_iconst rfl rfl rfl (pc' := 1132) ?_
      refine g_ishr rfl rfl (pc' := 1133) ?_
      refine t_call hT (y := 89) (n := 2) (pc' := 1136) rfl rfl (t_vt hT rfl rfl) rfl rfl ⟨(Nat.le_of_ble_eq_true rfl), (Nat.le_of_ble_eq_true rfl), (Nat.le_of_ble_eq_true rfl)⟩ rfl H (tV_elim (fun h56 H hT => ?_))
      show gm_G _ 1136 _ _ _ _
      refine g_aload (r := some _) rfl rfl rfl (pc' := 1137) ?_
      refine g_aload (r := some _) rfl rfl rfl (pc' := 1138) ?_
      refine t_get (o := 45) rfl hT rfl rfl rfl (pc' := 1141) rfl ?_
      refine g_iload rfl rfl rfl (pc' := 1143) ?_
      obtain ⟨n57, hn57, H⟩ := H
      refine t_iaload hT (o := 45) (l := 1536) rfl rfl rfl hn57 (pc' := 1144) rfl ?_
      refine t_call hT (y := 89) (n := 2) (pc' := 1147) rfl rfl (t_vt hT rfl rfl) rfl rfl ⟨(Nat.le_of_ble_eq_true rfl), (Nat.le_of_ble_eq_true rfl), (Nat.le_of_ble_eq_true rfl)⟩ rfl H (tV_elim (fun h58 H hT => ?_))
      show gm_G _ 1147 _ _ _ _
      refine g_iconst rfl rfl rfl (pc' := 1149) ?_
      refine g_istore rfl rfl rfl (pc' := 1151) ?_
      exact g_weak (show gm_Lle [some _, none, none, none, none, none, none, none, none, some _, none, none, some _] _ from ⟨rfl, ⟨rfl, ⟨rfl, trivial⟩⟩⟩) H
theorem w_545_631 {m : Nat} {x9 : Int32} {x12 : Int32} {y0 : Int32} {h : hh_T} {Q : Option Value ⊕ Nat → hh_T → Prop} (hT : tw_ok h m) (H : (x12 < y0 → (gm_G 520 0 [some (.ref m), some (.int x9), some (.int x12), some (.int y0)] [] h (pI (fun v2 h1 => (¬ v2 < Int32.ofNat 0 → (gm_G 545 666 [some (.ref m), none, none, none, none, none, none, none, none, none, none, none, none, some (.int y0), none, some (.int x12)] [] h1 Q)) ∧ (v2 < Int32.ofNat 0 → (Q (.inl (some (.int v2))) h1))) (fun _ _ => False)))) ∧ (¬ x12 < y0 → (Q (.inl (some (.int (Int32.ofNat 0)))) h))) : gm_G 545 631 [some (.ref m), none, none, none, none, none, none, none, none, some (.int x9), none, none, some (.int x12)] [.int y0] h Q := by
  refine g_istore rfl rfl rfl (pc' := 633) ?_
  refine g_iload rfl rfl rfl (pc' := 635) ?_
  refine g_iload rfl rfl rfl (pc' := 637) ?_
  refine g_ic_gt rfl (pc' := 640) (pt := 642) rfl rfl ⟨fun hc => ?_, fun hc => ?_⟩
  · have H := H.1 hc
    refine g_aload (r := some _) rfl rfl rfl (pc' := 643) ?_
    refine g_iload rfl rfl rfl (pc' := 645) ?_
    refine g_iload rfl rfl rfl (pc' := 647) ?_
    refine g_iload rfl rfl rfl (pc' := 649) ?_
    refine t_call hT (y := 520) (n := 4) (pc' := 652) rfl rfl (t_vt hT rfl rfl) rfl rfl ⟨(Nat.le_of_ble_eq_true rfl), (Nat.le_of_ble_eq_true rfl), (Nat.le_of_ble_eq_true rfl)⟩ rfl H (tI_elim (fun v2 h1 H hT => ?_))
    show gm_G _ 652 _ _ _ _
    refine g_istore rfl rfl rfl (pc' := 654) ?_
    refine g_iload rfl rfl rfl (pc' := 656) ?_
    refine g_if_ge rfl (pc' := 659) (pt := 662) rfl rfl ⟨fun hc => ?_, fun hc => ?_⟩
    · have H := H.1 hc
      refine g_iload rfl rfl rfl (pc' := 664) ?_
      refine g_istore rfl rfl rfl (pc' := 666) ?_
      exact g_weak (show gm_Lle [some _, none, none, none, none, none, none, none, none, none, none, none, none, some _, none, some _] _ from ⟨rfl, ⟨rfl, ⟨rfl, trivial⟩⟩⟩) H
    · have H := H.2 hc
      refine g_iload rfl rfl rfl (pc' := 661) ?_
      exact g_ireturn rfl (Or.inl rfl) H
  · have H := H.2 hc
    refine g_iconst rfl rfl rfl (pc' := 641) ?_
    exact g_ireturn rfl (Or.inl rfl) H
theorem w_545_666 {m : Nat} {x13 : Int32} {x15 : Int32} {h : hh_T} {Q : Option Value ⊕ Nat → hh_T → Prop} (hT : tw_ok h m) (H : (¬ x15 < x13 → (Q (.inl (some (.int (Int32.ofNat 0)))) h)) ∧ (x15 < x13 → (∃ n1, gm_ix x15 n1 544 ∧ (gm_G 89 0 [some (.ref m), some (.int (hh_i h (m + 103) n1))] [] h (pV (fun h2 => gm_G 545 666 [some (.ref m), none, none, none, none, none, none, none, none, none, none, none, none, some (.int x13), none, some (.int (x15 + (Int32.ofNat 1)))] [] h2 Q) (fun _ _ => False)))))) : gm_G 545 666 [some (.ref m), none, none, none, none, none, none, none, none, none, none, none, none, some (.int x13), none, some (.int x15)] [] h Q := by
  refine g_iload rfl rfl rfl (pc' := 668) ?_
  refine g_iload rfl rfl rfl (pc' := 670) ?_
  refine g_ic_ge rfl (pc' := 673) (pt := 690) rfl rfl ⟨fun hc => ?_, fun hc => ?_⟩
  · have H := H.1 hc
    refine g_iconst rfl rfl rfl (pc' := 691) ?_
    exact g_ireturn rfl (Or.inl rfl) H
  · have H := H.2 hc
    refine g_aload (r := some _) rfl rfl rfl (pc' := 674) ?_
    refine g_aload (r := some _) rfl rfl rfl (pc' := 675) ?_
    refine t_get (o := 103) rfl hT rfl rfl rfl (pc' := 678) rfl ?_
    refine g_iload rfl rfl rfl (pc' := 680) ?_
    obtain ⟨n1, hn1, H⟩ := H
    refine t_baload hT (o := 103) (l := 544) rfl rfl rfl hn1 (pc' := 681) rfl ?_
    refine t_call hT (y := 89) (n := 2) (pc' := 684) rfl rfl (t_vt hT rfl rfl) rfl rfl ⟨(Nat.le_of_ble_eq_true rfl), (Nat.le_of_ble_eq_true rfl), (Nat.le_of_ble_eq_true rfl)⟩ rfl H (tV_elim (fun h2 H hT => ?_))
    show gm_G _ 684 _ _ _ _
    refine g_iinc (c := (Int32.ofNat 1)) rfl rfl rfl rfl rfl (pc' := 687) ?_
    refine g_goto rfl (pc' := 666) rfl ?_
    exact g_weak (show gm_Lle [some _, none, none, none, none, none, none, none, none, none, none, none, none, some _, none, some _] _ from ⟨rfl, ⟨rfl, ⟨rfl, trivial⟩⟩⟩) H
theorem w_545_915 {m : Nat} {x1 : Int32} {x5 : Int32} {x11 : Int32} {x12 : Int32} {y0 : Int32} {y1 : Int32} {y2 : Int32} {y3 : Int32} {y4 : Int32} {h : hh_T} {Q : Option Value ⊕ Nat → hh_T → Prop} (hT : tw_ok h m) (H : gm_G 437 0 [some (.ref m), some (.int y4), some (.int y3), some (.int y2), some (.int y1), some (.int y0), some (.ref (m + 1)), some (.int (Int32.ofNat 7)), some (.int (x1 - (Int32.ofNat 7))), some (.ref (m + 1)), some (.int (Int32.ofNat 0)), some (.int (Int32.ofNat 0))] [] h (pV (fun h1 => ∃ n2, gm_ix x11 n2 32 ∧ (gm_G 269 0 [some (.ref m), some (.int x5), some (.int (hh_i h1 (m + 63) n2)), some (.int x12)] [] h1 (pV (fun h3 => Q (.inl (some (.int (Int32.ofNat 0)))) h3) (fun _ _ => False)))) (fun _ _ => False))) : gm_G 545 915 [some (.ref m), some (.int x1), none, none, none, some (.int x5), none, none, none, none, none, some (.int x11), some (.int x12)] [.int y0, .int y1, .int y2, .int y3, .int y4, .ref m] h Q := by
  refine g_aload (r := some _) rfl rfl rfl (pc' := 916) ?_
  refine t_get (o := 1) rfl hT rfl rfl rfl (pc' := 919) rfl ?_
  refine g_iconst rfl rfl rfl (pc' := 921) ?_
  refine g_iload rfl rfl rfl (pc' := 922) ?_
  refine g_iconst rfl rfl rfl (pc' := 924) ?_
  refine g_isub rfl rfl (pc' := 925) ?_
  refine g_aload (r := some _) rfl rfl rfl (pc' := 926) ?_
  refine t_get (o := 1) rfl hT rfl rfl rfl (pc' := 929) rfl ?_
  refine g_iconst rfl rfl rfl (pc' := 930) ?_
  refine g_iconst rfl rfl rfl (pc' := 931) ?_
  refine t_call hT (y := 437) (n := 12) (pc' := 934) rfl rfl (t_vt hT rfl rfl) rfl rfl ⟨(Nat.le_of_ble_eq_true rfl), (Nat.le_of_ble_eq_true rfl), (Nat.le_of_ble_eq_true rfl)⟩ rfl H (tV_elim (fun h1 H hT => ?_))
  show gm_G _ 934 _ _ _ _
  refine g_aload (r := some _) rfl rfl rfl (pc' := 935) ?_
  refine g_iload rfl rfl rfl (pc' := 937) ?_
  refine g_aload (r := some _) rfl rfl rfl (pc' := 938) ?_
  refine t_get (o := 63) rfl hT rfl rfl rfl (pc' := 941) rfl ?_
  refine g_iload rfl rfl rfl (pc' := 943) ?_
  obtain ⟨n2, hn2, H⟩ := H
  refine t_iaload hT (o := 63) (l := 32) rfl rfl rfl hn2 (pc' := 944) rfl ?_
  refine g_iload rfl rfl rfl (pc' := 946) ?_
  refine t_call hT (y := 269) (n := 4) (pc' := 949) rfl rfl (t_vt hT rfl rfl) rfl rfl ⟨(Nat.le_of_ble_eq_true rfl), (Nat.le_of_ble_eq_true rfl), (Nat.le_of_ble_eq_true rfl)⟩ rfl H (tV_elim (fun h3 H hT => ?_))
  show gm_G _ 949 _ _ _ _
  refine g_iconst rfl rfl rfl (pc' := 950) ?_
  exact g_ireturn rfl (Or.inl rfl) H
theorem w_545_1151 {m : Nat} {x9 : Int32} {x12 : Int32} {h : hh_T} {Q : Option Value ⊕ Nat → hh_T → Prop} (hT : tw_ok h m) (H : (x12 < Int32.ofNat 0 → (Q (.inl (some (.int (Int32.ofNat 0)))) h)) ∧ (¬ x12 < Int32.ofNat 0 → (∃ n1, gm_ix x9 n1 1536 ∧ (gm_G 89 0 [some (.ref m), some (.int ((hh_i h (m + 46) n1) >>> (x12 &&& 31)))] [] h (pV (fun h2 => gm_G 545 1151 [some (.ref m), none, none, none, none, none, none, none, none, some (.int x9), none, none, some (.int (x12 + (Int32.ofInt (-8))))] [] h2 Q) (fun _ _ => False)))))) : gm_G 545 1151 [some (.ref m), none, none, none, none, none, none, none, none, some (.int x9), none, none, some (.int x12)] [] h Q := by
  refine g_iload rfl rfl rfl (pc' := 1153) ?_
  refine g_if_lt rfl (pc' := 1156) (pt := 1176) rfl rfl ⟨fun hc => ?_, fun hc => ?_⟩
  · have H := H.1 hc
    refine g_iconst rfl rfl rfl (pc' := 1177) ?_
    exact g_ireturn rfl (Or.inl rfl) H
  · have H := H.2 hc
    refine g_aload (r := some _) rfl rfl rfl (pc' := 1157) ?_
    refine g_aload (r := some _) rfl rfl rfl (pc' := 1158) ?_
    refine t_get (o := 46) rfl hT rfl rfl rfl (pc' := 1161) rfl ?_
    refine g_iload rfl rfl rfl (pc' := 1163) ?_
    obtain ⟨n1, hn1, H⟩ := H
    refine t_iaload hT (o := 46) (l := 1536) rfl rfl rfl hn1 (pc' := 1164) rfl ?_
    refine g_iload rfl rfl rfl (pc' := 1166) ?_
    refine g_ishr rfl rfl (pc' := 1167) ?_
    refine t_call hT (y := 89) (n := 2) (pc' := 1170) rfl rfl (t_vt hT rfl rfl) rfl rfl ⟨(Nat.le_of_ble_eq_true rfl), (Nat.le_of_ble_eq_true rfl), (Nat.le_of_ble_eq_true rfl)⟩ rfl H (tV_elim (fun h2 H hT => ?_))
    show gm_G _ 1170 _ _ _ _
    refine g_iinc (c := (Int32.ofInt (-8))) rfl rfl rfl rfl rfl (pc' := 1173) ?_
    refine g_goto rfl (pc' := 1151) rfl ?_
    exact g_weak (show gm_Lle [some _, none, none, none, none, none, none, none, none, some _, none, none, some _] _ from ⟨rfl, ⟨rfl, ⟨rfl, trivial⟩⟩⟩) H
theorem w_545_1198 {m : Nat} {y0 : Int32} {h : hh_T} {Q : Option Value ⊕ Nat → hh_T → Prop} (hT : tw_ok h m) (H : (¬ y0 < Int32.ofNat 0 → (gm_G 89 0 [some (.ref m), some (.int ((hh_i h m 102) >>> ((Int32.ofNat 8) &&& 31)))] [] h (pV (fun h1 => gm_G 89 0 [some (.ref m), some (.int (hh_i h1 m 102))] [] h1 (pV (fun h2 => Q (.inl (some (.int (Int32.ofNat 0)))) h2) (fun _ _ => False))) (fun _ _ => False)))) ∧ (y0 < Int32.ofNat 0 → (Q (.inl (some (.int y0))) h))) : gm_G 545 1198 [some (.ref m)] [.int y0] h Q := by
  refine g_istore rfl rfl rfl (pc' := 1200) ?_
  refine g_iload rfl rfl rfl (pc' := 1202) ?_
  refine g_if_ge rfl (pc' := 1205) (pt := 1208) rfl rfl ⟨fun hc => ?_, fun hc => ?_⟩
  · have H := H.1 hc
    refine g_aload (r := some _) rfl rfl rfl (pc' := 1209) ?_
    refine g_aload (r := some _) rfl rfl rfl (pc' := 1210) ?_
    refine t_getI rfl hT rfl rfl (pc' := 1213) rfl ?_
    refine g_iconst rfl rfl rfl (pc' := 1215) ?_
    refine g_ishr rfl rfl (pc' := 1216) ?_
    refine t_call hT (y := 89) (n := 2) (pc' := 1219) rfl rfl (t_vt hT rfl rfl) rfl rfl ⟨(Nat.le_of_ble_eq_true rfl), (Nat.le_of_ble_eq_true rfl), (Nat.le_of_ble_eq_true rfl)⟩ rfl H (tV_elim (fun h1 H hT => ?_))
    show gm_G _ 1219 _ _ _ _
    refine g_aload (r := some _) rfl rfl rfl (pc' := 1220) ?_
    refine g_aload (r := some _) rfl rfl rfl (pc' := 1221) ?_
    refine t_getI rfl hT rfl rfl (pc' := 1224) rfl ?_
    refine t_call hT (y := 89) (n := 2) (pc' := 1227) rfl rfl (t_vt hT rfl rfl) rfl rfl ⟨(Nat.le_of_ble_eq_true rfl), (Nat.le_of_ble_eq_true rfl), (Nat.le_of_ble_eq_true rfl)⟩ rfl H (tV_elim (fun h2 H hT => ?_))
    show gm_G _ 1227 _ _ _ _
    refine g_iconst rfl rfl rfl (pc' := 1228) ?_
    exact g_ireturn rfl (Or.inl rfl) H
  · have H := H.2 hc
    refine g_iload rfl rfl rfl (pc' := 1207) ?_
    exact g_ireturn rfl (Or.inl rfl) H
theorem w_546_0 {m : Nat} {x1 : Int32} {h : hh_T} {Q : Option Value ⊕ Nat → hh_T → Prop} (hT : tw_ok h m) (H : ∀ h1, h1 = hh_wi h m 2 (Int32.ofNat 0) → ((¬ (hh_i h1 m 77) = Int32.ofNat 0 → (gm_G 138 0 [some (.int x1)] [] h1 (pI (fun v3 h2 => (v3 = Int32.ofNat 0 → (((hh_i h m 2) < (Int32.ofNat 1) → (Q (.inl (some (.int (Int32.ofInt (-11))))) h2)) ∧ (¬ (hh_i h m 2) < (Int32.ofNat 1) → ((¬ (Int32.ofNat 256) < (hh_i h m 2) → (∃ n4, gm_ix x1 n4 8 ∧ ((¬ (hh_i h2 (m + 88) n4) = Int32.ofNat 0 → (∃ n5, gm_ix x1 n5 8 ∧ ((¬ ((hh_i h2 (m + 92) n5) &&& (Int32.ofNat 2)) = Int32.ofNat 0 → (∃ n6, gm_ix x1 n6 8 ∧ (gm_G 152 0 [some (.ref m), some (.int ((hh_i h2 (m + 90) n6) / (Int32.ofNat 2)))] [] h2 (pI (fun v8 h7 => gm_G 297 0 [some (.ref m), some (.int v8), some (.int (Int32.ofNat 3))] [] h7 (pI (fun v10 h9 => (¬ v10 = (Int32.ofNat 1) → (gm_G 377 0 [some (.ref m), some (.int x1)] [] h9 (pI (fun v12 h11 => ∃ n13, gm_ix x1 n13 8 ∧ ((((hh_i h11 (m + 92) n13) &&& (Int32.ofNat 32)) = Int32.ofNat 0 → (∃ n14, gm_ix x1 n14 8 ∧ (gm_G 546 131 [some (.ref m), some (.int x1), some (.int (hh_i h m 2)), some (.int v8)] [.int (hh_i h11 (m + 93) n14)] h11 Q))) ∧ (¬ ((hh_i h11 (m + 92) n13) &&& (Int32.ofNat 32)) = Int32.ofNat 0 → (∃ n15, gm_ix v12 n15 1536 ∧ (gm_G 546 131 [some (.ref m), some (.int x1), some (.int (hh_i h m 2)), some (.int v8)] [.int (hh_i h11 (m + 45) n15)] h11 Q))))) (fun _ _ => False)))) ∧ (v10 = (Int32.ofNat 1) → (Q (.inl (some (.int (Int32.ofInt (-6))))) h9))) (fun _ _ => False))) (fun _ _ => False))))) ∧ (((hh_i h2 (m + 92) n5) &&& (Int32.ofNat 2)) = Int32.ofNat 0 → (Q (.inl (some (.int (Int32.ofInt (-6))))) h2))))) ∧ ((hh_i h2 (m + 88) n4) = Int32.ofNat 0 → (Q (.inl (some (.int (Int32.ofInt (-2))))) h2))))) ∧ ((Int32.ofNat 256) < (hh_i h m 2) → (Q (.inl (some (.int (Int32.ofInt (-11))))) h2)))))) ∧ (¬ v3 = Int32.ofNat 0 → (Q (.inl (some (.int (Int32.ofInt (-1))))) h2))) (fun _ _ => False)))) ∧ ((hh_i h1 m 77) = Int32.ofNat 0 → (Q (.inl (some (.int (Int32.ofInt (-9))))) h1)))) : gm_G 546 0 [some (.ref m), some (.int x1)] [] h Q := by
  refine g_aload (r := some _) rfl rfl rfl (pc' := 1) ?_
  refine t_getI rfl hT rfl rfl (pc' := 4) rfl ?_
  refine g_istore rfl rfl rfl (pc' := 5) ?_
  refine g_aload (r := some _) rfl rfl rfl (pc' := 6) ?_
  refine g_iconst rfl rfl rfl (pc' := 7) ?_
  refine t_putI rfl hT rfl rfl  (pc' := 10) rfl (fun hT => ?_)
  have H := H _ rfl
  refine g_aload (r := some _) rfl rfl rfl (pc' := 11) ?_
  refine t_getZ rfl hT rfl rfl (pc' := 14) rfl ?_
  refine g_if_ne rfl (pc' := 17) (pt := 20) rfl rfl ⟨fun hc => ?_, fun hc => ?_⟩
  · have H := H.1 hc
    refine g_iload rfl rfl rfl (pc' := 21) ?_
    refine t_call hT (y := 138) (n := 1) (pc' := 24) rfl rfl (fun _ => rfl) rfl rfl ⟨(Nat.le_of_ble_eq_true rfl), (Nat.le_of_ble_eq_true rfl), (Nat.le_of_ble_eq_true rfl)⟩ rfl H (tI_elim (fun v3 h2 H hT => ?_))
    show gm_G _ 24 _ _ _ _
    refine g_if_eq rfl (pc' := 27) (pt := 29) rfl rfl ⟨fun hc => ?_, fun hc => ?_⟩
    · have H := H.1 hc
      refine g_iload rfl rfl rfl (pc' := 30) ?_
      refine g_iconst rfl rfl rfl (pc' := 31) ?_
      refine g_ic_lt rfl (pc' := 34) (pt := 41) rfl rfl ⟨fun hc => ?_, fun hc => ?_⟩
      · have H := H.1 hc
        refine g_iconst rfl rfl rfl (pc' := 43) ?_
        exact g_ireturn rfl (Or.inl rfl) H
      · have H := H.2 hc
        refine g_iload rfl rfl rfl (pc' := 35) ?_
        refine g_iconst rfl rfl rfl (pc' := 38) ?_
        refine g_ic_le rfl (pc' := 41) (pt := 44) rfl rfl ⟨fun hc => ?_, fun hc => ?_⟩
        · have H := H.1 hc
          refine g_aload (r := some _) rfl rfl rfl (pc' := 45) ?_
          refine t_get (o := 88) rfl hT rfl rfl rfl (pc' := 48) rfl ?_
          refine g_iload rfl rfl rfl (pc' := 49) ?_
          obtain ⟨n4, hn4, H⟩ := H
          refine t_zaload hT (o := 88) (l := 8) rfl rfl rfl hn4 (pc' := 50) rfl ?_
          refine g_if_ne rfl (pc' := 53) (pt := 56) rfl rfl ⟨fun hc => ?_, fun hc => ?_⟩
          · have H := H.1 hc
            refine g_aload (r := some _) rfl rfl rfl (pc' := 57) ?_
            refine t_get (o := 92) rfl hT rfl rfl rfl (pc' := 60) rfl ?_
            refine g_iload rfl rfl rfl (pc' := 61) ?_
            obtain ⟨n5, hn5, H⟩ := H
            refine t_iaload hT (o := 92) (l := 8) rfl rfl rfl hn5 (pc' := 62) rfl ?_
            refine g_iconst rfl rfl rfl (pc' := 63) ?_
            refine g_iand rfl rfl (pc' := 64) ?_
            refine g_if_ne rfl (pc' := 67) (pt := 70) rfl rfl ⟨fun hc => ?_, fun hc => ?_⟩
            · have H := H.1 hc
              refine g_aload (r := some _) rfl rfl rfl (pc' := 71) ?_
              refine g_aload (r := some _) rfl rfl rfl (pc' := 72) ?_
              refine t_get (o := 90) rfl hT rfl rfl rfl (pc' := 75) rfl ?_
              refine g_iload rfl rfl rfl (pc' := 76) ?_
              obtain ⟨n6, hn6, H⟩ := H
              refine t_iaload hT (o := 90) (l := 8) rfl rfl rfl hn6 (pc' := 77) rfl ?_
              refine g_iconst rfl rfl rfl (pc' := 78) ?_
              refine g_idiv rfl (by decide) (pc' := 79) rfl ?_
              refine t_call hT (y := 152) (n := 2) (pc' := 82) rfl rfl (t_vt hT rfl rfl) rfl rfl ⟨(Nat.le_of_ble_eq_true rfl), (Nat.le_of_ble_eq_true rfl), (Nat.le_of_ble_eq_true rfl)⟩ rfl H (tI_elim (fun v8 h7 H hT => ?_))
              show gm_G _ 82 _ _ _ _
              refine g_istore rfl rfl rfl (pc' := 83) ?_
              refine g_aload (r := some _) rfl rfl rfl (pc' := 84) ?_
              refine g_iload rfl rfl rfl (pc' := 85) ?_
              refine g_iconst rfl rfl rfl (pc' := 86) ?_
              refine t_call hT (y := 297) (n := 3) (pc' := 89) rfl rfl (t_vt hT rfl rfl) rfl rfl ⟨(Nat.le_of_ble_eq_true rfl), (Nat.le_of_ble_eq_true rfl), (Nat.le_of_ble_eq_true rfl)⟩ rfl H (tI_elim (fun v10 h9 H hT => ?_))
              show gm_G _ 89 _ _ _ _
              refine g_iconst rfl rfl rfl (pc' := 90) ?_
              refine g_ic_ne rfl (pc' := 93) (pt := 96) rfl rfl ⟨fun hc => ?_, fun hc => ?_⟩
              · have H := H.1 hc
                refine g_aload (r := some _) rfl rfl rfl (pc' := 97) ?_
                refine g_iload rfl rfl rfl (pc' := 98) ?_
                refine t_call hT (y := 377) (n := 2) (pc' := 101) rfl rfl (t_vt hT rfl rfl) rfl rfl ⟨(Nat.le_of_ble_eq_true rfl), (Nat.le_of_ble_eq_true rfl), (Nat.le_of_ble_eq_true rfl)⟩ rfl H (tI_elim (fun v12 h11 H hT => ?_))
                show gm_G _ 101 _ _ _ _
                refine g_istore rfl rfl rfl (pc' := 103) ?_
                refine g_aload (r := some _) rfl rfl rfl (pc' := 104) ?_
                refine t_get (o := 92) rfl hT rfl rfl rfl (pc' := 107) rfl ?_
                refine g_iload rfl rfl rfl (pc' := 108) ?_
                obtain ⟨n13, hn13, H⟩ := H
                refine t_iaload hT (o := 92) (l := 8) rfl rfl rfl hn13 (pc' := 109) rfl ?_
                refine g_iconst rfl rfl rfl (pc' := 111) ?_
                refine g_iand rfl rfl (pc' := 112) ?_
                refine g_if_eq rfl (pc' := 115) (pt := 125) rfl rfl ⟨fun hc => ?_, fun hc => ?_⟩
                · have H := H.1 hc
                  refine g_aload (r := some _) rfl rfl rfl (pc' := 126) ?_
                  refine t_get (o := 93) rfl hT rfl rfl rfl (pc' := 129) rfl ?_
                  refine g_iload rfl rfl rfl (pc' := 130) ?_
                  obtain ⟨n14, hn14, H⟩ := H
                  refine t_iaload hT (o := 93) (l := 8) rfl rfl rfl hn14 (pc' := 131) rfl ?_
                  exact g_weak (show gm_Lle [some _, some _, some _, some _] _ from ⟨rfl, ⟨rfl, ⟨rfl, ⟨rfl, trivial⟩⟩⟩⟩) H
                · have H := H.2 hc
                  refine g_aload (r := some _) rfl rfl rfl (pc' := 116) ?_
                  refine t_get (o := 45) rfl hT rfl rfl rfl (pc' := 119) rfl ?_
                  refine g_iload rfl rfl rfl (pc' := 121) ?_
                  obtain ⟨n15, hn15, H⟩ := H
                  refine t_iaload hT (o := 45) (l := 1536) rfl rfl rfl hn15 (pc' := 122) rfl ?_
                  refine g_goto rfl (pc' := 131) rfl ?_
                  exact g_weak (show gm_Lle [some _, some _, some _, some _] _ from ⟨rfl, ⟨rfl, ⟨rfl, ⟨rfl, trivial⟩⟩⟩⟩) H
              · have H := H.2 hc
                refine g_iconst rfl rfl rfl (pc' := 95) ?_
                exact g_ireturn rfl (Or.inl rfl) H
            · have H := H.2 hc
              refine g_iconst rfl rfl rfl (pc' := 69) ?_
              exact g_ireturn rfl (Or.inl rfl) H
          · have H := H.2 hc
            refine g_iconst rfl rfl rfl (pc' := 55) ?_
            exact g_ireturn rfl (Or.inl rfl) H
        · have H := H.2 hc
          refine g_iconst rfl rfl rfl (pc' := 43) ?_
          exact g_ireturn rfl (Or.inl rfl) H
    · have H := H.2 hc
      refine g_iconst rfl rfl rfl (pc' := 28) ?_
      exact g_ireturn rfl (Or.inl rfl) H
  · have H := H.2 hc
    refine g_iconst rfl rfl rfl (pc' := 19) ?_
    exact g_ireturn rfl (Or.inl rfl) H
theorem w_546_131 {m : Nat} {x1 : Int32} {x2 : Int32} {x3 : Int32} {y0 : Int32} {h : hh_T} {Q : Option Value ⊕ Nat → hh_T → Prop} (hT : tw_ok h m) (H : (¬ (Int32.ofNat 256) < (y0 + x2) → (gm_G 284 0 [some (.ref m), some (.int x1), some (.int y0), some (.int (y0 + x2)), some (.int (Int32.ofNat 1))] [] h (pI (fun v2 h1 => (v2 = Int32.ofNat 0 → (∃ n3, gm_ix x1 n3 8 ∧ (gm_G 513 0 [some (.ref m), some (.int x3), some (.int (hh_i h1 (m + 91) n3)), some (.ref (m + 1)), some (.int (Int32.ofNat 0)), some (.int x2), some (.int y0)] [] h1 (pI (fun v5 h4 => (¬ v5 < Int32.ofNat 0 → (∃ n6, gm_ix x1 n6 8 ∧ (∀ h7, h7 = hh_wi h4 (m + 93) n6 (y0 + x2) → (gm_G 468 0 [some (.ref m), some (.int x2)] [] h7 (pI (fun v9 h8 => Q (.inl (some (.int v9))) h8) (fun _ _ => False)))))) ∧ (v5 < Int32.ofNat 0 → (Q (.inl (some (.int v5))) h4))) (fun _ _ => False))))) ∧ (¬ v2 = Int32.ofNat 0 → (Q (.inl (some (.int (Int32.ofInt (-5))))) h1))) (fun _ _ => False)))) ∧ ((Int32.ofNat 256) < (y0 + x2) → (Q (.inl (some (.int (Int32.ofInt (-3))))) h))) : gm_G 546 131 [some (.ref m), some (.int x1), some (.int x2), some (.int x3)] [.int y0] h Q := by
  refine g_istore rfl rfl rfl (pc' := 133) ?_
  refine g_iload rfl rfl rfl (pc' := 135) ?_
  refine g_iload rfl rfl rfl (pc' := 136) ?_
  refine g_iadd rfl rfl (pc' := 137) ?_
  refine g_iconst rfl rfl rfl (pc' := 140) ?_
  refine g_ic_le rfl (pc' := 143) (pt := 146) rfl rfl ⟨fun hc => ?_, fun hc => ?_⟩
  · have H := H.1 hc
    refine g_aload (r := some _) rfl rfl rfl (pc' := 147) ?_
    refine g_iload rfl rfl rfl (pc' := 148) ?_
    refine g_iload rfl rfl rfl (pc' := 150) ?_
    refine g_iload rfl rfl rfl (pc' := 152) ?_
    refine g_iload rfl rfl rfl (pc' := 153) ?_
    refine g_iadd rfl rfl (pc' := 154) ?_
    refine g_iconst rfl rfl rfl (pc' := 155) ?_
    refine t_call hT (y := 284) (n := 5) (pc' := 158) rfl rfl (t_vt hT rfl rfl) rfl rfl ⟨(Nat.le_of_ble_eq_true rfl), (Nat.le_of_ble_eq_true rfl), (Nat.le_of_ble_eq_true rfl)⟩ rfl H (tI_elim (fun v2 h1 H hT => ?_))
    show gm_G _ 158 _ _ _ _
    refine g_if_eq rfl (pc' := 161) (pt := 164) rfl rfl ⟨fun hc => ?_, fun hc => ?_⟩
    · have H := H.1 hc
      refine g_aload (r := some _) rfl rfl rfl (pc' := 165) ?_
      refine g_iload rfl rfl rfl (pc' := 166) ?_
      refine g_aload (r := some _) rfl rfl rfl (pc' := 167) ?_
      refine t_get (o := 91) rfl hT rfl rfl rfl (pc' := 170) rfl ?_
      refine g_iload rfl rfl rfl (pc' := 171) ?_
      obtain ⟨n3, hn3, H⟩ := H
      refine t_iaload hT (o := 91) (l := 8) rfl rfl rfl hn3 (pc' := 172) rfl ?_
      refine g_aload (r := some _) rfl rfl rfl (pc' := 173) ?_
      refine t_get (o := 1) rfl hT rfl rfl rfl (pc' := 176) rfl ?_
      refine g_iconst rfl rfl rfl (pc' := 177) ?_
      refine g_iload rfl rfl rfl (pc' := 178) ?_
      refine g_iload rfl rfl rfl (pc' := 180) ?_
      refine t_call hT (y := 513) (n := 7) (pc' := 183) rfl rfl (t_vt hT rfl rfl) rfl rfl ⟨(Nat.le_of_ble_eq_true rfl), (Nat.le_of_ble_eq_true rfl), (Nat.le_of_ble_eq_true rfl)⟩ rfl H (tI_elim (fun v5 h4 H hT => ?_))
      show gm_G _ 183 _ _ _ _
      refine g_istore rfl rfl rfl (pc' := 185) ?_
      refine g_iload rfl rfl rfl (pc' := 187) ?_
      refine g_if_ge rfl (pc' := 190) (pt := 193) rfl rfl ⟨fun hc => ?_, fun hc => ?_⟩
      · have H := H.1 hc
        refine g_aload (r := some _) rfl rfl rfl (pc' := 194) ?_
        refine t_get (o := 93) rfl hT rfl rfl rfl (pc' := 197) rfl ?_
        refine g_iload rfl rfl rfl (pc' := 198) ?_
        refine g_iload rfl rfl rfl (pc' := 200) ?_
        refine g_iload rfl rfl rfl (pc' := 201) ?_
        refine g_iadd rfl rfl (pc' := 202) ?_
        obtain ⟨n6, hn6, H⟩ := H
        refine t_iastore hT (o := 93) (l := 8) rfl rfl rfl hn6  (pc' := 203) rfl (fun hT => ?_)
        have H := H _ rfl
        refine g_aload (r := some _) rfl rfl rfl (pc' := 204) ?_
        refine g_iload rfl rfl rfl (pc' := 205) ?_
        refine t_call hT (y := 468) (n := 2) (pc' := 208) rfl rfl (t_vt hT rfl rfl) rfl rfl ⟨(Nat.le_of_ble_eq_true rfl), (Nat.le_of_ble_eq_true rfl), (Nat.le_of_ble_eq_true rfl)⟩ rfl H (tI_elim (fun v9 h8 H hT => ?_))
        show gm_G _ 208 _ _ _ _
        exact g_ireturn rfl (Or.inl rfl) H
      · have H := H.2 hc
        refine g_iload rfl rfl rfl (pc' := 192) ?_
        exact g_ireturn rfl (Or.inl rfl) H
    · have H := H.2 hc
      refine g_iconst rfl rfl rfl (pc' := 163) ?_
      exact g_ireturn rfl (Or.inl rfl) H
  · have H := H.2 hc
    refine g_iconst rfl rfl rfl (pc' := 145) ?_
    exact g_ireturn rfl (Or.inl rfl) H
theorem w_555_0 {m : Nat}  {h : hh_T} {Q : Option Value ⊕ Nat → hh_T → Prop} (hT : tw_ok h m) (H : gm_G 555 2 [some (.ref m), some (.int (Int32.ofNat 0))] [] h Q) : gm_G 555 0 [some (.ref m)] [] h Q := by
  refine g_iconst rfl rfl rfl (pc' := 1) ?_
  refine g_istore rfl rfl rfl (pc' := 2) ?_
  exact g_weak (show gm_Lle [some _, some _] _ from ⟨rfl, ⟨rfl, trivial⟩⟩) H
theorem w_555_2 {m : Nat} {x1 : Int32} {h : hh_T} {Q : Option Value ⊕ Nat → hh_T → Prop} (hT : tw_ok h m) (H : (¬ x1 < (Int32.ofNat 37120) → (gm_G 555 29 [some (.ref m), some (.int (Int32.ofNat 0))] [] h Q)) ∧ (x1 < (Int32.ofNat 37120) → (∃ n1, gm_ix x1 n1 37120 ∧ (∃ n2, gm_ix x1 n2 37120 ∧ (∀ h3, h3 = hh_wi h (m + 83) n2 (hh_i h (m + 82) n1) → (gm_G 555 2 [some (.ref m), some (.int (x1 + (Int32.ofNat 1)))] [] h3 Q)))))) : gm_G 555 2 [some (.ref m), some (.int x1)] [] h Q := by
  refine g_iload rfl rfl rfl (pc' := 3) ?_
  refine g_iconst rfl rfl rfl (pc' := 6) ?_
  refine g_ic_ge rfl (pc' := 9) (pt := 27) rfl rfl ⟨fun hc => ?_, fun hc => ?_⟩
  · have H := H.1 hc
    refine g_iconst rfl rfl rfl (pc' := 28) ?_
    refine g_istore rfl rfl rfl (pc' := 29) ?_
    exact g_weak (show gm_Lle [some _, some _] _ from ⟨rfl, ⟨rfl, trivial⟩⟩) H
  · have H := H.2 hc
    refine g_aload (r := some _) rfl rfl rfl (pc' := 10) ?_
    refine t_get (o := 83) rfl hT rfl rfl rfl (pc' := 13) rfl ?_
    refine g_iload rfl rfl rfl (pc' := 14) ?_
    refine g_aload (r := some _) rfl rfl rfl (pc' := 15) ?_
    refine t_get (o := 82) rfl hT rfl rfl rfl (pc' := 18) rfl ?_
    refine g_iload rfl rfl rfl (pc' := 19) ?_
    obtain ⟨n1, hn1, H⟩ := H
    refine t_iaload hT (o := 82) (l := 37120) rfl rfl rfl hn1 (pc' := 20) rfl ?_
    obtain ⟨n2, hn2, H⟩ := H
    refine t_iastore hT (o := 83) (l := 37120) rfl rfl rfl hn2  (pc' := 21) rfl (fun hT => ?_)
    have H := H _ rfl
    refine g_iinc (c := (Int32.ofNat 1)) rfl rfl rfl rfl rfl (pc' := 24) ?_
    refine g_goto rfl (pc' := 2) rfl ?_
    exact g_weak (show gm_Lle [some _, some _] _ from ⟨rfl, ⟨rfl, trivial⟩⟩) H
theorem w_555_29 {m : Nat} {x1 : Int32} {h : hh_T} {Q : Option Value ⊕ Nat → hh_T → Prop} (hT : tw_ok h m) (H : (¬ x1 < (Int32.ofNat 8) → (∀ h1, h1 = hh_wi h m 111 (Int32.ofNat 1) → (gm_G 555 93 [some (.ref m), some (.int (hh_i h m 4)), some (.int (hh_i h m 5)), some (.int (hh_i h m 42)), some (.int (Int32.ofNat 1)), some (.int (Int32.ofNat 0))] [] h1 Q))) ∧ (x1 < (Int32.ofNat 8) → (∃ n2, gm_ix x1 n2 8 ∧ (∃ n3, gm_ix x1 n3 8 ∧ (∀ h4, h4 = hh_wi h (m + 84) n3 (hh_i h (m + 80) n2) → (∃ n5, gm_ix x1 n5 8 ∧ (∀ h6, h6 = hh_wi h4 (m + 80) n5 (Int32.ofNat 0) → (∃ n7, gm_ix x1 n7 8 ∧ (∀ h8, h8 = hh_wi h6 (m + 81) n7 (Int32.ofNat 0) → (gm_G 555 29 [some (.ref m), some (.int (x1 + (Int32.ofNat 1)))] [] h8 Q)))))))))) : gm_G 555 29 [some (.ref m), some (.int x1)] [] h Q := by
  refine g_iload rfl rfl rfl (pc' := 30) ?_
  refine g_iconst rfl rfl rfl (pc' := 32) ?_
  refine g_ic_ge rfl (pc' := 35) (pt := 67) rfl rfl ⟨fun hc => ?_, fun hc => ?_⟩
  · have H := H.1 hc
    refine g_aload (r := some _) rfl rfl rfl (pc' := 68) ?_
    refine t_getI rfl hT rfl rfl (pc' := 71) rfl ?_
    refine g_istore rfl rfl rfl (pc' := 72) ?_
    refine g_aload (r := some _) rfl rfl rfl (pc' := 73) ?_
    refine t_getI rfl hT rfl rfl (pc' := 76) rfl ?_
    refine g_istore rfl rfl rfl (pc' := 77) ?_
    refine g_aload (r := some _) rfl rfl rfl (pc' := 78) ?_
    refine t_getI rfl hT rfl rfl (pc' := 81) rfl ?_
    refine g_istore rfl rfl rfl (pc' := 82) ?_
    refine g_aload (r := some _) rfl rfl rfl (pc' := 83) ?_
    refine g_iconst rfl rfl rfl (pc' := 84) ?_
    refine t_putZ rfl hT rfl rfl (by decide) (pc' := 87) rfl (fun hT => ?_)
    have H := H _ rfl
    refine g_iconst rfl rfl rfl (pc' := 88) ?_
    refine g_istore rfl rfl rfl (pc' := 90) ?_
    refine g_iconst rfl rfl rfl (pc' := 91) ?_
    refine g_istore rfl rfl rfl (pc' := 93) ?_
    exact g_weak (show gm_Lle [some _, some _, some _, some _, some _, some _] _ from ⟨rfl, ⟨rfl, ⟨rfl, ⟨rfl, ⟨rfl, ⟨rfl, trivial⟩⟩⟩⟩⟩⟩) H
  · have H := H.2 hc
    refine g_aload (r := some _) rfl rfl rfl (pc' := 36) ?_
    refine t_get (o := 84) rfl hT rfl rfl rfl (pc' := 39) rfl ?_
    refine g_iload rfl rfl rfl (pc' := 40) ?_
    refine g_aload (r := some _) rfl rfl rfl (pc' := 41) ?_
    refine t_get (o := 80) rfl hT rfl rfl rfl (pc' := 44) rfl ?_
    refine g_iload rfl rfl rfl (pc' := 45) ?_
    obtain ⟨n2, hn2, H⟩ := H
    refine t_iaload hT (o := 80) (l := 8) rfl rfl rfl hn2 (pc' := 46) rfl ?_
    obtain ⟨n3, hn3, H⟩ := H
    refine t_iastore hT (o := 84) (l := 8) rfl rfl rfl hn3  (pc' := 47) rfl (fun hT => ?_)
    have H := H _ rfl
    refine g_aload (r := some _) rfl rfl rfl (pc' := 48) ?_
    refine t_get (o := 80) rfl hT rfl rfl rfl (pc' := 51) rfl ?_
    refine g_iload rfl rfl rfl (pc' := 52) ?_
    refine g_iconst rfl rfl rfl (pc' := 53) ?_
    obtain ⟨n5, hn5, H⟩ := H
    refine t_iastore hT (o := 80) (l := 8) rfl rfl rfl hn5  (pc' := 54) rfl (fun hT => ?_)
    have H := H _ rfl
    refine g_aload (r := some _) rfl rfl rfl (pc' := 55) ?_
    refine t_get (o := 81) rfl hT rfl rfl rfl (pc' := 58) rfl ?_
    refine g_iload rfl rfl rfl (pc' := 59) ?_
    refine g_iconst rfl rfl rfl (pc' := 60) ?_
    obtain ⟨n7, hn7, H⟩ := H
    refine t_iastore hT (o := 81) (l := 8) rfl rfl rfl hn7  (pc' := 61) rfl (fun hT => ?_)
    have H := H _ rfl
    refine g_iinc (c := (Int32.ofNat 1)) rfl rfl rfl rfl rfl (pc' := 64) ?_
    refine g_goto rfl (pc' := 29) rfl ?_
    exact g_weak (show gm_Lle [some _, some _] _ from ⟨rfl, ⟨rfl, trivial⟩⟩) H
theorem w_555_93 {m : Nat} {x1 : Int32} {x2 : Int32} {x3 : Int32} {x4 : Int32} {x5 : Int32} {h : hh_T} {Q : Option Value ⊕ Nat → hh_T → Prop} (hT : tw_ok h m) (H : (¬ x5 < (hh_i h (m + 76) 0) → (gm_G 555 225 [some (.ref m), some (.int x1), some (.int x2), some (.int x3), some (.int x4)] [] h Q)) ∧ (x5 < (hh_i h (m + 76) 0) → ((x4 = Int32.ofNat 0 → (gm_G 555 225 [some (.ref m), some (.int x1), some (.int x2), some (.int x3), some (.int x4)] [] h Q)) ∧ (¬ x4 = Int32.ofNat 0 → (gm_G 152 0 [some (.ref m), some (.int x5)] [] h (pI (fun v2 h1 => gm_G 555 120 [some (.ref m), some (.int x1), some (.int x2), some (.int x3), some (.int x4), some (.int x5), some (.int v2), some (.int (Int32.ofNat 0))] [] h1 Q) (fun _ _ => False))))))) : gm_G 555 93 [some (.ref m), some (.int x1), some (.int x2), some (.int x3), some (.int x4), some (.int x5)] [] h Q := by
  refine g_iload rfl rfl rfl (pc' := 95) ?_
  refine g_aload (r := some _) rfl rfl rfl (pc' := 96) ?_
  refine t_get (o := 76) rfl hT rfl rfl rfl (pc' := 99) rfl ?_
  refine g_iconst rfl rfl rfl (pc' := 100) ?_
  refine t_iaload hT (o := 76) (l := 4) rfl rfl rfl ⟨rfl, by decide, by decide⟩ (pc' := 101) rfl ?_
  refine g_ic_ge rfl (pc' := 104) (pt := 225) rfl rfl ⟨fun hc => ?_, fun hc => ?_⟩
  · have H := H.1 hc
    exact g_weak (show gm_Lle [some _, some _, some _, some _, some _] _ from ⟨rfl, ⟨rfl, ⟨rfl, ⟨rfl, ⟨rfl, trivial⟩⟩⟩⟩⟩) H
  · have H := H.2 hc
    refine g_iload rfl rfl rfl (pc' := 106) ?_
    refine g_if_eq rfl (pc' := 109) (pt := 225) rfl rfl ⟨fun hc => ?_, fun hc => ?_⟩
    · have H := H.1 hc
      exact g_weak (show gm_Lle [some _, some _, some _, some _, some _] _ from ⟨rfl, ⟨rfl, ⟨rfl, ⟨rfl, ⟨rfl, trivial⟩⟩⟩⟩⟩) H
    · have H := H.2 hc
      refine g_aload (r := some _) rfl rfl rfl (pc' := 110) ?_
      refine g_iload rfl rfl rfl (pc' := 112) ?_
      refine t_call hT (y := 152) (n := 2) (pc' := 115) rfl rfl (t_vt hT rfl rfl) rfl rfl ⟨(Nat.le_of_ble_eq_true rfl), (Nat.le_of_ble_eq_true rfl), (Nat.le_of_ble_eq_true rfl)⟩ rfl H (tI_elim (fun v2 h1 H hT => ?_))
      show gm_G _ 115 _ _ _ _
      refine g_istore rfl rfl rfl (pc' := 117) ?_
      refine g_iconst rfl rfl rfl (pc' := 118) ?_
      refine g_istore rfl rfl rfl (pc' := 120) ?_
      exact g_weak (show gm_Lle [some _, some _, some _, some _, some _, some _, some _, some _] _ from ⟨rfl, ⟨rfl, ⟨rfl, ⟨rfl, ⟨rfl, ⟨rfl, ⟨rfl, ⟨rfl, trivial⟩⟩⟩⟩⟩⟩⟩⟩) H
theorem w_555_120 {m : Nat} {x1 : Int32} {x2 : Int32} {x3 : Int32} {x4 : Int32} {x5 : Int32} {x6 : Int32} {x7 : Int32} {h : hh_T} {Q : Option Value ⊕ Nat → hh_T → Prop} (hT : tw_ok h m) (H : (x6 < Int32.ofNat 0 → (gm_G 555 219 [some (.ref m), some (.int x1), some (.int x2), some (.int x3), some (.int x4), some (.int x5)] [] h Q)) ∧ (¬ x6 < Int32.ofNat 0 → (∃ n1, gm_ix x6 n1 8 ∧ ((¬ x7 < (hh_i h (m + 84) n1) → (gm_G 555 219 [some (.ref m), some (.int x1), some (.int x2), some (.int x3), some (.int x4), some (.int x5)] [] h Q)) ∧ (x7 < (hh_i h (m + 84) n1) → ((x4 = Int32.ofNat 0 → (gm_G 555 219 [some (.ref m), some (.int x1), some (.int x2), some (.int x3), some (.int x4), some (.int x5)] [] h Q)) ∧ (¬ x4 = Int32.ofNat 0 → (∃ n2, gm_ix (((((Int32.ofNat 16) * x6) + x7) * (Int32.ofNat 290)) + (Int32.ofNat 6)) n2 37120 ∧ (∀ h3, h3 = hh_wi h m 4 (hh_i h (m + 83) n2) → (∃ n4, gm_ix (((((Int32.ofNat 16) * x6) + x7) * (Int32.ofNat 290)) + (Int32.ofNat 7)) n4 37120 ∧ (∀ h5, h5 = hh_wi h3 m 5 (hh_i h3 (m + 83) n4) → (gm_G 538 0 [some (.ref m), some (.int x6), some (.int ((((Int32.ofNat 16) * x6) + x7) * (Int32.ofNat 290)))] [] h5 (pI (fun v7 h6 => (v7 = (Int32.ofInt (-12)) → (gm_G 555 202 [some (.ref m), some (.int x1), some (.int x2), some (.int x3), none, some (.int x5), some (.int x6), some (.int x7)] [.int (Int32.ofNat 0)] h6 Q)) ∧ (¬ v7 = (Int32.ofInt (-12)) → (gm_G 555 202 [some (.ref m), some (.int x1), some (.int x2), some (.int x3), none, some (.int x5), some (.int x6), some (.int x7)] [.int (Int32.ofNat 1)] h6 Q))) (fun _ _ => False)))))))))))))) : gm_G 555 120 [some (.ref m), some (.int x1), some (.int x2), some (.int x3), some (.int x4), some (.int x5), some (.int x6), some (.int x7)] [] h Q := by
  refine g_iload rfl rfl rfl (pc' := 122) ?_
  refine g_if_lt rfl (pc' := 125) (pt := 219) rfl rfl ⟨fun hc => ?_, fun hc => ?_⟩
  · have H := H.1 hc
    exact g_weak (show gm_Lle [some _, some _, some _, some _, some _, some _] _ from ⟨rfl, ⟨rfl, ⟨rfl, ⟨rfl, ⟨rfl, ⟨rfl, trivial⟩⟩⟩⟩⟩⟩) H
  · have H := H.2 hc
    refine g_iload rfl rfl rfl (pc' := 127) ?_
    refine g_aload (r := some _) rfl rfl rfl (pc' := 128) ?_
    refine t_get (o := 84) rfl hT rfl rfl rfl (pc' := 131) rfl ?_
    refine g_iload rfl rfl rfl (pc' := 133) ?_
    obtain ⟨n1, hn1, H⟩ := H
    refine t_iaload hT (o := 84) (l := 8) rfl rfl rfl hn1 (pc' := 134) rfl ?_
    refine g_ic_ge rfl (pc' := 137) (pt := 219) rfl rfl ⟨fun hc => ?_, fun hc => ?_⟩
    · have H := H.1 hc
      exact g_weak (show gm_Lle [some _, some _, some _, some _, some _, some _] _ from ⟨rfl, ⟨rfl, ⟨rfl, ⟨rfl, ⟨rfl, ⟨rfl, trivial⟩⟩⟩⟩⟩⟩) H
    · have H := H.2 hc
      refine g_iload rfl rfl rfl (pc' := 139) ?_
      refine g_if_eq rfl (pc' := 142) (pt := 219) rfl rfl ⟨fun hc => ?_, fun hc => ?_⟩
      · have H := H.1 hc
        exact g_weak (show gm_Lle [some _, some _, some _, some _, some _, some _] _ from ⟨rfl, ⟨rfl, ⟨rfl, ⟨rfl, ⟨rfl, ⟨rfl, trivial⟩⟩⟩⟩⟩⟩) H
      · have H := H.2 hc
        refine g_iconst rfl rfl rfl (pc' := 144) ?_
        refine g_iload rfl rfl rfl (pc' := 146) ?_
        refine g_imul rfl rfl (pc' := 147) ?_
        refine g_iload rfl rfl rfl (pc' := 149) ?_
        refine g_iadd rfl rfl (pc' := 150) ?_
        refine g_iconst rfl rfl rfl (pc' := 153) ?_
        refine g_imul rfl rfl (pc' := 154) ?_
        refine g_istore rfl rfl rfl (pc' := 156) ?_
        refine g_aload (r := some _) rfl rfl rfl (pc' := 157) ?_
        refine g_aload (r := some _) rfl rfl rfl (pc' := 158) ?_
        refine t_get (o := 83) rfl hT rfl rfl rfl (pc' := 161) rfl ?_
        refine g_iload rfl rfl rfl (pc' := 163) ?_
        refine g_iconst rfl rfl rfl (pc' := 165) ?_
        refine g_iadd rfl rfl (pc' := 166) ?_
        obtain ⟨n2, hn2, H⟩ := H
        refine t_iaload hT (o := 83) (l := 37120) rfl rfl rfl hn2 (pc' := 167) rfl ?_
        refine t_putI rfl hT rfl rfl  (pc' := 170) rfl (fun hT => ?_)
        have H := H _ rfl
        refine g_aload (r := some _) rfl rfl rfl (pc' := 171) ?_
        refine g_aload (r := some _) rfl rfl rfl (pc' := 172) ?_
        refine t_get (o := 83) rfl hT rfl rfl rfl (pc' := 175) rfl ?_
        refine g_iload rfl rfl rfl (pc' := 177) ?_
        refine g_iconst rfl rfl rfl (pc' := 179) ?_
        refine g_iadd rfl rfl (pc' := 180) ?_
        obtain ⟨n4, hn4, H⟩ := H
        refine t_iaload hT (o := 83) (l := 37120) rfl rfl rfl hn4 (pc' := 181) rfl ?_
        refine t_putI rfl hT rfl rfl  (pc' := 184) rfl (fun hT => ?_)
        have H := H _ rfl
        refine g_aload (r := some _) rfl rfl rfl (pc' := 185) ?_
        refine g_iload rfl rfl rfl (pc' := 187) ?_
        refine g_iload rfl rfl rfl (pc' := 189) ?_
        refine t_call hT (y := 538) (n := 3) (pc' := 192) rfl rfl (t_vt hT rfl rfl) rfl rfl ⟨(Nat.le_of_ble_eq_true rfl), (Nat.le_of_ble_eq_true rfl), (Nat.le_of_ble_eq_true rfl)⟩ rfl H (tI_elim (fun v7 h6 H hT => ?_))
        show gm_G _ 192 _ _ _ _
        refine g_iconst rfl rfl rfl (pc' := 194) ?_
        refine g_ic_eq rfl (pc' := 197) (pt := 201) rfl rfl ⟨fun hc => ?_, fun hc => ?_⟩
        · have H := H.1 hc
          refine g_iconst rfl rfl rfl (pc' := 202) ?_
          exact g_weak (show gm_Lle [some _, some _, some _, some _, none, some _, some _, some _] _ from ⟨rfl, ⟨rfl, ⟨rfl, ⟨rfl, ⟨rfl, ⟨rfl, ⟨rfl, trivial⟩⟩⟩⟩⟩⟩⟩) H
        · have H := H.2 hc
          refine g_iconst rfl rfl rfl (pc' := 198) ?_
          refine g_goto rfl (pc' := 202) rfl ?_
          exact g_weak (show gm_Lle [some _, some _, some _, some _, none, some _, some _, some _] _ from ⟨rfl, ⟨rfl, ⟨rfl, ⟨rfl, ⟨rfl, ⟨rfl, ⟨rfl, trivial⟩⟩⟩⟩⟩⟩⟩) H
theorem w_555_202 {m : Nat} {x1 : Int32} {x2 : Int32} {x3 : Int32} {x5 : Int32} {x6 : Int32} {x7 : Int32} {y0 : Int32} {h : hh_T} {Q : Option Value ⊕ Nat → hh_T → Prop} (hT : tw_ok h m) (H : (y0 = Int32.ofNat 0 → (gm_G 555 213 [some (.ref m), some (.int x1), some (.int x2), some (.int x3), some (.int y0), some (.int x5), some (.int x6), some (.int x7)] [] h Q)) ∧ (¬ y0 = Int32.ofNat 0 → (gm_G 422 0 [some (.ref m)] [] h (pV (fun h1 => gm_G 555 213 [some (.ref m), some (.int x1), some (.int x2), some (.int x3), some (.int y0), some (.int x5), some (.int x6), some (.int x7)] [] h1 Q) (fun _ _ => False))))) : gm_G 555 202 [some (.ref m), some (.int x1), some (.int x2), some (.int x3), none, some (.int x5), some (.int x6), some (.int x7)] [.int y0] h Q := by
  refine g_istore rfl rfl rfl (pc' := 204) ?_
  refine g_iload rfl rfl rfl (pc' := 206) ?_
  refine g_if_eq rfl (pc' := 209) (pt := 213) rfl rfl ⟨fun hc => ?_, fun hc => ?_⟩
  · have H := H.1 hc
    exact g_weak (show gm_Lle [some _, some _, some _, some _, some _, some _, some _, some _] _ from ⟨rfl, ⟨rfl, ⟨rfl, ⟨rfl, ⟨rfl, ⟨rfl, ⟨rfl, ⟨rfl, trivial⟩⟩⟩⟩⟩⟩⟩⟩) H
  · have H := H.2 hc
    refine g_aload (r := some _) rfl rfl rfl (pc' := 210) ?_
    refine t_call hT (y := 422) (n := 1) (pc' := 213) rfl rfl (t_vt hT rfl rfl) rfl rfl ⟨(Nat.le_of_ble_eq_true rfl), (Nat.le_of_ble_eq_true rfl), (Nat.le_of_ble_eq_true rfl)⟩ rfl H (tV_elim (fun h1 H hT => ?_))
    show gm_G _ 213 _ _ _ _
    exact g_weak (show gm_Lle [some _, some _, some _, some _, some _, some _, some _, some _] _ from ⟨rfl, ⟨rfl, ⟨rfl, ⟨rfl, ⟨rfl, ⟨rfl, ⟨rfl, ⟨rfl, trivial⟩⟩⟩⟩⟩⟩⟩⟩) H
theorem w_555_213 {m : Nat} {x1 : Int32} {x2 : Int32} {x3 : Int32} {x4 : Int32} {x5 : Int32} {x6 : Int32} {x7 : Int32} {h : hh_T} {Q : Option Value ⊕ Nat → hh_T → Prop} (hT : tw_ok h m) (H : gm_G 555 120 [some (.ref m), some (.int x1), some (.int x2), some (.int x3), some (.int x4), some (.int x5), some (.int x6), some (.int (x7 + (Int32.ofNat 1)))] [] h Q) : gm_G 555 213 [some (.ref m), some (.int x1), some (.int x2), some (.int x3), some (.int x4), some (.int x5), some (.int x6), some (.int x7)] [] h Q := by
  refine g_iinc (c := (Int32.ofNat 1)) rfl rfl rfl rfl rfl (pc' := 216) ?_
  refine g_goto rfl (pc' := 120) rfl ?_
  exact g_weak (show gm_Lle [some _, some _, some _, some _, some _, some _, some _, some _] _ from ⟨rfl, ⟨rfl, ⟨rfl, ⟨rfl, ⟨rfl, ⟨rfl, ⟨rfl, ⟨rfl, trivial⟩⟩⟩⟩⟩⟩⟩⟩) H
theorem w_555_219 {m : Nat} {x1 : Int32} {x2 : Int32} {x3 : Int32} {x4 : Int32} {x5 : Int32} {h : hh_T} {Q : Option Value ⊕ Nat → hh_T → Prop} (hT : tw_ok h m) (H : gm_G 555 93 [some (.ref m), some (.int x1), some (.int x2), some (.int x3), some (.int x4), some (.int (x5 + (Int32.ofNat 1)))] [] h Q) : gm_G 555 219 [some (.ref m), some (.int x1), some (.int x2), some (.int x3), some (.int x4), some (.int x5)] [] h Q := by
  refine g_iinc (c := (Int32.ofNat 1)) rfl rfl rfl rfl rfl (pc' := 222) ?_
  refine g_goto rfl (pc' := 93) rfl ?_
  exact g_weak (show gm_Lle [some _, some _, some _, some _, some _, some _] _ from ⟨rfl, ⟨rfl, ⟨rfl, ⟨rfl, ⟨rfl, ⟨rfl, trivial⟩⟩⟩⟩⟩⟩) H
theorem w_555_225 {m : Nat} {x1 : Int32} {x2 : Int32} {x3 : Int32} {x4 : Int32} {h : hh_T} {Q : Option Value ⊕ Nat → hh_T → Prop} (hT : tw_ok h m) (H : ∀ h1, h1 = hh_wi h m 4 x1 → (∀ h2, h2 = hh_wi h1 m 5 x2 → (∀ h3, h3 = hh_wi h2 m 111 (Int32.ofNat 0) → ((¬ x4 = Int32.ofNat 0 → (gm_G 555 325 [none, none, none, none, some (.int x4)] [] h3 Q)) ∧ (x4 = Int32.ofNat 0 → (∀ h4, h4 = hh_wi h3 m 42 x3 → (gm_G 555 253 [some (.ref m), none, none, none, some (.int x4), some (.int (Int32.ofNat 0))] [] h4 Q))))))) : gm_G 555 225 [some (.ref m), some (.int x1), some (.int x2), some (.int x3), some (.int x4)] [] h Q := by
  refine g_aload (r := some _) rfl rfl rfl (pc' := 226) ?_
  refine g_iload rfl rfl rfl (pc' := 227) ?_
  refine t_putI rfl hT rfl rfl  (pc' := 230) rfl (fun hT => ?_)
  have H := H _ rfl
  refine g_aload (r := some _) rfl rfl rfl (pc' := 231) ?_
  refine g_iload rfl rfl rfl (pc' := 232) ?_
  refine t_putI rfl hT rfl rfl  (pc' := 235) rfl (fun hT => ?_)
  have H := H _ rfl
  refine g_aload (r := some _) rfl rfl rfl (pc' := 236) ?_
  refine g_iconst rfl rfl rfl (pc' := 237) ?_
  refine t_putZ rfl hT rfl rfl (by decide) (pc' := 240) rfl (fun hT => ?_)
  have H := H _ rfl
  refine g_iload rfl rfl rfl (pc' := 242) ?_
  refine g_if_ne rfl (pc' := 245) (pt := 325) rfl rfl ⟨fun hc => ?_, fun hc => ?_⟩
  · have H := H.1 hc
    exact g_weak (show gm_Lle [none, none, none, none, some _] _ from ⟨rfl, trivial⟩) H
  · have H := H.2 hc
    refine g_aload (r := some _) rfl rfl rfl (pc' := 246) ?_
    refine g_iload rfl rfl rfl (pc' := 247) ?_
    refine t_putI rfl hT rfl rfl  (pc' := 250) rfl (fun hT => ?_)
    have H := H _ rfl
    refine g_iconst rfl rfl rfl (pc' := 251) ?_
    refine g_istore rfl rfl rfl (pc' := 253) ?_
    exact g_weak (show gm_Lle [some _, none, none, none, some _, some _] _ from ⟨rfl, ⟨rfl, ⟨rfl, trivial⟩⟩⟩) H
theorem w_555_253 {m : Nat} {x4 : Int32} {x5 : Int32} {h : hh_T} {Q : Option Value ⊕ Nat → hh_T → Prop} (hT : tw_ok h m) (H : (¬ x5 < (Int32.ofNat 37120) → (gm_G 555 284 [some (.ref m), none, none, none, some (.int x4), some (.int (Int32.ofNat 0))] [] h Q)) ∧ (x5 < (Int32.ofNat 37120) → (∃ n1, gm_ix x5 n1 37120 ∧ (∃ n2, gm_ix x5 n2 37120 ∧ (∀ h3, h3 = hh_wi h (m + 82) n2 (hh_i h (m + 83) n1) → (gm_G 555 253 [some (.ref m), none, none, none, some (.int x4), some (.int (x5 + (Int32.ofNat 1)))] [] h3 Q)))))) : gm_G 555 253 [some (.ref m), none, none, none, some (.int x4), some (.int x5)] [] h Q := by
  refine g_iload rfl rfl rfl (pc' := 255) ?_
  refine g_iconst rfl rfl rfl (pc' := 258) ?_
  refine g_ic_ge rfl (pc' := 261) (pt := 281) rfl rfl ⟨fun hc => ?_, fun hc => ?_⟩
  · have H := H.1 hc
    refine g_iconst rfl rfl rfl (pc' := 282) ?_
    refine g_istore rfl rfl rfl (pc' := 284) ?_
    exact g_weak (show gm_Lle [some _, none, none, none, some _, some _] _ from ⟨rfl, ⟨rfl, ⟨rfl, trivial⟩⟩⟩) H
  · have H := H.2 hc
    refine g_aload (r := some _) rfl rfl rfl (pc' := 262) ?_
    refine t_get (o := 82) rfl hT rfl rfl rfl (pc' := 265) rfl ?_
    refine g_iload rfl rfl rfl (pc' := 267) ?_
    refine g_aload (r := some _) rfl rfl rfl (pc' := 268) ?_
    refine t_get (o := 83) rfl hT rfl rfl rfl (pc' := 271) rfl ?_
    refine g_iload rfl rfl rfl (pc' := 273) ?_
    obtain ⟨n1, hn1, H⟩ := H
    refine t_iaload hT (o := 83) (l := 37120) rfl rfl rfl hn1 (pc' := 274) rfl ?_
    obtain ⟨n2, hn2, H⟩ := H
    refine t_iastore hT (o := 82) (l := 37120) rfl rfl rfl hn2  (pc' := 275) rfl (fun hT => ?_)
    have H := H _ rfl
    refine g_iinc (c := (Int32.ofNat 1)) rfl rfl rfl rfl rfl (pc' := 278) ?_
    refine g_goto rfl (pc' := 253) rfl ?_
    exact g_weak (show gm_Lle [some _, none, none, none, some _, some _] _ from ⟨rfl, ⟨rfl, ⟨rfl, trivial⟩⟩⟩) H
theorem w_555_284 {m : Nat} {x4 : Int32} {x5 : Int32} {h : hh_T} {Q : Option Value ⊕ Nat → hh_T → Prop} (hT : tw_ok h m) (H : (¬ x5 < (Int32.ofNat 8) → (gm_G 555 325 [none, none, none, none, some (.int x4)] [] h Q)) ∧ (x5 < (Int32.ofNat 8) → (∃ n1, gm_ix x5 n1 8 ∧ (∃ n2, gm_ix x5 n2 8 ∧ (∀ h3, h3 = hh_wi h (m + 80) n2 (hh_i h (m + 84) n1) → (∃ n4, gm_ix x5 n4 8 ∧ (∃ n5, gm_ix x5 n5 8 ∧ (∀ h6, h6 = hh_wi h3 (m + 81) n5 (hh_i h3 (m + 84) n4) → (gm_G 555 284 [some (.ref m), none, none, none, some (.int x4), some (.int (x5 + (Int32.ofNat 1)))] [] h6 Q))))))))) : gm_G 555 284 [some (.ref m), none, none, none, some (.int x4), some (.int x5)] [] h Q := by
  refine g_iload rfl rfl rfl (pc' := 286) ?_
  refine g_iconst rfl rfl rfl (pc' := 288) ?_
  refine g_ic_ge rfl (pc' := 291) (pt := 325) rfl rfl ⟨fun hc => ?_, fun hc => ?_⟩
  · have H := H.1 hc
    exact g_weak (show gm_Lle [none, none, none, none, some _] _ from ⟨rfl, trivial⟩) H
  · have H := H.2 hc
    refine g_aload (r := some _) rfl rfl rfl (pc' := 292) ?_
    refine t_get (o := 80) rfl hT rfl rfl rfl (pc' := 295) rfl ?_
    refine g_iload rfl rfl rfl (pc' := 297) ?_
    refine g_aload (r := some _) rfl rfl rfl (pc' := 298) ?_
    refine t_get (o := 84) rfl hT rfl rfl rfl (pc' := 301) rfl ?_
    refine g_iload rfl rfl rfl (pc' := 303) ?_
    obtain ⟨n1, hn1, H⟩ := H
    refine t_iaload hT (o := 84) (l := 8) rfl rfl rfl hn1 (pc' := 304) rfl ?_
    obtain ⟨n2, hn2, H⟩ := H
    refine t_iastore hT (o := 80) (l := 8) rfl rfl rfl hn2  (pc' := 305) rfl (fun hT => ?_)
    have H := H _ rfl
    refine g_aload (r := some _) rfl rfl rfl (pc' := 306) ?_
    refine t_get (o := 81) rfl hT rfl rfl rfl (pc' := 309) rfl ?_
    refine g_iload rfl rfl rfl (pc' := 311) ?_
    refine g_aload (r := some _) rfl rfl rfl (pc' := 312) ?_
    refine t_get (o := 84) rfl hT rfl rfl rfl (pc' := 315) rfl ?_
    refine g_iload rfl rfl rfl (pc' := 317) ?_
    obtain ⟨n4, hn4, H⟩ := H
    refine t_iaload hT (o := 84) (l := 8) rfl rfl rfl hn4 (pc' := 318) rfl ?_
    obtain ⟨n5, hn5, H⟩ := H
    refine t_iastore hT (o := 81) (l := 8) rfl rfl rfl hn5  (pc' := 319) rfl (fun hT => ?_)
    have H := H _ rfl
    refine g_iinc (c := (Int32.ofNat 1)) rfl rfl rfl rfl rfl (pc' := 322) ?_
    refine g_goto rfl (pc' := 284) rfl ?_
    exact g_weak (show gm_Lle [some _, none, none, none, some _, some _] _ from ⟨rfl, ⟨rfl, ⟨rfl, trivial⟩⟩⟩) H
theorem w_555_325 {m : Nat} {x4 : Int32} {h : hh_T} {Q : Option Value ⊕ Nat → hh_T → Prop} (hT : tw_ok h m) (H : (x4 = 0 ∨ x4 = 1) ∧ Q (.inl (some (.int x4))) h) : gm_G 555 325 [none, none, none, none, some (.int x4)] [] h Q := by
  refine g_iload rfl rfl rfl (pc' := 327) ?_
  exact g_ireturn rfl (Or.inr H.1) H.2
theorem w_556_0 {m : Nat} {x1 : Int32} {h : hh_T} {Q : Option Value ⊕ Nat → hh_T → Prop} (hT : tw_ok h m) (H : ∀ h1, h1 = hh_wi h m 2 (Int32.ofNat 0) → ((¬ (hh_i h1 m 77) = Int32.ofNat 0 → ((x1 < Int32.ofNat 0 → (Q (.inl (some (.int (Int32.ofInt (-1))))) h1)) ∧ (¬ x1 < Int32.ofNat 0 → ((¬ (Int32.ofNat 3) < x1 → ((¬ (hh_i h m 2) < (Int32.ofNat 2) → (∀ h2, h2 = hh_wi h1 m 154 (Int32.ofNat 0) → (∃ n3, gm_ix x1 n3 4 ∧ (((hh_i h2 (m + 117) n3) < Int32.ofNat 0 → (gm_G 556 212 [some (.ref m), some (.int x1), some (.int (hh_i h m 2)), some (.int (Int32.ofNat 1))] [] h2 Q)) ∧ (¬ (hh_i h2 (m + 117) n3) < Int32.ofNat 0 → (∃ n4, gm_ix ((Int32.ofNat 320) * x1) n4 1280 ∧ ((¬ (hh_i h2 (m + 119) n4) = (hh_i h2 (m + 1) 0) → (gm_G 556 212 [some (.ref m), some (.int x1), some (.int (hh_i h m 2)), some (.int (Int32.ofNat 1))] [] h2 Q)) ∧ ((hh_i h2 (m + 119) n4) = (hh_i h2 (m + 1) 0) → (∃ n5, gm_ix x1 n5 4 ∧ ((¬ (hh_i h2 (m + 117) n5) = (hh_i h m 2) → (gm_G 556 89 [some (.ref m), some (.int x1), some (.int (hh_i h m 2))] [.int (Int32.ofNat 0)] h2 Q)) ∧ ((hh_i h2 (m + 117) n5) = (hh_i h m 2) → (gm_G 556 89 [some (.ref m), some (.int x1), some (.int (hh_i h m 2))] [.int (Int32.ofNat 1)] h2 Q)))))))))))) ∧ ((hh_i h m 2) < (Int32.ofNat 2) → (Q (.inl (some (.int (Int32.ofInt (-11))))) h1)))) ∧ ((Int32.ofNat 3) < x1 → (Q (.inl (some (.int (Int32.ofInt (-1))))) h1)))))) ∧ ((hh_i h1 m 77) = Int32.ofNat 0 → (Q (.inl (some (.int (Int32.ofInt (-9))))) h1)))) : gm_G 556 0 [some (.ref m), some (.int x1)] [] h Q := by
  refine g_aload (r := some _) rfl rfl rfl (pc' := 1) ?_
  refine t_getI rfl hT rfl rfl (pc' := 4) rfl ?_
  refine g_istore rfl rfl rfl (pc' := 5) ?_
  refine g_aload (r := some _) rfl rfl rfl (pc' := 6) ?_
  refine g_iconst rfl rfl rfl (pc' := 7) ?_
  refine t_putI rfl hT rfl rfl  (pc' := 10) rfl (fun hT => ?_)
  have H := H _ rfl
  refine g_aload (r := some _) rfl rfl rfl (pc' := 11) ?_
  refine t_getZ rfl hT rfl rfl (pc' := 14) rfl ?_
  refine g_if_ne rfl (pc' := 17) (pt := 20) rfl rfl ⟨fun hc => ?_, fun hc => ?_⟩
  · have H := H.1 hc
    refine g_iload rfl rfl rfl (pc' := 21) ?_
    refine g_if_lt rfl (pc' := 24) (pt := 29) rfl rfl ⟨fun hc => ?_, fun hc => ?_⟩
    · have H := H.1 hc
      refine g_iconst rfl rfl rfl (pc' := 30) ?_
      exact g_ireturn rfl (Or.inl rfl) H
    · have H := H.2 hc
      refine g_iload rfl rfl rfl (pc' := 25) ?_
      refine g_iconst rfl rfl rfl (pc' := 26) ?_
      refine g_ic_le rfl (pc' := 29) (pt := 31) rfl rfl ⟨fun hc => ?_, fun hc => ?_⟩
      · have H := H.1 hc
        refine g_iload rfl rfl rfl (pc' := 32) ?_
        refine g_iconst rfl rfl rfl (pc' := 33) ?_
        refine g_ic_ge rfl (pc' := 36) (pt := 39) rfl rfl ⟨fun hc => ?_, fun hc => ?_⟩
        · have H := H.1 hc
          refine g_iconst rfl rfl rfl (pc' := 40) ?_
          refine g_istore rfl rfl rfl (pc' := 41) ?_
          refine g_aload (r := some _) rfl rfl rfl (pc' := 42) ?_
          refine g_iconst rfl rfl rfl (pc' := 43) ?_
          refine t_putI rfl hT rfl rfl  (pc' := 46) rfl (fun hT => ?_)
          have H := H _ rfl
          refine g_aload (r := some _) rfl rfl rfl (pc' := 47) ?_
          refine t_get (o := 117) rfl hT rfl rfl rfl (pc' := 50) rfl ?_
          refine g_iload rfl rfl rfl (pc' := 51) ?_
          obtain ⟨n3, hn3, H⟩ := H
          refine t_iaload hT (o := 117) (l := 4) rfl rfl rfl hn3 (pc' := 52) rfl ?_
          refine g_if_lt rfl (pc' := 55) (pt := 212) rfl rfl ⟨fun hc => ?_, fun hc => ?_⟩
          · have H := H.1 hc
            exact g_weak (show gm_Lle [some _, some _, some _, some _] _ from ⟨rfl, ⟨rfl, ⟨rfl, ⟨rfl, trivial⟩⟩⟩⟩) H
          · have H := H.2 hc
            refine g_aload (r := some _) rfl rfl rfl (pc' := 56) ?_
            refine t_get (o := 119) rfl hT rfl rfl rfl (pc' := 59) rfl ?_
            refine g_iconst rfl rfl rfl (pc' := 62) ?_
            refine g_iload rfl rfl rfl (pc' := 63) ?_
            refine g_imul rfl rfl (pc' := 64) ?_
            obtain ⟨n4, hn4, H⟩ := H
            refine t_baload hT (o := 119) (l := 1280) rfl rfl rfl hn4 (pc' := 65) rfl ?_
            refine g_aload (r := some _) rfl rfl rfl (pc' := 66) ?_
            refine t_get (o := 1) rfl hT rfl rfl rfl (pc' := 69) rfl ?_
            refine g_iconst rfl rfl rfl (pc' := 70) ?_
            refine t_baload hT (o := 1) (l := 320) rfl rfl rfl ⟨rfl, by decide, by decide⟩ (pc' := 71) rfl ?_
            refine g_ic_ne rfl (pc' := 74) (pt := 212) rfl rfl ⟨fun hc => ?_, fun hc => ?_⟩
            · have H := H.1 hc
              exact g_weak (show gm_Lle [some _, some _, some _, some _] _ from ⟨rfl, ⟨rfl, ⟨rfl, ⟨rfl, trivial⟩⟩⟩⟩) H
            · have H := H.2 hc
              refine g_aload (r := some _) rfl rfl rfl (pc' := 75) ?_
              refine t_get (o := 117) rfl hT rfl rfl rfl (pc' := 78) rfl ?_
              refine g_iload rfl rfl rfl (pc' := 79) ?_
              obtain ⟨n5, hn5, H⟩ := H
              refine t_iaload hT (o := 117) (l := 4) rfl rfl rfl hn5 (pc' := 80) rfl ?_
              refine g_iload rfl rfl rfl (pc' := 81) ?_
              refine g_ic_ne rfl (pc' := 84) (pt := 88) rfl rfl ⟨fun hc => ?_, fun hc => ?_⟩
              · have H := H.1 hc
                refine g_iconst rfl rfl rfl (pc' := 89) ?_
                exact g_weak (show gm_Lle [some _, some _, some _] _ from ⟨rfl, ⟨rfl, ⟨rfl, trivial⟩⟩⟩) H
              · have H := H.2 hc
                refine g_iconst rfl rfl rfl (pc' := 85) ?_
                refine g_goto rfl (pc' := 89) rfl ?_
                exact g_weak (show gm_Lle [some _, some _, some _] _ from ⟨rfl, ⟨rfl, ⟨rfl, trivial⟩⟩⟩) H
        · have H := H.2 hc
          refine g_iconst rfl rfl rfl (pc' := 38) ?_
          exact g_ireturn rfl (Or.inl rfl) H
      · have H := H.2 hc
        refine g_iconst rfl rfl rfl (pc' := 30) ?_
        exact g_ireturn rfl (Or.inl rfl) H
  · have H := H.2 hc
    refine g_iconst rfl rfl rfl (pc' := 19) ?_
    exact g_ireturn rfl (Or.inl rfl) H
theorem w_556_89 {m : Nat} {x1 : Int32} {x2 : Int32} {y0 : Int32} {h : hh_T} {Q : Option Value ⊕ Nat → hh_T → Prop} (hT : tw_ok h m) (H : gm_G 556 94 [some (.ref m), some (.int x1), some (.int x2), none, some (.int y0), some (.int (Int32.ofNat 0))] [] h Q) : gm_G 556 89 [some (.ref m), some (.int x1), some (.int x2)] [.int y0] h Q := by
  refine g_istore rfl rfl rfl (pc' := 91) ?_
  refine g_iconst rfl rfl rfl (pc' := 92) ?_
  refine g_istore rfl rfl rfl (pc' := 94) ?_
  exact g_weak (show gm_Lle [some _, some _, some _, none, some _, some _] _ from ⟨rfl, ⟨rfl, ⟨rfl, ⟨rfl, ⟨rfl, trivial⟩⟩⟩⟩⟩) H
theorem w_556_94 {m : Nat} {x1 : Int32} {x2 : Int32} {x4 : Int32} {x5 : Int32} {h : hh_T} {Q : Option Value ⊕ Nat → hh_T → Prop} (hT : tw_ok h m) (H : (x4 = Int32.ofNat 0 → (gm_G 556 141 [some (.ref m), some (.int x1), some (.int x2), none, some (.int x4)] [] h Q)) ∧ (¬ x4 = Int32.ofNat 0 → ((¬ x5 < x2 → (gm_G 556 141 [some (.ref m), some (.int x1), some (.int x2), none, some (.int x4)] [] h Q)) ∧ (x5 < x2 → (∃ n1, gm_ix (((Int32.ofNat 320) * x1) + x5) n1 1280 ∧ (∃ n2, gm_ix x5 n2 320 ∧ ((¬ (hh_i h (m + 119) n1) = (hh_i h (m + 1) n2) → (gm_G 556 133 [some (.ref m), some (.int x1), some (.int x2), none, none, some (.int x5)] [.int (Int32.ofNat 0)] h Q)) ∧ ((hh_i h (m + 119) n1) = (hh_i h (m + 1) n2) → (gm_G 556 133 [some (.ref m), some (.int x1), some (.int x2), none, none, some (.int x5)] [.int (Int32.ofNat 1)] h Q))))))))) : gm_G 556 94 [some (.ref m), some (.int x1), some (.int x2), none, some (.int x4), some (.int x5)] [] h Q := by
  refine g_iload rfl rfl rfl (pc' := 96) ?_
  refine g_if_eq rfl (pc' := 99) (pt := 141) rfl rfl ⟨fun hc => ?_, fun hc => ?_⟩
  · have H := H.1 hc
    exact g_weak (show gm_Lle [some _, some _, some _, none, some _] _ from ⟨rfl, ⟨rfl, ⟨rfl, ⟨rfl, trivial⟩⟩⟩⟩) H
  · have H := H.2 hc
    refine g_iload rfl rfl rfl (pc' := 101) ?_
    refine g_iload rfl rfl rfl (pc' := 102) ?_
    refine g_ic_ge rfl (pc' := 105) (pt := 141) rfl rfl ⟨fun hc => ?_, fun hc => ?_⟩
    · have H := H.1 hc
      exact g_weak (show gm_Lle [some _, some _, some _, none, some _] _ from ⟨rfl, ⟨rfl, ⟨rfl, ⟨rfl, trivial⟩⟩⟩⟩) H
    · have H := H.2 hc
      refine g_aload (r := some _) rfl rfl rfl (pc' := 106) ?_
      refine t_get (o := 119) rfl hT rfl rfl rfl (pc' := 109) rfl ?_
      refine g_iconst rfl rfl rfl (pc' := 112) ?_
      refine g_iload rfl rfl rfl (pc' := 113) ?_
      refine g_imul rfl rfl (pc' := 114) ?_
      refine g_iload rfl rfl rfl (pc' := 116) ?_
      refine g_iadd rfl rfl (pc' := 117) ?_
      obtain ⟨n1, hn1, H⟩ := H
      refine t_baload hT (o := 119) (l := 1280) rfl rfl rfl hn1 (pc' := 118) rfl ?_
      refine g_aload (r := some _) rfl rfl rfl (pc' := 119) ?_
      refine t_get (o := 1) rfl hT rfl rfl rfl (pc' := 122) rfl ?_
      refine g_iload rfl rfl rfl (pc' := 124) ?_
      obtain ⟨n2, hn2, H⟩ := H
      refine t_baload hT (o := 1) (l := 320) rfl rfl rfl hn2 (pc' := 125) rfl ?_
      refine g_ic_ne rfl (pc' := 128) (pt := 132) rfl rfl ⟨fun hc => ?_, fun hc => ?_⟩
      · have H := H.1 hc
        refine g_iconst rfl rfl rfl (pc' := 133) ?_
        exact g_weak (show gm_Lle [some _, some _, some _, none, none, some _] _ from ⟨rfl, ⟨rfl, ⟨rfl, ⟨rfl, trivial⟩⟩⟩⟩) H
      · have H := H.2 hc
        refine g_iconst rfl rfl rfl (pc' := 129) ?_
        refine g_goto rfl (pc' := 133) rfl ?_
        exact g_weak (show gm_Lle [some _, some _, some _, none, none, some _] _ from ⟨rfl, ⟨rfl, ⟨rfl, ⟨rfl, trivial⟩⟩⟩⟩) H
theorem w_556_133 {m : Nat} {x1 : Int32} {x2 : Int32} {x5 : Int32} {y0 : Int32} {h : hh_T} {Q : Option Value ⊕ Nat → hh_T → Prop} (hT : tw_ok h m) (H : gm_G 556 94 [some (.ref m), some (.int x1), some (.int x2), none, some (.int y0), some (.int (x5 + (Int32.ofNat 1)))] [] h Q) : gm_G 556 133 [some (.ref m), some (.int x1), some (.int x2), none, none, some (.int x5)] [.int y0] h Q := by
  refine g_istore rfl rfl rfl (pc' := 135) ?_
  refine g_iinc (c := (Int32.ofNat 1)) rfl rfl rfl rfl rfl (pc' := 138) ?_
  refine g_goto rfl (pc' := 94) rfl ?_
  exact g_weak (show gm_Lle [some _, some _, some _, none, some _, some _] _ from ⟨rfl, ⟨rfl, ⟨rfl, ⟨rfl, ⟨rfl, trivial⟩⟩⟩⟩⟩) H
theorem w_556_141 {m : Nat} {x1 : Int32} {x2 : Int32} {x4 : Int32} {h : hh_T} {Q : Option Value ⊕ Nat → hh_T → Prop} (hT : tw_ok h m) (H : gm_G 89 0 [some (.ref m), some (.int (hh_i h (m + 1) 0))] [] h (pV (fun h1 => (x4 = Int32.ofNat 0 → (gm_G 89 0 [some (.ref m), some (.int (Int32.ofNat 11))] [] h1 (pV (fun h2 => gm_G 556 207 [some (.ref m), some (.int x1), some (.int x2)] [] h2 Q) (fun _ _ => False)))) ∧ (¬ x4 = Int32.ofNat 0 → (∀ h3, h3 = hh_wi h1 m 154 (Int32.ofNat 0) → (gm_G 556 164 [some (.ref m), some (.int x1), some (.int x2), none, none, some (.int (Int32.ofNat 0))] [] h3 Q)))) (fun _ _ => False))) : gm_G 556 141 [some (.ref m), some (.int x1), some (.int x2), none, some (.int x4)] [] h Q := by
  refine g_aload (r := some _) rfl rfl rfl (pc' := 142) ?_
  refine g_aload (r := some _) rfl rfl rfl (pc' := 143) ?_
  refine t_get (o := 1) rfl hT rfl rfl rfl (pc' := 146) rfl ?_
  refine g_iconst rfl rfl rfl (pc' := 147) ?_
  refine t_baload hT (o := 1) (l := 320) rfl rfl rfl ⟨rfl, by decide, by decide⟩ (pc' := 148) rfl ?_
  refine t_call hT (y := 89) (n := 2) (pc' := 151) rfl rfl (t_vt hT rfl rfl) rfl rfl ⟨(Nat.le_of_ble_eq_true rfl), (Nat.le_of_ble_eq_true rfl), (Nat.le_of_ble_eq_true rfl)⟩ rfl H (tV_elim (fun h1 H hT => ?_))
  show gm_G _ 151 _ _ _ _
  refine g_iload rfl rfl rfl (pc' := 153) ?_
  refine g_if_eq rfl (pc' := 156) (pt := 201) rfl rfl ⟨fun hc => ?_, fun hc => ?_⟩
  · have H := H.1 hc
    refine g_aload (r := some _) rfl rfl rfl (pc' := 202) ?_
    refine g_iconst rfl rfl rfl (pc' := 204) ?_
    refine t_call hT (y := 89) (n := 2) (pc' := 207) rfl rfl (t_vt hT rfl rfl) rfl rfl ⟨(Nat.le_of_ble_eq_true rfl), (Nat.le_of_ble_eq_true rfl), (Nat.le_of_ble_eq_true rfl)⟩ rfl H (tV_elim (fun h2 H hT => ?_))
    show gm_G _ 207 _ _ _ _
    exact g_weak (show gm_Lle [some _, some _, some _] _ from ⟨rfl, ⟨rfl, ⟨rfl, trivial⟩⟩⟩) H
  · have H := H.2 hc
    refine g_aload (r := some _) rfl rfl rfl (pc' := 157) ?_
    refine g_iconst rfl rfl rfl (pc' := 158) ?_
    refine t_putI rfl hT rfl rfl  (pc' := 161) rfl (fun hT => ?_)
    have H := H _ rfl
    refine g_iconst rfl rfl rfl (pc' := 162) ?_
    refine g_istore rfl rfl rfl (pc' := 164) ?_
    exact g_weak (show gm_Lle [some _, some _, some _, none, none, some _] _ from ⟨rfl, ⟨rfl, ⟨rfl, ⟨rfl, trivial⟩⟩⟩⟩) H
theorem w_556_164 {m : Nat} {x1 : Int32} {x2 : Int32} {x5 : Int32} {h : hh_T} {Q : Option Value ⊕ Nat → hh_T → Prop} (hT : tw_ok h m) (H : ∃ n1, gm_ix x1 n1 4 ∧ ((¬ x5 < (hh_i h (m + 118) n1) → (gm_G 556 207 [some (.ref m), some (.int x1), some (.int x2)] [] h Q)) ∧ (x5 < (hh_i h (m + 118) n1) → (∃ n2, gm_ix (((Int32.ofNat 512) * x1) + x5) n2 2048 ∧ (gm_G 89 0 [some (.ref m), some (.int (hh_i h (m + 120) n2))] [] h (pV (fun h3 => gm_G 556 164 [some (.ref m), some (.int x1), some (.int x2), none, none, some (.int (x5 + (Int32.ofNat 1)))] [] h3 Q) (fun _ _ => False))))))) : gm_G 556 164 [some (.ref m), some (.int x1), some (.int x2), none, none, some (.int x5)] [] h Q := by
  refine g_iload rfl rfl rfl (pc' := 166) ?_
  refine g_aload (r := some _) rfl rfl rfl (pc' := 167) ?_
  refine t_get (o := 118) rfl hT rfl rfl rfl (pc' := 170) rfl ?_
  refine g_iload rfl rfl rfl (pc' := 171) ?_
  obtain ⟨n1, hn1, H⟩ := H
  refine t_iaload hT (o := 118) (l := 4) rfl rfl rfl hn1 (pc' := 172) rfl ?_
  refine g_ic_ge rfl (pc' := 175) (pt := 198) rfl rfl ⟨fun hc => ?_, fun hc => ?_⟩
  · have H := H.1 hc
    refine g_goto rfl (pc' := 207) rfl ?_
    exact g_weak (show gm_Lle [some _, some _, some _] _ from ⟨rfl, ⟨rfl, ⟨rfl, trivial⟩⟩⟩) H
  · have H := H.2 hc
    refine g_aload (r := some _) rfl rfl rfl (pc' := 176) ?_
    refine g_aload (r := some _) rfl rfl rfl (pc' := 177) ?_
    refine t_get (o := 120) rfl hT rfl rfl rfl (pc' := 180) rfl ?_
    refine g_iconst rfl rfl rfl (pc' := 183) ?_
    refine g_iload rfl rfl rfl (pc' := 184) ?_
    refine g_imul rfl rfl (pc' := 185) ?_
    refine g_iload rfl rfl rfl (pc' := 187) ?_
    refine g_iadd rfl rfl (pc' := 188) ?_
    obtain ⟨n2, hn2, H⟩ := H
    refine t_baload hT (o := 120) (l := 2048) rfl rfl rfl hn2 (pc' := 189) rfl ?_
    refine t_call hT (y := 89) (n := 2) (pc' := 192) rfl rfl (t_vt hT rfl rfl) rfl rfl ⟨(Nat.le_of_ble_eq_true rfl), (Nat.le_of_ble_eq_true rfl), (Nat.le_of_ble_eq_true rfl)⟩ rfl H (tV_elim (fun h3 H hT => ?_))
    show gm_G _ 192 _ _ _ _
    refine g_iinc (c := (Int32.ofNat 1)) rfl rfl rfl rfl rfl (pc' := 195) ?_
    refine g_goto rfl (pc' := 164) rfl ?_
    exact g_weak (show gm_Lle [some _, some _, some _, none, none, some _] _ from ⟨rfl, ⟨rfl, ⟨rfl, ⟨rfl, trivial⟩⟩⟩⟩) H
theorem w_556_207 {m : Nat} {x1 : Int32} {x2 : Int32} {h : hh_T} {Q : Option Value ⊕ Nat → hh_T → Prop} (hT : tw_ok h m) (H : gm_G 556 301 [some (.ref m), some (.int x1), some (.int x2), some (.int (Int32.ofNat 0))] [] h Q) : gm_G 556 207 [some (.ref m), some (.int x1), some (.int x2)] [] h Q := by
  refine g_iconst rfl rfl rfl (pc' := 208) ?_
  refine g_istore rfl rfl rfl (pc' := 209) ?_
  refine g_goto rfl (pc' := 301) rfl ?_
  exact g_weak (show gm_Lle [some _, some _, some _, some _] _ from ⟨rfl, ⟨rfl, ⟨rfl, ⟨rfl, trivial⟩⟩⟩⟩) H
theorem w_556_212 {m : Nat} {x1 : Int32} {x2 : Int32} {x3 : Int32} {h : hh_T} {Q : Option Value ⊕ Nat → hh_T → Prop} (hT : tw_ok h m) (H : ∀ h1, h1 = hh_wi h m 5 (x1 + (Int32.ofNat 1)) → (gm_G 89 0 [some (.ref m), some (.int (hh_i h1 (m + 1) 0))] [] h1 (pV (fun h2 => gm_G 89 0 [some (.ref m), some (.int (Int32.ofNat 0))] [] h2 (pV (fun h3 => gm_G 545 0 [some (.ref m), some (.int x2)] [] h3 (pI (fun v5 h4 => ∀ h6, h6 = hh_wi h4 m 5 (hh_i h m 5) → ((¬ v5 = (Int32.ofInt (-12)) → ((¬ v5 < Int32.ofNat 0 → (gm_G 468 0 [some (.ref m), some (.int (Int32.ofNat 0))] [] h6 (pI (fun v8 h7 => (¬ v8 < Int32.ofNat 0 → (gm_G 556 301 [some (.ref m), some (.int x1), some (.int x2), some (.int x3)] [] h7 Q)) ∧ (v8 < Int32.ofNat 0 → (Q (.inl (some (.int (Int32.ofInt (-12))))) h7))) (fun _ _ => False)))) ∧ (v5 < Int32.ofNat 0 → (∀ h9, h9 = hh_wi h6 m 154 (Int32.ofNat 2) → (∀ h10, h10 = hh_wi h9 (m + 121) 1 (((-v5).toInt8.toInt32).toInt8.toInt32) → (gm_G 422 0 [some (.ref m)] [] h10 (pV (fun h11 => gm_G 556 301 [some (.ref m), some (.int x1), some (.int x2), some (.int x3)] [] h11 Q) (fun _ _ => False)))))))) ∧ (v5 = (Int32.ofInt (-12)) → (Q (.inl (some (.int (Int32.ofInt (-12))))) h6)))) (fun _ _ => False))) (fun _ _ => False))) (fun _ _ => False)))) : gm_G 556 212 [some (.ref m), some (.int x1), some (.int x2), some (.int x3)] [] h Q := by
  refine g_aload (r := some _) rfl rfl rfl (pc' := 213) ?_
  refine t_getI rfl hT rfl rfl (pc' := 216) rfl ?_
  refine g_istore rfl rfl rfl (pc' := 218) ?_
  refine g_aload (r := some _) rfl rfl rfl (pc' := 219) ?_
  refine g_iload rfl rfl rfl (pc' := 220) ?_
  refine g_iconst rfl rfl rfl (pc' := 221) ?_
  refine g_iadd rfl rfl (pc' := 222) ?_
  refine t_putI rfl hT rfl rfl  (pc' := 225) rfl (fun hT => ?_)
  have H := H _ rfl
  refine g_aload (r := some _) rfl rfl rfl (pc' := 226) ?_
  refine g_aload (r := some _) rfl rfl rfl (pc' := 227) ?_
  refine t_get (o := 1) rfl hT rfl rfl rfl (pc' := 230) rfl ?_
  refine g_iconst rfl rfl rfl (pc' := 231) ?_
  refine t_baload hT (o := 1) (l := 320) rfl rfl rfl ⟨rfl, by decide, by decide⟩ (pc' := 232) rfl ?_
  refine t_call hT (y := 89) (n := 2) (pc' := 235) rfl rfl (t_vt hT rfl rfl) rfl rfl ⟨(Nat.le_of_ble_eq_true rfl), (Nat.le_of_ble_eq_true rfl), (Nat.le_of_ble_eq_true rfl)⟩ rfl H (tV_elim (fun h2 H hT => ?_))
  show gm_G _ 235 _ _ _ _
  refine g_aload (r := some _) rfl rfl rfl (pc' := 236) ?_
  refine g_iconst rfl rfl rfl (pc' := 237) ?_
  refine t_call hT (y := 89) (n := 2) (pc' := 240) rfl rfl (t_vt hT rfl rfl) rfl rfl ⟨(Nat.le_of_ble_eq_true rfl), (Nat.le_of_ble_eq_true rfl), (Nat.le_of_ble_eq_true rfl)⟩ rfl H (tV_elim (fun h3 H hT => ?_))
  show gm_G _ 240 _ _ _ _
  refine g_aload (r := some _) rfl rfl rfl (pc' := 241) ?_
  refine g_iload rfl rfl rfl (pc' := 242) ?_
  refine t_call hT (y := 545) (n := 2) (pc' := 245) rfl rfl (t_vt hT rfl rfl) rfl rfl ⟨(Nat.le_of_ble_eq_true rfl), (Nat.le_of_ble_eq_true rfl), (Nat.le_of_ble_eq_true rfl)⟩ rfl H (tI_elim (fun v5 h4 H hT => ?_))
  show gm_G _ 245 _ _ _ _
  refine g_istore rfl rfl rfl (pc' := 247) ?_
  refine g_aload (r := some _) rfl rfl rfl (pc' := 248) ?_
  refine g_iload rfl rfl rfl (pc' := 250) ?_
  refine t_putI rfl hT rfl rfl  (pc' := 253) rfl (fun hT => ?_)
  have H := H _ rfl
  refine g_iload rfl rfl rfl (pc' := 255) ?_
  refine g_iconst rfl rfl rfl (pc' := 257) ?_
  refine g_ic_ne rfl (pc' := 260) (pt := 263) rfl rfl ⟨fun hc => ?_, fun hc => ?_⟩
  · have H := H.1 hc
    refine g_iload rfl rfl rfl (pc' := 265) ?_
    refine g_if_ge rfl (pc' := 268) (pt := 290) rfl rfl ⟨fun hc => ?_, fun hc => ?_⟩
    · have H := H.1 hc
      refine g_aload (r := some _) rfl rfl rfl (pc' := 291) ?_
      refine g_iconst rfl rfl rfl (pc' := 292) ?_
      refine t_call hT (y := 468) (n := 2) (pc' := 295) rfl rfl (t_vt hT rfl rfl) rfl rfl ⟨(Nat.le_of_ble_eq_true rfl), (Nat.le_of_ble_eq_true rfl), (Nat.le_of_ble_eq_true rfl)⟩ rfl H (tI_elim (fun v8 h7 H hT => ?_))
      show gm_G _ 295 _ _ _ _
      refine g_if_ge rfl (pc' := 298) (pt := 301) rfl rfl ⟨fun hc => ?_, fun hc => ?_⟩
      · have H := H.1 hc
        exact g_weak (show gm_Lle [some _, some _, some _, some _] _ from ⟨rfl, ⟨rfl, ⟨rfl, ⟨rfl, trivial⟩⟩⟩⟩) H
      · have H := H.2 hc
        refine g_iconst rfl rfl rfl (pc' := 300) ?_
        exact g_ireturn rfl (Or.inl rfl) H
    · have H := H.2 hc
      refine g_aload (r := some _) rfl rfl rfl (pc' := 269) ?_
      refine g_iconst rfl rfl rfl (pc' := 270) ?_
      refine t_putI rfl hT rfl rfl  (pc' := 273) rfl (fun hT => ?_)
      have H := H _ rfl
      refine g_aload (r := some _) rfl rfl rfl (pc' := 274) ?_
      refine t_get (o := 121) rfl hT rfl rfl rfl (pc' := 277) rfl ?_
      refine g_iconst rfl rfl rfl (pc' := 278) ?_
      refine g_iload rfl rfl rfl (pc' := 280) ?_
      refine g_ineg rfl rfl (pc' := 281) ?_
      refine g_i2b rfl rfl (pc' := 282) ?_
      refine t_bastore hT (o := 121) (l := 512) rfl rfl rfl ⟨rfl, by decide, by decide⟩  (pc' := 283) rfl (fun hT => ?_)
      have H := H _ rfl
      refine g_aload (r := some _) rfl rfl rfl (pc' := 284) ?_
      refine t_call hT (y := 422) (n := 1) (pc' := 287) rfl rfl (t_vt hT rfl rfl) rfl rfl ⟨(Nat.le_of_ble_eq_true rfl), (Nat.le_of_ble_eq_true rfl), (Nat.le_of_ble_eq_true rfl)⟩ rfl H (tV_elim (fun h11 H hT => ?_))
      show gm_G _ 287 _ _ _ _
      refine g_goto rfl (pc' := 301) rfl ?_
      exact g_weak (show gm_Lle [some _, some _, some _, some _] _ from ⟨rfl, ⟨rfl, ⟨rfl, ⟨rfl, trivial⟩⟩⟩⟩) H
  · have H := H.2 hc
    refine g_iconst rfl rfl rfl (pc' := 262) ?_
    exact g_ireturn rfl (Or.inl rfl) H
theorem w_556_301 {m : Nat} {x1 : Int32} {x2 : Int32} {x3 : Int32} {h : hh_T} {Q : Option Value ⊕ Nat → hh_T → Prop} (hT : tw_ok h m) (H : (x3 = Int32.ofNat 0 → (gm_G 556 395 [some (.ref m)] [] h Q)) ∧ (¬ x3 = Int32.ofNat 0 → (∃ n1, gm_ix x1 n1 4 ∧ (∀ h2, h2 = hh_wi h (m + 117) n1 x2 → (gm_G 556 315 [some (.ref m), some (.int x1), some (.int x2), none, some (.int (Int32.ofNat 0))] [] h2 Q))))) : gm_G 556 301 [some (.ref m), some (.int x1), some (.int x2), some (.int x3)] [] h Q := by
  refine g_iload rfl rfl rfl (pc' := 302) ?_
  refine g_if_eq rfl (pc' := 305) (pt := 395) rfl rfl ⟨fun hc => ?_, fun hc => ?_⟩
  · have H := H.1 hc
    exact g_weak (show gm_Lle [some _] _ from ⟨rfl, trivial⟩) H
  · have H := H.2 hc
    refine g_aload (r := some _) rfl rfl rfl (pc' := 306) ?_
    refine t_get (o := 117) rfl hT rfl rfl rfl (pc' := 309) rfl ?_
    refine g_iload rfl rfl rfl (pc' := 310) ?_
    refine g_iload rfl rfl rfl (pc' := 311) ?_
    obtain ⟨n1, hn1, H⟩ := H
    refine t_iastore hT (o := 117) (l := 4) rfl rfl rfl hn1  (pc' := 312) rfl (fun hT => ?_)
    have H := H _ rfl
    refine g_iconst rfl rfl rfl (pc' := 313) ?_
    refine g_istore rfl rfl rfl (pc' := 315) ?_
    exact g_weak (show gm_Lle [some _, some _, some _, none, some _] _ from ⟨rfl, ⟨rfl, ⟨rfl, ⟨rfl, trivial⟩⟩⟩⟩) H
theorem w_556_315 {m : Nat} {x1 : Int32} {x2 : Int32} {x4 : Int32} {h : hh_T} {Q : Option Value ⊕ Nat → hh_T → Prop} (hT : tw_ok h m) (H : (¬ x4 < x2 → (∃ n1, gm_ix x1 n1 4 ∧ (∀ h2, h2 = hh_wi h (m + 118) n1 (hh_i h m 154) → (gm_G 556 360 [some (.ref m), some (.int x1), none, none, some (.int (Int32.ofNat 0))] [] h2 Q)))) ∧ (x4 < x2 → (∃ n3, gm_ix x4 n3 320 ∧ (∃ n4, gm_ix (((Int32.ofNat 320) * x1) + x4) n4 1280 ∧ (∀ h5, h5 = hh_wi h (m + 119) n4 ((hh_i h (m + 1) n3).toInt8.toInt32) → (gm_G 556 315 [some (.ref m), some (.int x1), some (.int x2), none, some (.int (x4 + (Int32.ofNat 1)))] [] h5 Q)))))) : gm_G 556 315 [some (.ref m), some (.int x1), some (.int x2), none, some (.int x4)] [] h Q := by
  refine g_iload rfl rfl rfl (pc' := 317) ?_
  refine g_iload rfl rfl rfl (pc' := 318) ?_
  refine g_ic_ge rfl (pc' := 321) (pt := 347) rfl rfl ⟨fun hc => ?_, fun hc => ?_⟩
  · have H := H.1 hc
    refine g_aload (r := some _) rfl rfl rfl (pc' := 348) ?_
    refine t_get (o := 118) rfl hT rfl rfl rfl (pc' := 351) rfl ?_
    refine g_iload rfl rfl rfl (pc' := 352) ?_
    refine g_aload (r := some _) rfl rfl rfl (pc' := 353) ?_
    refine t_getI rfl hT rfl rfl (pc' := 356) rfl ?_
    obtain ⟨n1, hn1, H⟩ := H
    refine t_iastore hT (o := 118) (l := 4) rfl rfl rfl hn1  (pc' := 357) rfl (fun hT => ?_)
    have H := H _ rfl
    refine g_iconst rfl rfl rfl (pc' := 358) ?_
    refine g_istore rfl rfl rfl (pc' := 360) ?_
    exact g_weak (show gm_Lle [some _, some _, none, none, some _] _ from ⟨rfl, ⟨rfl, ⟨rfl, trivial⟩⟩⟩) H
  · have H := H.2 hc
    refine g_aload (r := some _) rfl rfl rfl (pc' := 322) ?_
    refine t_get (o := 119) rfl hT rfl rfl rfl (pc' := 325) rfl ?_
    refine g_iconst rfl rfl rfl (pc' := 328) ?_
    refine g_iload rfl rfl rfl (pc' := 329) ?_
    refine g_imul rfl rfl (pc' := 330) ?_
    refine g_iload rfl rfl rfl (pc' := 332) ?_
    refine g_iadd rfl rfl (pc' := 333) ?_
    refine g_aload (r := some _) rfl rfl rfl (pc' := 334) ?_
    refine t_get (o := 1) rfl hT rfl rfl rfl (pc' := 337) rfl ?_
    refine g_iload rfl rfl rfl (pc' := 339) ?_
    obtain ⟨n3, hn3, H⟩ := H
    refine t_baload hT (o := 1) (l := 320) rfl rfl rfl hn3 (pc' := 340) rfl ?_
    obtain ⟨n4, hn4, H⟩ := H
    refine t_bastore hT (o := 119) (l := 1280) rfl rfl rfl hn4  (pc' := 341) rfl (fun hT => ?_)
    have H := H _ rfl
    refine g_iinc (c := (Int32.ofNat 1)) rfl rfl rfl rfl rfl (pc' := 344) ?_
    refine g_goto rfl (pc' := 315) rfl ?_
    exact g_weak (show gm_Lle [some _, some _, some _, none, some _] _ from ⟨rfl, ⟨rfl, ⟨rfl, ⟨rfl, trivial⟩⟩⟩⟩) H
theorem w_556_360 {m : Nat} {x1 : Int32} {x4 : Int32} {h : hh_T} {Q : Option Value ⊕ Nat → hh_T → Prop} (hT : tw_ok h m) (H : (¬ x4 < (hh_i h m 154) → (gm_G 556 395 [some (.ref m)] [] h Q)) ∧ (x4 < (hh_i h m 154) → (∃ n1, gm_ix x4 n1 512 ∧ (∃ n2, gm_ix (((Int32.ofNat 512) * x1) + x4) n2 2048 ∧ (∀ h3, h3 = hh_wi h (m + 120) n2 ((hh_i h (m + 121) n1).toInt8.toInt32) → (gm_G 556 360 [some (.ref m), some (.int x1), none, none, some (.int (x4 + (Int32.ofNat 1)))] [] h3 Q)))))) : gm_G 556 360 [some (.ref m), some (.int x1), none, none, some (.int x4)] [] h Q := by
  refine g_iload rfl rfl rfl (pc' := 362) ?_
  refine g_aload (r := some _) rfl rfl rfl (pc' := 363) ?_
  refine t_getI rfl hT rfl rfl (pc' := 366) rfl ?_
  refine g_ic_ge rfl (pc' := 369) (pt := 395) rfl rfl ⟨fun hc => ?_, fun hc => ?_⟩
  · have H := H.1 hc
    exact g_weak (show gm_Lle [some _] _ from ⟨rfl, trivial⟩) H
  · have H := H.2 hc
    refine g_aload (r := some _) rfl rfl rfl (pc' := 370) ?_
    refine t_get (o := 120) rfl hT rfl rfl rfl (pc' := 373) rfl ?_
    refine g_iconst rfl rfl rfl (pc' := 376) ?_
    refine g_iload rfl rfl rfl (pc' := 377) ?_
    refine g_imul rfl rfl (pc' := 378) ?_
    refine g_iload rfl rfl rfl (pc' := 380) ?_
    refine g_iadd rfl rfl (pc' := 381) ?_
    refine g_aload (r := some _) rfl rfl rfl (pc' := 382) ?_
    refine t_get (o := 121) rfl hT rfl rfl rfl (pc' := 385) rfl ?_
    refine g_iload rfl rfl rfl (pc' := 387) ?_
    obtain ⟨n1, hn1, H⟩ := H
    refine t_baload hT (o := 121) (l := 512) rfl rfl rfl hn1 (pc' := 388) rfl ?_
    obtain ⟨n2, hn2, H⟩ := H
    refine t_bastore hT (o := 120) (l := 2048) rfl rfl rfl hn2  (pc' := 389) rfl (fun hT => ?_)
    have H := H _ rfl
    refine g_iinc (c := (Int32.ofNat 1)) rfl rfl rfl rfl rfl (pc' := 392) ?_
    refine g_goto rfl (pc' := 360) rfl ?_
    exact g_weak (show gm_Lle [some _, some _, none, none, some _] _ from ⟨rfl, ⟨rfl, ⟨rfl, trivial⟩⟩⟩) H
theorem w_556_395 {m : Nat}  {h : hh_T} {Q : Option Value ⊕ Nat → hh_T → Prop} (hT : tw_ok h m) (H : gm_G 556 398 [some (.ref m), none, none, none, some (.int (Int32.ofNat 0))] [] h Q) : gm_G 556 395 [some (.ref m)] [] h Q := by
  refine g_iconst rfl rfl rfl (pc' := 396) ?_
  refine g_istore rfl rfl rfl (pc' := 398) ?_
  exact g_weak (show gm_Lle [some _, none, none, none, some _] _ from ⟨rfl, ⟨rfl, trivial⟩⟩) H
theorem w_556_398 {m : Nat} {x4 : Int32} {h : hh_T} {Q : Option Value ⊕ Nat → hh_T → Prop} (hT : tw_ok h m) (H : (¬ x4 < (hh_i h m 154) → (∀ h1, h1 = hh_wi h m 3 (hh_i h m 154) → (Q (.inl (some (.int (hh_i h1 m 154)))) h1))) ∧ (x4 < (hh_i h m 154) → (∃ n2, gm_ix x4 n2 512 ∧ (∃ n3, gm_ix x4 n3 512 ∧ (∀ h4, h4 = hh_wi h (m + 2) n3 ((hh_i h (m + 121) n2).toInt8.toInt32) → (gm_G 556 398 [some (.ref m), none, none, none, some (.int (x4 + (Int32.ofNat 1)))] [] h4 Q)))))) : gm_G 556 398 [some (.ref m), none, none, none, some (.int x4)] [] h Q := by
  refine g_iload rfl rfl rfl (pc' := 400) ?_
  refine g_aload (r := some _) rfl rfl rfl (pc' := 401) ?_
  refine t_getI rfl hT rfl rfl (pc' := 404) rfl ?_
  refine g_ic_ge rfl (pc' := 407) (pt := 427) rfl rfl ⟨fun hc => ?_, fun hc => ?_⟩
  · have H := H.1 hc
    refine g_aload (r := some _) rfl rfl rfl (pc' := 428) ?_
    refine g_aload (r := some _) rfl rfl rfl (pc' := 429) ?_
    refine t_getI rfl hT rfl rfl (pc' := 432) rfl ?_
    refine t_putI rfl hT rfl rfl  (pc' := 435) rfl (fun hT => ?_)
    have H := H _ rfl
    refine g_aload (r := some _) rfl rfl rfl (pc' := 436) ?_
    refine t_getI rfl hT rfl rfl (pc' := 439) rfl ?_
    exact g_ireturn rfl (Or.inl rfl) H
  · have H := H.2 hc
    refine g_aload (r := some _) rfl rfl rfl (pc' := 408) ?_
    refine t_get (o := 2) rfl hT rfl rfl rfl (pc' := 411) rfl ?_
    refine g_iload rfl rfl rfl (pc' := 413) ?_
    refine g_aload (r := some _) rfl rfl rfl (pc' := 414) ?_
    refine t_get (o := 121) rfl hT rfl rfl rfl (pc' := 417) rfl ?_
    refine g_iload rfl rfl rfl (pc' := 419) ?_
    obtain ⟨n2, hn2, H⟩ := H
    refine t_baload hT (o := 121) (l := 512) rfl rfl rfl hn2 (pc' := 420) rfl ?_
    obtain ⟨n3, hn3, H⟩ := H
    refine t_bastore hT (o := 2) (l := 512) rfl rfl rfl hn3  (pc' := 421) rfl (fun hT => ?_)
    have H := H _ rfl
    refine g_iinc (c := (Int32.ofNat 1)) rfl rfl rfl rfl rfl (pc' := 424) ?_
    refine g_goto rfl (pc' := 398) rfl ?_
    exact g_weak (show gm_Lle [some _, none, none, none, some _] _ from ⟨rfl, ⟨rfl, trivial⟩⟩) H
theorem w_560_0 {m : Nat} {x1 : Int32} {h : hh_T} {Q : Option Value ⊕ Nat → hh_T → Prop} (hT : tw_ok h m) (H : (x1 < Int32.ofNat 0 → (Q (.inl (some (.int (Int32.ofInt (-1))))) h)) ∧ (¬ x1 < Int32.ofNat 0 → ((¬ (Int32.ofNat 2) < x1 → ((¬ (hh_i h m 76) = Int32.ofNat 0 → (((hh_i h m 77) = Int32.ofNat 0 → ((x1 < (hh_i h m 99) → (gm_G 560 44 [some (.ref m), some (.int x1), some (.int (Int32.ofNat 0))] [] h Q)) ∧ (¬ x1 < (hh_i h m 99) → (Q (.inl (some (.int (Int32.ofInt (-2))))) h)))) ∧ (¬ (hh_i h m 77) = Int32.ofNat 0 → (Q (.inl (some (.int (Int32.ofInt (-5))))) h)))) ∧ ((hh_i h m 76) = Int32.ofNat 0 → (Q (.inl (some (.int (Int32.ofInt (-2))))) h)))) ∧ ((Int32.ofNat 2) < x1 → (Q (.inl (some (.int (Int32.ofInt (-1))))) h))))) : gm_G 560 0 [some (.ref m), some (.int x1)] [] h Q := by
  refine g_iload rfl rfl rfl (pc' := 1) ?_
  refine g_if_lt rfl (pc' := 4) (pt := 9) rfl rfl ⟨fun hc => ?_, fun hc => ?_⟩
  · have H := H.1 hc
    refine g_iconst rfl rfl rfl (pc' := 10) ?_
    exact g_ireturn rfl (Or.inl rfl) H
  · have H := H.2 hc
    refine g_iload rfl rfl rfl (pc' := 5) ?_
    refine g_iconst rfl rfl rfl (pc' := 6) ?_
    refine g_ic_le rfl (pc' := 9) (pt := 11) rfl rfl ⟨fun hc => ?_, fun hc => ?_⟩
    · have H := H.1 hc
      refine g_aload (r := some _) rfl rfl rfl (pc' := 12) ?_
      refine t_getZ rfl hT rfl rfl (pc' := 15) rfl ?_
      refine g_if_ne rfl (pc' := 18) (pt := 21) rfl rfl ⟨fun hc => ?_, fun hc => ?_⟩
      · have H := H.1 hc
        refine g_aload (r := some _) rfl rfl rfl (pc' := 22) ?_
        refine t_getZ rfl hT rfl rfl (pc' := 25) rfl ?_
        refine g_if_eq rfl (pc' := 28) (pt := 31) rfl rfl ⟨fun hc => ?_, fun hc => ?_⟩
        · have H := H.1 hc
          refine g_iload rfl rfl rfl (pc' := 32) ?_
          refine g_aload (r := some _) rfl rfl rfl (pc' := 33) ?_
          refine t_getI rfl hT rfl rfl (pc' := 36) rfl ?_
          refine g_ic_lt rfl (pc' := 39) (pt := 42) rfl rfl ⟨fun hc => ?_, fun hc => ?_⟩
          · have H := H.1 hc
            refine g_iconst rfl rfl rfl (pc' := 43) ?_
            refine g_istore rfl rfl rfl (pc' := 44) ?_
            exact g_weak (show gm_Lle [some _, some _, some _] _ from ⟨rfl, ⟨rfl, ⟨rfl, trivial⟩⟩⟩) H
          · have H := H.2 hc
            refine g_iconst rfl rfl rfl (pc' := 41) ?_
            exact g_ireturn rfl (Or.inl rfl) H
        · have H := H.2 hc
          refine g_iconst rfl rfl rfl (pc' := 30) ?_
          exact g_ireturn rfl (Or.inl rfl) H
      · have H := H.2 hc
        refine g_iconst rfl rfl rfl (pc' := 20) ?_
        exact g_ireturn rfl (Or.inl rfl) H
    · have H := H.2 hc
      refine g_iconst rfl rfl rfl (pc' := 10) ?_
      exact g_ireturn rfl (Or.inl rfl) H
theorem w_560_44 {m : Nat} {x1 : Int32} {x2 : Int32} {h : hh_T} {Q : Option Value ⊕ Nat → hh_T → Prop} (hT : tw_ok h m) (H : (¬ x2 < (hh_i h m 19) → (gm_G 560 71 [some (.ref m), some (.int x1), some (.int (Int32.ofNat 0))] [] h Q)) ∧ (x2 < (hh_i h m 19) → (gm_G 120 0 [some (.ref m), some (.int x2)] [] h (pI (fun v2 h1 => (¬ v2 = Int32.ofNat 0 → (gm_G 560 44 [some (.ref m), some (.int x1), some (.int (x2 + (Int32.ofNat 1)))] [] h1 Q)) ∧ (v2 = Int32.ofNat 0 → (Q (.inl (some (.int (Int32.ofInt (-13))))) h1))) (fun _ _ => False))))) : gm_G 560 44 [some (.ref m), some (.int x1), some (.int x2)] [] h Q := by
  refine g_iload rfl rfl rfl (pc' := 45) ?_
  refine g_aload (r := some _) rfl rfl rfl (pc' := 46) ?_
  refine t_getI rfl hT rfl rfl (pc' := 49) rfl ?_
  refine g_ic_ge rfl (pc' := 52) (pt := 69) rfl rfl ⟨fun hc => ?_, fun hc => ?_⟩
  · have H := H.1 hc
    refine g_iconst rfl rfl rfl (pc' := 70) ?_
    refine g_istore rfl rfl rfl (pc' := 71) ?_
    exact g_weak (show gm_Lle [some _, some _, some _] _ from ⟨rfl, ⟨rfl, ⟨rfl, trivial⟩⟩⟩) H
  · have H := H.2 hc
    refine g_aload (r := some _) rfl rfl rfl (pc' := 53) ?_
    refine g_iload rfl rfl rfl (pc' := 54) ?_
    refine t_call hT (y := 120) (n := 2) (pc' := 57) rfl rfl (t_vt hT rfl rfl) rfl rfl ⟨(Nat.le_of_ble_eq_true rfl), (Nat.le_of_ble_eq_true rfl), (Nat.le_of_ble_eq_true rfl)⟩ rfl H (tI_elim (fun v2 h1 H hT => ?_))
    show gm_G _ 57 _ _ _ _
    refine g_if_ne rfl (pc' := 60) (pt := 63) rfl rfl ⟨fun hc => ?_, fun hc => ?_⟩
    · have H := H.1 hc
      refine g_iinc (c := (Int32.ofNat 1)) rfl rfl rfl rfl rfl (pc' := 66) ?_
      refine g_goto rfl (pc' := 44) rfl ?_
      exact g_weak (show gm_Lle [some _, some _, some _] _ from ⟨rfl, ⟨rfl, ⟨rfl, trivial⟩⟩⟩) H
    · have H := H.2 hc
      refine g_iconst rfl rfl rfl (pc' := 62) ?_
      exact g_ireturn rfl (Or.inl rfl) H
theorem w_560_71 {m : Nat} {x1 : Int32} {x2 : Int32} {h : hh_T} {Q : Option Value ⊕ Nat → hh_T → Prop} (hT : tw_ok h m) (H : (¬ (x2 + x1) < (hh_i h m 99) → (∀ h1, h1 = hh_wi h m 99 ((hh_i h m 99) - x1) → (∀ h2, h2 = hh_wi h1 m 100 (hh_i h1 (m + 79) 0) → (gm_G 99 0 [some (.ref m), some (.int (hh_i h2 (m + 78) 0)), some (.int (Int32.ofNat 0))] [] h2 (pV (fun h3 => ∀ h4, h4 = hh_wi h3 m 77 (Int32.ofNat 1) → (gm_G 422 0 [some (.ref m)] [] h4 (pV (fun h5 => (¬ Int32.ofNat 0 < x1 → (gm_G 555 0 [some (.ref m)] [] h5 (pI (fun v7 h6 => (¬ v7 = Int32.ofNat 0 → (gm_G 560 200 [some (.ref m)] [] h6 Q)) ∧ (v7 = Int32.ofNat 0 → (Q (.inl (some (.int (Int32.ofInt (-12))))) h6))) (fun _ _ => False)))) ∧ (Int32.ofNat 0 < x1 → (gm_G 560 161 [some (.ref m), none, some (.int (Int32.ofNat 0))] [] h5 Q))) (fun _ _ => False)))) (fun _ _ => False)))))) ∧ ((x2 + x1) < (hh_i h m 99) → (∃ n8, gm_ix (x2 + x1) n8 3 ∧ (∃ n9, gm_ix x2 n9 3 ∧ (∀ h10, h10 = hh_wi h (m + 78) n9 (hh_i h (m + 78) n8) → (∃ n11, gm_ix (x2 + x1) n11 3 ∧ (∃ n12, gm_ix x2 n12 3 ∧ (∀ h13, h13 = hh_wi h10 (m + 79) n12 (hh_i h10 (m + 79) n11) → (gm_G 560 71 [some (.ref m), some (.int x1), some (.int (x2 + (Int32.ofNat 1)))] [] h13 Q))))))))) : gm_G 560 71 [some (.ref m), some (.int x1), some (.int x2)] [] h Q := by
  refine g_iload rfl rfl rfl (pc' := 72) ?_
  refine g_iload rfl rfl rfl (pc' := 73) ?_
  refine g_iadd rfl rfl (pc' := 74) ?_
  refine g_aload (r := some _) rfl rfl rfl (pc' := 75) ?_
  refine t_getI rfl hT rfl rfl (pc' := 78) rfl ?_
  refine g_ic_ge rfl (pc' := 81) (pt := 115) rfl rfl ⟨fun hc => ?_, fun hc => ?_⟩
  · have H := H.1 hc
    refine g_aload (r := some _) rfl rfl rfl (pc' := 116) ?_
    refine g_dup_a (r := some _) rfl rfl (pc' := 117) ?_
    refine t_getI rfl hT rfl rfl (pc' := 120) rfl ?_
    refine g_iload rfl rfl rfl (pc' := 121) ?_
    refine g_isub rfl rfl (pc' := 122) ?_
    refine t_putI rfl hT rfl rfl  (pc' := 125) rfl (fun hT => ?_)
    have H := H _ rfl
    refine g_aload (r := some _) rfl rfl rfl (pc' := 126) ?_
    refine g_aload (r := some _) rfl rfl rfl (pc' := 127) ?_
    refine t_get (o := 79) rfl hT rfl rfl rfl (pc' := 130) rfl ?_
    refine g_iconst rfl rfl rfl (pc' := 131) ?_
    refine t_iaload hT (o := 79) (l := 3) rfl rfl rfl ⟨rfl, by decide, by decide⟩ (pc' := 132) rfl ?_
    refine t_putI rfl hT rfl rfl  (pc' := 135) rfl (fun hT => ?_)
    have H := H _ rfl
    refine g_aload (r := some _) rfl rfl rfl (pc' := 136) ?_
    refine g_aload (r := some _) rfl rfl rfl (pc' := 137) ?_
    refine t_get (o := 78) rfl hT rfl rfl rfl (pc' := 140) rfl ?_
    refine g_iconst rfl rfl rfl (pc' := 141) ?_
    refine t_iaload hT (o := 78) (l := 3) rfl rfl rfl ⟨rfl, by decide, by decide⟩ (pc' := 142) rfl ?_
    refine g_iconst rfl rfl rfl (pc' := 143) ?_
    refine t_call hT (y := 99) (n := 3) (pc' := 146) rfl rfl (t_vt hT rfl rfl) rfl rfl ⟨(Nat.le_of_ble_eq_true rfl), (Nat.le_of_ble_eq_true rfl), (Nat.le_of_ble_eq_true rfl)⟩ rfl H (tV_elim (fun h3 H hT => ?_))
    show gm_G _ 146 _ _ _ _
    refine g_aload (r := some _) rfl rfl rfl (pc' := 147) ?_
    refine g_iconst rfl rfl rfl (pc' := 148) ?_
    refine t_putZ rfl hT rfl rfl (by decide) (pc' := 151) rfl (fun hT => ?_)
    have H := H _ rfl
    refine g_aload (r := some _) rfl rfl rfl (pc' := 152) ?_
    refine t_call hT (y := 422) (n := 1) (pc' := 155) rfl rfl (t_vt hT rfl rfl) rfl rfl ⟨(Nat.le_of_ble_eq_true rfl), (Nat.le_of_ble_eq_true rfl), (Nat.le_of_ble_eq_true rfl)⟩ rfl H (tV_elim (fun h5 H hT => ?_))
    show gm_G _ 155 _ _ _ _
    refine g_iload rfl rfl rfl (pc' := 156) ?_
    refine g_if_le rfl (pc' := 159) (pt := 190) rfl rfl ⟨fun hc => ?_, fun hc => ?_⟩
    · have H := H.1 hc
      refine g_aload (r := some _) rfl rfl rfl (pc' := 191) ?_
      refine t_call hT (y := 555) (n := 1) (pc' := 194) rfl rfl (t_vt hT rfl rfl) rfl rfl ⟨(Nat.le_of_ble_eq_true rfl), (Nat.le_of_ble_eq_true rfl), (Nat.le_of_ble_eq_true rfl)⟩ rfl H (tI_elim (fun v7 h6 H hT => ?_))
      show gm_G _ 194 _ _ _ _
      refine g_if_ne rfl (pc' := 197) (pt := 200) rfl rfl ⟨fun hc => ?_, fun hc => ?_⟩
      · have H := H.1 hc
        exact g_weak (show gm_Lle [some _] _ from ⟨rfl, trivial⟩) H
      · have H := H.2 hc
        refine g_iconst rfl rfl rfl (pc' := 199) ?_
        exact g_ireturn rfl (Or.inl rfl) H
    · have H := H.2 hc
      refine g_iconst rfl rfl rfl (pc' := 160) ?_
      refine g_istore rfl rfl rfl (pc' := 161) ?_
      exact g_weak (show gm_Lle [some _, none, some _] _ from ⟨rfl, ⟨rfl, trivial⟩⟩) H
  · have H := H.2 hc
    refine g_aload (r := some _) rfl rfl rfl (pc' := 82) ?_
    refine t_get (o := 78) rfl hT rfl rfl rfl (pc' := 85) rfl ?_
    refine g_iload rfl rfl rfl (pc' := 86) ?_
    refine g_aload (r := some _) rfl rfl rfl (pc' := 87) ?_
    refine t_get (o := 78) rfl hT rfl rfl rfl (pc' := 90) rfl ?_
    refine g_iload rfl rfl rfl (pc' := 91) ?_
    refine g_iload rfl rfl rfl (pc' := 92) ?_
    refine g_iadd rfl rfl (pc' := 93) ?_
    obtain ⟨n8, hn8, H⟩ := H
    refine t_iaload hT (o := 78) (l := 3) rfl rfl rfl hn8 (pc' := 94) rfl ?_
    obtain ⟨n9, hn9, H⟩ := H
    refine t_iastore hT (o := 78) (l := 3) rfl rfl rfl hn9  (pc' := 95) rfl (fun hT => ?_)
    have H := H _ rfl
    refine g_aload (r := some _) rfl rfl rfl (pc' := 96) ?_
    refine t_get (o := 79) rfl hT rfl rfl rfl (pc' := 99) rfl ?_
    refine g_iload rfl rfl rfl (pc' := 100) ?_
    refine g_aload (r := some _) rfl rfl rfl (pc' := 101) ?_
    refine t_get (o := 79) rfl hT rfl rfl rfl (pc' := 104) rfl ?_
    refine g_iload rfl rfl rfl (pc' := 105) ?_
    refine g_iload rfl rfl rfl (pc' := 106) ?_
    refine g_iadd rfl rfl (pc' := 107) ?_
    obtain ⟨n11, hn11, H⟩ := H
    refine t_iaload hT (o := 79) (l := 3) rfl rfl rfl hn11 (pc' := 108) rfl ?_
    obtain ⟨n12, hn12, H⟩ := H
    refine t_iastore hT (o := 79) (l := 3) rfl rfl rfl hn12  (pc' := 109) rfl (fun hT => ?_)
    have H := H _ rfl
    refine g_iinc (c := (Int32.ofNat 1)) rfl rfl rfl rfl rfl (pc' := 112) ?_
    refine g_goto rfl (pc' := 71) rfl ?_
    exact g_weak (show gm_Lle [some _, some _, some _] _ from ⟨rfl, ⟨rfl, ⟨rfl, trivial⟩⟩⟩) H
theorem w_560_161 {m : Nat} {x2 : Int32} {h : hh_T} {Q : Option Value ⊕ Nat → hh_T → Prop} (hT : tw_ok h m) (H : (¬ x2 < (Int32.ofNat 8) → (gm_G 560 200 [some (.ref m)] [] h Q)) ∧ (x2 < (Int32.ofNat 8) → (∃ n1, gm_ix x2 n1 8 ∧ (∀ h2, h2 = hh_wi h (m + 80) n1 (Int32.ofNat 0) → (∃ n3, gm_ix x2 n3 8 ∧ (∀ h4, h4 = hh_wi h2 (m + 81) n3 (Int32.ofNat 0) → (gm_G 560 161 [some (.ref m), none, some (.int (x2 + (Int32.ofNat 1)))] [] h4 Q))))))) : gm_G 560 161 [some (.ref m), none, some (.int x2)] [] h Q := by
  refine g_iload rfl rfl rfl (pc' := 162) ?_
  refine g_iconst rfl rfl rfl (pc' := 164) ?_
  refine g_ic_ge rfl (pc' := 167) (pt := 187) rfl rfl ⟨fun hc => ?_, fun hc => ?_⟩
  · have H := H.1 hc
    refine g_goto rfl (pc' := 200) rfl ?_
    exact g_weak (show gm_Lle [some _] _ from ⟨rfl, trivial⟩) H
  · have H := H.2 hc
    refine g_aload (r := some _) rfl rfl rfl (pc' := 168) ?_
    refine t_get (o := 80) rfl hT rfl rfl rfl (pc' := 171) rfl ?_
    refine g_iload rfl rfl rfl (pc' := 172) ?_
    refine g_iconst rfl rfl rfl (pc' := 173) ?_
    obtain ⟨n1, hn1, H⟩ := H
    refine t_iastore hT (o := 80) (l := 8) rfl rfl rfl hn1  (pc' := 174) rfl (fun hT => ?_)
    have H := H _ rfl
    refine g_aload (r := some _) rfl rfl rfl (pc' := 175) ?_
    refine t_get (o := 81) rfl hT rfl rfl rfl (pc' := 178) rfl ?_
    refine g_iload rfl rfl rfl (pc' := 179) ?_
    refine g_iconst rfl rfl rfl (pc' := 180) ?_
    obtain ⟨n3, hn3, H⟩ := H
    refine t_iastore hT (o := 81) (l := 8) rfl rfl rfl hn3  (pc' := 181) rfl (fun hT => ?_)
    have H := H _ rfl
    refine g_iinc (c := (Int32.ofNat 1)) rfl rfl rfl rfl rfl (pc' := 184) ?_
    refine g_goto rfl (pc' := 161) rfl ?_
    exact g_weak (show gm_Lle [some _, none, some _] _ from ⟨rfl, ⟨rfl, trivial⟩⟩) H
theorem w_560_200 {m : Nat}  {h : hh_T} {Q : Option Value ⊕ Nat → hh_T → Prop} (hT : tw_ok h m) (H : ∀ h1, h1 = hh_wi h m 102 ((hh_i h m 102) + (Int32.ofNat 1)) → (gm_G 560 212 [some (.ref m), none, some (.int (Int32.ofNat 0))] [] h1 Q)) : gm_G 560 200 [some (.ref m)] [] h Q := by
  refine g_aload (r := some _) rfl rfl rfl (pc' := 201) ?_
  refine g_dup_a (r := some _) rfl rfl (pc' := 202) ?_
  refine t_getI rfl hT rfl rfl (pc' := 205) rfl ?_
  refine g_iconst rfl rfl rfl (pc' := 206) ?_
  refine g_iadd rfl rfl (pc' := 207) ?_
  refine t_putI rfl hT rfl rfl  (pc' := 210) rfl (fun hT => ?_)
  have H := H _ rfl
  refine g_iconst rfl rfl rfl (pc' := 211) ?_
  refine g_istore rfl rfl rfl (pc' := 212) ?_
  exact g_weak (show gm_Lle [some _, none, some _] _ from ⟨rfl, ⟨rfl, trivial⟩⟩) H
theorem w_560_212 {m : Nat} {x2 : Int32} {h : hh_T} {Q : Option Value ⊕ Nat → hh_T → Prop} (hT : tw_ok h m) (H : (¬ x2 < (Int32.ofNat 4) → (∀ h1, h1 = hh_wi h m 46 (Int32.ofNat 0) → (Q (.inl (some (.int (hh_i h1 m 100)))) h1))) ∧ (x2 < (Int32.ofNat 4) → (∃ n2, gm_ix x2 n2 4 ∧ (∀ h3, h3 = hh_wi h (m + 33) n2 (Int32.ofNat 0) → (gm_G 560 212 [some (.ref m), none, some (.int (x2 + (Int32.ofNat 1)))] [] h3 Q))))) : gm_G 560 212 [some (.ref m), none, some (.int x2)] [] h Q := by
  refine g_iload rfl rfl rfl (pc' := 213) ?_
  refine g_iconst rfl rfl rfl (pc' := 214) ?_
  refine g_ic_ge rfl (pc' := 217) (pt := 230) rfl rfl ⟨fun hc => ?_, fun hc => ?_⟩
  · have H := H.1 hc
    refine g_aload (r := some _) rfl rfl rfl (pc' := 231) ?_
    refine g_iconst rfl rfl rfl (pc' := 232) ?_
    refine t_putI rfl hT rfl rfl  (pc' := 235) rfl (fun hT => ?_)
    have H := H _ rfl
    refine g_aload (r := some _) rfl rfl rfl (pc' := 236) ?_
    refine t_getI rfl hT rfl rfl (pc' := 239) rfl ?_
    exact g_ireturn rfl (Or.inl rfl) H
  · have H := H.2 hc
    refine g_aload (r := some _) rfl rfl rfl (pc' := 218) ?_
    refine t_get (o := 33) rfl hT rfl rfl rfl (pc' := 221) rfl ?_
    refine g_iload rfl rfl rfl (pc' := 222) ?_
    refine g_iconst rfl rfl rfl (pc' := 223) ?_
    obtain ⟨n2, hn2, H⟩ := H
    refine t_iastore hT (o := 33) (l := 4) rfl rfl rfl hn2  (pc' := 224) rfl (fun hT => ?_)
    have H := H _ rfl
    refine g_iinc (c := (Int32.ofNat 1)) rfl rfl rfl rfl rfl (pc' := 227) ?_
    refine g_goto rfl (pc' := 212) rfl ?_
    exact g_weak (show gm_Lle [some _, none, some _] _ from ⟨rfl, ⟨rfl, trivial⟩⟩) H
