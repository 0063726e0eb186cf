/-! STAGE 2, 5: the twin, label by label (printed) -/
theorem w_416_124 {m : Nat} {x2 : Int32} {x3 : Int32} {x4 : Int32} {x5 : Int32} {h : hh_T} {Q : Option Value ⊕ Nat → hh_T → Prop} (hT : tw_ok h m) (H : ∃ n1, gm_ix x2 n1 8 ∧ ((¬ x5 < (((Int32.ofNat 64) * x2) + (hh_i h (m + 4) n1)) → (Q (.inl (some (.int x4))) h)) ∧ (x5 < (((Int32.ofNat 64) * x2) + (hh_i h (m + 4) n1)) → ((¬ x3 = (Int32.ofNat 3) → (∃ n2, gm_ix x5 n2 512 ∧ (((hh_i h (m + 8) n2) = Int32.ofNat 0 → (gm_G 416 174 [some (.ref m), none, some (.int x2), some (.int x3), none, some (.int x5)] [.int x4] h Q)) ∧ (¬ (hh_i h (m + 8) n2) = Int32.ofNat 0 → (gm_G 416 170 [some (.ref m), none, some (.int x2), some (.int x3), none, some (.int x5)] [.int x4] h Q))))) ∧ (x3 = (Int32.ofNat 3) → (∃ n3, gm_ix x5 n3 512 ∧ (((hh_i h (m + 9) n3) = Int32.ofNat 0 → (gm_G 416 174 [some (.ref m), none, some (.int x2), some (.int x3), none, some (.int x5)] [.int x4] h Q)) ∧ (¬ (hh_i h (m + 9) n3) = Int32.ofNat 0 → (gm_G 416 170 [some (.ref m), none, some (.int x2), some (.int x3), none, some (.int x5)] [.int x4] h Q))))))))) : gm_G 416 124 [some (.ref m), none, some (.int x2), some (.int x3), some (.int x4), some (.int x5)] [] h Q := by
  refine g_iload rfl rfl rfl (pc' := 126) ?_
  refine g_iconst rfl rfl rfl (pc' := 128) ?_
  refine g_iload rfl rfl rfl (pc' := 129) ?_
  refine g_imul rfl rfl (pc' := 130) ?_
  refine g_aload (r := some _) rfl rfl rfl (pc' := 131) ?_
  refine t_get (o := 4) rfl hT rfl rfl rfl (pc' := 134) rfl ?_
  refine g_iload rfl rfl rfl (pc' := 135) ?_
  obtain ⟨n1, hn1, H⟩ := H
  refine t_iaload hT (o := 4) (l := 8) rfl rfl rfl hn1 (pc' := 136) rfl ?_
  refine g_iadd rfl rfl (pc' := 137) ?_
  refine g_ic_ge rfl (pc' := 140) (pt := 184) rfl rfl ⟨fun hc => ?_, fun hc => ?_⟩
  · have H := H.1 hc
    refine g_iload rfl rfl rfl (pc' := 186) ?_
    exact g_ireturn rfl (Or.inl rfl) H
  · have H := H.2 hc
    refine g_iload rfl rfl rfl (pc' := 142) ?_
    refine g_iload rfl rfl rfl (pc' := 143) ?_
    refine g_iconst rfl rfl rfl (pc' := 144) ?_
    refine g_ic_ne rfl (pc' := 147) (pt := 160) rfl rfl ⟨fun hc => ?_, fun hc => ?_⟩
    · have H := H.1 hc
      refine g_aload (r := some _) rfl rfl rfl (pc' := 161) ?_
      refine t_get (o := 8) rfl hT rfl rfl rfl (pc' := 164) rfl ?_
      refine g_iload rfl rfl rfl (pc' := 166) ?_
      obtain ⟨n2, hn2, H⟩ := H
      refine t_zaload hT (o := 8) (l := 512) rfl rfl rfl hn2 (pc' := 167) rfl ?_
      refine g_if_eq rfl (pc' := 170) (pt := 174) rfl rfl ⟨fun hc => ?_, fun hc => ?_⟩
      · have H := H.1 hc
        exact g_weak (show gm_Lle [some _, none, some _, some _, none, some _] _ from ⟨rfl, ⟨rfl, ⟨rfl, ⟨rfl, trivial⟩⟩⟩⟩) H
      · have H := H.2 hc
        exact g_weak (show gm_Lle [some _, none, some _, some _, none, some _] _ from ⟨rfl, ⟨rfl, ⟨rfl, ⟨rfl, trivial⟩⟩⟩⟩) H
    · have H := H.2 hc
      refine g_aload (r := some _) rfl rfl rfl (pc' := 148) ?_
      refine t_get (o := 9) rfl hT rfl rfl rfl (pc' := 151) rfl ?_
      refine g_iload rfl rfl rfl (pc' := 153) ?_
      obtain ⟨n3, hn3, H⟩ := H
      refine t_zaload hT (o := 9) (l := 512) rfl rfl rfl hn3 (pc' := 154) rfl ?_
      refine g_if_eq rfl (pc' := 157) (pt := 174) rfl rfl ⟨fun hc => ?_, fun hc => ?_⟩
      · have H := H.1 hc
        exact g_weak (show gm_Lle [some _, none, some _, some _, none, some _] _ from ⟨rfl, ⟨rfl, ⟨rfl, ⟨rfl, trivial⟩⟩⟩⟩) H
      · have H := H.2 hc
        refine g_goto rfl (pc' := 170) rfl ?_
        exact g_weak (show gm_Lle [some _, none, some _, some _, none, some _] _ from ⟨rfl, ⟨rfl, ⟨rfl, ⟨rfl, trivial⟩⟩⟩⟩) H
theorem w_416_170 {m : Nat} {x2 : Int32} {x3 : Int32} {x5 : Int32} {y0 : Int32} {h : hh_T} {Q : Option Value ⊕ Nat → hh_T → Prop} (hT : tw_ok h m) (H : gm_G 416 175 [some (.ref m), none, some (.int x2), some (.int x3), none, some (.int x5)] [.int (Int32.ofNat 1), .int y0] h Q) : gm_G 416 170 [some (.ref m), none, some (.int x2), some (.int x3), none, some (.int x5)] [.int y0] h Q := by
  refine g_iconst rfl rfl rfl (pc' := 171) ?_
  refine g_goto rfl (pc' := 175) rfl ?_
  exact g_weak (show gm_Lle [some _, none, some _, some _, none, some _] _ from ⟨rfl, ⟨rfl, ⟨rfl, ⟨rfl, trivial⟩⟩⟩⟩) H
theorem w_416_174 {m : Nat} {x2 : Int32} {x3 : Int32} {x5 : Int32} {y0 : Int32} {h : hh_T} {Q : Option Value ⊕ Nat → hh_T → Prop} (hT : tw_ok h m) (H : gm_G 416 175 [some (.ref m), none, some (.int x2), some (.int x3), none, some (.int x5)] [.int (Int32.ofNat 0), .int y0] h Q) : gm_G 416 174 [some (.ref m), none, some (.int x2), some (.int x3), none, some (.int x5)] [.int y0] h Q := by
  refine g_iconst rfl rfl rfl (pc' := 175) ?_
  exact g_weak (show gm_Lle [some _, none, some _, some _, none, some _] _ from ⟨rfl, ⟨rfl, ⟨rfl, ⟨rfl, trivial⟩⟩⟩⟩) H
theorem w_416_175 {m : Nat} {x2 : Int32} {x3 : Int32} {x5 : Int32} {y0 : Int32} {y1 : Int32} {h : hh_T} {Q : Option Value ⊕ Nat → hh_T → Prop} (hT : tw_ok h m) (H : gm_G 416 124 [some (.ref m), none, some (.int x2), some (.int x3), some (.int (y1 + y0)), some (.int (x5 + (Int32.ofNat 1)))] [] h Q) : gm_G 416 175 [some (.ref m), none, some (.int x2), some (.int x3), none, some (.int x5)] [.int y0, .int y1] h Q := by
  refine g_iadd rfl rfl (pc' := 176) ?_
  refine g_istore rfl rfl rfl (pc' := 178) ?_
  refine g_iinc (c := (Int32.ofNat 1)) rfl rfl rfl rfl rfl (pc' := 181) ?_
  refine g_goto rfl (pc' := 124) rfl ?_
  exact g_weak (show gm_Lle [some _, none, some _, some _, some _, some _] _ from ⟨rfl, ⟨rfl, ⟨rfl, ⟨rfl, ⟨rfl, trivial⟩⟩⟩⟩⟩) H
theorem w_416_243 {m : Nat} {x2 : Int32} {x3 : Int32} {x4 : Int32} {x5 : Int32} {h : hh_T} {Q : Option Value ⊕ Nat → hh_T → Prop} (hT : tw_ok h m) (H : (¬ x5 < (Int32.ofNat 8) → (gm_G 416 294 [some (.ref m), none, some (.int x2), some (.int x3), some (.int x4), some (.int (Int32.ofNat 0))] [] h Q)) ∧ (x5 < (Int32.ofNat 8) → ((¬ x3 = (Int32.ofNat 1) → (gm_G 416 281 [some (.ref m), none, some (.int x2), some (.int x3), none, some (.int x5)] [.int x4] h Q)) ∧ (x3 = (Int32.ofNat 1) → (∃ n1, gm_ix x2 n1 3 ∧ (∃ n2, gm_ix (((Int32.ofNat 8) * (hh_i h (m + 78) n1)) + x5) n2 32 ∧ (((hh_i h (m + 59) n2) < Int32.ofNat 0 → (gm_G 416 281 [some (.ref m), none, some (.int x2), some (.int x3), none, some (.int x5)] [.int x4] h Q)) ∧ (¬ (hh_i h (m + 59) n2) < Int32.ofNat 0 → (gm_G 416 282 [some (.ref m), none, some (.int x2), some (.int x3), none, some (.int x5)] [.int (Int32.ofNat 1), .int x4] h Q))))))))) : gm_G 416 243 [some (.ref m), none, some (.int x2), some (.int x3), some (.int x4), some (.int x5)] [] h Q := by
  refine g_iload rfl rfl rfl (pc' := 245) ?_
  refine g_iconst rfl rfl rfl (pc' := 247) ?_
  refine g_ic_ge rfl (pc' := 250) (pt := 291) rfl rfl ⟨fun hc => ?_, fun hc => ?_⟩
  · have H := H.1 hc
    refine g_iconst rfl rfl rfl (pc' := 292) ?_
    refine g_istore rfl rfl rfl (pc' := 294) ?_
    exact g_weak (show gm_Lle [some _, none, some _, some _, some _, some _] _ from ⟨rfl, ⟨rfl, ⟨rfl, ⟨rfl, ⟨rfl, trivial⟩⟩⟩⟩⟩) H
  · have H := H.2 hc
    refine g_iload rfl rfl rfl (pc' := 252) ?_
    refine g_iload rfl rfl rfl (pc' := 253) ?_
    refine g_iconst rfl rfl rfl (pc' := 254) ?_
    refine g_ic_ne rfl (pc' := 257) (pt := 281) rfl rfl ⟨fun hc => ?_, fun hc => ?_⟩
    · have H := H.1 hc
      exact g_weak (show gm_Lle [some _, none, some _, some _, none, some _] _ from ⟨rfl, ⟨rfl, ⟨rfl, ⟨rfl, trivial⟩⟩⟩⟩) H
    · have H := H.2 hc
      refine g_aload (r := some _) rfl rfl rfl (pc' := 258) ?_
      refine t_get (o := 59) rfl hT rfl rfl rfl (pc' := 261) rfl ?_
      refine g_iconst rfl rfl rfl (pc' := 263) ?_
      refine g_aload (r := some _) rfl rfl rfl (pc' := 264) ?_
      refine t_get (o := 78) rfl hT rfl rfl rfl (pc' := 267) rfl ?_
      refine g_iload rfl rfl rfl (pc' := 268) ?_
      obtain ⟨n1, hn1, H⟩ := H
      refine t_iaload hT (o := 78) (l := 3) rfl rfl rfl hn1 (pc' := 269) rfl ?_
      refine g_imul rfl rfl (pc' := 270) ?_
      refine g_iload rfl rfl rfl (pc' := 272) ?_
      refine g_iadd rfl rfl (pc' := 273) ?_
      obtain ⟨n2, hn2, H⟩ := H
      refine t_iaload hT (o := 59) (l := 32) rfl rfl rfl hn2 (pc' := 274) rfl ?_
      refine g_if_lt rfl (pc' := 277) (pt := 281) rfl rfl ⟨fun hc => ?_, fun hc => ?_⟩
      · have H := H.1 hc
        exact g_weak (show gm_Lle [some _, none, some _, some _, none, some _] _ from ⟨rfl, ⟨rfl, ⟨rfl, ⟨rfl, trivial⟩⟩⟩⟩) H
      · have H := H.2 hc
        refine g_iconst rfl rfl rfl (pc' := 278) ?_
        refine g_goto rfl (pc' := 282) rfl ?_
        exact g_weak (show gm_Lle [some _, none, some _, some _, none, some _] _ from ⟨rfl, ⟨rfl, ⟨rfl, ⟨rfl, trivial⟩⟩⟩⟩) H
theorem w_416_281 {m : Nat} {x2 : Int32} {x3 : Int32} {x5 : Int32} {y0 : Int32} {h : hh_T} {Q : Option Value ⊕ Nat → hh_T → Prop} (hT : tw_ok h m) (H : gm_G 416 282 [some (.ref m), none, some (.int x2), some (.int x3), none, some (.int x5)] [.int (Int32.ofNat 0), .int y0] h Q) : gm_G 416 281 [some (.ref m), none, some (.int x2), some (.int x3), none, some (.int x5)] [.int y0] h Q := by
  refine g_iconst rfl rfl rfl (pc' := 282) ?_
  exact g_weak (show gm_Lle [some _, none, some _, some _, none, some _] _ from ⟨rfl, ⟨rfl, ⟨rfl, ⟨rfl, trivial⟩⟩⟩⟩) H
theorem w_416_282 {m : Nat} {x2 : Int32} {x3 : Int32} {x5 : Int32} {y0 : Int32} {y1 : Int32} {h : hh_T} {Q : Option Value ⊕ Nat → hh_T → Prop} (hT : tw_ok h m) (H : gm_G 416 243 [some (.ref m), none, some (.int x2), some (.int x3), some (.int (y1 + y0)), some (.int (x5 + (Int32.ofNat 1)))] [] h Q) : gm_G 416 282 [some (.ref m), none, some (.int x2), some (.int x3), none, some (.int x5)] [.int y0, .int y1] h Q := by
  refine g_iadd rfl rfl (pc' := 283) ?_
  refine g_istore rfl rfl rfl (pc' := 285) ?_
  refine g_iinc (c := (Int32.ofNat 1)) rfl rfl rfl rfl rfl (pc' := 288) ?_
  refine g_goto rfl (pc' := 243) rfl ?_
  exact g_weak (show gm_Lle [some _, none, some _, some _, some _, some _] _ from ⟨rfl, ⟨rfl, ⟨rfl, ⟨rfl, ⟨rfl, trivial⟩⟩⟩⟩⟩) H
theorem w_416_294 {m : Nat} {x2 : Int32} {x3 : Int32} {x4 : Int32} {x5 : Int32} {h : hh_T} {Q : Option Value ⊕ Nat → hh_T → Prop} (hT : tw_ok h m) (H : (¬ x5 < (Int32.ofNat 12) → (Q (.inl (some (.int x4))) h)) ∧ (x5 < (Int32.ofNat 12) → ((¬ x3 = (Int32.ofNat 2) → (gm_G 416 332 [some (.ref m), none, some (.int x2), some (.int x3), none, some (.int x5)] [.int x4] h Q)) ∧ (x3 = (Int32.ofNat 2) → (∃ n1, gm_ix x2 n1 3 ∧ (∃ n2, gm_ix (((Int32.ofNat 12) * (hh_i h (m + 78) n1)) + x5) n2 48 ∧ (((hh_i h (m + 69) n2) < Int32.ofNat 0 → (gm_G 416 332 [some (.ref m), none, some (.int x2), some (.int x3), none, some (.int x5)] [.int x4] h Q)) ∧ (¬ (hh_i h (m + 69) n2) < Int32.ofNat 0 → (gm_G 416 333 [some (.ref m), none, some (.int x2), some (.int x3), none, some (.int x5)] [.int (Int32.ofNat 1), .int x4] h Q))))))))) : gm_G 416 294 [some (.ref m), none, some (.int x2), some (.int x3), some (.int x4), some (.int x5)] [] h Q := by
  refine g_iload rfl rfl rfl (pc' := 296) ?_
  refine g_iconst rfl rfl rfl (pc' := 298) ?_
  refine g_ic_ge rfl (pc' := 301) (pt := 342) rfl rfl ⟨fun hc => ?_, fun hc => ?_⟩
  · have H := H.1 hc
    refine g_iload rfl rfl rfl (pc' := 344) ?_
    exact g_ireturn rfl (Or.inl rfl) H
  · have H := H.2 hc
    refine g_iload rfl rfl rfl (pc' := 303) ?_
    refine g_iload rfl rfl rfl (pc' := 304) ?_
    refine g_iconst rfl rfl rfl (pc' := 305) ?_
    refine g_ic_ne rfl (pc' := 308) (pt := 332) rfl rfl ⟨fun hc => ?_, fun hc => ?_⟩
    · have H := H.1 hc
      exact g_weak (show gm_Lle [some _, none, some _, some _, none, some _] _ from ⟨rfl, ⟨rfl, ⟨rfl, ⟨rfl, trivial⟩⟩⟩⟩) H
    · have H := H.2 hc
      refine g_aload (r := some _) rfl rfl rfl (pc' := 309) ?_
      refine t_get (o := 69) rfl hT rfl rfl rfl (pc' := 312) rfl ?_
      refine g_iconst rfl rfl rfl (pc' := 314) ?_
      refine g_aload (r := some _) rfl rfl rfl (pc' := 315) ?_
      refine t_get (o := 78) rfl hT rfl rfl rfl (pc' := 318) rfl ?_
      refine g_iload rfl rfl rfl (pc' := 319) ?_
      obtain ⟨n1, hn1, H⟩ := H
      refine t_iaload hT (o := 78) (l := 3) rfl rfl rfl hn1 (pc' := 320) rfl ?_
      refine g_imul rfl rfl (pc' := 321) ?_
      refine g_iload rfl rfl rfl (pc' := 323) ?_
      refine g_iadd rfl rfl (pc' := 324) ?_
      obtain ⟨n2, hn2, H⟩ := H
      refine t_iaload hT (o := 69) (l := 48) rfl rfl rfl hn2 (pc' := 325) rfl ?_
      refine g_if_lt rfl (pc' := 328) (pt := 332) rfl rfl ⟨fun hc => ?_, fun hc => ?_⟩
      · have H := H.1 hc
        exact g_weak (show gm_Lle [some _, none, some _, some _, none, some _] _ from ⟨rfl, ⟨rfl, ⟨rfl, ⟨rfl, trivial⟩⟩⟩⟩) H
      · have H := H.2 hc
        refine g_iconst rfl rfl rfl (pc' := 329) ?_
        refine g_goto rfl (pc' := 333) rfl ?_
        exact g_weak (show gm_Lle [some _, none, some _, some _, none, some _] _ from ⟨rfl, ⟨rfl, ⟨rfl, ⟨rfl, trivial⟩⟩⟩⟩) H
theorem w_416_332 {m : Nat} {x2 : Int32} {x3 : Int32} {x5 : Int32} {y0 : Int32} {h : hh_T} {Q : Option Value ⊕ Nat → hh_T → Prop} (hT : tw_ok h m) (H : gm_G 416 333 [some (.ref m), none, some (.int x2), some (.int x3), none, some (.int x5)] [.int (Int32.ofNat 0), .int y0] h Q) : gm_G 416 332 [some (.ref m), none, some (.int x2), some (.int x3), none, some (.int x5)] [.int y0] h Q := by
  refine g_iconst rfl rfl rfl (pc' := 333) ?_
  exact g_weak (show gm_Lle [some _, none, some _, some _, none, some _] _ from ⟨rfl, ⟨rfl, ⟨rfl, ⟨rfl, trivial⟩⟩⟩⟩) H
theorem w_416_333 {m : Nat} {x2 : Int32} {x3 : Int32} {x5 : Int32} {y0 : Int32} {y1 : Int32} {h : hh_T} {Q : Option Value ⊕ Nat → hh_T → Prop} (hT : tw_ok h m) (H : gm_G 416 294 [some (.ref m), none, some (.int x2), some (.int x3), some (.int (y1 + y0)), some (.int (x5 + (Int32.ofNat 1)))] [] h Q) : gm_G 416 333 [some (.ref m), none, some (.int x2), some (.int x3), none, some (.int x5)] [.int y0, .int y1] h Q := by
  refine g_iadd rfl rfl (pc' := 334) ?_
  refine g_istore rfl rfl rfl (pc' := 336) ?_
  refine g_iinc (c := (Int32.ofNat 1)) rfl rfl rfl rfl rfl (pc' := 339) ?_
  refine g_goto rfl (pc' := 294) rfl ?_
  exact g_weak (show gm_Lle [some _, none, some _, some _, some _, some _] _ from ⟨rfl, ⟨rfl, ⟨rfl, ⟨rfl, ⟨rfl, trivial⟩⟩⟩⟩⟩) H
theorem w_417_0 {m : Nat} {x1 : Int32} {h : hh_T} {Q : Option Value ⊕ Nat → hh_T → Prop} (hT : tw_ok h m) (H : (¬ (0 ≤ x1.toInt ∧ x1.toInt ≤ 10) → (Q (.inl (some (.int (Int32.ofInt (-1))))) h)) ∧ (x1.toInt = 0 → (Q (.inl (some (.int (hh_i h m 17)))) h)) ∧ (x1.toInt = 1 → (Q (.inl (some (.int (hh_i h m 18)))) h)) ∧ (x1.toInt = 2 → (Q (.inl (some (.int (hh_i h m 49)))) h)) ∧ (x1.toInt = 3 → (Q (.inl (some (.int (hh_i h m 42)))) h)) ∧ (x1.toInt = 4 → (Q (.inl (some (.int (hh_i h m 102)))) h)) ∧ (x1.toInt = 5 → (gm_G 417 87 [some (.ref m), none, some (.int (Int32.ofNat 0)), some (.int (Int32.ofNat 0))] [] h Q)) ∧ (x1.toInt = 6 → (gm_G 145 0 [some (.ref m)] [] h (pI (fun v2 h1 => Q (.inl (some (.int v2))) h1) (fun _ _ => False)))) ∧ (x1.toInt = 7 → (∀ h3, h3 = hh_wi h m 41 (Int32.ofNat 0) → (gm_G 407 0 [some (.ref m)] [] h3 (pV (fun h4 => gm_G 417 126 [some (.ref m), none, some (.int (Int32.ofNat 0)), some (.int (Int32.ofNat 0))] [] h4 Q) (fun _ _ => False))))) ∧ (x1.toInt = 8 → (((hh_i h m 77) = Int32.ofNat 0 → (Q (.inl (some (.int (Int32.ofNat 0)))) h)) ∧ (¬ (hh_i h m 77) = Int32.ofNat 0 → (Q (.inl (some (.int (Int32.ofNat 1)))) h)))) ∧ (x1.toInt = 9 → (Q (.inl (some (.int (hh_i h m 2)))) h)) ∧ (x1.toInt = 10 → (Q (.inl (some (.int (hh_i h m 101)))) h))) : gm_G 417 0 [some (.ref m), some (.int x1)] [] h Q := by
  refine g_iconst rfl rfl rfl (pc' := 1) ?_
  refine g_istore rfl rfl rfl (pc' := 2) ?_
  refine g_iload rfl rfl rfl (pc' := 3) ?_
  refine g_switch rfl ⟨fun hc => ?_, fun hc => ?_⟩
  · have H := H.1 (fun hq => by omega)
    refine g_iconst rfl rfl rfl (pc' := 182) ?_
    exact g_ireturn rfl (Or.inl rfl) H
  · have H := H.2
    have hq : x1.toInt = 0 ∨ x1.toInt = 1 ∨ x1.toInt = 2 ∨ x1.toInt = 3 ∨ x1.toInt = 4 ∨ x1.toInt = 5 ∨ x1.toInt = 6 ∨ x1.toInt = 7 ∨ x1.toInt = 8 ∨ x1.toInt = 9 ∨ x1.toInt = 10 := by omega
    rcases hq with hq | hq | hq | hq | hq | hq | hq | hq | hq | hq | hq
    · have H := (H.1) hq
      refine ⟨60, by rw [hq]; rfl, ?_⟩
      show gm_G _ 60 _ _ _ _
      refine g_aload (r := some _) rfl rfl rfl (pc' := 61) ?_
      refine t_getI rfl hT rfl rfl (pc' := 64) rfl ?_
      exact g_ireturn rfl (Or.inl rfl) H
    · have H := (H.2.1) hq
      refine ⟨65, by rw [hq]; rfl, ?_⟩
      show gm_G _ 65 _ _ _ _
      refine g_aload (r := some _) rfl rfl rfl (pc' := 66) ?_
      refine t_getI rfl hT rfl rfl (pc' := 69) rfl ?_
      exact g_ireturn rfl (Or.inl rfl) H
    · have H := (H.2.2.1) hq
      refine ⟨70, by rw [hq]; rfl, ?_⟩
      show gm_G _ 70 _ _ _ _
      refine g_aload (r := some _) rfl rfl rfl (pc' := 71) ?_
      refine t_getI rfl hT rfl rfl (pc' := 74) rfl ?_
      exact g_ireturn rfl (Or.inl rfl) H
    · have H := (H.2.2.2.1) hq
      refine ⟨75, by rw [hq]; rfl, ?_⟩
      show gm_G _ 75 _ _ _ _
      refine g_aload (r := some _) rfl rfl rfl (pc' := 76) ?_
      refine t_getI rfl hT rfl rfl (pc' := 79) rfl ?_
      exact g_ireturn rfl (Or.inl rfl) H
    · have H := (H.2.2.2.2.1) hq
      refine ⟨80, by rw [hq]; rfl, ?_⟩
      show gm_G _ 80 _ _ _ _
      refine g_aload (r := some _) rfl rfl rfl (pc' := 81) ?_
      refine t_getI rfl hT rfl rfl (pc' := 84) rfl ?_
      exact g_ireturn rfl (Or.inl rfl) H
    · have H := (H.2.2.2.2.2.1) hq
      refine ⟨85, by rw [hq]; rfl, ?_⟩
      show gm_G _ 85 _ _ _ _
      refine g_iconst rfl rfl rfl (pc' := 86) ?_
      refine g_istore rfl rfl rfl (pc' := 87) ?_
      exact g_weak (show gm_Lle [some _, none, some _, some _] _ from ⟨rfl, ⟨rfl, ⟨rfl, trivial⟩⟩⟩) H
    · have H := (H.2.2.2.2.2.2.1) hq
      refine ⟨110, by rw [hq]; rfl, ?_⟩
      show gm_G _ 110 _ _ _ _
      refine g_aload (r := some _) rfl rfl rfl (pc' := 111) ?_
      refine t_call hT (y := 145) (n := 1) (pc' := 114) rfl rfl (t_vt hT rfl rfl) rfl rfl ⟨(Nat.le_of_ble_eq_true rfl), (Nat.le_of_ble_eq_true rfl), (Nat.le_of_ble_eq_true rfl)⟩ rfl H (tI_elim (fun v2 h1 H hT => ?_))
      show gm_G _ 114 _ _ _ _
      exact g_ireturn rfl (Or.inl rfl) H
    · have H := (H.2.2.2.2.2.2.2.1) hq
      refine ⟨115, by rw [hq]; rfl, ?_⟩
      show gm_G _ 115 _ _ _ _
      refine g_aload (r := some _) rfl rfl rfl (pc' := 116) ?_
      refine g_iconst rfl rfl rfl (pc' := 117) ?_
      refine t_putI rfl hT rfl rfl  (pc' := 120) rfl (fun hT => ?_)
      have H := H _ rfl
      refine g_aload (r := some _) rfl rfl rfl (pc' := 121) ?_
      refine t_call hT (y := 407) (n := 1) (pc' := 124) rfl rfl (t_vt hT rfl rfl) rfl rfl ⟨(Nat.le_of_ble_eq_true rfl), (Nat.le_of_ble_eq_true rfl), (Nat.le_of_ble_eq_true rfl)⟩ rfl H (tV_elim (fun h4 H hT => ?_))
      show gm_G _ 124 _ _ _ _
      refine g_iconst rfl rfl rfl (pc' := 125) ?_
      refine g_istore rfl rfl rfl (pc' := 126) ?_
      exact g_weak (show gm_Lle [some _, none, some _, some _] _ from ⟨rfl, ⟨rfl, ⟨rfl, trivial⟩⟩⟩) H
    · have H := (H.2.2.2.2.2.2.2.2.1) hq
      refine ⟨158, by rw [hq]; rfl, ?_⟩
      show gm_G _ 158 _ _ _ _
      refine g_aload (r := some _) rfl rfl rfl (pc' := 159) ?_
      refine t_getZ rfl hT rfl rfl (pc' := 162) rfl ?_
      refine g_if_eq rfl (pc' := 165) (pt := 169) rfl rfl ⟨fun hc => ?_, fun hc => ?_⟩
      · have H := H.1 hc
        refine g_iconst rfl rfl rfl (pc' := 170) ?_
        exact g_ireturn rfl (Or.inl rfl) H
      · have H := H.2 hc
        refine g_iconst rfl rfl rfl (pc' := 166) ?_
        refine g_goto rfl (pc' := 170) rfl ?_
        exact g_ireturn rfl (Or.inl rfl) H
    · have H := (H.2.2.2.2.2.2.2.2.2.1) hq
      refine ⟨171, by rw [hq]; rfl, ?_⟩
      show gm_G _ 171 _ _ _ _
      refine g_aload (r := some _) rfl rfl rfl (pc' := 172) ?_
      refine t_getI rfl hT rfl rfl (pc' := 175) rfl ?_
      exact g_ireturn rfl (Or.inl rfl) H
    · have H := (H.2.2.2.2.2.2.2.2.2.2) hq
      refine ⟨176, by rw [hq]; rfl, ?_⟩
      show gm_G _ 176 _ _ _ _
      refine g_aload (r := some _) rfl rfl rfl (pc' := 177) ?_
      refine t_getI rfl hT rfl rfl (pc' := 180) rfl ?_
      exact g_ireturn rfl (Or.inl rfl) H
theorem w_417_87 {m : Nat} {x2 : Int32} {x3 : Int32} {h : hh_T} {Q : Option Value ⊕ Nat → hh_T → Prop} (hT : tw_ok h m) (H : (¬ x3 < (Int32.ofNat 8) → (Q (.inl (some (.int x2))) h)) ∧ (x3 < (Int32.ofNat 8) → (∃ n1, gm_ix x3 n1 8 ∧ (gm_G 417 87 [some (.ref m), none, some (.int (x2 + (hh_i h (m + 80) n1))), some (.int (x3 + (Int32.ofNat 1)))] [] h Q)))) : gm_G 417 87 [some (.ref m), none, some (.int x2), some (.int x3)] [] h Q := by
  refine g_iload rfl rfl rfl (pc' := 88) ?_
  refine g_iconst rfl rfl rfl (pc' := 90) ?_
  refine g_ic_ge rfl (pc' := 93) (pt := 108) rfl rfl ⟨fun hc => ?_, fun hc => ?_⟩
  · have H := H.1 hc
    refine g_iload rfl rfl rfl (pc' := 109) ?_
    exact g_ireturn rfl (Or.inl rfl) H
  · have H := H.2 hc
    refine g_iload rfl rfl rfl (pc' := 94) ?_
    refine g_aload (r := some _) rfl rfl rfl (pc' := 95) ?_
    refine t_get (o := 80) rfl hT rfl rfl rfl (pc' := 98) rfl ?_
    refine g_iload rfl rfl rfl (pc' := 99) ?_
    obtain ⟨n1, hn1, H⟩ := H
    refine t_iaload hT (o := 80) (l := 8) rfl rfl rfl hn1 (pc' := 100) rfl ?_
    refine g_iadd rfl rfl (pc' := 101) ?_
    refine g_istore rfl rfl rfl (pc' := 102) ?_
    refine g_iinc (c := (Int32.ofNat 1)) rfl rfl rfl rfl rfl (pc' := 105) ?_
    refine g_goto rfl (pc' := 87) rfl ?_
    exact g_weak (show gm_Lle [some _, none, some _, some _] _ from ⟨rfl, ⟨rfl, ⟨rfl, trivial⟩⟩⟩) H
theorem w_417_126 {m : Nat} {x2 : Int32} {x3 : Int32} {h : hh_T} {Q : Option Value ⊕ Nat → hh_T → Prop} (hT : tw_ok h m) (H : (¬ x3 < (Int32.ofNat 640) → (Q (.inl (some (.int x2))) h)) ∧ (x3 < (Int32.ofNat 640) → (∃ n1, gm_ix x3 n1 640 ∧ (((hh_i h (m + 18) n1) = Int32.ofNat 0 → (gm_G 417 148 [some (.ref m), none, none, some (.int x3)] [.int (Int32.ofNat 0), .int x2] h Q)) ∧ (¬ (hh_i h (m + 18) n1) = Int32.ofNat 0 → (gm_G 417 148 [some (.ref m), none, none, some (.int x3)] [.int (Int32.ofNat 1), .int x2] h Q)))))) : gm_G 417 126 [some (.ref m), none, some (.int x2), some (.int x3)] [] h Q := by
  refine g_iload rfl rfl rfl (pc' := 127) ?_
  refine g_iconst rfl rfl rfl (pc' := 130) ?_
  refine g_ic_ge rfl (pc' := 133) (pt := 156) rfl rfl ⟨fun hc => ?_, fun hc => ?_⟩
  · have H := H.1 hc
    refine g_iload rfl rfl rfl (pc' := 157) ?_
    exact g_ireturn rfl (Or.inl rfl) H
  · have H := H.2 hc
    refine g_iload rfl rfl rfl (pc' := 134) ?_
    refine g_aload (r := some _) rfl rfl rfl (pc' := 135) ?_
    refine t_get (o := 18) rfl hT rfl rfl rfl (pc' := 138) rfl ?_
    refine g_iload rfl rfl rfl (pc' := 139) ?_
    obtain ⟨n1, hn1, H⟩ := H
    refine t_zaload hT (o := 18) (l := 640) rfl rfl rfl hn1 (pc' := 140) rfl ?_
    refine g_if_eq rfl (pc' := 143) (pt := 147) rfl rfl ⟨fun hc => ?_, fun hc => ?_⟩
    · have H := H.1 hc
      refine g_iconst rfl rfl rfl (pc' := 148) ?_
      exact g_weak (show gm_Lle [some _, none, none, some _] _ from ⟨rfl, ⟨rfl, trivial⟩⟩) H
    · have H := H.2 hc
      refine g_iconst rfl rfl rfl (pc' := 144) ?_
      refine g_goto rfl (pc' := 148) rfl ?_
      exact g_weak (show gm_Lle [some _, none, none, some _] _ from ⟨rfl, ⟨rfl, trivial⟩⟩) H
theorem w_417_148 {m : Nat} {x3 : Int32} {y0 : Int32} {y1 : Int32} {h : hh_T} {Q : Option Value ⊕ Nat → hh_T → Prop} (hT : tw_ok h m) (H : gm_G 417 126 [some (.ref m), none, some (.int (y1 + y0)), some (.int (x3 + (Int32.ofNat 1)))] [] h Q) : gm_G 417 148 [some (.ref m), none, none, some (.int x3)] [.int y0, .int y1] h Q := by
  refine g_iadd rfl rfl (pc' := 149) ?_
  refine g_istore rfl rfl rfl (pc' := 150) ?_
  refine g_iinc (c := (Int32.ofNat 1)) rfl rfl rfl rfl rfl (pc' := 153) ?_
  refine g_goto rfl (pc' := 126) rfl ?_
  exact g_weak (show gm_Lle [some _, none, some _, some _] _ from ⟨rfl, ⟨rfl, ⟨rfl, trivial⟩⟩⟩) H
theorem w_418_0 {m : Nat} {x1 : Int32} {x2 : Int32} {h : hh_T} {Q : Option Value ⊕ Nat → hh_T → Prop} (hT : tw_ok h m) (H : gm_G 114 0 [some (.ref m)] [] h (pI (fun v2 h1 => (¬ v2 = (Int32.ofNat 9) → ((¬ v2 = (Int32.ofNat 1) → (gm_G 114 0 [some (.ref m)] [] h1 (pI (fun v4 h3 => (¬ v2 = (Int32.ofNat 4) → (gm_G 114 0 [some (.ref m)] [] h3 (pI (fun v6 h5 => (¬ v2 = (Int32.ofNat 3) → (gm_G 408 0 [some (.ref m), some (.ref (m + 112)), some (.int (hh_i h5 m 147)), some (.int x2)] [] h5 (pI (fun v8 h7 => (¬ v8 = Int32.ofNat 0 → (∀ h9, h9 = hh_wi h7 m 147 ((hh_i h7 m 147) + (Int32.ofNat 32)) → (∃ n10, gm_ix ((hh_i h9 m 41) - (Int32.ofNat 1)) n10 136 ∧ (∃ n11, gm_ix (((Int32.ofNat 8) * (((Int32.ofNat 16) * x1) + v4)) + v6) n11 12288 ∧ (∀ h12, h12 = hh_wi h9 (m + 55) n11 (hh_i h9 (m + 30) n10) → (gm_G 418 0 [some (.ref m), some (.int x1), some (.int x2)] [] h12 Q)))))) ∧ (v8 = Int32.ofNat 0 → (Q (.inl (some (.int (Int32.ofNat 0)))) h7))) (fun _ _ => False)))) ∧ (v2 = (Int32.ofNat 3) → (∃ n13, gm_ix (((Int32.ofNat 8) * (((Int32.ofNat 16) * x1) + v4)) + v6) n13 12288 ∧ (∀ h14, h14 = hh_wi h5 (m + 55) n13 (Int32.ofInt (-1)) → (gm_G 418 0 [some (.ref m), some (.int x1), some (.int x2)] [] h14 Q))))) (fun _ _ => False)))) ∧ (v2 = (Int32.ofNat 4) → (gm_G 95 0 [some (.ref m), some (.int (((Int32.ofNat 16) * x1) + v4))] [] h3 (pV (fun h15 => gm_G 418 0 [some (.ref m), some (.int x1), some (.int x2)] [] h15 Q) (fun _ _ => False))))) (fun _ _ => False)))) ∧ (v2 = (Int32.ofNat 1) → (gm_G 369 0 [some (.ref m), some (.int x1)] [] h1 (pV (fun h16 => gm_G 418 0 [some (.ref m), some (.int x1), some (.int x2)] [] h16 Q) (fun _ _ => False)))))) ∧ (v2 = (Int32.ofNat 9) → (gm_G 281 0 [some (.ref m), some (.int (Int32.ofNat 4))] [] h1 (pI (fun v18 h17 => ∃ n19, gm_ix x1 n19 96 ∧ (∀ h20, h20 = hh_wi h17 (m + 58) n19 v18 → (Q (.inl (some (.int (Int32.ofNat 1)))) h20))) (fun _ _ => False))))) (fun _ _ => False))) : gm_G 418 0 [some (.ref m), some (.int x1), some (.int x2)] [] h Q := by
  refine g_aload (r := some _) rfl rfl rfl (pc' := 1) ?_
  refine t_call hT (y := 114) (n := 1) (pc' := 4) rfl rfl (t_vt hT rfl rfl) rfl rfl ⟨(Nat.le_of_ble_eq_true rfl), (Nat.le_of_ble_eq_true rfl), (Nat.le_of_ble_eq_true rfl)⟩ rfl H (tI_elim (fun v2 h1 H hT => ?_))
  show gm_G _ 4 _ _ _ _
  refine g_istore rfl rfl rfl (pc' := 5) ?_
  refine g_iload rfl rfl rfl (pc' := 6) ?_
  refine g_iconst rfl rfl rfl (pc' := 8) ?_
  refine g_ic_ne rfl (pc' := 11) (pt := 24) rfl rfl ⟨fun hc => ?_, fun hc => ?_⟩
  · have H := H.1 hc
    refine g_iload rfl rfl rfl (pc' := 25) ?_
    refine g_iconst rfl rfl rfl (pc' := 26) ?_
    refine g_ic_ne rfl (pc' := 29) (pt := 37) rfl rfl ⟨fun hc => ?_, fun hc => ?_⟩
    · have H := H.1 hc
      refine g_iconst rfl rfl rfl (pc' := 39) ?_
      refine g_iload rfl rfl rfl (pc' := 40) ?_
      refine g_imul rfl rfl (pc' := 41) ?_
      refine g_aload (r := some _) rfl rfl rfl (pc' := 42) ?_
      refine t_call hT (y := 114) (n := 1) (pc' := 45) rfl rfl (t_vt hT rfl rfl) rfl rfl ⟨(Nat.le_of_ble_eq_true rfl), (Nat.le_of_ble_eq_true rfl), (Nat.le_of_ble_eq_true rfl)⟩ rfl H (tI_elim (fun v4 h3 H hT => ?_))
      show gm_G _ 45 _ _ _ _
      refine g_iadd rfl rfl (pc' := 46) ?_
      refine g_istore rfl rfl rfl (pc' := 48) ?_
      refine g_iload rfl rfl rfl (pc' := 49) ?_
      refine g_iconst rfl rfl rfl (pc' := 50) ?_
      refine g_ic_ne rfl (pc' := 53) (pt := 62) rfl rfl ⟨fun hc => ?_, fun hc => ?_⟩
      · have H := H.1 hc
        refine g_aload (r := some _) rfl rfl rfl (pc' := 63) ?_
        refine t_call hT (y := 114) (n := 1) (pc' := 66) rfl rfl (t_vt hT rfl rfl) rfl rfl ⟨(Nat.le_of_ble_eq_true rfl), (Nat.le_of_ble_eq_true rfl), (Nat.le_of_ble_eq_true rfl)⟩ rfl H (tI_elim (fun v6 h5 H hT => ?_))
        show gm_G _ 66 _ _ _ _
        refine g_istore rfl rfl rfl (pc' := 68) ?_
        refine g_iload rfl rfl rfl (pc' := 69) ?_
        refine g_iconst rfl rfl rfl (pc' := 70) ?_
        refine g_ic_ne rfl (pc' := 73) (pt := 90) rfl rfl ⟨fun hc => ?_, fun hc => ?_⟩
        · have H := H.1 hc
          refine g_aload (r := some _) rfl rfl rfl (pc' := 91) ?_
          refine g_aload (r := some _) rfl rfl rfl (pc' := 92) ?_
          refine t_get (o := 112) rfl hT rfl rfl rfl (pc' := 95) rfl ?_
          refine g_aload (r := some _) rfl rfl rfl (pc' := 96) ?_
          refine t_getI rfl hT rfl rfl (pc' := 99) rfl ?_
          refine g_iload rfl rfl rfl (pc' := 100) ?_
          refine t_call hT (y := 408) (n := 4) (pc' := 103) rfl rfl (t_vt hT rfl rfl) rfl rfl ⟨(Nat.le_of_ble_eq_true rfl), (Nat.le_of_ble_eq_true rfl), (Nat.le_of_ble_eq_true rfl)⟩ rfl H (tI_elim (fun v8 h7 H hT => ?_))
          show gm_G _ 103 _ _ _ _
          refine g_if_ne rfl (pc' := 106) (pt := 108) rfl rfl ⟨fun hc => ?_, fun hc => ?_⟩
          · have H := H.1 hc
            refine g_aload (r := some _) rfl rfl rfl (pc' := 109) ?_
            refine g_dup_a (r := some _) rfl rfl (pc' := 110) ?_
            refine t_getI rfl hT rfl rfl (pc' := 113) rfl ?_
            refine g_iconst rfl rfl rfl (pc' := 115) ?_
            refine g_iadd rfl rfl (pc' := 116) ?_
            refine t_putI rfl hT rfl rfl  (pc' := 119) rfl (fun hT => ?_)
            have H := H _ rfl
            refine g_aload (r := some _) rfl rfl rfl (pc' := 120) ?_
            refine t_get (o := 55) rfl hT rfl rfl rfl (pc' := 123) rfl ?_
            refine g_iconst rfl rfl rfl (pc' := 125) ?_
            refine g_iload rfl rfl rfl (pc' := 127) ?_
            refine g_imul rfl rfl (pc' := 128) ?_
            refine g_iload rfl rfl rfl (pc' := 130) ?_
            refine g_iadd rfl rfl (pc' := 131) ?_
            refine g_aload (r := some _) rfl rfl rfl (pc' := 132) ?_
            refine t_get (o := 30) rfl hT rfl rfl rfl (pc' := 135) rfl ?_
            refine g_aload (r := some _) rfl rfl rfl (pc' := 136) ?_
            refine t_getI rfl hT rfl rfl (pc' := 139) rfl ?_
            refine g_iconst rfl rfl rfl (pc' := 140) ?_
            refine g_isub rfl rfl (pc' := 141) ?_
            obtain ⟨n10, hn10, H⟩ := H
            refine t_iaload hT (o := 30) (l := 136) rfl rfl rfl hn10 (pc' := 142) rfl ?_
            obtain ⟨n11, hn11, H⟩ := H
            refine t_iastore hT (o := 55) (l := 12288) rfl rfl rfl hn11  (pc' := 143) rfl (fun hT => ?_)
            have H := H _ rfl
            refine g_goto rfl (pc' := 0) rfl ?_
            exact g_weak (show gm_Lle [some _, some _, some _] _ from ⟨rfl, ⟨rfl, ⟨rfl, trivial⟩⟩⟩) H
          · have H := H.2 hc
            refine g_iconst rfl rfl rfl (pc' := 107) ?_
            exact g_ireturn rfl (Or.inr (by decide)) H
        · have H := H.2 hc
          refine g_aload (r := some _) rfl rfl rfl (pc' := 74) ?_
          refine t_get (o := 55) rfl hT rfl rfl rfl (pc' := 77) rfl ?_
          refine g_iconst rfl rfl rfl (pc' := 79) ?_
          refine g_iload rfl rfl rfl (pc' := 81) ?_
          refine g_imul rfl rfl (pc' := 82) ?_
          refine g_iload rfl rfl rfl (pc' := 84) ?_
          refine g_iadd rfl rfl (pc' := 85) ?_
          refine g_iconst rfl rfl rfl (pc' := 86) ?_
          obtain ⟨n13, hn13, H⟩ := H
          refine t_iastore hT (o := 55) (l := 12288) rfl rfl rfl hn13  (pc' := 87) rfl (fun hT => ?_)
          have H := H _ rfl
          refine g_goto rfl (pc' := 0) rfl ?_
          exact g_weak (show gm_Lle [some _, some _, some _] _ from ⟨rfl, ⟨rfl, ⟨rfl, trivial⟩⟩⟩) H
      · have H := H.2 hc
        refine g_aload (r := some _) rfl rfl rfl (pc' := 54) ?_
        refine g_iload rfl rfl rfl (pc' := 56) ?_
        refine t_call hT (y := 95) (n := 2) (pc' := 59) rfl rfl (t_vt hT rfl rfl) rfl rfl ⟨(Nat.le_of_ble_eq_true rfl), (Nat.le_of_ble_eq_true rfl), (Nat.le_of_ble_eq_true rfl)⟩ rfl H (tV_elim (fun h15 H hT => ?_))
        show gm_G _ 59 _ _ _ _
        refine g_goto rfl (pc' := 0) rfl ?_
        exact g_weak (show gm_Lle [some _, some _, some _] _ from ⟨rfl, ⟨rfl, ⟨rfl, trivial⟩⟩⟩) H
    · have H := H.2 hc
      refine g_aload (r := some _) rfl rfl rfl (pc' := 30) ?_
      refine g_iload rfl rfl rfl (pc' := 31) ?_
      refine t_call hT (y := 369) (n := 2) (pc' := 34) rfl rfl (t_vt hT rfl rfl) rfl rfl ⟨(Nat.le_of_ble_eq_true rfl), (Nat.le_of_ble_eq_true rfl), (Nat.le_of_ble_eq_true rfl)⟩ rfl H (tV_elim (fun h16 H hT => ?_))
      show gm_G _ 34 _ _ _ _
      refine g_goto rfl (pc' := 0) rfl ?_
      exact g_weak (show gm_Lle [some _, some _, some _] _ from ⟨rfl, ⟨rfl, ⟨rfl, trivial⟩⟩⟩) H
  · have H := H.2 hc
    refine g_aload (r := some _) rfl rfl rfl (pc' := 12) ?_
    refine t_get (o := 58) rfl hT rfl rfl rfl (pc' := 15) rfl ?_
    refine g_iload rfl rfl rfl (pc' := 16) ?_
    refine g_aload (r := some _) rfl rfl rfl (pc' := 17) ?_
    refine g_iconst rfl rfl rfl (pc' := 18) ?_
    refine t_call hT (y := 281) (n := 2) (pc' := 21) rfl rfl (t_vt hT rfl rfl) rfl rfl ⟨(Nat.le_of_ble_eq_true rfl), (Nat.le_of_ble_eq_true rfl), (Nat.le_of_ble_eq_true rfl)⟩ rfl H (tI_elim (fun v18 h17 H hT => ?_))
    show gm_G _ 21 _ _ _ _
    obtain ⟨n19, hn19, H⟩ := H
    refine t_iastore hT (o := 58) (l := 96) rfl rfl rfl hn19  (pc' := 22) rfl (fun hT => ?_)
    have H := H _ rfl
    refine g_iconst rfl rfl rfl (pc' := 23) ?_
    exact g_ireturn rfl (Or.inr (by decide)) H
theorem w_419_0 {m : Nat} {x1 : Int32} {h : hh_T} {Q : Option Value ⊕ Nat → hh_T → Prop} (hT : tw_ok h m) (H : gm_G 419 2 [some (.ref m), some (.int x1), some (.int (Int32.ofNat 0))] [] h Q) : gm_G 419 0 [some (.ref m), some (.int x1)] [] h Q := by
  refine g_iconst rfl rfl rfl (pc' := 1) ?_
  refine g_istore rfl rfl rfl (pc' := 2) ?_
  exact g_weak (show gm_Lle [some _, some _, some _] _ from ⟨rfl, ⟨rfl, ⟨rfl, trivial⟩⟩⟩) H
theorem w_419_2 {m : Nat} {x1 : Int32} {x2 : Int32} {h : hh_T} {Q : Option Value ⊕ Nat → hh_T → Prop} (hT : tw_ok h m) (H : ∃ n1, gm_ix x1 n1 640 ∧ ((¬ x2 < (hh_i h (m + 22) n1) → (Q (.inl (some (.int (Int32.ofNat 1)))) h)) ∧ (x2 < (hh_i h (m + 22) n1) → (gm_G 413 0 [some (.ref m), some (.int x1), some (.int x2), some (.int (Int32.ofNat 1))] [] h (pI (fun v3 h2 => (¬ v3 = Int32.ofNat 0 → (gm_G 419 2 [some (.ref m), some (.int x1), some (.int (x2 + (Int32.ofNat 1)))] [] h2 Q)) ∧ (v3 = Int32.ofNat 0 → (Q (.inl (some (.int (Int32.ofNat 0)))) h2))) (fun _ _ => False)))))) : gm_G 419 2 [some (.ref m), some (.int x1), some (.int x2)] [] h Q := by
  refine g_iload rfl rfl rfl (pc' := 3) ?_
  refine g_aload (r := some _) rfl rfl rfl (pc' := 4) ?_
  refine t_get (o := 22) rfl hT rfl rfl rfl (pc' := 7) rfl ?_
  refine g_iload rfl rfl rfl (pc' := 8) ?_
  obtain ⟨n1, hn1, H⟩ := H
  refine t_iaload hT (o := 22) (l := 640) rfl rfl rfl hn1 (pc' := 9) rfl ?_
  refine g_ic_ge rfl (pc' := 12) (pt := 30) rfl rfl ⟨fun hc => ?_, fun hc => ?_⟩
  · have H := H.1 hc
    refine g_iconst rfl rfl rfl (pc' := 31) ?_
    exact g_ireturn rfl (Or.inr (by decide)) H
  · have H := H.2 hc
    refine g_aload (r := some _) rfl rfl rfl (pc' := 13) ?_
    refine g_iload rfl rfl rfl (pc' := 14) ?_
    refine g_iload rfl rfl rfl (pc' := 15) ?_
    refine g_iconst rfl rfl rfl (pc' := 16) ?_
    refine t_call hT (y := 413) (n := 4) (pc' := 19) rfl rfl (t_vt hT rfl rfl) rfl rfl ⟨(Nat.le_of_ble_eq_true rfl), (Nat.le_of_ble_eq_true rfl), (Nat.le_of_ble_eq_true rfl)⟩ rfl H (tI_elim (fun v3 h2 H hT => ?_))
    show gm_G _ 19 _ _ _ _
    refine g_if_ne rfl (pc' := 22) (pt := 24) rfl rfl ⟨fun hc => ?_, fun hc => ?_⟩
    · have H := H.1 hc
      refine g_iinc (c := (Int32.ofNat 1)) rfl rfl rfl rfl rfl (pc' := 27) ?_
      refine g_goto rfl (pc' := 2) rfl ?_
      exact g_weak (show gm_Lle [some _, some _, some _] _ from ⟨rfl, ⟨rfl, ⟨rfl, trivial⟩⟩⟩) H
    · have H := H.2 hc
      refine g_iconst rfl rfl rfl (pc' := 23) ?_
      exact g_ireturn rfl (Or.inr (by decide)) H
theorem w_420_0 {m : Nat} {x1 : Int32} {h : hh_T} {Q : Option Value ⊕ Nat → hh_T → Prop} (hT : tw_ok h m) (H : ∃ n1, gm_ix x1 n1 32 ∧ (gm_G 300 0 [some (.ref m), some (.int (hh_i h (m + 63) n1))] [] h (pI (fun v3 h2 => (¬ (Int32.ofNat 1) < v3 → (gm_G 420 37 [some (.ref m), some (.int x1)] [] h2 Q)) ∧ ((Int32.ofNat 1) < v3 → (gm_G 403 0 [some (.ref m)] [] h2 (pI (fun v5 h4 => ∃ n6, gm_ix x1 n6 32 ∧ (gm_G 276 0 [some (.ref m), some (.int (hh_i h4 (m + 63) n6)), some (.int v5)] [] h4 (pV (fun h7 => ∃ n8, gm_ix x1 n8 32 ∧ (∀ h9, h9 = hh_wi h7 (m + 63) n8 v5 → (gm_G 420 37 [some (.ref m), some (.int x1)] [] h9 Q))) (fun _ _ => False)))) (fun _ _ => False))))) (fun _ _ => False)))) : gm_G 420 0 [some (.ref m), some (.int x1)] [] h Q := by
  refine g_aload (r := some _) rfl rfl rfl (pc' := 1) ?_
  refine g_aload (r := some _) rfl rfl rfl (pc' := 2) ?_
  refine t_get (o := 63) rfl hT rfl rfl rfl (pc' := 5) rfl ?_
  refine g_iload rfl rfl rfl (pc' := 6) ?_
  obtain ⟨n1, hn1, H⟩ := H
  refine t_iaload hT (o := 63) (l := 32) rfl rfl rfl hn1 (pc' := 7) rfl ?_
  refine t_call hT (y := 300) (n := 2) (pc' := 10) rfl rfl (t_vt hT rfl rfl) rfl rfl ⟨(Nat.le_of_ble_eq_true rfl), (Nat.le_of_ble_eq_true rfl), (Nat.le_of_ble_eq_true rfl)⟩ rfl H (tI_elim (fun v3 h2 H hT => ?_))
  show gm_G _ 10 _ _ _ _
  refine g_iconst rfl rfl rfl (pc' := 11) ?_
  refine g_ic_le rfl (pc' := 14) (pt := 37) rfl rfl ⟨fun hc => ?_, fun hc => ?_⟩
  · have H := H.1 hc
    exact g_weak (show gm_Lle [some _, some _] _ from ⟨rfl, ⟨rfl, trivial⟩⟩) H
  · have H := H.2 hc
    refine g_aload (r := some _) rfl rfl rfl (pc' := 15) ?_
    refine t_call hT (y := 403) (n := 1) (pc' := 18) rfl rfl (t_vt hT rfl rfl) rfl rfl ⟨(Nat.le_of_ble_eq_true rfl), (Nat.le_of_ble_eq_true rfl), (Nat.le_of_ble_eq_true rfl)⟩ rfl H (tI_elim (fun v5 h4 H hT => ?_))
    show gm_G _ 18 _ _ _ _
    refine g_istore rfl rfl rfl (pc' := 19) ?_
    refine g_aload (r := some _) rfl rfl rfl (pc' := 20) ?_
    refine g_aload (r := some _) rfl rfl rfl (pc' := 21) ?_
    refine t_get (o := 63) rfl hT rfl rfl rfl (pc' := 24) rfl ?_
    refine g_iload rfl rfl rfl (pc' := 25) ?_
    obtain ⟨n6, hn6, H⟩ := H
    refine t_iaload hT (o := 63) (l := 32) rfl rfl rfl hn6 (pc' := 26) rfl ?_
    refine g_iload rfl rfl rfl (pc' := 27) ?_
    refine t_call hT (y := 276) (n := 3) (pc' := 30) rfl rfl (t_vt hT rfl rfl) rfl rfl ⟨(Nat.le_of_ble_eq_true rfl), (Nat.le_of_ble_eq_true rfl), (Nat.le_of_ble_eq_true rfl)⟩ rfl H (tV_elim (fun h7 H hT => ?_))
    show gm_G _ 30 _ _ _ _
    refine g_aload (r := some _) rfl rfl rfl (pc' := 31) ?_
    refine t_get (o := 63) rfl hT rfl rfl rfl (pc' := 34) rfl ?_
    refine g_iload rfl rfl rfl (pc' := 35) ?_
    refine g_iload rfl rfl rfl (pc' := 36) ?_
    obtain ⟨n8, hn8, H⟩ := H
    refine t_iastore hT (o := 63) (l := 32) rfl rfl rfl hn8  (pc' := 37) rfl (fun hT => ?_)
    have H := H _ rfl
    exact g_weak (show gm_Lle [some _, some _] _ from ⟨rfl, ⟨rfl, trivial⟩⟩) H
theorem w_420_37 {m : Nat} {x1 : Int32} {h : hh_T} {Q : Option Value ⊕ Nat → hh_T → Prop} (hT : tw_ok h m) (H : ∃ n1, gm_ix x1 n1 32 ∧ (Q (.inl (some (.int (hh_i h (m + 63) n1)))) h)) : gm_G 420 37 [some (.ref m), some (.int x1)] [] h Q := by
  refine g_aload (r := some _) rfl rfl rfl (pc' := 38) ?_
  refine t_get (o := 63) rfl hT rfl rfl rfl (pc' := 41) rfl ?_
  refine g_iload rfl rfl rfl (pc' := 42) ?_
  obtain ⟨n1, hn1, H⟩ := H
  refine t_iaload hT (o := 63) (l := 32) rfl rfl rfl hn1 (pc' := 43) rfl ?_
  exact g_ireturn rfl (Or.inl rfl) H
theorem w_421_0 {m : Nat}  {h : hh_T} {Q : Option Value ⊕ Nat → hh_T → Prop} (hT : tw_ok h m) (H : ∀ h1, h1 = hh_wi h m 41 (Int32.ofNat 0) → (∀ h2, h2 = hh_wi h1 m 43 (Int32.ofNat 0) → (gm_G 407 0 [some (.ref m)] [] h2 (pV (fun h3 => Q (.inl none) h3) (fun _ _ => False))))) : gm_G 421 0 [some (.ref m)] [] h Q := by
  refine g_aload (r := some _) rfl rfl rfl (pc' := 1) ?_
  refine g_iconst rfl rfl rfl (pc' := 2) ?_
  refine t_putI rfl hT rfl rfl  (pc' := 5) rfl (fun hT => ?_)
  have H := H _ rfl
  refine g_aload (r := some _) rfl rfl rfl (pc' := 6) ?_
  refine g_iconst rfl rfl rfl (pc' := 7) ?_
  refine t_putI rfl hT rfl rfl  (pc' := 10) rfl (fun hT => ?_)
  have H := H _ rfl
  refine g_aload (r := some _) rfl rfl rfl (pc' := 11) ?_
  refine t_call hT (y := 407) (n := 1) (pc' := 14) rfl rfl (t_vt hT rfl rfl) rfl rfl ⟨(Nat.le_of_ble_eq_true rfl), (Nat.le_of_ble_eq_true rfl), (Nat.le_of_ble_eq_true rfl)⟩ rfl H (tV_elim (fun h3 H hT => ?_))
  show gm_G _ 14 _ _ _ _
  exact g_return rfl H
theorem w_422_0 {m : Nat}  {h : hh_T} {Q : Option Value ⊕ Nat → hh_T → Prop} (hT : tw_ok h m) (H : ∀ h1, h1 = hh_wi h m 41 (Int32.ofNat 0) → (gm_G 407 0 [some (.ref m)] [] h1 (pV (fun h2 => gm_G 422 11 [some (.ref m), some (.int (Int32.ofNat 0))] [] h2 Q) (fun _ _ => False)))) : gm_G 422 0 [some (.ref m)] [] h Q := by
  refine g_aload (r := some _) rfl rfl rfl (pc' := 1) ?_
  refine g_iconst rfl rfl rfl (pc' := 2) ?_
  refine t_putI rfl hT rfl rfl  (pc' := 5) rfl (fun hT => ?_)
  have H := H _ rfl
  refine g_aload (r := some _) rfl rfl rfl (pc' := 6) ?_
  refine t_call hT (y := 407) (n := 1) (pc' := 9) rfl rfl (t_vt hT rfl rfl) rfl rfl ⟨(Nat.le_of_ble_eq_true rfl), (Nat.le_of_ble_eq_true rfl), (Nat.le_of_ble_eq_true rfl)⟩ rfl H (tV_elim (fun h2 H hT => ?_))
  show gm_G _ 9 _ _ _ _
  refine g_iconst rfl rfl rfl (pc' := 10) ?_
  refine g_istore rfl rfl rfl (pc' := 11) ?_
  exact g_weak (show gm_Lle [some _, some _] _ from ⟨rfl, ⟨rfl, trivial⟩⟩) H
theorem w_422_11 {m : Nat} {x1 : Int32} {h : hh_T} {Q : Option Value ⊕ Nat → hh_T → Prop} (hT : tw_ok h m) (H : (¬ x1 < (Int32.ofNat 640) → (Q (.inl none) h)) ∧ (x1 < (Int32.ofNat 640) → (∃ n1, gm_ix x1 n1 640 ∧ ((¬ (hh_i h (m + 18) n1) = Int32.ofNat 0 → (gm_G 422 32 [some (.ref m), some (.int x1)] [] h Q)) ∧ ((hh_i h (m + 18) n1) = Int32.ofNat 0 → (gm_G 129 0 [some (.ref m), some (.int x1)] [] h (pV (fun h2 => gm_G 422 32 [some (.ref m), some (.int x1)] [] h2 Q) (fun _ _ => False)))))))) : gm_G 422 11 [some (.ref m), some (.int x1)] [] h Q := by
  refine g_iload rfl rfl rfl (pc' := 12) ?_
  refine g_iconst rfl rfl rfl (pc' := 15) ?_
  refine g_ic_ge rfl (pc' := 18) (pt := 38) rfl rfl ⟨fun hc => ?_, fun hc => ?_⟩
  · have H := H.1 hc
    exact g_return rfl H
  · have H := H.2 hc
    refine g_aload (r := some _) rfl rfl rfl (pc' := 19) ?_
    refine t_get (o := 18) rfl hT rfl rfl rfl (pc' := 22) rfl ?_
    refine g_iload rfl rfl rfl (pc' := 23) ?_
    obtain ⟨n1, hn1, H⟩ := H
    refine t_zaload hT (o := 18) (l := 640) rfl rfl rfl hn1 (pc' := 24) rfl ?_
    refine g_if_ne rfl (pc' := 27) (pt := 32) rfl rfl ⟨fun hc => ?_, fun hc => ?_⟩
    · have H := H.1 hc
      exact g_weak (show gm_Lle [some _, some _] _ from ⟨rfl, ⟨rfl, trivial⟩⟩) H
    · have H := H.2 hc
      refine g_aload (r := some _) rfl rfl rfl (pc' := 28) ?_
      refine g_iload rfl rfl rfl (pc' := 29) ?_
      refine t_call hT (y := 129) (n := 2) (pc' := 32) rfl rfl (t_vt hT rfl rfl) rfl rfl ⟨(Nat.le_of_ble_eq_true rfl), (Nat.le_of_ble_eq_true rfl), (Nat.le_of_ble_eq_true rfl)⟩ rfl H (tV_elim (fun h2 H hT => ?_))
      show gm_G _ 32 _ _ _ _
      exact g_weak (show gm_Lle [some _, some _] _ from ⟨rfl, ⟨rfl, trivial⟩⟩) H
theorem w_422_32 {m : Nat} {x1 : Int32} {h : hh_T} {Q : Option Value ⊕ Nat → hh_T → Prop} (hT : tw_ok h m) (H : gm_G 422 11 [some (.ref m), some (.int (x1 + (Int32.ofNat 1)))] [] h Q) : gm_G 422 32 [some (.ref m), some (.int x1)] [] h Q := by
  refine g_iinc (c := (Int32.ofNat 1)) rfl rfl rfl rfl rfl (pc' := 35) ?_
  refine g_goto rfl (pc' := 11) rfl ?_
  exact g_weak (show gm_Lle [some _, some _] _ from ⟨rfl, ⟨rfl, trivial⟩⟩) H
theorem w_423_0 {m : Nat} {x1 : Int32} {x2 : Int32} {x3 : Int32} {h : hh_T} {Q : Option Value ⊕ Nat → hh_T → Prop} (hT : tw_ok h m) (H : ∃ n1, gm_ix (((Int32.ofNat 2) * x1) + x2) n1 1280 ∧ (∃ n2, gm_ix (((Int32.ofNat 2) * x1) + x2) n2 1280 ∧ (∃ n3, gm_ix x1 n3 640 ∧ (∀ h4, h4 = hh_wi h m 53 (Int32.ofNat 0) → (∃ n5, gm_ix (hh_i h (m + 23) n1) n5 3 ∧ ((¬ (hh_i h4 (m + 11) n5) < (Int32.ofNat 2) → (∃ n6, gm_ix (hh_i h (m + 23) n1) n6 3 ∧ (∃ n7, gm_ix (hh_i h (m + 23) n1) n7 3 ∧ (gm_G 423 173 [some (.ref m), none, none, some (.int x3), some (.int (hh_i h (m + 23) n1)), none, some (.int (hh_i h (m + 21) n3)), some (.int (hh_i h4 (m + 13) n6)), some (.int (hh_i h4 (m + 12) n7)), some (.int (hh_i h (m + 24) n2)), some (.int (Int32.ofNat 0))] [] h4 Q)))) ∧ ((hh_i h4 (m + 11) n5) < (Int32.ofNat 2) → (∃ n8, gm_ix (((Int32.ofNat 6) * (hh_i h (m + 23) n1)) + x3) n8 18 ∧ (gm_G 423 65 [some (.ref m), none, none, none, none, some (.int (hh_i h (m + 24) n2)), some (.int (hh_i h (m + 21) n3)), some (.int (hh_i h4 (m + 15) n8)), some (.int (Int32.ofNat 0))] [] h4 Q))))))))) : gm_G 423 0 [some (.ref m), some (.int x1), some (.int x2), some (.int x3)] [] h Q := by
  refine g_aload (r := some _) rfl rfl rfl (pc' := 1) ?_
  refine t_get (o := 23) rfl hT rfl rfl rfl (pc' := 4) rfl ?_
  refine g_iconst rfl rfl rfl (pc' := 5) ?_
  refine g_iload rfl rfl rfl (pc' := 6) ?_
  refine g_imul rfl rfl (pc' := 7) ?_
  refine g_iload rfl rfl rfl (pc' := 8) ?_
  refine g_iadd rfl rfl (pc' := 9) ?_
  obtain ⟨n1, hn1, H⟩ := H
  refine t_iaload hT (o := 23) (l := 1280) rfl rfl rfl hn1 (pc' := 10) rfl ?_
  refine g_istore rfl rfl rfl (pc' := 12) ?_
  refine g_aload (r := some _) rfl rfl rfl (pc' := 13) ?_
  refine t_get (o := 24) rfl hT rfl rfl rfl (pc' := 16) rfl ?_
  refine g_iconst rfl rfl rfl (pc' := 17) ?_
  refine g_iload rfl rfl rfl (pc' := 18) ?_
  refine g_imul rfl rfl (pc' := 19) ?_
  refine g_iload rfl rfl rfl (pc' := 20) ?_
  refine g_iadd rfl rfl (pc' := 21) ?_
  obtain ⟨n2, hn2, H⟩ := H
  refine t_iaload hT (o := 24) (l := 1280) rfl rfl rfl hn2 (pc' := 22) rfl ?_
  refine g_istore rfl rfl rfl (pc' := 24) ?_
  refine g_aload (r := some _) rfl rfl rfl (pc' := 25) ?_
  refine t_get (o := 21) rfl hT rfl rfl rfl (pc' := 28) rfl ?_
  refine g_iload rfl rfl rfl (pc' := 29) ?_
  obtain ⟨n3, hn3, H⟩ := H
  refine t_iaload hT (o := 21) (l := 640) rfl rfl rfl hn3 (pc' := 30) rfl ?_
  refine g_istore rfl rfl rfl (pc' := 32) ?_
  refine g_aload (r := some _) rfl rfl rfl (pc' := 33) ?_
  refine g_iconst rfl rfl rfl (pc' := 34) ?_
  refine t_putZ rfl hT rfl rfl (by decide) (pc' := 37) rfl (fun hT => ?_)
  have H := H _ rfl
  refine g_aload (r := some _) rfl rfl rfl (pc' := 38) ?_
  refine t_get (o := 11) rfl hT rfl rfl rfl (pc' := 41) rfl ?_
  refine g_iload rfl rfl rfl (pc' := 43) ?_
  obtain ⟨n5, hn5, H⟩ := H
  refine t_iaload hT (o := 11) (l := 3) rfl rfl rfl hn5 (pc' := 44) rfl ?_
  refine g_iconst rfl rfl rfl (pc' := 45) ?_
  refine g_ic_ge rfl (pc' := 48) (pt := 148) rfl rfl ⟨fun hc => ?_, fun hc => ?_⟩
  · have H := H.1 hc
    refine g_aload (r := some _) rfl rfl rfl (pc' := 149) ?_
    refine t_get (o := 13) rfl hT rfl rfl rfl (pc' := 152) rfl ?_
    refine g_iload rfl rfl rfl (pc' := 154) ?_
    obtain ⟨n6, hn6, H⟩ := H
    refine t_iaload hT (o := 13) (l := 3) rfl rfl rfl hn6 (pc' := 155) rfl ?_
    refine g_istore rfl rfl rfl (pc' := 157) ?_
    refine g_aload (r := some _) rfl rfl rfl (pc' := 158) ?_
    refine t_get (o := 12) rfl hT rfl rfl rfl (pc' := 161) rfl ?_
    refine g_iload rfl rfl rfl (pc' := 163) ?_
    obtain ⟨n7, hn7, H⟩ := H
    refine t_iaload hT (o := 12) (l := 3) rfl rfl rfl hn7 (pc' := 164) rfl ?_
    refine g_istore rfl rfl rfl (pc' := 166) ?_
    refine g_iload rfl rfl rfl (pc' := 168) ?_
    refine g_istore rfl rfl rfl (pc' := 170) ?_
    refine g_iconst rfl rfl rfl (pc' := 171) ?_
    refine g_istore rfl rfl rfl (pc' := 173) ?_
    exact g_weak (show gm_Lle [some _, none, none, some _, some _, none, some _, some _, some _, some _, some _] _ from ⟨rfl, ⟨rfl, ⟨rfl, ⟨rfl, ⟨rfl, ⟨rfl, ⟨rfl, ⟨rfl, trivial⟩⟩⟩⟩⟩⟩⟩⟩) H
  · have H := H.2 hc
    refine g_aload (r := some _) rfl rfl rfl (pc' := 49) ?_
    refine t_get (o := 15) rfl hT rfl rfl rfl (pc' := 52) rfl ?_
    refine g_iconst rfl rfl rfl (pc' := 54) ?_
    refine g_iload rfl rfl rfl (pc' := 56) ?_
    refine g_imul rfl rfl (pc' := 57) ?_
    refine g_iload rfl rfl rfl (pc' := 58) ?_
    refine g_iadd rfl rfl (pc' := 59) ?_
    obtain ⟨n8, hn8, H⟩ := H
    refine t_iaload hT (o := 15) (l := 18) rfl rfl rfl hn8 (pc' := 60) rfl ?_
    refine g_istore rfl rfl rfl (pc' := 62) ?_
    refine g_iconst rfl rfl rfl (pc' := 63) ?_
    refine g_istore rfl rfl rfl (pc' := 65) ?_
    exact g_weak (show gm_Lle [some _, none, none, none, none, some _, some _, some _, some _] _ from ⟨rfl, ⟨rfl, ⟨rfl, ⟨rfl, ⟨rfl, trivial⟩⟩⟩⟩⟩) H
theorem w_423_65 {m : Nat} {x5 : Int32} {x6 : Int32} {x7 : Int32} {x8 : Int32} {h : hh_T} {Q : Option Value ⊕ Nat → hh_T → Prop} (hT : tw_ok h m) (H : (¬ x8 < x6 → (Q (.inl (some (.int (Int32.ofNat 1)))) h)) ∧ (x8 < x6 → (gm_G 122 0 [some (.ref m), some (.int x7), some (.int (x5 + x8))] [] h (pI (fun v2 h1 => (v2 = Int32.ofNat 0 → (gm_G 423 91 [some (.ref m), none, none, none, none, some (.int x5), some (.int x6), some (.int x7), some (.int x8), some (.int (Int32.ofNat 0))] [] h1 Q)) ∧ (¬ v2 = Int32.ofNat 0 → (Q (.inl (some (.int (Int32.ofNat 0)))) h1))) (fun _ _ => False))))) : gm_G 423 65 [some (.ref m), none, none, none, none, some (.int x5), some (.int x6), some (.int x7), some (.int x8)] [] h Q := by
  refine g_iload rfl rfl rfl (pc' := 67) ?_
  refine g_iload rfl rfl rfl (pc' := 69) ?_
  refine g_ic_ge rfl (pc' := 72) (pt := 146) rfl rfl ⟨fun hc => ?_, fun hc => ?_⟩
  · have H := H.1 hc
    refine g_iconst rfl rfl rfl (pc' := 147) ?_
    exact g_ireturn rfl (Or.inr (by decide)) H
  · have H := H.2 hc
    refine g_aload (r := some _) rfl rfl rfl (pc' := 73) ?_
    refine g_iload rfl rfl rfl (pc' := 75) ?_
    refine g_iload rfl rfl rfl (pc' := 77) ?_
    refine g_iload rfl rfl rfl (pc' := 79) ?_
    refine g_iadd rfl rfl (pc' := 80) ?_
    refine t_call hT (y := 122) (n := 3) (pc' := 83) rfl rfl (t_vt hT rfl rfl) rfl rfl ⟨(Nat.le_of_ble_eq_true rfl), (Nat.le_of_ble_eq_true rfl), (Nat.le_of_ble_eq_true rfl)⟩ rfl H (tI_elim (fun v2 h1 H hT => ?_))
    show gm_G _ 83 _ _ _ _
    refine g_if_eq rfl (pc' := 86) (pt := 88) rfl rfl ⟨fun hc => ?_, fun hc => ?_⟩
    · have H := H.1 hc
      refine g_iconst rfl rfl rfl (pc' := 89) ?_
      refine g_istore rfl rfl rfl (pc' := 91) ?_
      exact g_weak (show gm_Lle [some _, none, none, none, none, some _, some _, some _, some _, some _] _ from ⟨rfl, ⟨rfl, ⟨rfl, ⟨rfl, ⟨rfl, ⟨rfl, trivial⟩⟩⟩⟩⟩⟩) H
    · have H := H.2 hc
      refine g_iconst rfl rfl rfl (pc' := 87) ?_
      exact g_ireturn rfl (Or.inr (by decide)) H
theorem w_423_91 {m : Nat} {x5 : Int32} {x6 : Int32} {x7 : Int32} {x8 : Int32} {x9 : Int32} {h : hh_T} {Q : Option Value ⊕ Nat → hh_T → Prop} (hT : tw_ok h m) (H : (¬ x9 < (Int32.ofNat 8) → (gm_G 423 65 [some (.ref m), none, none, none, none, some (.int x5), some (.int x6), some (.int x7), some (.int (x8 + (Int32.ofNat 1)))] [] h Q)) ∧ (x9 < (Int32.ofNat 8) → (∃ n1, gm_ix ((((Int32.ofNat 512) * x7) + ((Int32.ofNat 8) * (x5 + x8))) + x9) n1 4096 ∧ (∃ n2, gm_ix (((Int32.ofNat 8) * x8) + x9) n2 32 ∧ (∀ h3, h3 = hh_wi h (m + 35) n2 ((hh_i h (m + 10) n1).toInt8.toInt32) → (gm_G 423 91 [some (.ref m), none, none, none, none, some (.int x5), some (.int x6), some (.int x7), some (.int x8), some (.int (x9 + (Int32.ofNat 1)))] [] h3 Q)))))) : gm_G 423 91 [some (.ref m), none, none, none, none, some (.int x5), some (.int x6), some (.int x7), some (.int x8), some (.int x9)] [] h Q := by
  refine g_iload rfl rfl rfl (pc' := 93) ?_
  refine g_iconst rfl rfl rfl (pc' := 95) ?_
  refine g_ic_ge rfl (pc' := 98) (pt := 140) rfl rfl ⟨fun hc => ?_, fun hc => ?_⟩
  · have H := H.1 hc
    refine g_iinc (c := (Int32.ofNat 1)) rfl rfl rfl rfl rfl (pc' := 143) ?_
    refine g_goto rfl (pc' := 65) rfl ?_
    exact g_weak (show gm_Lle [some _, none, none, none, none, some _, some _, some _, some _] _ from ⟨rfl, ⟨rfl, ⟨rfl, ⟨rfl, ⟨rfl, trivial⟩⟩⟩⟩⟩) H
  · have H := H.2 hc
    refine g_aload (r := some _) rfl rfl rfl (pc' := 99) ?_
    refine t_get (o := 35) rfl hT rfl rfl rfl (pc' := 102) rfl ?_
    refine g_iconst rfl rfl rfl (pc' := 104) ?_
    refine g_iload rfl rfl rfl (pc' := 106) ?_
    refine g_imul rfl rfl (pc' := 107) ?_
    refine g_iload rfl rfl rfl (pc' := 109) ?_
    refine g_iadd rfl rfl (pc' := 110) ?_
    refine g_aload (r := some _) rfl rfl rfl (pc' := 111) ?_
    refine t_get (o := 10) rfl hT rfl rfl rfl (pc' := 114) rfl ?_
    refine g_iconst rfl rfl rfl (pc' := 117) ?_
    refine g_iload rfl rfl rfl (pc' := 119) ?_
    refine g_imul rfl rfl (pc' := 120) ?_
    refine g_iconst rfl rfl rfl (pc' := 122) ?_
    refine g_iload rfl rfl rfl (pc' := 124) ?_
    refine g_iload rfl rfl rfl (pc' := 126) ?_
    refine g_iadd rfl rfl (pc' := 127) ?_
    refine g_imul rfl rfl (pc' := 128) ?_
    refine g_iadd rfl rfl (pc' := 129) ?_
    refine g_iload rfl rfl rfl (pc' := 131) ?_
    refine g_iadd rfl rfl (pc' := 132) ?_
    obtain ⟨n1, hn1, H⟩ := H
    refine t_baload hT (o := 10) (l := 4096) rfl rfl rfl hn1 (pc' := 133) rfl ?_
    obtain ⟨n2, hn2, H⟩ := H
    refine t_bastore hT (o := 35) (l := 32) rfl rfl rfl hn2  (pc' := 134) rfl (fun hT => ?_)
    have H := H _ rfl
    refine g_iinc (c := (Int32.ofNat 1)) rfl rfl rfl rfl rfl (pc' := 137) ?_
    refine g_goto rfl (pc' := 91) rfl ?_
    exact g_weak (show gm_Lle [some _, none, none, none, none, some _, some _, some _, some _, some _] _ from ⟨rfl, ⟨rfl, ⟨rfl, ⟨rfl, ⟨rfl, ⟨rfl, trivial⟩⟩⟩⟩⟩⟩) H
theorem w_423_173 {m : Nat} {x3 : Int32} {x4 : Int32} {x6 : Int32} {x7 : Int32} {x8 : Int32} {x9 : Int32} {x10 : Int32} {h : hh_T} {Q : Option Value ⊕ Nat → hh_T → Prop} (hT : tw_ok h m) (H : (¬ x10 < x6 → (Q (.inl (some (.int (Int32.ofNat 1)))) h)) ∧ (x10 < x6 → ((¬ (x6 - x10) < (x7 - x8) → (gm_G 423 206 [some (.ref m), none, none, some (.int x3), some (.int x4), none, some (.int x6), some (.int x7), some (.int x8), some (.int x9), some (.int x10)] [.int (x7 - x8)] h Q)) ∧ ((x6 - x10) < (x7 - x8) → (gm_G 423 206 [some (.ref m), none, none, some (.int x3), some (.int x4), none, some (.int x6), some (.int x7), some (.int x8), some (.int x9), some (.int x10)] [.int (x6 - x10)] h Q))))) : gm_G 423 173 [some (.ref m), none, none, some (.int x3), some (.int x4), none, some (.int x6), some (.int x7), some (.int x8), some (.int x9), some (.int x10)] [] h Q := by
  refine g_iload rfl rfl rfl (pc' := 175) ?_
  refine g_iload rfl rfl rfl (pc' := 177) ?_
  refine g_ic_ge rfl (pc' := 180) (pt := 251) rfl rfl ⟨fun hc => ?_, fun hc => ?_⟩
  · have H := H.1 hc
    refine g_iconst rfl rfl rfl (pc' := 252) ?_
    exact g_ireturn rfl (Or.inr (by decide)) H
  · have H := H.2 hc
    refine g_iload rfl rfl rfl (pc' := 182) ?_
    refine g_iload rfl rfl rfl (pc' := 184) ?_
    refine g_isub rfl rfl (pc' := 185) ?_
    refine g_iload rfl rfl rfl (pc' := 187) ?_
    refine g_iload rfl rfl rfl (pc' := 189) ?_
    refine g_isub rfl rfl (pc' := 190) ?_
    refine g_ic_ge rfl (pc' := 193) (pt := 201) rfl rfl ⟨fun hc => ?_, fun hc => ?_⟩
    · have H := H.1 hc
      refine g_iload rfl rfl rfl (pc' := 203) ?_
      refine g_iload rfl rfl rfl (pc' := 205) ?_
      refine g_isub rfl rfl (pc' := 206) ?_
      exact g_weak (show gm_Lle [some _, none, none, some _, some _, none, some _, some _, some _, some _, some _] _ from ⟨rfl, ⟨rfl, ⟨rfl, ⟨rfl, ⟨rfl, ⟨rfl, ⟨rfl, ⟨rfl, trivial⟩⟩⟩⟩⟩⟩⟩⟩) H
    · have H := H.2 hc
      refine g_iload rfl rfl rfl (pc' := 195) ?_
      refine g_iload rfl rfl rfl (pc' := 197) ?_
      refine g_isub rfl rfl (pc' := 198) ?_
      refine g_goto rfl (pc' := 206) rfl ?_
      exact g_weak (show gm_Lle [some _, none, none, some _, some _, none, some _, some _, some _, some _, some _] _ from ⟨rfl, ⟨rfl, ⟨rfl, ⟨rfl, ⟨rfl, ⟨rfl, ⟨rfl, ⟨rfl, trivial⟩⟩⟩⟩⟩⟩⟩⟩) H
theorem w_423_206 {m : Nat} {x3 : Int32} {x4 : Int32} {x6 : Int32} {x7 : Int32} {x8 : Int32} {x9 : Int32} {x10 : Int32} {y0 : Int32} {h : hh_T} {Q : Option Value ⊕ Nat → hh_T → Prop} (hT : tw_ok h m) (H : gm_G 410 0 [some (.ref m), some (.int x4), some (.int x9), some (.int x8), some (.int y0), some (.int x10), some (.int x3)] [] h (pI (fun v2 h1 => (¬ v2 = Int32.ofNat 0 → (gm_G 423 173 [some (.ref m), none, none, some (.int x3), some (.int x4), none, some (.int x6), some (.int x7), some (.int x8), some (.int (x9 + (x8 + y0))), some (.int (x10 + (x7 - x8)))] [] h1 Q)) ∧ (v2 = Int32.ofNat 0 → (Q (.inl (some (.int (Int32.ofNat 0)))) h1))) (fun _ _ => False))) : gm_G 423 206 [some (.ref m), none, none, some (.int x3), some (.int x4), none, some (.int x6), some (.int x7), some (.int x8), some (.int x9), some (.int x10)] [.int y0] h Q := by
  refine g_istore rfl rfl rfl (pc' := 208) ?_
  refine g_aload (r := some _) rfl rfl rfl (pc' := 209) ?_
  refine g_iload rfl rfl rfl (pc' := 211) ?_
  refine g_iload rfl rfl rfl (pc' := 213) ?_
  refine g_iload rfl rfl rfl (pc' := 215) ?_
  refine g_iload rfl rfl rfl (pc' := 217) ?_
  refine g_iload rfl rfl rfl (pc' := 219) ?_
  refine g_iload rfl rfl rfl (pc' := 220) ?_
  refine t_call hT (y := 410) (n := 7) (pc' := 223) rfl rfl (t_vt hT rfl rfl) rfl rfl ⟨(Nat.le_of_ble_eq_true rfl), (Nat.le_of_ble_eq_true rfl), (Nat.le_of_ble_eq_true rfl)⟩ rfl H (tI_elim (fun v2 h1 H hT => ?_))
  show gm_G _ 223 _ _ _ _
  refine g_if_ne rfl (pc' := 226) (pt := 228) rfl rfl ⟨fun hc => ?_, fun hc => ?_⟩
  · have H := H.1 hc
    refine g_iload rfl rfl rfl (pc' := 230) ?_
    refine g_iload rfl rfl rfl (pc' := 232) ?_
    refine g_iload rfl rfl rfl (pc' := 234) ?_
    refine g_iadd rfl rfl (pc' := 235) ?_
    refine g_iadd rfl rfl (pc' := 236) ?_
    refine g_istore rfl rfl rfl (pc' := 238) ?_
    refine g_iload rfl rfl rfl (pc' := 240) ?_
    refine g_iload rfl rfl rfl (pc' := 242) ?_
    refine g_iload rfl rfl rfl (pc' := 244) ?_
    refine g_isub rfl rfl (pc' := 245) ?_
    refine g_iadd rfl rfl (pc' := 246) ?_
    refine g_istore rfl rfl rfl (pc' := 248) ?_
    refine g_goto rfl (pc' := 173) rfl ?_
    exact g_weak (show gm_Lle [some _, none, none, some _, some _, none, some _, some _, some _, some _, some _] _ from ⟨rfl, ⟨rfl, ⟨rfl, ⟨rfl, ⟨rfl, ⟨rfl, ⟨rfl, ⟨rfl, trivial⟩⟩⟩⟩⟩⟩⟩⟩) H
  · have H := H.2 hc
    refine g_iconst rfl rfl rfl (pc' := 227) ?_
    exact g_ireturn rfl (Or.inr (by decide)) H
theorem w_424_0 {m : Nat}  {h : hh_T} {Q : Option Value ⊕ Nat → hh_T → Prop} (hT : tw_ok h m) (H : gm_G 424 2 [some (.ref m), some (.int (Int32.ofNat 0))] [] h Q) : gm_G 424 0 [some (.ref m)] [] h Q := by
  refine g_iconst rfl rfl rfl (pc' := 1) ?_
  refine g_istore rfl rfl rfl (pc' := 2) ?_
  exact g_weak (show gm_Lle [some _, some _] _ from ⟨rfl, ⟨rfl, trivial⟩⟩) H
theorem w_424_2 {m : Nat} {x1 : Int32} {h : hh_T} {Q : Option Value ⊕ Nat → hh_T → Prop} (hT : tw_ok h m) (H : (¬ x1 < (hh_i h m 41) → (Q (.inl (some (.int (Int32.ofNat 1)))) h)) ∧ (x1 < (hh_i h m 41) → (gm_G 424 12 [some (.ref m), some (.int x1), some (.int (Int32.ofNat 0))] [] h Q))) : gm_G 424 2 [some (.ref m), some (.int x1)] [] h Q := by
  refine g_iload rfl rfl rfl (pc' := 3) ?_
  refine g_aload (r := some _) rfl rfl rfl (pc' := 4) ?_
  refine t_getI rfl hT rfl rfl (pc' := 7) rfl ?_
  refine g_ic_ge rfl (pc' := 10) (pt := 65) rfl rfl ⟨fun hc => ?_, fun hc => ?_⟩
  · have H := H.1 hc
    refine g_iconst rfl rfl rfl (pc' := 66) ?_
    exact g_ireturn rfl (Or.inr (by decide)) H
  · have H := H.2 hc
    refine g_iconst rfl rfl rfl (pc' := 11) ?_
    refine g_istore rfl rfl rfl (pc' := 12) ?_
    exact g_weak (show gm_Lle [some _, some _, some _] _ from ⟨rfl, ⟨rfl, ⟨rfl, trivial⟩⟩⟩) H
theorem w_424_12 {m : Nat} {x1 : Int32} {x2 : Int32} {h : hh_T} {Q : Option Value ⊕ Nat → hh_T → Prop} (hT : tw_ok h m) (H : ∃ n1, gm_ix x1 n1 136 ∧ (((hh_i h (m + 31) n1) = Int32.ofNat 0 → (gm_G 424 59 [some (.ref m), some (.int x1)] [] h Q)) ∧ (¬ (hh_i h (m + 31) n1) = Int32.ofNat 0 → (∃ n2, gm_ix x1 n2 136 ∧ (∃ n3, gm_ix (hh_i h (m + 30) n2) n3 640 ∧ ((¬ x2 < (hh_i h (m + 22) n3) → (gm_G 424 59 [some (.ref m), some (.int x1)] [] h Q)) ∧ (x2 < (hh_i h (m + 22) n3) → (∃ n4, gm_ix x1 n4 136 ∧ (gm_G 413 0 [some (.ref m), some (.int (hh_i h (m + 30) n4)), some (.int x2), some (.int (Int32.ofNat 0))] [] h (pI (fun v6 h5 => (¬ v6 = Int32.ofNat 0 → (gm_G 424 12 [some (.ref m), some (.int x1), some (.int (x2 + (Int32.ofNat 1)))] [] h5 Q)) ∧ (v6 = Int32.ofNat 0 → (Q (.inl (some (.int (Int32.ofNat 0)))) h5))) (fun _ _ => False))))))))))) : gm_G 424 12 [some (.ref m), some (.int x1), some (.int x2)] [] h Q := by
  refine g_aload (r := some _) rfl rfl rfl (pc' := 13) ?_
  refine t_get (o := 31) rfl hT rfl rfl rfl (pc' := 16) rfl ?_
  refine g_iload rfl rfl rfl (pc' := 17) ?_
  obtain ⟨n1, hn1, H⟩ := H
  refine t_zaload hT (o := 31) (l := 136) rfl rfl rfl hn1 (pc' := 18) rfl ?_
  refine g_if_eq rfl (pc' := 21) (pt := 59) rfl rfl ⟨fun hc => ?_, fun hc => ?_⟩
  · have H := H.1 hc
    exact g_weak (show gm_Lle [some _, some _] _ from ⟨rfl, ⟨rfl, trivial⟩⟩) H
  · have H := H.2 hc
    refine g_iload rfl rfl rfl (pc' := 22) ?_
    refine g_aload (r := some _) rfl rfl rfl (pc' := 23) ?_
    refine t_get (o := 22) rfl hT rfl rfl rfl (pc' := 26) rfl ?_
    refine g_aload (r := some _) rfl rfl rfl (pc' := 27) ?_
    refine t_get (o := 30) rfl hT rfl rfl rfl (pc' := 30) rfl ?_
    refine g_iload rfl rfl rfl (pc' := 31) ?_
    obtain ⟨n2, hn2, H⟩ := H
    refine t_iaload hT (o := 30) (l := 136) rfl rfl rfl hn2 (pc' := 32) rfl ?_
    obtain ⟨n3, hn3, H⟩ := H
    refine t_iaload hT (o := 22) (l := 640) rfl rfl rfl hn3 (pc' := 33) rfl ?_
    refine g_ic_ge rfl (pc' := 36) (pt := 59) rfl rfl ⟨fun hc => ?_, fun hc => ?_⟩
    · have H := H.1 hc
      exact g_weak (show gm_Lle [some _, some _] _ from ⟨rfl, ⟨rfl, trivial⟩⟩) H
    · have H := H.2 hc
      refine g_aload (r := some _) rfl rfl rfl (pc' := 37) ?_
      refine g_aload (r := some _) rfl rfl rfl (pc' := 38) ?_
      refine t_get (o := 30) rfl hT rfl rfl rfl (pc' := 41) rfl ?_
      refine g_iload rfl rfl rfl (pc' := 42) ?_
      obtain ⟨n4, hn4, H⟩ := H
      refine t_iaload hT (o := 30) (l := 136) rfl rfl rfl hn4 (pc' := 43) rfl ?_
      refine g_iload rfl rfl rfl (pc' := 44) ?_
      refine g_iconst rfl rfl rfl (pc' := 45) ?_
      refine t_call hT (y := 413) (n := 4) (pc' := 48) rfl rfl (t_vt hT rfl rfl) rfl rfl ⟨(Nat.le_of_ble_eq_true rfl), (Nat.le_of_ble_eq_true rfl), (Nat.le_of_ble_eq_true rfl)⟩ rfl H (tI_elim (fun v6 h5 H hT => ?_))
      show gm_G _ 48 _ _ _ _
      refine g_if_ne rfl (pc' := 51) (pt := 53) rfl rfl ⟨fun hc => ?_, fun hc => ?_⟩
      · have H := H.1 hc
        refine g_iinc (c := (Int32.ofNat 1)) rfl rfl rfl rfl rfl (pc' := 56) ?_
        refine g_goto rfl (pc' := 12) rfl ?_
        exact g_weak (show gm_Lle [some _, some _, some _] _ from ⟨rfl, ⟨rfl, ⟨rfl, trivial⟩⟩⟩) H
      · have H := H.2 hc
        refine g_iconst rfl rfl rfl (pc' := 52) ?_
        exact g_ireturn rfl (Or.inr (by decide)) H
theorem w_424_59 {m : Nat} {x1 : Int32} {h : hh_T} {Q : Option Value ⊕ Nat → hh_T → Prop} (hT : tw_ok h m) (H : gm_G 424 2 [some (.ref m), some (.int (x1 + (Int32.ofNat 1)))] [] h Q) : gm_G 424 59 [some (.ref m), some (.int x1)] [] h Q := by
  refine g_iinc (c := (Int32.ofNat 1)) rfl rfl rfl rfl rfl (pc' := 62) ?_
  refine g_goto rfl (pc' := 2) rfl ?_
  exact g_weak (show gm_Lle [some _, some _] _ from ⟨rfl, ⟨rfl, trivial⟩⟩) H
theorem w_433_0 {m : Nat} {x1 : Int32} {h : hh_T} {Q : Option Value ⊕ Nat → hh_T → Prop} (hT : tw_ok h m) (H : (¬ (hh_i h m 77) = Int32.ofNat 0 → (gm_G 135 0 [some (.ref m), some (.int x1)] [] h (pI (fun v2 h1 => (v2 = Int32.ofNat 0 → (∃ n3, gm_ix x1 n3 8 ∧ (((hh_i h1 (m + 5) n3) < Int32.ofNat 0 → (Q (.inl (some (.int (Int32.ofInt (-10))))) h1)) ∧ (¬ (hh_i h1 (m + 5) n3) < Int32.ofNat 0 → (∃ n4, gm_ix (hh_i h1 (m + 5) n3) n4 3 ∧ (((hh_i h1 (m + 11) n4) = (Int32.ofNat 1) → (gm_G 422 0 [some (.ref m)] [] h1 (pV (fun h5 => gm_G 433 50 [some (.ref m), some (.int x1), some (.int (hh_i h1 (m + 5) n3)), some (.int (Int32.ofNat 0))] [] h5 Q) (fun _ _ => False)))) ∧ (¬ (hh_i h1 (m + 11) n4) = (Int32.ofNat 1) → (Q (.inl (some (.int (Int32.ofInt (-10))))) h1)))))))) ∧ (¬ v2 = Int32.ofNat 0 → (Q (.inl (some (.int (Int32.ofInt (-1))))) h1))) (fun _ _ => False)))) ∧ ((hh_i h m 77) = Int32.ofNat 0 → (Q (.inl (some (.int (Int32.ofInt (-9))))) h))) : gm_G 433 0 [some (.ref m), some (.int x1)] [] h Q := by
  refine g_aload (r := some _) rfl rfl rfl (pc' := 1) ?_
  refine t_getZ rfl hT rfl rfl (pc' := 4) rfl ?_
  refine g_if_ne rfl (pc' := 7) (pt := 10) rfl rfl ⟨fun hc => ?_, fun hc => ?_⟩
  · have H := H.1 hc
    refine g_aload (r := some _) rfl rfl rfl (pc' := 11) ?_
    refine g_iload rfl rfl rfl (pc' := 12) ?_
    refine t_call hT (y := 135) (n := 2) (pc' := 15) rfl rfl (t_vt hT rfl rfl) rfl rfl ⟨(Nat.le_of_ble_eq_true rfl), (Nat.le_of_ble_eq_true rfl), (Nat.le_of_ble_eq_true rfl)⟩ rfl H (tI_elim (fun v2 h1 H hT => ?_))
    show gm_G _ 15 _ _ _ _
    refine g_if_eq rfl (pc' := 18) (pt := 20) rfl rfl ⟨fun hc => ?_, fun hc => ?_⟩
    · have H := H.1 hc
      refine g_aload (r := some _) rfl rfl rfl (pc' := 21) ?_
      refine t_get (o := 5) rfl hT rfl rfl rfl (pc' := 24) rfl ?_
      refine g_iload rfl rfl rfl (pc' := 25) ?_
      obtain ⟨n3, hn3, H⟩ := H
      refine t_iaload hT (o := 5) (l := 8) rfl rfl rfl hn3 (pc' := 26) rfl ?_
      refine g_istore rfl rfl rfl (pc' := 27) ?_
      refine g_iload rfl rfl rfl (pc' := 28) ?_
      refine g_if_lt rfl (pc' := 31) (pt := 41) rfl rfl ⟨fun hc => ?_, fun hc => ?_⟩
      · have H := H.1 hc
        refine g_iconst rfl rfl rfl (pc' := 43) ?_
        exact g_ireturn rfl (Or.inl rfl) H
      · have H := H.2 hc
        refine g_aload (r := some _) rfl rfl rfl (pc' := 32) ?_
        refine t_get (o := 11) rfl hT rfl rfl rfl (pc' := 35) rfl ?_
        refine g_iload rfl rfl rfl (pc' := 36) ?_
        obtain ⟨n4, hn4, H⟩ := H
        refine t_iaload hT (o := 11) (l := 3) rfl rfl rfl hn4 (pc' := 37) rfl ?_
        refine g_iconst rfl rfl rfl (pc' := 38) ?_
        refine g_ic_eq rfl (pc' := 41) (pt := 44) rfl rfl ⟨fun hc => ?_, fun hc => ?_⟩
        · have H := H.1 hc
          refine g_aload (r := some _) rfl rfl rfl (pc' := 45) ?_
          refine t_call hT (y := 422) (n := 1) (pc' := 48) rfl rfl (t_vt hT rfl rfl) rfl rfl ⟨(Nat.le_of_ble_eq_true rfl), (Nat.le_of_ble_eq_true rfl), (Nat.le_of_ble_eq_true rfl)⟩ rfl H (tV_elim (fun h5 H hT => ?_))
          show gm_G _ 48 _ _ _ _
          refine g_iconst rfl rfl rfl (pc' := 49) ?_
          refine g_istore rfl rfl rfl (pc' := 50) ?_
          exact g_weak (show gm_Lle [some _, some _, some _, some _] _ from ⟨rfl, ⟨rfl, ⟨rfl, ⟨rfl, trivial⟩⟩⟩⟩) H
        · have H := H.2 hc
          refine g_iconst rfl rfl rfl (pc' := 43) ?_
          exact g_ireturn rfl (Or.inl rfl) H
    · have H := H.2 hc
      refine g_iconst rfl rfl rfl (pc' := 19) ?_
      exact g_ireturn rfl (Or.inl rfl) H
  · have H := H.2 hc
    refine g_iconst rfl rfl rfl (pc' := 9) ?_
    exact g_ireturn rfl (Or.inl rfl) H
theorem w_433_50 {m : Nat} {x1 : Int32} {x2 : Int32} {x3 : Int32} {h : hh_T} {Q : Option Value ⊕ Nat → hh_T → Prop} (hT : tw_ok h m) (H : ∃ n1, gm_ix x2 n1 3 ∧ ((¬ x3 < (hh_i h (m + 14) n1) → (gm_G 433 168 [some (.ref m), some (.int x1), some (.int x2), some (.int (Int32.ofNat 0)), some (.int (Int32.ofNat 0))] [] h Q)) ∧ (x3 < (hh_i h (m + 14) n1) → (∃ n2, gm_ix (((Int32.ofNat 384) * x2) + x3) n2 1152 ∧ ((¬ (hh_i h (m + 27) n2) = Int32.ofNat 0 → (gm_G 433 84 [some (.ref m), some (.int x1), some (.int x2), some (.int x3), some (.int (Int32.ofNat 0)), some (.int (Int32.ofNat 0))] [] h Q)) ∧ ((hh_i h (m + 27) n2) = Int32.ofNat 0 → (gm_G 433 157 [some (.ref m), some (.int x1), some (.int x2), some (.int x3)] [] h Q))))))) : gm_G 433 50 [some (.ref m), some (.int x1), some (.int x2), some (.int x3)] [] h Q := by
  refine g_iload rfl rfl rfl (pc' := 51) ?_
  refine g_aload (r := some _) rfl rfl rfl (pc' := 52) ?_
  refine t_get (o := 14) rfl hT rfl rfl rfl (pc' := 55) rfl ?_
  refine g_iload rfl rfl rfl (pc' := 56) ?_
  obtain ⟨n1, hn1, H⟩ := H
  refine t_iaload hT (o := 14) (l := 3) rfl rfl rfl hn1 (pc' := 57) rfl ?_
  refine g_ic_ge rfl (pc' := 60) (pt := 163) rfl rfl ⟨fun hc => ?_, fun hc => ?_⟩
  · have H := H.1 hc
    refine g_iconst rfl rfl rfl (pc' := 164) ?_
    refine g_istore rfl rfl rfl (pc' := 165) ?_
    refine g_iconst rfl rfl rfl (pc' := 166) ?_
    refine g_istore rfl rfl rfl (pc' := 168) ?_
    exact g_weak (show gm_Lle [some _, some _, some _, some _, some _] _ from ⟨rfl, ⟨rfl, ⟨rfl, ⟨rfl, ⟨rfl, trivial⟩⟩⟩⟩⟩) H
  · have H := H.2 hc
    refine g_aload (r := some _) rfl rfl rfl (pc' := 61) ?_
    refine t_get (o := 27) rfl hT rfl rfl rfl (pc' := 64) rfl ?_
    refine g_iconst rfl rfl rfl (pc' := 67) ?_
    refine g_iload rfl rfl rfl (pc' := 68) ?_
    refine g_imul rfl rfl (pc' := 69) ?_
    refine g_iload rfl rfl rfl (pc' := 70) ?_
    refine g_iadd rfl rfl (pc' := 71) ?_
    obtain ⟨n2, hn2, H⟩ := H
    refine t_zaload hT (o := 27) (l := 1152) rfl rfl rfl hn2 (pc' := 72) rfl ?_
    refine g_if_ne rfl (pc' := 75) (pt := 78) rfl rfl ⟨fun hc => ?_, fun hc => ?_⟩
    · have H := H.1 hc
      refine g_iconst rfl rfl rfl (pc' := 79) ?_
      refine g_istore rfl rfl rfl (pc' := 81) ?_
      refine g_iconst rfl rfl rfl (pc' := 82) ?_
      refine g_istore rfl rfl rfl (pc' := 84) ?_
      exact g_weak (show gm_Lle [some _, some _, some _, some _, some _, some _] _ from ⟨rfl, ⟨rfl, ⟨rfl, ⟨rfl, ⟨rfl, ⟨rfl, trivial⟩⟩⟩⟩⟩⟩) H
    · have H := H.2 hc
      refine g_goto rfl (pc' := 157) rfl ?_
      exact g_weak (show gm_Lle [some _, some _, some _, some _] _ from ⟨rfl, ⟨rfl, ⟨rfl, ⟨rfl, trivial⟩⟩⟩⟩) H
theorem w_433_84 {m : Nat} {x1 : Int32} {x2 : Int32} {x3 : Int32} {x4 : Int32} {x5 : Int32} {h : hh_T} {Q : Option Value ⊕ Nat → hh_T → Prop} (hT : tw_ok h m) (H : ∃ n1, gm_ix x2 n1 3 ∧ ((¬ x5 < (hh_i h (m + 13) n1) → ((¬ x4 = Int32.ofNat 0 → (gm_G 433 157 [some (.ref m), some (.int x1), some (.int x2), some (.int x3)] [] h Q)) ∧ (x4 = Int32.ofNat 0 → (Q (.inl (some (.int (Int32.ofInt (-5))))) h)))) ∧ (x5 < (hh_i h (m + 13) n1) → ((¬ x4 = Int32.ofNat 0 → (gm_G 433 136 [some (.ref m), some (.int x1), some (.int x2), some (.int x3), none, some (.int x5)] [] h Q)) ∧ (x4 = Int32.ofNat 0 → (∃ n2, gm_ix (((Int32.ofNat 6) * x2) + x5) n2 18 ∧ (((hh_i h (m + 15) n2) = x1 → (gm_G 433 140 [some (.ref m), some (.int x1), some (.int x2), some (.int x3), none, some (.int x5)] [] h Q)) ∧ (¬ (hh_i h (m + 15) n2) = x1 → (∃ n3, gm_ix (((Int32.ofNat 6) * x2) + x5) n3 18 ∧ (gm_G 122 0 [some (.ref m), some (.int (hh_i h (m + 15) n3)), some (.int x3)] [] h (pI (fun v5 h4 => (¬ v5 = Int32.ofNat 0 → (gm_G 433 140 [some (.ref m), some (.int x1), some (.int x2), some (.int x3), none, some (.int x5)] [] h4 Q)) ∧ (v5 = Int32.ofNat 0 → (gm_G 433 136 [some (.ref m), some (.int x1), some (.int x2), some (.int x3), none, some (.int x5)] [] h4 Q))) (fun _ _ => False)))))))))))) : gm_G 433 84 [some (.ref m), some (.int x1), some (.int x2), some (.int x3), some (.int x4), some (.int x5)] [] h Q := by
  refine g_iload rfl rfl rfl (pc' := 86) ?_
  refine g_aload (r := some _) rfl rfl rfl (pc' := 87) ?_
  refine t_get (o := 13) rfl hT rfl rfl rfl (pc' := 90) rfl ?_
  refine g_iload rfl rfl rfl (pc' := 91) ?_
  obtain ⟨n1, hn1, H⟩ := H
  refine t_iaload hT (o := 13) (l := 3) rfl rfl rfl hn1 (pc' := 92) rfl ?_
  refine g_ic_ge rfl (pc' := 95) (pt := 149) rfl rfl ⟨fun hc => ?_, fun hc => ?_⟩
  · have H := H.1 hc
    refine g_iload rfl rfl rfl (pc' := 151) ?_
    refine g_if_ne rfl (pc' := 154) (pt := 157) rfl rfl ⟨fun hc => ?_, fun hc => ?_⟩
    · have H := H.1 hc
      exact g_weak (show gm_Lle [some _, some _, some _, some _] _ from ⟨rfl, ⟨rfl, ⟨rfl, ⟨rfl, trivial⟩⟩⟩⟩) H
    · have H := H.2 hc
      refine g_iconst rfl rfl rfl (pc' := 156) ?_
      exact g_ireturn rfl (Or.inl rfl) H
  · have H := H.2 hc
    refine g_iload rfl rfl rfl (pc' := 97) ?_
    refine g_if_ne rfl (pc' := 100) (pt := 136) rfl rfl ⟨fun hc => ?_, fun hc => ?_⟩
    · have H := H.1 hc
      exact g_weak (show gm_Lle [some _, some _, some _, some _, none, some _] _ from ⟨rfl, ⟨rfl, ⟨rfl, ⟨rfl, ⟨rfl, trivial⟩⟩⟩⟩⟩) H
    · have H := H.2 hc
      refine g_aload (r := some _) rfl rfl rfl (pc' := 101) ?_
      refine t_get (o := 15) rfl hT rfl rfl rfl (pc' := 104) rfl ?_
      refine g_iconst rfl rfl rfl (pc' := 106) ?_
      refine g_iload rfl rfl rfl (pc' := 107) ?_
      refine g_imul rfl rfl (pc' := 108) ?_
      refine g_iload rfl rfl rfl (pc' := 110) ?_
      refine g_iadd rfl rfl (pc' := 111) ?_
      obtain ⟨n2, hn2, H⟩ := H
      refine t_iaload hT (o := 15) (l := 18) rfl rfl rfl hn2 (pc' := 112) rfl ?_
      refine g_iload rfl rfl rfl (pc' := 113) ?_
      refine g_ic_eq rfl (pc' := 116) (pt := 140) rfl rfl ⟨fun hc => ?_, fun hc => ?_⟩
      · have H := H.1 hc
        exact g_weak (show gm_Lle [some _, some _, some _, some _, none, some _] _ from ⟨rfl, ⟨rfl, ⟨rfl, ⟨rfl, ⟨rfl, trivial⟩⟩⟩⟩⟩) H
      · have H := H.2 hc
        refine g_aload (r := some _) rfl rfl rfl (pc' := 117) ?_
        refine g_aload (r := some _) rfl rfl rfl (pc' := 118) ?_
        refine t_get (o := 15) rfl hT rfl rfl rfl (pc' := 121) rfl ?_
        refine g_iconst rfl rfl rfl (pc' := 123) ?_
        refine g_iload rfl rfl rfl (pc' := 124) ?_
        refine g_imul rfl rfl (pc' := 125) ?_
        refine g_iload rfl rfl rfl (pc' := 127) ?_
        refine g_iadd rfl rfl (pc' := 128) ?_
        obtain ⟨n3, hn3, H⟩ := H
        refine t_iaload hT (o := 15) (l := 18) rfl rfl rfl hn3 (pc' := 129) rfl ?_
        refine g_iload rfl rfl rfl (pc' := 130) ?_
        refine t_call hT (y := 122) (n := 3) (pc' := 133) rfl rfl (t_vt hT rfl rfl) rfl rfl ⟨(Nat.le_of_ble_eq_true rfl), (Nat.le_of_ble_eq_true rfl), (Nat.le_of_ble_eq_true rfl)⟩ rfl H (tI_elim (fun v5 h4 H hT => ?_))
        show gm_G _ 133 _ _ _ _
        refine g_if_ne rfl (pc' := 136) (pt := 140) rfl rfl ⟨fun hc => ?_, fun hc => ?_⟩
        · have H := H.1 hc
          exact g_weak (show gm_Lle [some _, some _, some _, some _, none, some _] _ from ⟨rfl, ⟨rfl, ⟨rfl, ⟨rfl, ⟨rfl, trivial⟩⟩⟩⟩⟩) H
        · have H := H.2 hc
          exact g_weak (show gm_Lle [some _, some _, some _, some _, none, some _] _ from ⟨rfl, ⟨rfl, ⟨rfl, ⟨rfl, ⟨rfl, trivial⟩⟩⟩⟩⟩) H
theorem w_433_136 {m : Nat} {x1 : Int32} {x2 : Int32} {x3 : Int32} {x5 : Int32} {h : hh_T} {Q : Option Value ⊕ Nat → hh_T → Prop} (hT : tw_ok h m) (H : gm_G 433 141 [some (.ref m), some (.int x1), some (.int x2), some (.int x3), none, some (.int x5)] [.int (Int32.ofNat 1)] h Q) : gm_G 433 136 [some (.ref m), some (.int x1), some (.int x2), some (.int x3), none, some (.int x5)] [] h Q := by
  refine g_iconst rfl rfl rfl (pc' := 137) ?_
  refine g_goto rfl (pc' := 141) rfl ?_
  exact g_weak (show gm_Lle [some _, some _, some _, some _, none, some _] _ from ⟨rfl, ⟨rfl, ⟨rfl, ⟨rfl, ⟨rfl, trivial⟩⟩⟩⟩⟩) H
theorem w_433_140 {m : Nat} {x1 : Int32} {x2 : Int32} {x3 : Int32} {x5 : Int32} {h : hh_T} {Q : Option Value ⊕ Nat → hh_T → Prop} (hT : tw_ok h m) (H : gm_G 433 141 [some (.ref m), some (.int x1), some (.int x2), some (.int x3), none, some (.int x5)] [.int (Int32.ofNat 0)] h Q) : gm_G 433 140 [some (.ref m), some (.int x1), some (.int x2), some (.int x3), none, some (.int x5)] [] h Q := by
  refine g_iconst rfl rfl rfl (pc' := 141) ?_
  exact g_weak (show gm_Lle [some _, some _, some _, some _, none, some _] _ from ⟨rfl, ⟨rfl, ⟨rfl, ⟨rfl, ⟨rfl, trivial⟩⟩⟩⟩⟩) H
theorem w_433_141 {m : Nat} {x1 : Int32} {x2 : Int32} {x3 : Int32} {x5 : Int32} {y0 : Int32} {h : hh_T} {Q : Option Value ⊕ Nat → hh_T → Prop} (hT : tw_ok h m) (H : gm_G 433 84 [some (.ref m), some (.int x1), some (.int x2), some (.int x3), some (.int y0), some (.int (x5 + (Int32.ofNat 1)))] [] h Q) : gm_G 433 141 [some (.ref m), some (.int x1), some (.int x2), some (.int x3), none, some (.int x5)] [.int y0] h Q := by
  refine g_istore rfl rfl rfl (pc' := 143) ?_
  refine g_iinc (c := (Int32.ofNat 1)) rfl rfl rfl rfl rfl (pc' := 146) ?_
  refine g_goto rfl (pc' := 84) rfl ?_
  exact g_weak (show gm_Lle [some _, some _, some _, some _, some _, some _] _ from ⟨rfl, ⟨rfl, ⟨rfl, ⟨rfl, ⟨rfl, ⟨rfl, trivial⟩⟩⟩⟩⟩⟩) H
theorem w_433_157 {m : Nat} {x1 : Int32} {x2 : Int32} {x3 : Int32} {h : hh_T} {Q : Option Value ⊕ Nat → hh_T → Prop} (hT : tw_ok h m) (H : gm_G 433 50 [some (.ref m), some (.int x1), some (.int x2), some (.int (x3 + (Int32.ofNat 1)))] [] h Q) : gm_G 433 157 [some (.ref m), some (.int x1), some (.int x2), some (.int x3)] [] h Q := by
  refine g_iinc (c := (Int32.ofNat 1)) rfl rfl rfl rfl rfl (pc' := 160) ?_
  refine g_goto rfl (pc' := 50) rfl ?_
  exact g_weak (show gm_Lle [some _, some _, some _, some _] _ from ⟨rfl, ⟨rfl, ⟨rfl, ⟨rfl, trivial⟩⟩⟩⟩) H
theorem w_433_168 {m : Nat} {x1 : Int32} {x2 : Int32} {x3 : Int32} {x4 : Int32} {h : hh_T} {Q : Option Value ⊕ Nat → hh_T → Prop} (hT : tw_ok h m) (H : ∃ n1, gm_ix x2 n1 3 ∧ ((¬ x4 < (hh_i h (m + 13) n1) → (∃ n2, gm_ix x2 n2 3 ∧ (∀ h3, h3 = hh_wi h (m + 13) n2 x3 → ((¬ x3 = (Int32.ofNat 1) → (gm_G 433 249 [some (.ref m), some (.int x1), none, some (.int x3)] [.int (Int32.ofNat 1), .int x2, .ref (m + 11)] h3 Q)) ∧ (x3 = (Int32.ofNat 1) → (gm_G 433 249 [some (.ref m), some (.int x1), none, some (.int x3)] [.int (Int32.ofNat 0), .int x2, .ref (m + 11)] h3 Q)))))) ∧ (x4 < (hh_i h (m + 13) n1) → (∃ n4, gm_ix (((Int32.ofNat 6) * x2) + x4) n4 18 ∧ (((hh_i h (m + 15) n4) = x1 → (gm_G 433 221 [some (.ref m), some (.int x1), some (.int x2), some (.int x3), some (.int x4)] [] h Q)) ∧ (¬ (hh_i h (m + 15) n4) = x1 → (∃ n5, gm_ix (((Int32.ofNat 6) * x2) + x4) n5 18 ∧ (∃ n6, gm_ix (((Int32.ofNat 6) * x2) + x3) n6 18 ∧ (∀ h7, h7 = hh_wi h (m + 15) n6 (hh_i h (m + 15) n5) → (gm_G 433 221 [some (.ref m), some (.int x1), some (.int x2), some (.int (x3 + (Int32.ofNat 1))), some (.int x4)] [] h7 Q)))))))))) : gm_G 433 168 [some (.ref m), some (.int x1), some (.int x2), some (.int x3), some (.int x4)] [] h Q := by
  refine g_iload rfl rfl rfl (pc' := 170) ?_
  refine g_aload (r := some _) rfl rfl rfl (pc' := 171) ?_
  refine t_get (o := 13) rfl hT rfl rfl rfl (pc' := 174) rfl ?_
  refine g_iload rfl rfl rfl (pc' := 175) ?_
  obtain ⟨n1, hn1, H⟩ := H
  refine t_iaload hT (o := 13) (l := 3) rfl rfl rfl hn1 (pc' := 176) rfl ?_
  refine g_ic_ge rfl (pc' := 179) (pt := 227) rfl rfl ⟨fun hc => ?_, fun hc => ?_⟩
  · have H := H.1 hc
    refine g_aload (r := some _) rfl rfl rfl (pc' := 228) ?_
    refine t_get (o := 13) rfl hT rfl rfl rfl (pc' := 231) rfl ?_
    refine g_iload rfl rfl rfl (pc' := 232) ?_
    refine g_iload rfl rfl rfl (pc' := 233) ?_
    obtain ⟨n2, hn2, H⟩ := H
    refine t_iastore hT (o := 13) (l := 3) rfl rfl rfl hn2  (pc' := 234) rfl (fun hT => ?_)
    have H := H _ rfl
    refine g_aload (r := some _) rfl rfl rfl (pc' := 235) ?_
    refine t_get (o := 11) rfl hT rfl rfl rfl (pc' := 238) rfl ?_
    refine g_iload rfl rfl rfl (pc' := 239) ?_
    refine g_iload rfl rfl rfl (pc' := 240) ?_
    refine g_iconst rfl rfl rfl (pc' := 241) ?_
    refine g_ic_ne rfl (pc' := 244) (pt := 248) rfl rfl ⟨fun hc => ?_, fun hc => ?_⟩
    · have H := H.1 hc
      refine g_iconst rfl rfl rfl (pc' := 249) ?_
      exact g_weak (show gm_Lle [some _, some _, none, some _] _ from ⟨rfl, ⟨rfl, ⟨rfl, trivial⟩⟩⟩) H
    · have H := H.2 hc
      refine g_iconst rfl rfl rfl (pc' := 245) ?_
      refine g_goto rfl (pc' := 249) rfl ?_
      exact g_weak (show gm_Lle [some _, some _, none, some _] _ from ⟨rfl, ⟨rfl, ⟨rfl, trivial⟩⟩⟩) H
  · have H := H.2 hc
    refine g_aload (r := some _) rfl rfl rfl (pc' := 180) ?_
    refine t_get (o := 15) rfl hT rfl rfl rfl (pc' := 183) rfl ?_
    refine g_iconst rfl rfl rfl (pc' := 185) ?_
    refine g_iload rfl rfl rfl (pc' := 186) ?_
    refine g_imul rfl rfl (pc' := 187) ?_
    refine g_iload rfl rfl rfl (pc' := 189) ?_
    refine g_iadd rfl rfl (pc' := 190) ?_
    obtain ⟨n4, hn4, H⟩ := H
    refine t_iaload hT (o := 15) (l := 18) rfl rfl rfl hn4 (pc' := 191) rfl ?_
    refine g_iload rfl rfl rfl (pc' := 192) ?_
    refine g_ic_eq rfl (pc' := 195) (pt := 221) rfl rfl ⟨fun hc => ?_, fun hc => ?_⟩
    · have H := H.1 hc
      exact g_weak (show gm_Lle [some _, some _, some _, some _, some _] _ from ⟨rfl, ⟨rfl, ⟨rfl, ⟨rfl, ⟨rfl, trivial⟩⟩⟩⟩⟩) H
    · have H := H.2 hc
      refine g_aload (r := some _) rfl rfl rfl (pc' := 196) ?_
      refine t_get (o := 15) rfl hT rfl rfl rfl (pc' := 199) rfl ?_
      refine g_iconst rfl rfl rfl (pc' := 201) ?_
      refine g_iload rfl rfl rfl (pc' := 202) ?_
      refine g_imul rfl rfl (pc' := 203) ?_
      refine g_iload rfl rfl rfl (pc' := 204) ?_
      refine g_iinc (c := (Int32.ofNat 1)) rfl rfl rfl rfl rfl (pc' := 207) ?_
      refine g_iadd rfl rfl (pc' := 208) ?_
      refine g_aload (r := some _) rfl rfl rfl (pc' := 209) ?_
      refine t_get (o := 15) rfl hT rfl rfl rfl (pc' := 212) rfl ?_
      refine g_iconst rfl rfl rfl (pc' := 214) ?_
      refine g_iload rfl rfl rfl (pc' := 215) ?_
      refine g_imul rfl rfl (pc' := 216) ?_
      refine g_iload rfl rfl rfl (pc' := 218) ?_
      refine g_iadd rfl rfl (pc' := 219) ?_
      obtain ⟨n5, hn5, H⟩ := H
      refine t_iaload hT (o := 15) (l := 18) rfl rfl rfl hn5 (pc' := 220) rfl ?_
      obtain ⟨n6, hn6, H⟩ := H
      refine t_iastore hT (o := 15) (l := 18) rfl rfl rfl hn6  (pc' := 221) rfl (fun hT => ?_)
      have H := H _ rfl
      exact g_weak (show gm_Lle [some _, some _, some _, some _, some _] _ from ⟨rfl, ⟨rfl, ⟨rfl, ⟨rfl, ⟨rfl, trivial⟩⟩⟩⟩⟩) H
theorem w_433_221 {m : Nat} {x1 : Int32} {x2 : Int32} {x3 : Int32} {x4 : Int32} {h : hh_T} {Q : Option Value ⊕ Nat → hh_T → Prop} (hT : tw_ok h m) (H : gm_G 433 168 [some (.ref m), some (.int x1), some (.int x2), some (.int x3), some (.int (x4 + (Int32.ofNat 1)))] [] h Q) : gm_G 433 221 [some (.ref m), some (.int x1), some (.int x2), some (.int x3), some (.int x4)] [] h Q := by
  refine g_iinc (c := (Int32.ofNat 1)) rfl rfl rfl rfl rfl (pc' := 224) ?_
  refine g_goto rfl (pc' := 168) rfl ?_
  exact g_weak (show gm_Lle [some _, some _, some _, some _, some _] _ from ⟨rfl, ⟨rfl, ⟨rfl, ⟨rfl, ⟨rfl, trivial⟩⟩⟩⟩⟩) H
theorem w_433_249 {m : Nat} {x1 : Int32} {x3 : Int32} {y0 : Int32} {y1 : Int32} {h : hh_T} {Q : Option Value ⊕ Nat → hh_T → Prop} (hT : tw_ok h m) (H : ∃ n1, gm_ix y1 n1 3 ∧ (∀ h2, h2 = hh_wi h (m + 11) n1 y0 → (∃ n3, gm_ix x1 n3 8 ∧ (∀ h4, h4 = hh_wi h2 (m + 5) n3 (Int32.ofInt (-1)) → (Q (.inl (some (.int x3))) h4))))) : gm_G 433 249 [some (.ref m), some (.int x1), none, some (.int x3)] [.int y0, .int y1, .ref (m + 11)] h Q := by
  obtain ⟨n1, hn1, H⟩ := H
  refine t_iastore hT (o := 11) (l := 3) rfl rfl rfl hn1  (pc' := 250) rfl (fun hT => ?_)
  have H := H _ rfl
  refine g_aload (r := some _) rfl rfl rfl (pc' := 251) ?_
  refine t_get (o := 5) rfl hT rfl rfl rfl (pc' := 254) rfl ?_
  refine g_iload rfl rfl rfl (pc' := 255) ?_
  refine g_iconst rfl rfl rfl (pc' := 256) ?_
  obtain ⟨n3, hn3, H⟩ := H
  refine t_iastore hT (o := 5) (l := 8) rfl rfl rfl hn3  (pc' := 257) rfl (fun hT => ?_)
  have H := H _ rfl
  refine g_iload rfl rfl rfl (pc' := 258) ?_
  exact g_ireturn rfl (Or.inl rfl) H
theorem w_434_0 {m : Nat} {x1 : Int32} {x2 : Int32} {x3 : Int32} {x4 : Int32} {h : hh_T} {Q : Option Value ⊕ Nat → hh_T → Prop} (hT : tw_ok h m) (H : gm_G 364 0 [some (.ref m), some (.int x1), some (.int (Int32.ofNat 5)), some (.int x2), some (.int (Int32.ofNat 0)), some (.int x3), some (.int x4), some (.int (Int32.ofNat 0))] [] h (pV (fun h1 => gm_G 420 0 [some (.ref m), some (.int x1)] [] h1 (pI (fun v3 h2 => (¬ x3 = (Int32.ofNat 1) → ((¬ x3 = (Int32.ofNat 2) → (∃ n4, gm_ix (((Int32.ofNat 16) * v3) + x2) n4 1536 ∧ (∀ h5, h5 = hh_wi h2 (m + 43) n4 x4 → (gm_G 434 67 [some (.ref m), some (.int x1), some (.int x2), none, none, some (.int (((Int32.ofNat 16) * v3) + x2))] [] h5 Q)))) ∧ (x3 = (Int32.ofNat 2) → (∃ n6, gm_ix (((Int32.ofNat 16) * v3) + x2) n6 1536 ∧ (∀ h7, h7 = hh_wi h2 (m + 42) n6 x4 → (gm_G 434 67 [some (.ref m), some (.int x1), some (.int x2), none, none, some (.int (((Int32.ofNat 16) * v3) + x2))] [] h7 Q)))))) ∧ (x3 = (Int32.ofNat 1) → (∃ n8, gm_ix (((Int32.ofNat 16) * v3) + x2) n8 1536 ∧ (∀ h9, h9 = hh_wi h2 (m + 41) n8 x4 → (gm_G 434 67 [some (.ref m), some (.int x1), some (.int x2), none, none, some (.int (((Int32.ofNat 16) * v3) + x2))] [] h9 Q))))) (fun _ _ => False))) (fun _ _ => False))) : gm_G 434 0 [some (.ref m), some (.int x1), some (.int x2), some (.int x3), some (.int x4)] [] h Q := by
  refine g_aload (r := some _) rfl rfl rfl (pc' := 1) ?_
  refine g_iload rfl rfl rfl (pc' := 2) ?_
  refine g_iconst rfl rfl rfl (pc' := 3) ?_
  refine g_iload rfl rfl rfl (pc' := 4) ?_
  refine g_iconst rfl rfl rfl (pc' := 5) ?_
  refine g_iload rfl rfl rfl (pc' := 6) ?_
  refine g_iload rfl rfl rfl (pc' := 8) ?_
  refine g_iconst rfl rfl rfl (pc' := 9) ?_
  refine t_call hT (y := 364) (n := 8) (pc' := 12) rfl rfl (t_vt hT rfl rfl) rfl rfl ⟨(Nat.le_of_ble_eq_true rfl), (Nat.le_of_ble_eq_true rfl), (Nat.le_of_ble_eq_true rfl)⟩ rfl H (tV_elim (fun h1 H hT => ?_))
  show gm_G _ 12 _ _ _ _
  refine g_iconst rfl rfl rfl (pc' := 14) ?_
  refine g_aload (r := some _) rfl rfl rfl (pc' := 15) ?_
  refine g_iload rfl rfl rfl (pc' := 16) ?_
  refine t_call hT (y := 420) (n := 2) (pc' := 19) rfl rfl (t_vt hT rfl rfl) rfl rfl ⟨(Nat.le_of_ble_eq_true rfl), (Nat.le_of_ble_eq_true rfl), (Nat.le_of_ble_eq_true rfl)⟩ rfl H (tI_elim (fun v3 h2 H hT => ?_))
  show gm_G _ 19 _ _ _ _
  refine g_imul rfl rfl (pc' := 20) ?_
  refine g_iload rfl rfl rfl (pc' := 21) ?_
  refine g_iadd rfl rfl (pc' := 22) ?_
  refine g_istore rfl rfl rfl (pc' := 24) ?_
  refine g_iload rfl rfl rfl (pc' := 25) ?_
  refine g_iconst rfl rfl rfl (pc' := 26) ?_
  refine g_ic_ne rfl (pc' := 29) (pt := 41) rfl rfl ⟨fun hc => ?_, fun hc => ?_⟩
  · have H := H.1 hc
    refine g_iload rfl rfl rfl (pc' := 42) ?_
    refine g_iconst rfl rfl rfl (pc' := 43) ?_
    refine g_ic_ne rfl (pc' := 46) (pt := 58) rfl rfl ⟨fun hc => ?_, fun hc => ?_⟩
    · have H := H.1 hc
      refine g_aload (r := some _) rfl rfl rfl (pc' := 59) ?_
      refine t_get (o := 43) rfl hT rfl rfl rfl (pc' := 62) rfl ?_
      refine g_iload rfl rfl rfl (pc' := 64) ?_
      refine g_iload rfl rfl rfl (pc' := 66) ?_
      obtain ⟨n4, hn4, H⟩ := H
      refine t_iastore hT (o := 43) (l := 1536) rfl rfl rfl hn4  (pc' := 67) rfl (fun hT => ?_)
      have H := H _ rfl
      exact g_weak (show gm_Lle [some _, some _, some _, none, none, some _] _ from ⟨rfl, ⟨rfl, ⟨rfl, ⟨rfl, trivial⟩⟩⟩⟩) H
    · have H := H.2 hc
      refine g_aload (r := some _) rfl rfl rfl (pc' := 47) ?_
      refine t_get (o := 42) rfl hT rfl rfl rfl (pc' := 50) rfl ?_
      refine g_iload rfl rfl rfl (pc' := 52) ?_
      refine g_iload rfl rfl rfl (pc' := 54) ?_
      obtain ⟨n6, hn6, H⟩ := H
      refine t_iastore hT (o := 42) (l := 1536) rfl rfl rfl hn6  (pc' := 55) rfl (fun hT => ?_)
      have H := H _ rfl
      refine g_goto rfl (pc' := 67) rfl ?_
      exact g_weak (show gm_Lle [some _, some _, some _, none, none, some _] _ from ⟨rfl, ⟨rfl, ⟨rfl, ⟨rfl, trivial⟩⟩⟩⟩) H
  · have H := H.2 hc
    refine g_aload (r := some _) rfl rfl rfl (pc' := 30) ?_
    refine t_get (o := 41) rfl hT rfl rfl rfl (pc' := 33) rfl ?_
    refine g_iload rfl rfl rfl (pc' := 35) ?_
    refine g_iload rfl rfl rfl (pc' := 37) ?_
    obtain ⟨n8, hn8, H⟩ := H
    refine t_iastore hT (o := 41) (l := 1536) rfl rfl rfl hn8  (pc' := 38) rfl (fun hT => ?_)
    have H := H _ rfl
    refine g_goto rfl (pc' := 67) rfl ?_
    exact g_weak (show gm_Lle [some _, some _, some _, none, none, some _] _ from ⟨rfl, ⟨rfl, ⟨rfl, ⟨rfl, trivial⟩⟩⟩⟩) H
theorem w_434_67 {m : Nat} {x1 : Int32} {x2 : Int32} {x5 : Int32} {h : hh_T} {Q : Option Value ⊕ Nat → hh_T → Prop} (hT : tw_ok h m) (H : gm_G 93 0 [some (.ref m), some (.int x5)] [] h (pV (fun h1 => gm_G 304 0 [some (.ref m), some (.int x1), some (.int x2), some (.int (Int32.ofNat 6))] [] h1 (pV (fun h2 => Q (.inl none) h2) (fun _ _ => False))) (fun _ _ => False))) : gm_G 434 67 [some (.ref m), some (.int x1), some (.int x2), none, none, some (.int x5)] [] h Q := by
  refine g_aload (r := some _) rfl rfl rfl (pc' := 68) ?_
  refine g_iload rfl rfl rfl (pc' := 70) ?_
  refine t_call hT (y := 93) (n := 2) (pc' := 73) rfl rfl (t_vt hT rfl rfl) rfl rfl ⟨(Nat.le_of_ble_eq_true rfl), (Nat.le_of_ble_eq_true rfl), (Nat.le_of_ble_eq_true rfl)⟩ rfl H (tV_elim (fun h1 H hT => ?_))
  show gm_G _ 73 _ _ _ _
  refine g_aload (r := some _) rfl rfl rfl (pc' := 74) ?_
  refine g_iload rfl rfl rfl (pc' := 75) ?_
  refine g_iload rfl rfl rfl (pc' := 76) ?_
  refine g_iconst rfl rfl rfl (pc' := 78) ?_
  refine t_call hT (y := 304) (n := 4) (pc' := 81) rfl rfl (t_vt hT rfl rfl) rfl rfl ⟨(Nat.le_of_ble_eq_true rfl), (Nat.le_of_ble_eq_true rfl), (Nat.le_of_ble_eq_true rfl)⟩ rfl H (tV_elim (fun h2 H hT => ?_))
  show gm_G _ 81 _ _ _ _
  exact g_return rfl H
theorem w_435_0 {m : Nat} {x1 : Int32} {x2 : Int32} {x3 : Int32} {x4 : Int32} {x5 : Int32} {h : hh_T} {Q : Option Value ⊕ Nat → hh_T → Prop} (hT : tw_ok h m) (H : gm_G 364 0 [some (.ref m), some (.int x1), some (.int (Int32.ofNat 6)), some (.int x2), some (.int (Int32.ofNat 0)), some (.int x3), some (.int x4), some (.int x5)] [] h (pV (fun h1 => gm_G 420 0 [some (.ref m), some (.int x1)] [] h1 (pI (fun v3 h2 => (¬ x3 = (Int32.ofNat 2) → (∃ n4, gm_ix (((Int32.ofNat 16) * v3) + x2) n4 1536 ∧ (∃ n5, gm_ix (((Int32.ofNat 4) * (((Int32.ofNat 16) * v3) + x2)) + (hh_i h2 (m + 49) n4)) n5 6144 ∧ (∀ h6, h6 = hh_wi h2 (m + 50) n5 x3 → (∃ n7, gm_ix (((Int32.ofNat 4) * (((Int32.ofNat 16) * v3) + x2)) + (hh_i h2 (m + 49) n4)) n7 6144 ∧ (∀ h8, h8 = hh_wi h6 (m + 51) n7 x4 → (∃ n9, gm_ix (((Int32.ofNat 4) * (((Int32.ofNat 16) * v3) + x2)) + (hh_i h2 (m + 49) n4)) n9 6144 ∧ (∀ h10, h10 = hh_wi h8 (m + 52) n9 x5 → (∃ n11, gm_ix (((Int32.ofNat 16) * v3) + x2) n11 1536 ∧ (∃ n12, gm_ix (((Int32.ofNat 16) * v3) + x2) n12 1536 ∧ (∀ h13, h13 = hh_wi h10 (m + 49) n12 ((hh_i h10 (m + 49) n11) + (Int32.ofNat 1)) → (gm_G 435 93 [some (.ref m), some (.int x1), some (.int x2), none, none, none, some (.int (((Int32.ofNat 16) * v3) + x2))] [] h13 Q)))))))))))) ∧ (x3 = (Int32.ofNat 2) → (∃ n14, gm_ix (((Int32.ofNat 16) * v3) + x2) n14 1536 ∧ (∀ h15, h15 = hh_wi h2 (m + 49) n14 (Int32.ofNat 0) → (gm_G 435 93 [some (.ref m), some (.int x1), some (.int x2), none, none, none, some (.int (((Int32.ofNat 16) * v3) + x2))] [] h15 Q))))) (fun _ _ => False))) (fun _ _ => False))) : gm_G 435 0 [some (.ref m), some (.int x1), some (.int x2), some (.int x3), some (.int x4), some (.int x5)] [] h Q := by
  refine g_aload (r := some _) rfl rfl rfl (pc' := 1) ?_
  refine g_iload rfl rfl rfl (pc' := 2) ?_
  refine g_iconst rfl rfl rfl (pc' := 4) ?_
  refine g_iload rfl rfl rfl (pc' := 5) ?_
  refine g_iconst rfl rfl rfl (pc' := 6) ?_
  refine g_iload rfl rfl rfl (pc' := 7) ?_
  refine g_iload rfl rfl rfl (pc' := 9) ?_
  refine g_iload rfl rfl rfl (pc' := 11) ?_
  refine t_call hT (y := 364) (n := 8) (pc' := 14) rfl rfl (t_vt hT rfl rfl) rfl rfl ⟨(Nat.le_of_ble_eq_true rfl), (Nat.le_of_ble_eq_true rfl), (Nat.le_of_ble_eq_true rfl)⟩ rfl H (tV_elim (fun h1 H hT => ?_))
  show gm_G _ 14 _ _ _ _
  refine g_iconst rfl rfl rfl (pc' := 16) ?_
  refine g_aload (r := some _) rfl rfl rfl (pc' := 17) ?_
  refine g_iload rfl rfl rfl (pc' := 18) ?_
  refine t_call hT (y := 420) (n := 2) (pc' := 21) rfl rfl (t_vt hT rfl rfl) rfl rfl ⟨(Nat.le_of_ble_eq_true rfl), (Nat.le_of_ble_eq_true rfl), (Nat.le_of_ble_eq_true rfl)⟩ rfl H (tI_elim (fun v3 h2 H hT => ?_))
  show gm_G _ 21 _ _ _ _
  refine g_imul rfl rfl (pc' := 22) ?_
  refine g_iload rfl rfl rfl (pc' := 23) ?_
  refine g_iadd rfl rfl (pc' := 24) ?_
  refine g_istore rfl rfl rfl (pc' := 26) ?_
  refine g_iload rfl rfl rfl (pc' := 27) ?_
  refine g_iconst rfl rfl rfl (pc' := 28) ?_
  refine g_ic_ne rfl (pc' := 31) (pt := 42) rfl rfl ⟨fun hc => ?_, fun hc => ?_⟩
  · have H := H.1 hc
    refine g_iconst rfl rfl rfl (pc' := 43) ?_
    refine g_iload rfl rfl rfl (pc' := 45) ?_
    refine g_imul rfl rfl (pc' := 46) ?_
    refine g_aload (r := some _) rfl rfl rfl (pc' := 47) ?_
    refine t_get (o := 49) rfl hT rfl rfl rfl (pc' := 50) rfl ?_
    refine g_iload rfl rfl rfl (pc' := 52) ?_
    obtain ⟨n4, hn4, H⟩ := H
    refine t_iaload hT (o := 49) (l := 1536) rfl rfl rfl hn4 (pc' := 53) rfl ?_
    refine g_iadd rfl rfl (pc' := 54) ?_
    refine g_istore rfl rfl rfl (pc' := 56) ?_
    refine g_aload (r := some _) rfl rfl rfl (pc' := 57) ?_
    refine t_get (o := 50) rfl hT rfl rfl rfl (pc' := 60) rfl ?_
    refine g_iload rfl rfl rfl (pc' := 62) ?_
    refine g_iload rfl rfl rfl (pc' := 63) ?_
    obtain ⟨n5, hn5, H⟩ := H
    refine t_iastore hT (o := 50) (l := 6144) rfl rfl rfl hn5  (pc' := 64) rfl (fun hT => ?_)
    have H := H _ rfl
    refine g_aload (r := some _) rfl rfl rfl (pc' := 65) ?_
    refine t_get (o := 51) rfl hT rfl rfl rfl (pc' := 68) rfl ?_
    refine g_iload rfl rfl rfl (pc' := 70) ?_
    refine g_iload rfl rfl rfl (pc' := 72) ?_
    obtain ⟨n7, hn7, H⟩ := H
    refine t_iastore hT (o := 51) (l := 6144) rfl rfl rfl hn7  (pc' := 73) rfl (fun hT => ?_)
    have H := H _ rfl
    refine g_aload (r := some _) rfl rfl rfl (pc' := 74) ?_
    refine t_get (o := 52) rfl hT rfl rfl rfl (pc' := 77) rfl ?_
    refine g_iload rfl rfl rfl (pc' := 79) ?_
    refine g_iload rfl rfl rfl (pc' := 81) ?_
    obtain ⟨n9, hn9, H⟩ := H
    refine t_iastore hT (o := 52) (l := 6144) rfl rfl rfl hn9  (pc' := 82) rfl (fun hT => ?_)
    have H := H _ rfl
    refine g_aload (r := some _) rfl rfl rfl (pc' := 83) ?_
    refine t_get (o := 49) rfl hT rfl rfl rfl (pc' := 86) rfl ?_
    refine g_iload rfl rfl rfl (pc' := 88) ?_
    refine g_dup2_a rfl (pc' := 89) rfl ?_
    obtain ⟨n11, hn11, H⟩ := H
    refine t_iaload hT (o := 49) (l := 1536) rfl rfl rfl hn11 (pc' := 90) rfl ?_
    refine g_iconst rfl rfl rfl (pc' := 91) ?_
    refine g_iadd rfl rfl (pc' := 92) ?_
    obtain ⟨n12, hn12, H⟩ := H
    refine t_iastore hT (o := 49) (l := 1536) rfl rfl rfl hn12  (pc' := 93) rfl (fun hT => ?_)
    have H := H _ rfl
    exact g_weak (show gm_Lle [some _, some _, some _, none, none, none, some _] _ from ⟨rfl, ⟨rfl, ⟨rfl, ⟨rfl, trivial⟩⟩⟩⟩) H
  · have H := H.2 hc
    refine g_aload (r := some _) rfl rfl rfl (pc' := 32) ?_
    refine t_get (o := 49) rfl hT rfl rfl rfl (pc' := 35) rfl ?_
    refine g_iload rfl rfl rfl (pc' := 37) ?_
    refine g_iconst rfl rfl rfl (pc' := 38) ?_
    obtain ⟨n14, hn14, H⟩ := H
    refine t_iastore hT (o := 49) (l := 1536) rfl rfl rfl hn14  (pc' := 39) rfl (fun hT => ?_)
    have H := H _ rfl
    refine g_goto rfl (pc' := 93) rfl ?_
    exact g_weak (show gm_Lle [some _, some _, some _, none, none, none, some _] _ from ⟨rfl, ⟨rfl, ⟨rfl, ⟨rfl, trivial⟩⟩⟩⟩) H
theorem w_435_93 {m : Nat} {x1 : Int32} {x2 : Int32} {x6 : Int32} {h : hh_T} {Q : Option Value ⊕ Nat → hh_T → Prop} (hT : tw_ok h m) (H : gm_G 93 0 [some (.ref m), some (.int x6)] [] h (pV (fun h1 => gm_G 304 0 [some (.ref m), some (.int x1), some (.int x2), some (.int (Int32.ofNat 6))] [] h1 (pV (fun h2 => Q (.inl none) h2) (fun _ _ => False))) (fun _ _ => False))) : gm_G 435 93 [some (.ref m), some (.int x1), some (.int x2), none, none, none, some (.int x6)] [] h Q := by
  refine g_aload (r := some _) rfl rfl rfl (pc' := 94) ?_
  refine g_iload rfl rfl rfl (pc' := 96) ?_
  refine t_call hT (y := 93) (n := 2) (pc' := 99) rfl rfl (t_vt hT rfl rfl) rfl rfl ⟨(Nat.le_of_ble_eq_true rfl), (Nat.le_of_ble_eq_true rfl), (Nat.le_of_ble_eq_true rfl)⟩ rfl H (tV_elim (fun h1 H hT => ?_))
  show gm_G _ 99 _ _ _ _
  refine g_aload (r := some _) rfl rfl rfl (pc' := 100) ?_
  refine g_iload rfl rfl rfl (pc' := 101) ?_
  refine g_iload rfl rfl rfl (pc' := 102) ?_
  refine g_iconst rfl rfl rfl (pc' := 104) ?_
  refine t_call hT (y := 304) (n := 4) (pc' := 107) rfl rfl (t_vt hT rfl rfl) rfl rfl ⟨(Nat.le_of_ble_eq_true rfl), (Nat.le_of_ble_eq_true rfl), (Nat.le_of_ble_eq_true rfl)⟩ rfl H (tV_elim (fun h2 H hT => ?_))
  show gm_G _ 107 _ _ _ _
  exact g_return rfl H
theorem w_436_0 {m : Nat} {x1 : Int32} {x2 : Int32} {x3 : Int32} {b4 : Nat} {x5 : Int32} {x6 : Int32} {h : hh_T} {Q : Option Value ⊕ Nat → hh_T → Prop} (hT : tw_ok h m) (H : gm_G 364 0 [some (.ref m), some (.int x1), some (.int (Int32.ofNat 2)), some (.int x2), some (.int x3), some (.int (Int32.ofNat 0)), some (.int (Int32.ofNat 0)), some (.int (Int32.ofNat 0))] [] h (pV (fun h1 => gm_G 139 0 [some (.ref m), some (.ref b4), some (.int x5), some (.int x6), some (.int (Int32.ofNat 0))] [] h1 (pV (fun h2 => gm_G 420 0 [some (.ref m), some (.int x1)] [] h2 (pI (fun v4 h3 => gm_G 88 0 [some (.ref m), some (.int (((Int32.ofNat 16) * v4) + x2)), some (.int x3), some (.ref b4), some (.int x5), some (.int x6)] [] h3 (pV (fun h5 => ∃ n6, gm_ix (((Int32.ofNat 16) * v4) + x3) n6 1536 ∧ (∃ n7, gm_ix (((Int32.ofNat 16) * v4) + x3) n7 1536 ∧ (∀ h8, h8 = hh_wi h5 (m + 44) n7 ((hh_i h5 (m + 44) n6) + (Int32.ofNat 1)) → (gm_G 93 0 [some (.ref m), some (.int (((Int32.ofNat 16) * v4) + x2))] [] h8 (pV (fun h9 => gm_G 93 0 [some (.ref m), some (.int (((Int32.ofNat 16) * v4) + x3))] [] h9 (pV (fun h10 => gm_G 160 0 [some (.ref m), some (.int x1), some (.int x2), some (.int x3), some (.int (Int32.ofNat 1))] [] h10 (pV (fun h11 => Q (.inl none) h11) (fun _ _ => False))) (fun _ _ => False))) (fun _ _ => False)))))) (fun _ _ => False))) (fun _ _ => False))) (fun _ _ => False))) (fun _ _ => False))) : gm_G 436 0 [some (.ref m), some (.int x1), some (.int x2), some (.int x3), some (.ref b4), some (.int x5), some (.int x6)] [] h Q := by
  refine g_aload (r := some _) rfl rfl rfl (pc' := 1) ?_
  refine g_iload rfl rfl rfl (pc' := 2) ?_
  refine g_iconst rfl rfl rfl (pc' := 3) ?_
  refine g_iload rfl rfl rfl (pc' := 4) ?_
  refine g_iload rfl rfl rfl (pc' := 5) ?_
  refine g_iconst rfl rfl rfl (pc' := 6) ?_
  refine g_iconst rfl rfl rfl (pc' := 7) ?_
  refine g_iconst rfl rfl rfl (pc' := 8) ?_
  refine t_call hT (y := 364) (n := 8) (pc' := 11) rfl rfl (t_vt hT rfl rfl) rfl rfl ⟨(Nat.le_of_ble_eq_true rfl), (Nat.le_of_ble_eq_true rfl), (Nat.le_of_ble_eq_true rfl)⟩ rfl H (tV_elim (fun h1 H hT => ?_))
  show gm_G _ 11 _ _ _ _
  refine g_aload (r := some _) rfl rfl rfl (pc' := 12) ?_
  refine g_aload (r := some _) rfl rfl rfl (pc' := 14) ?_
  refine g_iload rfl rfl rfl (pc' := 16) ?_
  refine g_iload rfl rfl rfl (pc' := 18) ?_
  refine g_iconst rfl rfl rfl (pc' := 19) ?_
  refine t_call hT (y := 139) (n := 5) (pc' := 22) rfl rfl (t_vt hT rfl rfl) rfl rfl ⟨(Nat.le_of_ble_eq_true rfl), (Nat.le_of_ble_eq_true rfl), (Nat.le_of_ble_eq_true rfl)⟩ rfl H (tV_elim (fun h2 H hT => ?_))
  show gm_G _ 22 _ _ _ _
  refine g_aload (r := some _) rfl rfl rfl (pc' := 23) ?_
  refine g_iload rfl rfl rfl (pc' := 24) ?_
  refine t_call hT (y := 420) (n := 2) (pc' := 27) rfl rfl (t_vt hT rfl rfl) rfl rfl ⟨(Nat.le_of_ble_eq_true rfl), (Nat.le_of_ble_eq_true rfl), (Nat.le_of_ble_eq_true rfl)⟩ rfl H (tI_elim (fun v4 h3 H hT => ?_))
  show gm_G _ 27 _ _ _ _
  refine g_istore rfl rfl rfl (pc' := 29) ?_
  refine g_aload (r := some _) rfl rfl rfl (pc' := 30) ?_
  refine g_iconst rfl rfl rfl (pc' := 32) ?_
  refine g_iload rfl rfl rfl (pc' := 34) ?_
  refine g_imul rfl rfl (pc' := 35) ?_
  refine g_iload rfl rfl rfl (pc' := 36) ?_
  refine g_iadd rfl rfl (pc' := 37) ?_
  refine g_iload rfl rfl rfl (pc' := 38) ?_
  refine g_aload (r := some _) rfl rfl rfl (pc' := 40) ?_
  refine g_iload rfl rfl rfl (pc' := 42) ?_
  refine g_iload rfl rfl rfl (pc' := 44) ?_
  refine t_call hT (y := 88) (n := 6) (pc' := 47) rfl rfl (t_vt hT rfl rfl) rfl rfl ⟨(Nat.le_of_ble_eq_true rfl), (Nat.le_of_ble_eq_true rfl), (Nat.le_of_ble_eq_true rfl)⟩ rfl H (tV_elim (fun h5 H hT => ?_))
  show gm_G _ 47 _ _ _ _
  refine g_aload (r := some _) rfl rfl rfl (pc' := 48) ?_
  refine t_get (o := 44) rfl hT rfl rfl rfl (pc' := 51) rfl ?_
  refine g_iconst rfl rfl rfl (pc' := 53) ?_
  refine g_iload rfl rfl rfl (pc' := 55) ?_
  refine g_imul rfl rfl (pc' := 56) ?_
  refine g_iload rfl rfl rfl (pc' := 57) ?_
  refine g_iadd rfl rfl (pc' := 58) ?_
  refine g_dup2_a rfl (pc' := 59) rfl ?_
  obtain ⟨n6, hn6, H⟩ := H
  refine t_iaload hT (o := 44) (l := 1536) rfl rfl rfl hn6 (pc' := 60) rfl ?_
  refine g_iconst rfl rfl rfl (pc' := 61) ?_
  refine g_iadd rfl rfl (pc' := 62) ?_
  obtain ⟨n7, hn7, H⟩ := H
  refine t_iastore hT (o := 44) (l := 1536) rfl rfl rfl hn7  (pc' := 63) rfl (fun hT => ?_)
  have H := H _ rfl
  refine g_aload (r := some _) rfl rfl rfl (pc' := 64) ?_
  refine g_iconst rfl rfl rfl (pc' := 66) ?_
  refine g_iload rfl rfl rfl (pc' := 68) ?_
  refine g_imul rfl rfl (pc' := 69) ?_
  refine g_iload rfl rfl rfl (pc' := 70) ?_
  refine g_iadd rfl rfl (pc' := 71) ?_
  refine t_call hT (y := 93) (n := 2) (pc' := 74) rfl rfl (t_vt hT rfl rfl) rfl rfl ⟨(Nat.le_of_ble_eq_true rfl), (Nat.le_of_ble_eq_true rfl), (Nat.le_of_ble_eq_true rfl)⟩ rfl H (tV_elim (fun h9 H hT => ?_))
  show gm_G _ 74 _ _ _ _
  refine g_aload (r := some _) rfl rfl rfl (pc' := 75) ?_
  refine g_iconst rfl rfl rfl (pc' := 77) ?_
  refine g_iload rfl rfl rfl (pc' := 79) ?_
  refine g_imul rfl rfl (pc' := 80) ?_
  refine g_iload rfl rfl rfl (pc' := 81) ?_
  refine g_iadd rfl rfl (pc' := 82) ?_
  refine t_call hT (y := 93) (n := 2) (pc' := 85) rfl rfl (t_vt hT rfl rfl) rfl rfl ⟨(Nat.le_of_ble_eq_true rfl), (Nat.le_of_ble_eq_true rfl), (Nat.le_of_ble_eq_true rfl)⟩ rfl H (tV_elim (fun h10 H hT => ?_))
  show gm_G _ 85 _ _ _ _
  refine g_aload (r := some _) rfl rfl rfl (pc' := 86) ?_
  refine g_iload rfl rfl rfl (pc' := 87) ?_
  refine g_iload rfl rfl rfl (pc' := 88) ?_
  refine g_iload rfl rfl rfl (pc' := 89) ?_
  refine g_iconst rfl rfl rfl (pc' := 90) ?_
  refine t_call hT (y := 160) (n := 5) (pc' := 93) rfl rfl (t_vt hT rfl rfl) rfl rfl ⟨(Nat.le_of_ble_eq_true rfl), (Nat.le_of_ble_eq_true rfl), (Nat.le_of_ble_eq_true rfl)⟩ rfl H (tV_elim (fun h11 H hT => ?_))
  show gm_G _ 93 _ _ _ _
  exact g_return rfl H
theorem w_437_0 {m : Nat} {x1 : Int32} {x2 : Int32} {x3 : Int32} {x4 : Int32} {x5 : Int32} {b6 : Nat} {x7 : Int32} {x8 : Int32} {b9 : Nat} {x10 : Int32} {x11 : Int32} {h : hh_T} {Q : Option Value ⊕ Nat → hh_T → Prop} (hT : tw_ok h m) (H : gm_G 364 0 [some (.ref m), some (.int x1), some (.int (Int32.ofNat 1)), some (.int x2), some (.int x3), some (.int x4), some (.int x5), some (.int (Int32.ofNat 0))] [] h (pV (fun h1 => gm_G 139 0 [some (.ref m), some (.ref b6), some (.int x7), some (.int x8), some (.int (Int32.ofNat 0))] [] h1 (pV (fun h2 => gm_G 139 0 [some (.ref m), some (.ref b9), some (.int x10), some (.int x11), some (.int (Int32.ofNat 1))] [] h2 (pV (fun h3 => gm_G 420 0 [some (.ref m), some (.int x1)] [] h3 (pI (fun v5 h4 => gm_G 95 0 [some (.ref m), some (.int (((Int32.ofNat 16) * v5) + x3))] [] h4 (pV (fun h6 => ∃ n7, gm_ix (((Int32.ofNat 16) * v5) + x3) n7 1536 ∧ (∀ h8, h8 = hh_wi h6 (m + 40) n7 x4 → (∃ n9, gm_ix (((Int32.ofNat 16) * v5) + x3) n9 1536 ∧ (∀ h10, h10 = hh_wi h8 (m + 41) n9 x5 → (∃ n11, gm_ix (((Int32.ofNat 16) * v5) + x3) n11 1536 ∧ (∀ h12, h12 = hh_wi h10 (m + 42) n11 (hh_i h10 m 5) → (∃ n13, gm_ix (((Int32.ofNat 16) * v5) + x2) n13 1536 ∧ (∃ n14, gm_ix (((Int32.ofNat 16) * v5) + x3) n14 1536 ∧ (∀ h15, h15 = hh_wi h12 (m + 43) n14 (hh_i h12 (m + 43) n13) → (∃ n16, gm_ix (((Int32.ofNat 16) * v5) + x3) n16 1536 ∧ (∀ h17, h17 = hh_wi h15 (m + 44) n16 (Int32.ofNat 1) → (∃ n18, gm_ix (((Int32.ofNat 16) * v5) + x3) n18 1536 ∧ (∀ h19, h19 = hh_wi h17 (m + 46) n18 (hh_i h17 m 4) → (∃ n20, gm_ix v5 n20 96 ∧ (∃ n21, gm_ix (((Int32.ofNat 16) * v5) + x3) n21 1536 ∧ (∀ h22, h22 = hh_wi h19 (m + 47) n21 (hh_i h19 (m + 58) n20) → (∃ n23, gm_ix v5 n23 96 ∧ (∃ n24, gm_ix v5 n24 96 ∧ (∀ h25, h25 = hh_wi h22 (m + 58) n24 ((hh_i h22 (m + 58) n23) + (Int32.ofNat 1)) → (∃ n26, gm_ix (((Int32.ofNat 16) * v5) + x3) n26 1536 ∧ (∀ h27, h27 = hh_wi h25 (m + 48) n26 x2 → ((¬ x4 = (Int32.ofNat 3) → (gm_G 437 213 [some (.ref m), some (.int x1), some (.int x2), some (.int x3), none, none, some (.ref b6), some (.int x7), some (.int x8), none, none, none, none, none, some (.int (((Int32.ofNat 16) * v5) + x2))] [] h27 Q)) ∧ (x4 = (Int32.ofNat 3) → (∃ n28, gm_ix (((Int32.ofNat 16) * v5) + x3) n28 1536 ∧ (∀ h29, h29 = hh_wi h27 (m + 45) n28 x11 → (gm_G 437 179 [some (.ref m), some (.int x1), some (.int x2), some (.int x3), none, none, some (.ref b6), some (.int x7), some (.int x8), some (.ref b9), some (.int x10), some (.int x11), none, some (.int (((Int32.ofNat 16) * v5) + x3)), some (.int (((Int32.ofNat 16) * v5) + x2)), some (.int (Int32.ofNat 0))] [] h29 Q)))))))))))))))))))))))))) (fun _ _ => False))) (fun _ _ => False))) (fun _ _ => False))) (fun _ _ => False))) (fun _ _ => False))) : gm_G 437 0 [some (.ref m), some (.int x1), some (.int x2), some (.int x3), some (.int x4), some (.int x5), some (.ref b6), some (.int x7), some (.int x8), some (.ref b9), some (.int x10), some (.int x11)] [] h Q := by
  refine g_aload (r := some _) rfl rfl rfl (pc' := 1) ?_
  refine g_iload rfl rfl rfl (pc' := 2) ?_
  refine g_iconst rfl rfl rfl (pc' := 3) ?_
  refine g_iload rfl rfl rfl (pc' := 4) ?_
  refine g_iload rfl rfl rfl (pc' := 5) ?_
  refine g_iload rfl rfl rfl (pc' := 7) ?_
  refine g_iload rfl rfl rfl (pc' := 9) ?_
  refine g_iconst rfl rfl rfl (pc' := 10) ?_
  refine t_call hT (y := 364) (n := 8) (pc' := 13) rfl rfl (t_vt hT rfl rfl) rfl rfl ⟨(Nat.le_of_ble_eq_true rfl), (Nat.le_of_ble_eq_true rfl), (Nat.le_of_ble_eq_true rfl)⟩ rfl H (tV_elim (fun h1 H hT => ?_))
  show gm_G _ 13 _ _ _ _
  refine g_aload (r := some _) rfl rfl rfl (pc' := 14) ?_
  refine g_aload (r := some _) rfl rfl rfl (pc' := 16) ?_
  refine g_iload rfl rfl rfl (pc' := 18) ?_
  refine g_iload rfl rfl rfl (pc' := 20) ?_
  refine g_iconst rfl rfl rfl (pc' := 21) ?_
  refine t_call hT (y := 139) (n := 5) (pc' := 24) rfl rfl (t_vt hT rfl rfl) rfl rfl ⟨(Nat.le_of_ble_eq_true rfl), (Nat.le_of_ble_eq_true rfl), (Nat.le_of_ble_eq_true rfl)⟩ rfl H (tV_elim (fun h2 H hT => ?_))
  show gm_G _ 24 _ _ _ _
  refine g_aload (r := some _) rfl rfl rfl (pc' := 25) ?_
  refine g_aload (r := some _) rfl rfl rfl (pc' := 27) ?_
  refine g_iload rfl rfl rfl (pc' := 29) ?_
  refine g_iload rfl rfl rfl (pc' := 31) ?_
  refine g_iconst rfl rfl rfl (pc' := 32) ?_
  refine t_call hT (y := 139) (n := 5) (pc' := 35) rfl rfl (t_vt hT rfl rfl) rfl rfl ⟨(Nat.le_of_ble_eq_true rfl), (Nat.le_of_ble_eq_true rfl), (Nat.le_of_ble_eq_true rfl)⟩ rfl H (tV_elim (fun h3 H hT => ?_))
  show gm_G _ 35 _ _ _ _
  refine g_aload (r := some _) rfl rfl rfl (pc' := 36) ?_
  refine g_iload rfl rfl rfl (pc' := 37) ?_
  refine t_call hT (y := 420) (n := 2) (pc' := 40) rfl rfl (t_vt hT rfl rfl) rfl rfl ⟨(Nat.le_of_ble_eq_true rfl), (Nat.le_of_ble_eq_true rfl), (Nat.le_of_ble_eq_true rfl)⟩ rfl H (tI_elim (fun v5 h4 H hT => ?_))
  show gm_G _ 40 _ _ _ _
  refine g_istore rfl rfl rfl (pc' := 42) ?_
  refine g_iconst rfl rfl rfl (pc' := 44) ?_
  refine g_iload rfl rfl rfl (pc' := 46) ?_
  refine g_imul rfl rfl (pc' := 47) ?_
  refine g_iload rfl rfl rfl (pc' := 48) ?_
  refine g_iadd rfl rfl (pc' := 49) ?_
  refine g_istore rfl rfl rfl (pc' := 51) ?_
  refine g_iconst rfl rfl rfl (pc' := 53) ?_
  refine g_iload rfl rfl rfl (pc' := 55) ?_
  refine g_imul rfl rfl (pc' := 56) ?_
  refine g_iload rfl rfl rfl (pc' := 57) ?_
  refine g_iadd rfl rfl (pc' := 58) ?_
  refine g_istore rfl rfl rfl (pc' := 60) ?_
  refine g_aload (r := some _) rfl rfl rfl (pc' := 61) ?_
  refine g_iload rfl rfl rfl (pc' := 63) ?_
  refine t_call hT (y := 95) (n := 2) (pc' := 66) rfl rfl (t_vt hT rfl rfl) rfl rfl ⟨(Nat.le_of_ble_eq_true rfl), (Nat.le_of_ble_eq_true rfl), (Nat.le_of_ble_eq_true rfl)⟩ rfl H (tV_elim (fun h6 H hT => ?_))
  show gm_G _ 66 _ _ _ _
  refine g_aload (r := some _) rfl rfl rfl (pc' := 67) ?_
  refine t_get (o := 40) rfl hT rfl rfl rfl (pc' := 70) rfl ?_
  refine g_iload rfl rfl rfl (pc' := 72) ?_
  refine g_iload rfl rfl rfl (pc' := 74) ?_
  obtain ⟨n7, hn7, H⟩ := H
  refine t_iastore hT (o := 40) (l := 1536) rfl rfl rfl hn7  (pc' := 75) rfl (fun hT => ?_)
  have H := H _ rfl
  refine g_aload (r := some _) rfl rfl rfl (pc' := 76) ?_
  refine t_get (o := 41) rfl hT rfl rfl rfl (pc' := 79) rfl ?_
  refine g_iload rfl rfl rfl (pc' := 81) ?_
  refine g_iload rfl rfl rfl (pc' := 83) ?_
  obtain ⟨n9, hn9, H⟩ := H
  refine t_iastore hT (o := 41) (l := 1536) rfl rfl rfl hn9  (pc' := 84) rfl (fun hT => ?_)
  have H := H _ rfl
  refine g_aload (r := some _) rfl rfl rfl (pc' := 85) ?_
  refine t_get (o := 42) rfl hT rfl rfl rfl (pc' := 88) rfl ?_
  refine g_iload rfl rfl rfl (pc' := 90) ?_
  refine g_aload (r := some _) rfl rfl rfl (pc' := 91) ?_
  refine t_getI rfl hT rfl rfl (pc' := 94) rfl ?_
  obtain ⟨n11, hn11, H⟩ := H
  refine t_iastore hT (o := 42) (l := 1536) rfl rfl rfl hn11  (pc' := 95) rfl (fun hT => ?_)
  have H := H _ rfl
  refine g_aload (r := some _) rfl rfl rfl (pc' := 96) ?_
  refine t_get (o := 43) rfl hT rfl rfl rfl (pc' := 99) rfl ?_
  refine g_iload rfl rfl rfl (pc' := 101) ?_
  refine g_aload (r := some _) rfl rfl rfl (pc' := 102) ?_
  refine t_get (o := 43) rfl hT rfl rfl rfl (pc' := 105) rfl ?_
  refine g_iload rfl rfl rfl (pc' := 107) ?_
  obtain ⟨n13, hn13, H⟩ := H
  refine t_iaload hT (o := 43) (l := 1536) rfl rfl rfl hn13 (pc' := 108) rfl ?_
  obtain ⟨n14, hn14, H⟩ := H
  refine t_iastore hT (o := 43) (l := 1536) rfl rfl rfl hn14  (pc' := 109) rfl (fun hT => ?_)
  have H := H _ rfl
  refine g_aload (r := some _) rfl rfl rfl (pc' := 110) ?_
  refine t_get (o := 44) rfl hT rfl rfl rfl (pc' := 113) rfl ?_
  refine g_iload rfl rfl rfl (pc' := 115) ?_
  refine g_iconst rfl rfl rfl (pc' := 116) ?_
  obtain ⟨n16, hn16, H⟩ := H
  refine t_iastore hT (o := 44) (l := 1536) rfl rfl rfl hn16  (pc' := 117) rfl (fun hT => ?_)
  have H := H _ rfl
  refine g_aload (r := some _) rfl rfl rfl (pc' := 118) ?_
  refine t_get (o := 46) rfl hT rfl rfl rfl (pc' := 121) rfl ?_
  refine g_iload rfl rfl rfl (pc' := 123) ?_
  refine g_aload (r := some _) rfl rfl rfl (pc' := 124) ?_
  refine t_getI rfl hT rfl rfl (pc' := 127) rfl ?_
  obtain ⟨n18, hn18, H⟩ := H
  refine t_iastore hT (o := 46) (l := 1536) rfl rfl rfl hn18  (pc' := 128) rfl (fun hT => ?_)
  have H := H _ rfl
  refine g_aload (r := some _) rfl rfl rfl (pc' := 129) ?_
  refine t_get (o := 47) rfl hT rfl rfl rfl (pc' := 132) rfl ?_
  refine g_iload rfl rfl rfl (pc' := 134) ?_
  refine g_aload (r := some _) rfl rfl rfl (pc' := 135) ?_
  refine t_get (o := 58) rfl hT rfl rfl rfl (pc' := 138) rfl ?_
  refine g_iload rfl rfl rfl (pc' := 140) ?_
  obtain ⟨n20, hn20, H⟩ := H
  refine t_iaload hT (o := 58) (l := 96) rfl rfl rfl hn20 (pc' := 141) rfl ?_
  obtain ⟨n21, hn21, H⟩ := H
  refine t_iastore hT (o := 47) (l := 1536) rfl rfl rfl hn21  (pc' := 142) rfl (fun hT => ?_)
  have H := H _ rfl
  refine g_aload (r := some _) rfl rfl rfl (pc' := 143) ?_
  refine t_get (o := 58) rfl hT rfl rfl rfl (pc' := 146) rfl ?_
  refine g_iload rfl rfl rfl (pc' := 148) ?_
  refine g_dup2_a rfl (pc' := 149) rfl ?_
  obtain ⟨n23, hn23, H⟩ := H
  refine t_iaload hT (o := 58) (l := 96) rfl rfl rfl hn23 (pc' := 150) rfl ?_
  refine g_iconst rfl rfl rfl (pc' := 151) ?_
  refine g_iadd rfl rfl (pc' := 152) ?_
  obtain ⟨n24, hn24, H⟩ := H
  refine t_iastore hT (o := 58) (l := 96) rfl rfl rfl hn24  (pc' := 153) rfl (fun hT => ?_)
  have H := H _ rfl
  refine g_aload (r := some _) rfl rfl rfl (pc' := 154) ?_
  refine t_get (o := 48) rfl hT rfl rfl rfl (pc' := 157) rfl ?_
  refine g_iload rfl rfl rfl (pc' := 159) ?_
  refine g_iload rfl rfl rfl (pc' := 160) ?_
  obtain ⟨n26, hn26, H⟩ := H
  refine t_iastore hT (o := 48) (l := 1536) rfl rfl rfl hn26  (pc' := 161) rfl (fun hT => ?_)
  have H := H _ rfl
  refine g_iload rfl rfl rfl (pc' := 163) ?_
  refine g_iconst rfl rfl rfl (pc' := 164) ?_
  refine g_ic_ne rfl (pc' := 167) (pt := 213) rfl rfl ⟨fun hc => ?_, fun hc => ?_⟩
  · have H := H.1 hc
    exact g_weak (show gm_Lle [some _, some _, some _, some _, none, none, some _, some _, some _, none, none, none, none, none, some _] _ from ⟨rfl, ⟨rfl, ⟨rfl, ⟨rfl, ⟨rfl, ⟨rfl, ⟨rfl, ⟨rfl, trivial⟩⟩⟩⟩⟩⟩⟩⟩) H
  · have H := H.2 hc
    refine g_aload (r := some _) rfl rfl rfl (pc' := 168) ?_
    refine t_get (o := 45) rfl hT rfl rfl rfl (pc' := 171) rfl ?_
    refine g_iload rfl rfl rfl (pc' := 173) ?_
    refine g_iload rfl rfl rfl (pc' := 175) ?_
    obtain ⟨n28, hn28, H⟩ := H
    refine t_iastore hT (o := 45) (l := 1536) rfl rfl rfl hn28  (pc' := 176) rfl (fun hT => ?_)
    have H := H _ rfl
    refine g_iconst rfl rfl rfl (pc' := 177) ?_
    refine g_istore rfl rfl rfl (pc' := 179) ?_
    exact g_weak (show gm_Lle [some _, some _, some _, some _, none, none, some _, some _, some _, some _, some _, some _, none, some _, some _, some _] _ from ⟨rfl, ⟨rfl, ⟨rfl, ⟨rfl, ⟨rfl, ⟨rfl, ⟨rfl, ⟨rfl, ⟨rfl, ⟨rfl, ⟨rfl, ⟨rfl, ⟨rfl, trivial⟩⟩⟩⟩⟩⟩⟩⟩⟩⟩⟩⟩⟩) H
theorem w_437_179 {m : Nat} {x1 : Int32} {x2 : Int32} {x3 : Int32} {b6 : Nat} {x7 : Int32} {x8 : Int32} {b9 : Nat} {x10 : Int32} {x11 : Int32} {x13 : Int32} {x14 : Int32} {x15 : Int32} {h : hh_T} {Q : Option Value ⊕ Nat → hh_T → Prop} (hT : tw_ok h m) (H : (¬ x15 < x11 → (gm_G 437 213 [some (.ref m), some (.int x1), some (.int x2), some (.int x3), none, none, some (.ref b6), some (.int x7), some (.int x8), none, none, none, none, none, some (.int x14)] [] h Q)) ∧ (x15 < x11 → ((hh_tg h b9 = 101 ∨ hh_tg h b9 = 102) ∧ (∃ n1, gm_ix (x10 + x15) n1 (hh_ln h b9) ∧ (∃ n3, gm_ix (((Int32.ofNat 24) * x13) + x15) n3 36864 ∧ (∀ h4, h4 = hh_wi h (m + 57) n3 ((hh_i h b9 n1).toInt8.toInt32) → (gm_G 437 179 [some (.ref m), some (.int x1), some (.int x2), some (.int x3), none, none, some (.ref b6), some (.int x7), some (.int x8), some (.ref b9), some (.int x10), some (.int x11), none, some (.int x13), some (.int x14), some (.int (x15 + (Int32.ofNat 1)))] [] h4 Q))))))) : gm_G 437 179 [some (.ref m), some (.int x1), some (.int x2), some (.int x3), none, none, some (.ref b6), some (.int x7), some (.int x8), some (.ref b9), some (.int x10), some (.int x11), none, some (.int x13), some (.int x14), some (.int x15)] [] h Q := by
  refine g_iload rfl rfl rfl (pc' := 181) ?_
  refine g_iload rfl rfl rfl (pc' := 183) ?_
  refine g_ic_ge rfl (pc' := 186) (pt := 213) rfl rfl ⟨fun hc => ?_, fun hc => ?_⟩
  · have H := H.1 hc
    exact g_weak (show gm_Lle [some _, some _, some _, some _, none, none, some _, some _, some _, none, none, none, none, none, some _] _ from ⟨rfl, ⟨rfl, ⟨rfl, ⟨rfl, ⟨rfl, ⟨rfl, ⟨rfl, ⟨rfl, trivial⟩⟩⟩⟩⟩⟩⟩⟩) H
  · have H := H.2 hc
    refine g_aload (r := some _) rfl rfl rfl (pc' := 187) ?_
    refine t_get (o := 57) rfl hT rfl rfl rfl (pc' := 190) rfl ?_
    refine g_iconst rfl rfl rfl (pc' := 192) ?_
    refine g_iload rfl rfl rfl (pc' := 194) ?_
    refine g_imul rfl rfl (pc' := 195) ?_
    refine g_iload rfl rfl rfl (pc' := 197) ?_
    refine g_iadd rfl rfl (pc' := 198) ?_
    refine g_aload (r := some _) rfl rfl rfl (pc' := 200) ?_
    refine g_iload rfl rfl rfl (pc' := 202) ?_
    refine g_iload rfl rfl rfl (pc' := 204) ?_
    refine g_iadd rfl rfl (pc' := 205) ?_
    obtain ⟨ht2, H⟩ := H
    obtain ⟨n1, hn1, H⟩ := H
    refine g_baload rfl ht2 hn1 (pc' := 206) rfl ?_
    obtain ⟨n3, hn3, H⟩ := H
    refine t_bastore hT (o := 57) (l := 36864) rfl rfl rfl hn3  (pc' := 207) rfl (fun hT => ?_)
    have H := H _ rfl
    refine g_iinc (c := (Int32.ofNat 1)) rfl rfl rfl rfl rfl (pc' := 210) ?_
    refine g_goto rfl (pc' := 179) rfl ?_
    exact g_weak (show gm_Lle [some _, some _, some _, some _, none, none, some _, some _, some _, some _, some _, some _, none, some _, some _, some _] _ from ⟨rfl, ⟨rfl, ⟨rfl, ⟨rfl, ⟨rfl, ⟨rfl, ⟨rfl, ⟨rfl, ⟨rfl, ⟨rfl, ⟨rfl, ⟨rfl, ⟨rfl, trivial⟩⟩⟩⟩⟩⟩⟩⟩⟩⟩⟩⟩⟩) H
theorem w_437_213 {m : Nat} {x1 : Int32} {x2 : Int32} {x3 : Int32} {b6 : Nat} {x7 : Int32} {x8 : Int32} {x14 : Int32} {h : hh_T} {Q : Option Value ⊕ Nat → hh_T → Prop} (hT : tw_ok h m) (H : gm_G 88 0 [some (.ref m), some (.int x14), some (.int x3), some (.ref b6), some (.int x7), some (.int x8)] [] h (pV (fun h1 => gm_G 93 0 [some (.ref m), some (.int x14)] [] h1 (pV (fun h2 => gm_G 160 0 [some (.ref m), some (.int x1), some (.int x2), some (.int x3), some (.int (Int32.ofNat 1))] [] h2 (pV (fun h3 => Q (.inl none) h3) (fun _ _ => False))) (fun _ _ => False))) (fun _ _ => False))) : gm_G 437 213 [some (.ref m), some (.int x1), some (.int x2), some (.int x3), none, none, some (.ref b6), some (.int x7), some (.int x8), none, none, none, none, none, some (.int x14)] [] h Q := by
  refine g_aload (r := some _) rfl rfl rfl (pc' := 214) ?_
  refine g_iload rfl rfl rfl (pc' := 216) ?_
  refine g_iload rfl rfl rfl (pc' := 217) ?_
  refine g_aload (r := some _) rfl rfl rfl (pc' := 219) ?_
  refine g_iload rfl rfl rfl (pc' := 221) ?_
  refine g_iload rfl rfl rfl (pc' := 223) ?_
  refine t_call hT (y := 88) (n := 6) (pc' := 226) rfl rfl (t_vt hT rfl rfl) rfl rfl ⟨(Nat.le_of_ble_eq_true rfl), (Nat.le_of_ble_eq_true rfl), (Nat.le_of_ble_eq_true rfl)⟩ rfl H (tV_elim (fun h1 H hT => ?_))
  show gm_G _ 226 _ _ _ _
  refine g_aload (r := some _) rfl rfl rfl (pc' := 227) ?_
  refine g_iload rfl rfl rfl (pc' := 229) ?_
  refine t_call hT (y := 93) (n := 2) (pc' := 232) rfl rfl (t_vt hT rfl rfl) rfl rfl ⟨(Nat.le_of_ble_eq_true rfl), (Nat.le_of_ble_eq_true rfl), (Nat.le_of_ble_eq_true rfl)⟩ rfl H (tV_elim (fun h2 H hT => ?_))
  show gm_G _ 232 _ _ _ _
  refine g_aload (r := some _) rfl rfl rfl (pc' := 233) ?_
  refine g_iload rfl rfl rfl (pc' := 234) ?_
  refine g_iload rfl rfl rfl (pc' := 235) ?_
  refine g_iload rfl rfl rfl (pc' := 236) ?_
  refine g_iconst rfl rfl rfl (pc' := 237) ?_
  refine t_call hT (y := 160) (n := 5) (pc' := 240) rfl rfl (t_vt hT rfl rfl) rfl rfl ⟨(Nat.le_of_ble_eq_true rfl), (Nat.le_of_ble_eq_true rfl), (Nat.le_of_ble_eq_true rfl)⟩ rfl H (tV_elim (fun h3 H hT => ?_))
  show gm_G _ 240 _ _ _ _
  exact g_return rfl H
theorem w_438_0 {m : Nat} {x1 : Int32} {x2 : Int32} {x3 : Int32} {x4 : Int32} {b5 : Nat} {x6 : Int32} {x7 : Int32} {h : hh_T} {Q : Option Value ⊕ Nat → hh_T → Prop} (hT : tw_ok h m) (H : gm_G 420 0 [some (.ref m), some (.int x1)] [] h (pI (fun v2 h1 => ∃ n3, gm_ix (((Int32.ofNat 8) * (((Int32.ofNat 16) * v2) + x2)) + x3) n3 12288 ∧ (gm_G 364 0 [some (.ref m), some (.int x1), some (.int (Int32.ofNat 4)), some (.int x2), some (.int (hh_i h1 (m + 53) n3)), some (.int x4), some (.int (Int32.ofNat 0)), some (.int (Int32.ofNat 0))] [] h1 (pV (fun h4 => ∃ n5, gm_ix (((Int32.ofNat 8) * (((Int32.ofNat 16) * v2) + x2)) + x3) n5 12288 ∧ (gm_G 139 0 [some (.ref m), some (.ref (m + 56)), some (.int ((Int32.ofNat 8) * (((Int32.ofNat 8) * (((Int32.ofNat 16) * v2) + x2)) + x3))), some (.int (hh_i h4 (m + 54) n5)), some (.int (Int32.ofNat 0))] [] h4 (pV (fun h6 => gm_G 139 0 [some (.ref m), some (.ref b5), some (.int x6), some (.int x7), some (.int (Int32.ofNat 1))] [] h6 (pV (fun h7 => gm_G 102 0 [some (.ref m), some (.int (((Int32.ofNat 16) * v2) + x2)), some (.int x3)] [] h7 (pV (fun h8 => gm_G 88 0 [some (.ref m), some (.int (((Int32.ofNat 16) * v2) + x4)), some (.int (hh_i h1 (m + 53) n3)), some (.ref b5), some (.int x6), some (.int x7)] [] h8 (pV (fun h9 => gm_G 93 0 [some (.ref m), some (.int (((Int32.ofNat 16) * v2) + x2))] [] h9 (pV (fun h10 => gm_G 93 0 [some (.ref m), some (.int (((Int32.ofNat 16) * v2) + x4))] [] h10 (pV (fun h11 => gm_G 93 0 [some (.ref m), some (.int (((Int32.ofNat 16) * v2) + (hh_i h1 (m + 53) n3)))] [] h11 (pV (fun h12 => ∃ n13, gm_ix (((Int32.ofNat 16) * v2) + (hh_i h1 (m + 53) n3)) n13 1536 ∧ ((¬ (hh_i h12 (m + 40) n13) = (Int32.ofNat 2) → (gm_G 438 174 [some (.ref m), some (.int x1), some (.int x2), none, some (.int x4), none, none, none, none, none, some (.int (hh_i h1 (m + 53) n3))] [] h12 Q)) ∧ ((hh_i h12 (m + 40) n13) = (Int32.ofNat 2) → (∃ n14, gm_ix (((Int32.ofNat 16) * v2) + (hh_i h1 (m + 53) n3)) n14 1536 ∧ (∀ h15, h15 = hh_wi h12 (m + 48) n14 x4 → (gm_G 438 174 [some (.ref m), some (.int x1), some (.int x2), none, some (.int x4), none, none, none, none, none, some (.int (hh_i h1 (m + 53) n3))] [] h15 Q)))))) (fun _ _ => False))) (fun _ _ => False))) (fun _ _ => False))) (fun _ _ => False))) (fun _ _ => False))) (fun _ _ => False))) (fun _ _ => False)))) (fun _ _ => False)))) (fun _ _ => False))) : gm_G 438 0 [some (.ref m), some (.int x1), some (.int x2), some (.int x3), some (.int x4), some (.ref b5), some (.int x6), some (.int x7)] [] h Q := by
  refine g_aload (r := some _) rfl rfl rfl (pc' := 1) ?_
  refine g_iload rfl rfl rfl (pc' := 2) ?_
  refine t_call hT (y := 420) (n := 2) (pc' := 5) rfl rfl (t_vt hT rfl rfl) rfl rfl ⟨(Nat.le_of_ble_eq_true rfl), (Nat.le_of_ble_eq_true rfl), (Nat.le_of_ble_eq_true rfl)⟩ rfl H (tI_elim (fun v2 h1 H hT => ?_))
  show gm_G _ 5 _ _ _ _
  refine g_istore rfl rfl rfl (pc' := 7) ?_
  refine g_iconst rfl rfl rfl (pc' := 9) ?_
  refine g_iload rfl rfl rfl (pc' := 11) ?_
  refine g_imul rfl rfl (pc' := 12) ?_
  refine g_iload rfl rfl rfl (pc' := 13) ?_
  refine g_iadd rfl rfl (pc' := 14) ?_
  refine g_istore rfl rfl rfl (pc' := 16) ?_
  refine g_aload (r := some _) rfl rfl rfl (pc' := 17) ?_
  refine t_get (o := 53) rfl hT rfl rfl rfl (pc' := 20) rfl ?_
  refine g_iconst rfl rfl rfl (pc' := 22) ?_
  refine g_iload rfl rfl rfl (pc' := 24) ?_
  refine g_imul rfl rfl (pc' := 25) ?_
  refine g_iload rfl rfl rfl (pc' := 26) ?_
  refine g_iadd rfl rfl (pc' := 27) ?_
  obtain ⟨n3, hn3, H⟩ := H
  refine t_iaload hT (o := 53) (l := 12288) rfl rfl rfl hn3 (pc' := 28) rfl ?_
  refine g_istore rfl rfl rfl (pc' := 30) ?_
  refine g_aload (r := some _) rfl rfl rfl (pc' := 31) ?_
  refine g_iload rfl rfl rfl (pc' := 32) ?_
  refine g_iconst rfl rfl rfl (pc' := 33) ?_
  refine g_iload rfl rfl rfl (pc' := 34) ?_
  refine g_iload rfl rfl rfl (pc' := 36) ?_
  refine g_iload rfl rfl rfl (pc' := 38) ?_
  refine g_iconst rfl rfl rfl (pc' := 39) ?_
  refine g_iconst rfl rfl rfl (pc' := 40) ?_
  refine t_call hT (y := 364) (n := 8) (pc' := 43) rfl rfl (t_vt hT rfl rfl) rfl rfl ⟨(Nat.le_of_ble_eq_true rfl), (Nat.le_of_ble_eq_true rfl), (Nat.le_of_ble_eq_true rfl)⟩ rfl H (tV_elim (fun h4 H hT => ?_))
  show gm_G _ 43 _ _ _ _
  refine g_aload (r := some _) rfl rfl rfl (pc' := 44) ?_
  refine g_aload (r := some _) rfl rfl rfl (pc' := 45) ?_
  refine t_get (o := 56) rfl hT rfl rfl rfl (pc' := 48) rfl ?_
  refine g_iconst rfl rfl rfl (pc' := 50) ?_
  refine g_iconst rfl rfl rfl (pc' := 52) ?_
  refine g_iload rfl rfl rfl (pc' := 54) ?_
  refine g_imul rfl rfl (pc' := 55) ?_
  refine g_iload rfl rfl rfl (pc' := 56) ?_
  refine g_iadd rfl rfl (pc' := 57) ?_
  refine g_imul rfl rfl (pc' := 58) ?_
  refine g_aload (r := some _) rfl rfl rfl (pc' := 59) ?_
  refine t_get (o := 54) rfl hT rfl rfl rfl (pc' := 62) rfl ?_
  refine g_iconst rfl rfl rfl (pc' := 64) ?_
  refine g_iload rfl rfl rfl (pc' := 66) ?_
  refine g_imul rfl rfl (pc' := 67) ?_
  refine g_iload rfl rfl rfl (pc' := 68) ?_
  refine g_iadd rfl rfl (pc' := 69) ?_
  obtain ⟨n5, hn5, H⟩ := H
  refine t_iaload hT (o := 54) (l := 12288) rfl rfl rfl hn5 (pc' := 70) rfl ?_
  refine g_iconst rfl rfl rfl (pc' := 71) ?_
  refine t_call hT (y := 139) (n := 5) (pc' := 74) rfl rfl (t_vt hT rfl rfl) rfl rfl ⟨(Nat.le_of_ble_eq_true rfl), (Nat.le_of_ble_eq_true rfl), (Nat.le_of_ble_eq_true rfl)⟩ rfl H (tV_elim (fun h6 H hT => ?_))
  show gm_G _ 74 _ _ _ _
  refine g_aload (r := some _) rfl rfl rfl (pc' := 75) ?_
  refine g_aload (r := some _) rfl rfl rfl (pc' := 77) ?_
  refine g_iload rfl rfl rfl (pc' := 79) ?_
  refine g_iload rfl rfl rfl (pc' := 81) ?_
  refine g_iconst rfl rfl rfl (pc' := 82) ?_
  refine t_call hT (y := 139) (n := 5) (pc' := 85) rfl rfl (t_vt hT rfl rfl) rfl rfl ⟨(Nat.le_of_ble_eq_true rfl), (Nat.le_of_ble_eq_true rfl), (Nat.le_of_ble_eq_true rfl)⟩ rfl H (tV_elim (fun h7 H hT => ?_))
  show gm_G _ 85 _ _ _ _
  refine g_aload (r := some _) rfl rfl rfl (pc' := 86) ?_
  refine g_iload rfl rfl rfl (pc' := 88) ?_
  refine g_iload rfl rfl rfl (pc' := 89) ?_
  refine t_call hT (y := 102) (n := 3) (pc' := 92) rfl rfl (t_vt hT rfl rfl) rfl rfl ⟨(Nat.le_of_ble_eq_true rfl), (Nat.le_of_ble_eq_true rfl), (Nat.le_of_ble_eq_true rfl)⟩ rfl H (tV_elim (fun h8 H hT => ?_))
  show gm_G _ 92 _ _ _ _
  refine g_aload (r := some _) rfl rfl rfl (pc' := 93) ?_
  refine g_iconst rfl rfl rfl (pc' := 95) ?_
  refine g_iload rfl rfl rfl (pc' := 97) ?_
  refine g_imul rfl rfl (pc' := 98) ?_
  refine g_iload rfl rfl rfl (pc' := 100) ?_
  refine g_iadd rfl rfl (pc' := 101) ?_
  refine g_iload rfl rfl rfl (pc' := 103) ?_
  refine g_aload (r := some _) rfl rfl rfl (pc' := 105) ?_
  refine g_iload rfl rfl rfl (pc' := 107) ?_
  refine g_iload rfl rfl rfl (pc' := 109) ?_
  refine t_call hT (y := 88) (n := 6) (pc' := 112) rfl rfl (t_vt hT rfl rfl) rfl rfl ⟨(Nat.le_of_ble_eq_true rfl), (Nat.le_of_ble_eq_true rfl), (Nat.le_of_ble_eq_true rfl)⟩ rfl H (tV_elim (fun h9 H hT => ?_))
  show gm_G _ 112 _ _ _ _
  refine g_aload (r := some _) rfl rfl rfl (pc' := 113) ?_
  refine g_iload rfl rfl rfl (pc' := 115) ?_
  refine t_call hT (y := 93) (n := 2) (pc' := 118) rfl rfl (t_vt hT rfl rfl) rfl rfl ⟨(Nat.le_of_ble_eq_true rfl), (Nat.le_of_ble_eq_true rfl), (Nat.le_of_ble_eq_true rfl)⟩ rfl H (tV_elim (fun h10 H hT => ?_))
  show gm_G _ 118 _ _ _ _
  refine g_aload (r := some _) rfl rfl rfl (pc' := 119) ?_
  refine g_iconst rfl rfl rfl (pc' := 121) ?_
  refine g_iload rfl rfl rfl (pc' := 123) ?_
  refine g_imul rfl rfl (pc' := 124) ?_
  refine g_iload rfl rfl rfl (pc' := 126) ?_
  refine g_iadd rfl rfl (pc' := 127) ?_
  refine t_call hT (y := 93) (n := 2) (pc' := 130) rfl rfl (t_vt hT rfl rfl) rfl rfl ⟨(Nat.le_of_ble_eq_true rfl), (Nat.le_of_ble_eq_true rfl), (Nat.le_of_ble_eq_true rfl)⟩ rfl H (tV_elim (fun h11 H hT => ?_))
  show gm_G _ 130 _ _ _ _
  refine g_aload (r := some _) rfl rfl rfl (pc' := 131) ?_
  refine g_iconst rfl rfl rfl (pc' := 133) ?_
  refine g_iload rfl rfl rfl (pc' := 135) ?_
  refine g_imul rfl rfl (pc' := 136) ?_
  refine g_iload rfl rfl rfl (pc' := 138) ?_
  refine g_iadd rfl rfl (pc' := 139) ?_
  refine t_call hT (y := 93) (n := 2) (pc' := 142) rfl rfl (t_vt hT rfl rfl) rfl rfl ⟨(Nat.le_of_ble_eq_true rfl), (Nat.le_of_ble_eq_true rfl), (Nat.le_of_ble_eq_true rfl)⟩ rfl H (tV_elim (fun h12 H hT => ?_))
  show gm_G _ 142 _ _ _ _
  refine g_aload (r := some _) rfl rfl rfl (pc' := 143) ?_
  refine t_get (o := 40) rfl hT rfl rfl rfl (pc' := 146) rfl ?_
  refine g_iconst rfl rfl rfl (pc' := 148) ?_
  refine g_iload rfl rfl rfl (pc' := 150) ?_
  refine g_imul rfl rfl (pc' := 151) ?_
  refine g_iload rfl rfl rfl (pc' := 153) ?_
  refine g_iadd rfl rfl (pc' := 154) ?_
  obtain ⟨n13, hn13, H⟩ := H
  refine t_iaload hT (o := 40) (l := 1536) rfl rfl rfl hn13 (pc' := 155) rfl ?_
  refine g_iconst rfl rfl rfl (pc' := 156) ?_
  refine g_ic_ne rfl (pc' := 159) (pt := 174) rfl rfl ⟨fun hc => ?_, fun hc => ?_⟩
  · have H := H.1 hc
    exact g_weak (show gm_Lle [some _, some _, some _, none, some _, none, none, none, none, none, some _] _ from ⟨rfl, ⟨rfl, ⟨rfl, ⟨rfl, ⟨rfl, trivial⟩⟩⟩⟩⟩) H
  · have H := H.2 hc
    refine g_aload (r := some _) rfl rfl rfl (pc' := 160) ?_
    refine t_get (o := 48) rfl hT rfl rfl rfl (pc' := 163) rfl ?_
    refine g_iconst rfl rfl rfl (pc' := 165) ?_
    refine g_iload rfl rfl rfl (pc' := 167) ?_
    refine g_imul rfl rfl (pc' := 168) ?_
    refine g_iload rfl rfl rfl (pc' := 170) ?_
    refine g_iadd rfl rfl (pc' := 171) ?_
    refine g_iload rfl rfl rfl (pc' := 173) ?_
    obtain ⟨n14, hn14, H⟩ := H
    refine t_iastore hT (o := 48) (l := 1536) rfl rfl rfl hn14  (pc' := 174) rfl (fun hT => ?_)
    have H := H _ rfl
    exact g_weak (show gm_Lle [some _, some _, some _, none, some _, none, none, none, none, none, some _] _ from ⟨rfl, ⟨rfl, ⟨rfl, ⟨rfl, ⟨rfl, trivial⟩⟩⟩⟩⟩) H
theorem w_438_174 {m : Nat} {x1 : Int32} {x2 : Int32} {x4 : Int32} {x10 : Int32} {h : hh_T} {Q : Option Value ⊕ Nat → hh_T → Prop} (hT : tw_ok h m) (H : gm_G 160 0 [some (.ref m), some (.int x1), some (.int x2), some (.int x10), some (.int (Int32.ofNat 3))] [] h (pV (fun h1 => gm_G 160 0 [some (.ref m), some (.int x1), some (.int x4), some (.int x10), some (.int (Int32.ofNat 4))] [] h1 (pV (fun h2 => Q (.inl none) h2) (fun _ _ => False))) (fun _ _ => False))) : gm_G 438 174 [some (.ref m), some (.int x1), some (.int x2), none, some (.int x4), none, none, none, none, none, some (.int x10)] [] h Q := by
  refine g_aload (r := some _) rfl rfl rfl (pc' := 175) ?_
  refine g_iload rfl rfl rfl (pc' := 176) ?_
  refine g_iload rfl rfl rfl (pc' := 177) ?_
  refine g_iload rfl rfl rfl (pc' := 179) ?_
  refine g_iconst rfl rfl rfl (pc' := 180) ?_
  refine t_call hT (y := 160) (n := 5) (pc' := 183) rfl rfl (t_vt hT rfl rfl) rfl rfl ⟨(Nat.le_of_ble_eq_true rfl), (Nat.le_of_ble_eq_true rfl), (Nat.le_of_ble_eq_true rfl)⟩ rfl H (tV_elim (fun h1 H hT => ?_))
  show gm_G _ 183 _ _ _ _
  refine g_aload (r := some _) rfl rfl rfl (pc' := 184) ?_
  refine g_iload rfl rfl rfl (pc' := 185) ?_
  refine g_iload rfl rfl rfl (pc' := 187) ?_
  refine g_iload rfl rfl rfl (pc' := 189) ?_
  refine g_iconst rfl rfl rfl (pc' := 190) ?_
  refine t_call hT (y := 160) (n := 5) (pc' := 193) rfl rfl (t_vt hT rfl rfl) rfl rfl ⟨(Nat.le_of_ble_eq_true rfl), (Nat.le_of_ble_eq_true rfl), (Nat.le_of_ble_eq_true rfl)⟩ rfl H (tV_elim (fun h2 H hT => ?_))
  show gm_G _ 193 _ _ _ _
  exact g_return rfl H
theorem w_439_0 {m : Nat} {x1 : Int32} {x2 : Int32} {x3 : Int32} {h : hh_T} {Q : Option Value ⊕ Nat → hh_T → Prop} (hT : tw_ok h m) (H : gm_G 420 0 [some (.ref m), some (.int x1)] [] h (pI (fun v2 h1 => ∃ n3, gm_ix (((Int32.ofNat 8) * (((Int32.ofNat 16) * v2) + x2)) + x3) n3 12288 ∧ (gm_G 364 0 [some (.ref m), some (.int x1), some (.int (Int32.ofNat 3)), some (.int x2), some (.int (hh_i h1 (m + 53) n3)), some (.int (Int32.ofNat 0)), some (.int (Int32.ofNat 0)), some (.int (Int32.ofNat 0))] [] h1 (pV (fun h4 => ∃ n5, gm_ix (((Int32.ofNat 8) * (((Int32.ofNat 16) * v2) + x2)) + x3) n5 12288 ∧ (gm_G 139 0 [some (.ref m), some (.ref (m + 56)), some (.int ((Int32.ofNat 8) * (((Int32.ofNat 8) * (((Int32.ofNat 16) * v2) + x2)) + x3))), some (.int (hh_i h4 (m + 54) n5)), some (.int (Int32.ofNat 0))] [] h4 (pV (fun h6 => gm_G 102 0 [some (.ref m), some (.int (((Int32.ofNat 16) * v2) + x2)), some (.int x3)] [] h6 (pV (fun h7 => gm_G 93 0 [some (.ref m), some (.int (((Int32.ofNat 16) * v2) + x2))] [] h7 (pV (fun h8 => ∃ n9, gm_ix (((Int32.ofNat 16) * v2) + (hh_i h1 (m + 53) n3)) n9 1536 ∧ (∃ n10, gm_ix (((Int32.ofNat 16) * v2) + (hh_i h1 (m + 53) n3)) n10 1536 ∧ (∀ h11, h11 = hh_wi h8 (m + 44) n10 ((hh_i h8 (m + 44) n9) - (Int32.ofNat 1)) → (gm_G 160 0 [some (.ref m), some (.int x1), some (.int x2), some (.int (hh_i h1 (m + 53) n3)), some (.int (Int32.ofNat 2))] [] h11 (pV (fun h12 => ∃ n13, gm_ix (((Int32.ofNat 16) * v2) + (hh_i h1 (m + 53) n3)) n13 1536 ∧ ((¬ Int32.ofNat 0 < (hh_i h12 (m + 44) n13) → (∃ n14, gm_ix (((Int32.ofNat 16) * v2) + (hh_i h1 (m + 53) n3)) n14 1536 ∧ ((¬ (hh_i h12 (m + 40) n14) = (Int32.ofNat 2) → (gm_G 439 207 [some (.ref m), none, none, none, none, none, none, some (.int (((Int32.ofNat 16) * v2) + (hh_i h1 (m + 53) n3)))] [] h12 Q)) ∧ ((hh_i h12 (m + 40) n14) = (Int32.ofNat 2) → (gm_G 439 149 [some (.ref m), some (.int x1), none, none, none, none, some (.int (hh_i h1 (m + 53) n3)), some (.int (((Int32.ofNat 16) * v2) + (hh_i h1 (m + 53) n3))), some (.int (Int32.ofNat 0))] [] h12 Q))))) ∧ (Int32.ofNat 0 < (hh_i h12 (m + 44) n13) → (gm_G 93 0 [some (.ref m), some (.int (((Int32.ofNat 16) * v2) + (hh_i h1 (m + 53) n3)))] [] h12 (pV (fun h15 => Q (.inl none) h15) (fun _ _ => False)))))) (fun _ _ => False)))))) (fun _ _ => False))) (fun _ _ => False))) (fun _ _ => False)))) (fun _ _ => False)))) (fun _ _ => False))) : gm_G 439 0 [some (.ref m), some (.int x1), some (.int x2), some (.int x3)] [] h Q := by
  refine g_aload (r := some _) rfl rfl rfl (pc' := 1) ?_
  refine g_iload rfl rfl rfl (pc' := 2) ?_
  refine t_call hT (y := 420) (n := 2) (pc' := 5) rfl rfl (t_vt hT rfl rfl) rfl rfl ⟨(Nat.le_of_ble_eq_true rfl), (Nat.le_of_ble_eq_true rfl), (Nat.le_of_ble_eq_true rfl)⟩ rfl H (tI_elim (fun v2 h1 H hT => ?_))
  show gm_G _ 5 _ _ _ _
  refine g_istore rfl rfl rfl (pc' := 7) ?_
  refine g_iconst rfl rfl rfl (pc' := 9) ?_
  refine g_iload rfl rfl rfl (pc' := 11) ?_
  refine g_imul rfl rfl (pc' := 12) ?_
  refine g_iload rfl rfl rfl (pc' := 13) ?_
  refine g_iadd rfl rfl (pc' := 14) ?_
  refine g_istore rfl rfl rfl (pc' := 16) ?_
  refine g_aload (r := some _) rfl rfl rfl (pc' := 17) ?_
  refine t_get (o := 53) rfl hT rfl rfl rfl (pc' := 20) rfl ?_
  refine g_iconst rfl rfl rfl (pc' := 22) ?_
  refine g_iload rfl rfl rfl (pc' := 24) ?_
  refine g_imul rfl rfl (pc' := 25) ?_
  refine g_iload rfl rfl rfl (pc' := 26) ?_
  refine g_iadd rfl rfl (pc' := 27) ?_
  obtain ⟨n3, hn3, H⟩ := H
  refine t_iaload hT (o := 53) (l := 12288) rfl rfl rfl hn3 (pc' := 28) rfl ?_
  refine g_istore rfl rfl rfl (pc' := 30) ?_
  refine g_iconst rfl rfl rfl (pc' := 32) ?_
  refine g_iload rfl rfl rfl (pc' := 34) ?_
  refine g_imul rfl rfl (pc' := 35) ?_
  refine g_iload rfl rfl rfl (pc' := 37) ?_
  refine g_iadd rfl rfl (pc' := 38) ?_
  refine g_istore rfl rfl rfl (pc' := 40) ?_
  refine g_aload (r := some _) rfl rfl rfl (pc' := 41) ?_
  refine g_iload rfl rfl rfl (pc' := 42) ?_
  refine g_iconst rfl rfl rfl (pc' := 43) ?_
  refine g_iload rfl rfl rfl (pc' := 44) ?_
  refine g_iload rfl rfl rfl (pc' := 46) ?_
  refine g_iconst rfl rfl rfl (pc' := 47) ?_
  refine g_iconst rfl rfl rfl (pc' := 48) ?_
  refine g_iconst rfl rfl rfl (pc' := 49) ?_
  refine t_call hT (y := 364) (n := 8) (pc' := 52) rfl rfl (t_vt hT rfl rfl) rfl rfl ⟨(Nat.le_of_ble_eq_true rfl), (Nat.le_of_ble_eq_true rfl), (Nat.le_of_ble_eq_true rfl)⟩ rfl H (tV_elim (fun h4 H hT => ?_))
  show gm_G _ 52 _ _ _ _
  refine g_aload (r := some _) rfl rfl rfl (pc' := 53) ?_
  refine g_aload (r := some _) rfl rfl rfl (pc' := 54) ?_
  refine t_get (o := 56) rfl hT rfl rfl rfl (pc' := 57) rfl ?_
  refine g_iconst rfl rfl rfl (pc' := 59) ?_
  refine g_iconst rfl rfl rfl (pc' := 61) ?_
  refine g_iload rfl rfl rfl (pc' := 63) ?_
  refine g_imul rfl rfl (pc' := 64) ?_
  refine g_iload rfl rfl rfl (pc' := 65) ?_
  refine g_iadd rfl rfl (pc' := 66) ?_
  refine g_imul rfl rfl (pc' := 67) ?_
  refine g_aload (r := some _) rfl rfl rfl (pc' := 68) ?_
  refine t_get (o := 54) rfl hT rfl rfl rfl (pc' := 71) rfl ?_
  refine g_iconst rfl rfl rfl (pc' := 73) ?_
  refine g_iload rfl rfl rfl (pc' := 75) ?_
  refine g_imul rfl rfl (pc' := 76) ?_
  refine g_iload rfl rfl rfl (pc' := 77) ?_
  refine g_iadd rfl rfl (pc' := 78) ?_
  obtain ⟨n5, hn5, H⟩ := H
  refine t_iaload hT (o := 54) (l := 12288) rfl rfl rfl hn5 (pc' := 79) rfl ?_
  refine g_iconst rfl rfl rfl (pc' := 80) ?_
  refine t_call hT (y := 139) (n := 5) (pc' := 83) rfl rfl (t_vt hT rfl rfl) rfl rfl ⟨(Nat.le_of_ble_eq_true rfl), (Nat.le_of_ble_eq_true rfl), (Nat.le_of_ble_eq_true rfl)⟩ rfl H (tV_elim (fun h6 H hT => ?_))
  show gm_G _ 83 _ _ _ _
  refine g_aload (r := some _) rfl rfl rfl (pc' := 84) ?_
  refine g_iload rfl rfl rfl (pc' := 86) ?_
  refine g_iload rfl rfl rfl (pc' := 87) ?_
  refine t_call hT (y := 102) (n := 3) (pc' := 90) rfl rfl (t_vt hT rfl rfl) rfl rfl ⟨(Nat.le_of_ble_eq_true rfl), (Nat.le_of_ble_eq_true rfl), (Nat.le_of_ble_eq_true rfl)⟩ rfl H (tV_elim (fun h7 H hT => ?_))
  show gm_G _ 90 _ _ _ _
  refine g_aload (r := some _) rfl rfl rfl (pc' := 91) ?_
  refine g_iload rfl rfl rfl (pc' := 93) ?_
  refine t_call hT (y := 93) (n := 2) (pc' := 96) rfl rfl (t_vt hT rfl rfl) rfl rfl ⟨(Nat.le_of_ble_eq_true rfl), (Nat.le_of_ble_eq_true rfl), (Nat.le_of_ble_eq_true rfl)⟩ rfl H (tV_elim (fun h8 H hT => ?_))
  show gm_G _ 96 _ _ _ _
  refine g_aload (r := some _) rfl rfl rfl (pc' := 97) ?_
  refine t_get (o := 44) rfl hT rfl rfl rfl (pc' := 100) rfl ?_
  refine g_iload rfl rfl rfl (pc' := 102) ?_
  refine g_dup2_a rfl (pc' := 103) rfl ?_
  obtain ⟨n9, hn9, H⟩ := H
  refine t_iaload hT (o := 44) (l := 1536) rfl rfl rfl hn9 (pc' := 104) rfl ?_
  refine g_iconst rfl rfl rfl (pc' := 105) ?_
  refine g_isub rfl rfl (pc' := 106) ?_
  obtain ⟨n10, hn10, H⟩ := H
  refine t_iastore hT (o := 44) (l := 1536) rfl rfl rfl hn10  (pc' := 107) rfl (fun hT => ?_)
  have H := H _ rfl
  refine g_aload (r := some _) rfl rfl rfl (pc' := 108) ?_
  refine g_iload rfl rfl rfl (pc' := 109) ?_
  refine g_iload rfl rfl rfl (pc' := 110) ?_
  refine g_iload rfl rfl rfl (pc' := 112) ?_
  refine g_iconst rfl rfl rfl (pc' := 113) ?_
  refine t_call hT (y := 160) (n := 5) (pc' := 116) rfl rfl (t_vt hT rfl rfl) rfl rfl ⟨(Nat.le_of_ble_eq_true rfl), (Nat.le_of_ble_eq_true rfl), (Nat.le_of_ble_eq_true rfl)⟩ rfl H (tV_elim (fun h12 H hT => ?_))
  show gm_G _ 116 _ _ _ _
  refine g_aload (r := some _) rfl rfl rfl (pc' := 117) ?_
  refine t_get (o := 44) rfl hT rfl rfl rfl (pc' := 120) rfl ?_
  refine g_iload rfl rfl rfl (pc' := 122) ?_
  obtain ⟨n13, hn13, H⟩ := H
  refine t_iaload hT (o := 44) (l := 1536) rfl rfl rfl hn13 (pc' := 123) rfl ?_
  refine g_if_le rfl (pc' := 126) (pt := 135) rfl rfl ⟨fun hc => ?_, fun hc => ?_⟩
  · have H := H.1 hc
    refine g_aload (r := some _) rfl rfl rfl (pc' := 136) ?_
    refine t_get (o := 40) rfl hT rfl rfl rfl (pc' := 139) rfl ?_
    refine g_iload rfl rfl rfl (pc' := 141) ?_
    obtain ⟨n14, hn14, H⟩ := H
    refine t_iaload hT (o := 40) (l := 1536) rfl rfl rfl hn14 (pc' := 142) rfl ?_
    refine g_iconst rfl rfl rfl (pc' := 143) ?_
    refine g_ic_ne rfl (pc' := 146) (pt := 207) rfl rfl ⟨fun hc => ?_, fun hc => ?_⟩
    · have H := H.1 hc
      exact g_weak (show gm_Lle [some _, none, none, none, none, none, none, some _] _ from ⟨rfl, ⟨rfl, trivial⟩⟩) H
    · have H := H.2 hc
      refine g_iconst rfl rfl rfl (pc' := 147) ?_
      refine g_istore rfl rfl rfl (pc' := 149) ?_
      exact g_weak (show gm_Lle [some _, some _, none, none, none, none, some _, some _, some _] _ from ⟨rfl, ⟨rfl, ⟨rfl, ⟨rfl, ⟨rfl, trivial⟩⟩⟩⟩⟩) H
  · have H := H.2 hc
    refine g_aload (r := some _) rfl rfl rfl (pc' := 127) ?_
    refine g_iload rfl rfl rfl (pc' := 129) ?_
    refine t_call hT (y := 93) (n := 2) (pc' := 132) rfl rfl (t_vt hT rfl rfl) rfl rfl ⟨(Nat.le_of_ble_eq_true rfl), (Nat.le_of_ble_eq_true rfl), (Nat.le_of_ble_eq_true rfl)⟩ rfl H (tV_elim (fun h15 H hT => ?_))
    show gm_G _ 132 _ _ _ _
    refine g_goto rfl (pc' := 213) rfl ?_
    exact g_return rfl H
theorem w_439_149 {m : Nat} {x1 : Int32} {x6 : Int32} {x7 : Int32} {x8 : Int32} {h : hh_T} {Q : Option Value ⊕ Nat → hh_T → Prop} (hT : tw_ok h m) (H : (¬ x8 < (Int32.ofNat 4) → (gm_G 439 207 [some (.ref m), none, none, none, none, none, none, some (.int x7)] [] h Q)) ∧ (x8 < (Int32.ofNat 4) → (∃ n1, gm_ix x8 n1 4 ∧ (((hh_i h (m + 97) n1) = Int32.ofNat 0 → (gm_G 439 201 [some (.ref m), some (.int x1), none, none, none, none, some (.int x6), some (.int x7), some (.int x8)] [] h Q)) ∧ (¬ (hh_i h (m + 97) n1) = Int32.ofNat 0 → (∃ n2, gm_ix x8 n2 4 ∧ (∃ n3, gm_ix x1 n3 32 ∧ ((¬ (hh_i h (m + 99) n2) = (hh_i h (m + 59) n3) → (gm_G 439 201 [some (.ref m), some (.int x1), none, none, none, none, some (.int x6), some (.int x7), some (.int x8)] [] h Q)) ∧ ((hh_i h (m + 99) n2) = (hh_i h (m + 59) n3) → (∃ n4, gm_ix x8 n4 4 ∧ ((¬ (hh_i h (m + 100) n4) = x6 → (gm_G 439 201 [some (.ref m), some (.int x1), none, none, none, none, some (.int x6), some (.int x7), some (.int x8)] [] h Q)) ∧ ((hh_i h (m + 100) n4) = x6 → (∃ n5, gm_ix x8 n5 4 ∧ (∀ h6, h6 = hh_wi h (m + 97) n5 (Int32.ofNat 0) → (gm_G 439 201 [some (.ref m), some (.int x1), none, none, none, none, some (.int x6), some (.int x7), some (.int x8)] [] h6 Q))))))))))))))) : gm_G 439 149 [some (.ref m), some (.int x1), none, none, none, none, some (.int x6), some (.int x7), some (.int x8)] [] h Q := by
  refine g_iload rfl rfl rfl (pc' := 151) ?_
  refine g_iconst rfl rfl rfl (pc' := 152) ?_
  refine g_ic_ge rfl (pc' := 155) (pt := 207) rfl rfl ⟨fun hc => ?_, fun hc => ?_⟩
  · have H := H.1 hc
    exact g_weak (show gm_Lle [some _, none, none, none, none, none, none, some _] _ from ⟨rfl, ⟨rfl, trivial⟩⟩) H
  · have H := H.2 hc
    refine g_aload (r := some _) rfl rfl rfl (pc' := 156) ?_
    refine t_get (o := 97) rfl hT rfl rfl rfl (pc' := 159) rfl ?_
    refine g_iload rfl rfl rfl (pc' := 161) ?_
    obtain ⟨n1, hn1, H⟩ := H
    refine t_zaload hT (o := 97) (l := 4) rfl rfl rfl hn1 (pc' := 162) rfl ?_
    refine g_if_eq rfl (pc' := 165) (pt := 201) rfl rfl ⟨fun hc => ?_, fun hc => ?_⟩
    · have H := H.1 hc
      exact g_weak (show gm_Lle [some _, some _, none, none, none, none, some _, some _, some _] _ from ⟨rfl, ⟨rfl, ⟨rfl, ⟨rfl, ⟨rfl, trivial⟩⟩⟩⟩⟩) H
    · have H := H.2 hc
      refine g_aload (r := some _) rfl rfl rfl (pc' := 166) ?_
      refine t_get (o := 99) rfl hT rfl rfl rfl (pc' := 169) rfl ?_
      refine g_iload rfl rfl rfl (pc' := 171) ?_
      obtain ⟨n2, hn2, H⟩ := H
      refine t_iaload hT (o := 99) (l := 4) rfl rfl rfl hn2 (pc' := 172) rfl ?_
      refine g_aload (r := some _) rfl rfl rfl (pc' := 173) ?_
      refine t_get (o := 59) rfl hT rfl rfl rfl (pc' := 176) rfl ?_
      refine g_iload rfl rfl rfl (pc' := 177) ?_
      obtain ⟨n3, hn3, H⟩ := H
      refine t_iaload hT (o := 59) (l := 32) rfl rfl rfl hn3 (pc' := 178) rfl ?_
      refine g_ic_ne rfl (pc' := 181) (pt := 201) rfl rfl ⟨fun hc => ?_, fun hc => ?_⟩
      · have H := H.1 hc
        exact g_weak (show gm_Lle [some _, some _, none, none, none, none, some _, some _, some _] _ from ⟨rfl, ⟨rfl, ⟨rfl, ⟨rfl, ⟨rfl, trivial⟩⟩⟩⟩⟩) H
      · have H := H.2 hc
        refine g_aload (r := some _) rfl rfl rfl (pc' := 182) ?_
        refine t_get (o := 100) rfl hT rfl rfl rfl (pc' := 185) rfl ?_
        refine g_iload rfl rfl rfl (pc' := 187) ?_
        obtain ⟨n4, hn4, H⟩ := H
        refine t_iaload hT (o := 100) (l := 4) rfl rfl rfl hn4 (pc' := 188) rfl ?_
        refine g_iload rfl rfl rfl (pc' := 190) ?_
        refine g_ic_ne rfl (pc' := 193) (pt := 201) rfl rfl ⟨fun hc => ?_, fun hc => ?_⟩
        · have H := H.1 hc
          exact g_weak (show gm_Lle [some _, some _, none, none, none, none, some _, some _, some _] _ from ⟨rfl, ⟨rfl, ⟨rfl, ⟨rfl, ⟨rfl, trivial⟩⟩⟩⟩⟩) H
        · have H := H.2 hc
          refine g_aload (r := some _) rfl rfl rfl (pc' := 194) ?_
          refine t_get (o := 97) rfl hT rfl rfl rfl (pc' := 197) rfl ?_
          refine g_iload rfl rfl rfl (pc' := 199) ?_
          refine g_iconst rfl rfl rfl (pc' := 200) ?_
          obtain ⟨n5, hn5, H⟩ := H
          refine t_zastore hT (o := 97) (l := 4) rfl rfl rfl hn5 (by decide) (pc' := 201) rfl (fun hT => ?_)
          have H := H _ rfl
          exact g_weak (show gm_Lle [some _, some _, none, none, none, none, some _, some _, some _] _ from ⟨rfl, ⟨rfl, ⟨rfl, ⟨rfl, ⟨rfl, trivial⟩⟩⟩⟩⟩) H
theorem w_439_201 {m : Nat} {x1 : Int32} {x6 : Int32} {x7 : Int32} {x8 : Int32} {h : hh_T} {Q : Option Value ⊕ Nat → hh_T → Prop} (hT : tw_ok h m) (H : gm_G 439 149 [some (.ref m), some (.int x1), none, none, none, none, some (.int x6), some (.int x7), some (.int (x8 + (Int32.ofNat 1)))] [] h Q) : gm_G 439 201 [some (.ref m), some (.int x1), none, none, none, none, some (.int x6), some (.int x7), some (.int x8)] [] h Q := by
  refine g_iinc (c := (Int32.ofNat 1)) rfl rfl rfl rfl rfl (pc' := 204) ?_
  refine g_goto rfl (pc' := 149) rfl ?_
  exact g_weak (show gm_Lle [some _, some _, none, none, none, none, some _, some _, some _] _ from ⟨rfl, ⟨rfl, ⟨rfl, ⟨rfl, ⟨rfl, trivial⟩⟩⟩⟩⟩) H
theorem w_439_207 {m : Nat} {x7 : Int32} {h : hh_T} {Q : Option Value ⊕ Nat → hh_T → Prop} (hT : tw_ok h m) (H : gm_G 95 0 [some (.ref m), some (.int x7)] [] h (pV (fun h1 => Q (.inl none) h1) (fun _ _ => False))) : gm_G 439 207 [some (.ref m), none, none, none, none, none, none, some (.int x7)] [] h Q := by
  refine g_aload (r := some _) rfl rfl rfl (pc' := 208) ?_
  refine g_iload rfl rfl rfl (pc' := 210) ?_
  refine t_call hT (y := 95) (n := 2) (pc' := 213) rfl rfl (t_vt hT rfl rfl) rfl rfl ⟨(Nat.le_of_ble_eq_true rfl), (Nat.le_of_ble_eq_true rfl), (Nat.le_of_ble_eq_true rfl)⟩ rfl H (tV_elim (fun h1 H hT => ?_))
  show gm_G _ 213 _ _ _ _
  exact g_return rfl H
theorem w_440_0 {m : Nat}  {h : hh_T} {Q : Option Value ⊕ Nat → hh_T → Prop} (hT : tw_ok h m) (H : gm_G 108 0 [some (.ref m)] [] h (pI (fun v2 h1 => (v2 = Int32.ofNat 0 → (gm_G 165 0 [some (.ref m)] [] h1 (pV (fun h3 => gm_G 440 22 [some (.ref m), some (.int (Int32.ofNat 1)), some (.int (Int32.ofNat 1))] [] h3 Q) (fun _ _ => False)))) ∧ (¬ v2 = Int32.ofNat 0 → (gm_G 109 0 [some (.ref m)] [] h1 (pV (fun h4 => Q (.inl (some (.int (Int32.ofInt (-12))))) h4) (fun _ _ => False))))) (fun _ _ => False))) : gm_G 440 0 [some (.ref m)] [] h Q := by
  refine g_aload (r := some _) rfl rfl rfl (pc' := 1) ?_
  refine t_call hT (y := 108) (n := 1) (pc' := 4) rfl rfl (t_vt hT rfl rfl) rfl rfl ⟨(Nat.le_of_ble_eq_true rfl), (Nat.le_of_ble_eq_true rfl), (Nat.le_of_ble_eq_true rfl)⟩ rfl H (tI_elim (fun v2 h1 H hT => ?_))
  show gm_G _ 4 _ _ _ _
  refine g_if_eq rfl (pc' := 7) (pt := 14) rfl rfl ⟨fun hc => ?_, fun hc => ?_⟩
  · have H := H.1 hc
    refine g_aload (r := some _) rfl rfl rfl (pc' := 15) ?_
    refine t_call hT (y := 165) (n := 1) (pc' := 18) rfl rfl (t_vt hT rfl rfl) rfl rfl ⟨(Nat.le_of_ble_eq_true rfl), (Nat.le_of_ble_eq_true rfl), (Nat.le_of_ble_eq_true rfl)⟩ rfl H (tV_elim (fun h3 H hT => ?_))
    show gm_G _ 18 _ _ _ _
    refine g_iconst rfl rfl rfl (pc' := 19) ?_
    refine g_istore rfl rfl rfl (pc' := 20) ?_
    refine g_iconst rfl rfl rfl (pc' := 21) ?_
    refine g_istore rfl rfl rfl (pc' := 22) ?_
    exact g_weak (show gm_Lle [some _, some _, some _] _ from ⟨rfl, ⟨rfl, ⟨rfl, trivial⟩⟩⟩) H
  · have H := H.2 hc
    refine g_aload (r := some _) rfl rfl rfl (pc' := 8) ?_
    refine t_call hT (y := 109) (n := 1) (pc' := 11) rfl rfl (t_vt hT rfl rfl) rfl rfl ⟨(Nat.le_of_ble_eq_true rfl), (Nat.le_of_ble_eq_true rfl), (Nat.le_of_ble_eq_true rfl)⟩ rfl H (tV_elim (fun h4 H hT => ?_))
    show gm_G _ 11 _ _ _ _
    refine g_iconst rfl rfl rfl (pc' := 13) ?_
    exact g_ireturn rfl (Or.inl rfl) H
theorem w_440_22 {m : Nat} {x1 : Int32} {x2 : Int32} {h : hh_T} {Q : Option Value ⊕ Nat → hh_T → Prop} (hT : tw_ok h m) (H : (¬ x2 < (Int32.ofNat 4) → (gm_G 440 92 [some (.ref m), some (.int x1), some (.int (Int32.ofNat 2))] [] h Q)) ∧ (x2 < (Int32.ofNat 4) → (gm_G 440 32 [some (.ref m), some (.int x1), some (.int x2), some (.int (Int32.ofNat 0)), some (.int (Int32.ofNat 0))] [] h Q))) : gm_G 440 22 [some (.ref m), some (.int x1), some (.int x2)] [] h Q := by
  refine g_iload rfl rfl rfl (pc' := 23) ?_
  refine g_iconst rfl rfl rfl (pc' := 24) ?_
  refine g_ic_ge rfl (pc' := 27) (pt := 90) rfl rfl ⟨fun hc => ?_, fun hc => ?_⟩
  · have H := H.1 hc
    refine g_iconst rfl rfl rfl (pc' := 91) ?_
    refine g_istore rfl rfl rfl (pc' := 92) ?_
    exact g_weak (show gm_Lle [some _, some _, some _] _ from ⟨rfl, ⟨rfl, ⟨rfl, trivial⟩⟩⟩) H
  · have H := H.2 hc
    refine g_iconst rfl rfl rfl (pc' := 28) ?_
    refine g_istore rfl rfl rfl (pc' := 29) ?_
    refine g_iconst rfl rfl rfl (pc' := 30) ?_
    refine g_istore rfl rfl rfl (pc' := 32) ?_
    exact g_weak (show gm_Lle [some _, some _, some _, some _, some _] _ from ⟨rfl, ⟨rfl, ⟨rfl, ⟨rfl, ⟨rfl, trivial⟩⟩⟩⟩⟩) H
theorem w_440_32 {m : Nat} {x1 : Int32} {x2 : Int32} {x3 : Int32} {x4 : Int32} {h : hh_T} {Q : Option Value ⊕ Nat → hh_T → Prop} (hT : tw_ok h m) (H : (¬ x4 < (hh_i h m 99) → (gm_G 440 74 [some (.ref m), some (.int x1), some (.int x2), some (.int x3)] [] h Q)) ∧ (x4 < (hh_i h m 99) → ((¬ x4 < (Int32.ofNat 2) → (gm_G 440 74 [some (.ref m), some (.int x1), some (.int x2), some (.int x3)] [] h Q)) ∧ (x4 < (Int32.ofNat 2) → ((¬ x3 = Int32.ofNat 0 → (gm_G 440 62 [some (.ref m), some (.int x1), some (.int x2), none, some (.int x4)] [] h Q)) ∧ (x3 = Int32.ofNat 0 → (∃ n1, gm_ix x4 n1 3 ∧ ((¬ (hh_i h (m + 78) n1) = x2 → (gm_G 440 67 [some (.ref m), some (.int x1), some (.int x2), none, some (.int x4)] [.int (Int32.ofNat 0)] h Q)) ∧ ((hh_i h (m + 78) n1) = x2 → (gm_G 440 62 [some (.ref m), some (.int x1), some (.int x2), none, some (.int x4)] [] h Q)))))))))) : gm_G 440 32 [some (.ref m), some (.int x1), some (.int x2), some (.int x3), some (.int x4)] [] h Q := by
  refine g_iload rfl rfl rfl (pc' := 34) ?_
  refine g_aload (r := some _) rfl rfl rfl (pc' := 35) ?_
  refine t_getI rfl hT rfl rfl (pc' := 38) rfl ?_
  refine g_ic_ge rfl (pc' := 41) (pt := 74) rfl rfl ⟨fun hc => ?_, fun hc => ?_⟩
  · have H := H.1 hc
    exact g_weak (show gm_Lle [some _, some _, some _, some _] _ from ⟨rfl, ⟨rfl, ⟨rfl, ⟨rfl, trivial⟩⟩⟩⟩) H
  · have H := H.2 hc
    refine g_iload rfl rfl rfl (pc' := 43) ?_
    refine g_iconst rfl rfl rfl (pc' := 44) ?_
    refine g_ic_ge rfl (pc' := 47) (pt := 74) rfl rfl ⟨fun hc => ?_, fun hc => ?_⟩
    · have H := H.1 hc
      exact g_weak (show gm_Lle [some _, some _, some _, some _] _ from ⟨rfl, ⟨rfl, ⟨rfl, ⟨rfl, trivial⟩⟩⟩⟩) H
    · have H := H.2 hc
      refine g_iload rfl rfl rfl (pc' := 48) ?_
      refine g_if_ne rfl (pc' := 51) (pt := 62) rfl rfl ⟨fun hc => ?_, fun hc => ?_⟩
      · have H := H.1 hc
        exact g_weak (show gm_Lle [some _, some _, some _, none, some _] _ from ⟨rfl, ⟨rfl, ⟨rfl, ⟨rfl, trivial⟩⟩⟩⟩) H
      · have H := H.2 hc
        refine g_aload (r := some _) rfl rfl rfl (pc' := 52) ?_
        refine t_get (o := 78) rfl hT rfl rfl rfl (pc' := 55) rfl ?_
        refine g_iload rfl rfl rfl (pc' := 57) ?_
        obtain ⟨n1, hn1, H⟩ := H
        refine t_iaload hT (o := 78) (l := 3) rfl rfl rfl hn1 (pc' := 58) rfl ?_
        refine g_iload rfl rfl rfl (pc' := 59) ?_
        refine g_ic_ne rfl (pc' := 62) (pt := 66) rfl rfl ⟨fun hc => ?_, fun hc => ?_⟩
        · have H := H.1 hc
          refine g_iconst rfl rfl rfl (pc' := 67) ?_
          exact g_weak (show gm_Lle [some _, some _, some _, none, some _] _ from ⟨rfl, ⟨rfl, ⟨rfl, ⟨rfl, trivial⟩⟩⟩⟩) H
        · have H := H.2 hc
          exact g_weak (show gm_Lle [some _, some _, some _, none, some _] _ from ⟨rfl, ⟨rfl, ⟨rfl, ⟨rfl, trivial⟩⟩⟩⟩) H
theorem w_440_62 {m : Nat} {x1 : Int32} {x2 : Int32} {x4 : Int32} {h : hh_T} {Q : Option Value ⊕ Nat → hh_T → Prop} (hT : tw_ok h m) (H : gm_G 440 67 [some (.ref m), some (.int x1), some (.int x2), none, some (.int x4)] [.int (Int32.ofNat 1)] h Q) : gm_G 440 62 [some (.ref m), some (.int x1), some (.int x2), none, some (.int x4)] [] h Q := by
  refine g_iconst rfl rfl rfl (pc' := 63) ?_
  refine g_goto rfl (pc' := 67) rfl ?_
  exact g_weak (show gm_Lle [some _, some _, some _, none, some _] _ from ⟨rfl, ⟨rfl, ⟨rfl, ⟨rfl, trivial⟩⟩⟩⟩) H
theorem w_440_67 {m : Nat} {x1 : Int32} {x2 : Int32} {x4 : Int32} {y0 : Int32} {h : hh_T} {Q : Option Value ⊕ Nat → hh_T → Prop} (hT : tw_ok h m) (H : gm_G 440 32 [some (.ref m), some (.int x1), some (.int x2), some (.int y0), some (.int (x4 + (Int32.ofNat 1)))] [] h Q) : gm_G 440 67 [some (.ref m), some (.int x1), some (.int x2), none, some (.int x4)] [.int y0] h Q := by
  refine g_istore rfl rfl rfl (pc' := 68) ?_
  refine g_iinc (c := (Int32.ofNat 1)) rfl rfl rfl rfl rfl (pc' := 71) ?_
  refine g_goto rfl (pc' := 32) rfl ?_
  exact g_weak (show gm_Lle [some _, some _, some _, some _, some _] _ from ⟨rfl, ⟨rfl, ⟨rfl, ⟨rfl, ⟨rfl, trivial⟩⟩⟩⟩⟩) H
theorem w_440_74 {m : Nat} {x1 : Int32} {x2 : Int32} {x3 : Int32} {h : hh_T} {Q : Option Value ⊕ Nat → hh_T → Prop} (hT : tw_ok h m) (H : (x3 = Int32.ofNat 0 → (gm_G 440 83 [some (.ref m), none, some (.int x2)] [.int x2] h Q)) ∧ (¬ x3 = Int32.ofNat 0 → (gm_G 440 83 [some (.ref m), none, some (.int x2)] [.int x1] h Q))) : gm_G 440 74 [some (.ref m), some (.int x1), some (.int x2), some (.int x3)] [] h Q := by
  refine g_iload rfl rfl rfl (pc' := 75) ?_
  refine g_if_eq rfl (pc' := 78) (pt := 82) rfl rfl ⟨fun hc => ?_, fun hc => ?_⟩
  · have H := H.1 hc
    refine g_iload rfl rfl rfl (pc' := 83) ?_
    exact g_weak (show gm_Lle [some _, none, some _] _ from ⟨rfl, ⟨rfl, trivial⟩⟩) H
  · have H := H.2 hc
    refine g_iload rfl rfl rfl (pc' := 79) ?_
    refine g_goto rfl (pc' := 83) rfl ?_
    exact g_weak (show gm_Lle [some _, none, some _] _ from ⟨rfl, ⟨rfl, trivial⟩⟩) H
theorem w_440_83 {m : Nat} {x2 : Int32} {y0 : Int32} {h : hh_T} {Q : Option Value ⊕ Nat → hh_T → Prop} (hT : tw_ok h m) (H : gm_G 440 22 [some (.ref m), some (.int y0), some (.int (x2 + (Int32.ofNat 1)))] [] h Q) : gm_G 440 83 [some (.ref m), none, some (.int x2)] [.int y0] h Q := by
  refine g_istore rfl rfl rfl (pc' := 84) ?_
  refine g_iinc (c := (Int32.ofNat 1)) rfl rfl rfl rfl rfl (pc' := 87) ?_
  refine g_goto rfl (pc' := 22) rfl ?_
  exact g_weak (show gm_Lle [some _, some _, some _] _ from ⟨rfl, ⟨rfl, ⟨rfl, trivial⟩⟩⟩) H
theorem w_440_92 {m : Nat} {x1 : Int32} {x2 : Int32} {h : hh_T} {Q : Option Value ⊕ Nat → hh_T → Prop} (hT : tw_ok h m) (H : (¬ Int32.ofNat 0 < x2 → ((¬ (hh_i h m 99) < (Int32.ofNat 3) → (gm_G 440 149 [some (.ref m), some (.int x1)] [.int (Int32.ofNat 3), .ref m] h Q)) ∧ ((hh_i h m 99) < (Int32.ofNat 3) → (gm_G 440 149 [some (.ref m), some (.int x1)] [.int ((hh_i h m 99) + (Int32.ofNat 1)), .ref m] h Q)))) ∧ (Int32.ofNat 0 < x2 → (∃ n1, gm_ix (x2 - (Int32.ofNat 1)) n1 3 ∧ (∃ n2, gm_ix x2 n2 3 ∧ (∀ h3, h3 = hh_wi h (m + 78) n2 (hh_i h (m + 78) n1) → (∃ n4, gm_ix (x2 - (Int32.ofNat 1)) n4 3 ∧ (∃ n5, gm_ix x2 n5 3 ∧ (∀ h6, h6 = hh_wi h3 (m + 79) n5 (hh_i h3 (m + 79) n4) → (gm_G 440 92 [some (.ref m), some (.int x1), some (.int (x2 + (Int32.ofInt (-1))))] [] h6 Q))))))))) : gm_G 440 92 [some (.ref m), some (.int x1), some (.int x2)] [] h Q := by
  refine g_iload rfl rfl rfl (pc' := 93) ?_
  refine g_if_le rfl (pc' := 96) (pt := 130) rfl rfl ⟨fun hc => ?_, fun hc => ?_⟩
  · have H := H.1 hc
    refine g_aload (r := some _) rfl rfl rfl (pc' := 131) ?_
    refine g_aload (r := some _) rfl rfl rfl (pc' := 132) ?_
    refine t_getI rfl hT rfl rfl (pc' := 135) rfl ?_
    refine g_iconst rfl rfl rfl (pc' := 136) ?_
    refine g_ic_ge rfl (pc' := 139) (pt := 148) rfl rfl ⟨fun hc => ?_, fun hc => ?_⟩
    · have H := H.1 hc
      refine g_iconst rfl rfl rfl (pc' := 149) ?_
      exact g_weak (show gm_Lle [some _, some _] _ from ⟨rfl, ⟨rfl, trivial⟩⟩) H
    · have H := H.2 hc
      refine g_aload (r := some _) rfl rfl rfl (pc' := 140) ?_
      refine t_getI rfl hT rfl rfl (pc' := 143) rfl ?_
      refine g_iconst rfl rfl rfl (pc' := 144) ?_
      refine g_iadd rfl rfl (pc' := 145) ?_
      refine g_goto rfl (pc' := 149) rfl ?_
      exact g_weak (show gm_Lle [some _, some _] _ from ⟨rfl, ⟨rfl, trivial⟩⟩) H
  · have H := H.2 hc
    refine g_aload (r := some _) rfl rfl rfl (pc' := 97) ?_
    refine t_get (o := 78) rfl hT rfl rfl rfl (pc' := 100) rfl ?_
    refine g_iload rfl rfl rfl (pc' := 101) ?_
    refine g_aload (r := some _) rfl rfl rfl (pc' := 102) ?_
    refine t_get (o := 78) rfl hT rfl rfl rfl (pc' := 105) rfl ?_
    refine g_iload rfl rfl rfl (pc' := 106) ?_
    refine g_iconst rfl rfl rfl (pc' := 107) ?_
    refine g_isub rfl rfl (pc' := 108) ?_
    obtain ⟨n1, hn1, H⟩ := H
    refine t_iaload hT (o := 78) (l := 3) rfl rfl rfl hn1 (pc' := 109) rfl ?_
    obtain ⟨n2, hn2, H⟩ := H
    refine t_iastore hT (o := 78) (l := 3) rfl rfl rfl hn2  (pc' := 110) rfl (fun hT => ?_)
    have H := H _ rfl
    refine g_aload (r := some _) rfl rfl rfl (pc' := 111) ?_
    refine t_get (o := 79) rfl hT rfl rfl rfl (pc' := 114) rfl ?_
    refine g_iload rfl rfl rfl (pc' := 115) ?_
    refine g_aload (r := some _) rfl rfl rfl (pc' := 116) ?_
    refine t_get (o := 79) rfl hT rfl rfl rfl (pc' := 119) rfl ?_
    refine g_iload rfl rfl rfl (pc' := 120) ?_
    refine g_iconst rfl rfl rfl (pc' := 121) ?_
    refine g_isub rfl rfl (pc' := 122) ?_
    obtain ⟨n4, hn4, H⟩ := H
    refine t_iaload hT (o := 79) (l := 3) rfl rfl rfl hn4 (pc' := 123) rfl ?_
    obtain ⟨n5, hn5, H⟩ := H
    refine t_iastore hT (o := 79) (l := 3) rfl rfl rfl hn5  (pc' := 124) rfl (fun hT => ?_)
    have H := H _ rfl
    refine g_iinc (c := (Int32.ofInt (-1))) rfl rfl rfl rfl rfl (pc' := 127) ?_
    refine g_goto rfl (pc' := 92) rfl ?_
    exact g_weak (show gm_Lle [some _, some _, some _] _ from ⟨rfl, ⟨rfl, ⟨rfl, trivial⟩⟩⟩) H
theorem w_440_149 {m : Nat} {x1 : Int32} {y0 : Int32} {h : hh_T} {Q : Option Value ⊕ Nat → hh_T → Prop} (hT : tw_ok h m) (H : ∀ h1, h1 = hh_wi h m 99 y0 → (gm_G 99 0 [some (.ref m), some (.int (Int32.ofNat 0)), some (.int x1)] [] h1 (pV (fun h2 => ∀ h3, h3 = hh_wi h2 m 100 ((hh_i h2 m 100) + (Int32.ofNat 1)) → (∀ h4, h4 = hh_wi h3 (m + 78) 0 x1 → (∀ h5, h5 = hh_wi h4 (m + 79) 0 (hh_i h4 m 100) → (gm_G 440 187 [some (.ref m), none, some (.int (Int32.ofNat 0))] [] h5 Q)))) (fun _ _ => False)))) : gm_G 440 149 [some (.ref m), some (.int x1)] [.int y0, .ref m] h Q := by
  refine t_putI rfl hT rfl rfl  (pc' := 152) rfl (fun hT => ?_)
  have H := H _ rfl
  refine g_aload (r := some _) rfl rfl rfl (pc' := 153) ?_
  refine g_iconst rfl rfl rfl (pc' := 154) ?_
  refine g_iload rfl rfl rfl (pc' := 155) ?_
  refine t_call hT (y := 99) (n := 3) (pc' := 158) rfl rfl (t_vt hT rfl rfl) rfl rfl ⟨(Nat.le_of_ble_eq_true rfl), (Nat.le_of_ble_eq_true rfl), (Nat.le_of_ble_eq_true rfl)⟩ rfl H (tV_elim (fun h2 H hT => ?_))
  show gm_G _ 158 _ _ _ _
  refine g_aload (r := some _) rfl rfl rfl (pc' := 159) ?_
  refine g_dup_a (r := some _) rfl rfl (pc' := 160) ?_
  refine t_getI rfl hT rfl rfl (pc' := 163) rfl ?_
  refine g_iconst rfl rfl rfl (pc' := 164) ?_
  refine g_iadd rfl rfl (pc' := 165) ?_
  refine t_putI rfl hT rfl rfl  (pc' := 168) rfl (fun hT => ?_)
  have H := H _ rfl
  refine g_aload (r := some _) rfl rfl rfl (pc' := 169) ?_
  refine t_get (o := 78) rfl hT rfl rfl rfl (pc' := 172) rfl ?_
  refine g_iconst rfl rfl rfl (pc' := 173) ?_
  refine g_iload rfl rfl rfl (pc' := 174) ?_
  refine t_iastore hT (o := 78) (l := 3) rfl rfl rfl ⟨rfl, by decide, by decide⟩  (pc' := 175) rfl (fun hT => ?_)
  have H := H _ rfl
  refine g_aload (r := some _) rfl rfl rfl (pc' := 176) ?_
  refine t_get (o := 79) rfl hT rfl rfl rfl (pc' := 179) rfl ?_
  refine g_iconst rfl rfl rfl (pc' := 180) ?_
  refine g_aload (r := some _) rfl rfl rfl (pc' := 181) ?_
  refine t_getI rfl hT rfl rfl (pc' := 184) rfl ?_
  refine t_iastore hT (o := 79) (l := 3) rfl rfl rfl ⟨rfl, by decide, by decide⟩  (pc' := 185) rfl (fun hT => ?_)
  have H := H _ rfl
  refine g_iconst rfl rfl rfl (pc' := 186) ?_
  refine g_istore rfl rfl rfl (pc' := 187) ?_
  exact g_weak (show gm_Lle [some _, none, some _] _ from ⟨rfl, ⟨rfl, trivial⟩⟩) H
theorem w_440_187 {m : Nat} {x2 : Int32} {h : hh_T} {Q : Option Value ⊕ Nat → hh_T → Prop} (hT : tw_ok h m) (H : (¬ x2 < (Int32.ofNat 8) → (gm_G 422 0 [some (.ref m)] [] h (pV (fun h1 => Q (.inl (some (.int (hh_i h1 m 100)))) h1) (fun _ _ => False)))) ∧ (x2 < (Int32.ofNat 8) → (∃ n2, gm_ix x2 n2 8 ∧ (∀ h3, h3 = hh_wi h (m + 80) n2 (Int32.ofNat 0) → (∃ n4, gm_ix x2 n4 8 ∧ (∀ h5, h5 = hh_wi h3 (m + 81) n4 (Int32.ofNat 0) → (gm_G 440 187 [some (.ref m), none, some (.int (x2 + (Int32.ofNat 1)))] [] h5 Q))))))) : gm_G 440 187 [some (.ref m), none, some (.int x2)] [] h Q := by
  refine g_iload rfl rfl rfl (pc' := 188) ?_
  refine g_iconst rfl rfl rfl (pc' := 190) ?_
  refine g_ic_ge rfl (pc' := 193) (pt := 213) rfl rfl ⟨fun hc => ?_, fun hc => ?_⟩
  · have H := H.1 hc
    refine g_aload (r := some _) rfl rfl rfl (pc' := 214) ?_
    refine t_call hT (y := 422) (n := 1) (pc' := 217) rfl rfl (t_vt hT rfl rfl) rfl rfl ⟨(Nat.le_of_ble_eq_true rfl), (Nat.le_of_ble_eq_true rfl), (Nat.le_of_ble_eq_true rfl)⟩ rfl H (tV_elim (fun h1 H hT => ?_))
    show gm_G _ 217 _ _ _ _
    refine g_aload (r := some _) rfl rfl rfl (pc' := 218) ?_
    refine t_getI rfl hT rfl rfl (pc' := 221) rfl ?_
    exact g_ireturn rfl (Or.inl rfl) H
  · have H := H.2 hc
    refine g_aload (r := some _) rfl rfl rfl (pc' := 194) ?_
    refine t_get (o := 80) rfl hT rfl rfl rfl (pc' := 197) rfl ?_
    refine g_iload rfl rfl rfl (pc' := 198) ?_
    refine g_iconst rfl rfl rfl (pc' := 199) ?_
    obtain ⟨n2, hn2, H⟩ := H
    refine t_iastore hT (o := 80) (l := 8) rfl rfl rfl hn2  (pc' := 200) rfl (fun hT => ?_)
    have H := H _ rfl
    refine g_aload (r := some _) rfl rfl rfl (pc' := 201) ?_
    refine t_get (o := 81) rfl hT rfl rfl rfl (pc' := 204) rfl ?_
    refine g_iload rfl rfl rfl (pc' := 205) ?_
    refine g_iconst rfl rfl rfl (pc' := 206) ?_
    obtain ⟨n4, hn4, H⟩ := H
    refine t_iastore hT (o := 81) (l := 8) rfl rfl rfl hn4  (pc' := 207) rfl (fun hT => ?_)
    have H := H _ rfl
    refine g_iinc (c := (Int32.ofNat 1)) rfl rfl rfl rfl rfl (pc' := 210) ?_
    refine g_goto rfl (pc' := 187) rfl ?_
    exact g_weak (show gm_Lle [some _, none, some _] _ from ⟨rfl, ⟨rfl, trivial⟩⟩) H
theorem w_441_0 {m : Nat} {x1 : Int32} {h : hh_T} {Q : Option Value ⊕ Nat → hh_T → Prop} (hT : tw_ok h m) (H : gm_G 441 4 [some (.ref m), some (.int x1), some (.int (Int32.ofNat 1)), some (.int (Int32.ofNat 0))] [] h Q) : gm_G 441 0 [some (.ref m), some (.int x1)] [] h Q := by
  refine g_iconst rfl rfl rfl (pc' := 1) ?_
  refine g_istore rfl rfl rfl (pc' := 2) ?_
  refine g_iconst rfl rfl rfl (pc' := 3) ?_
  refine g_istore rfl rfl rfl (pc' := 4) ?_
  exact g_weak (show gm_Lle [some _, some _, some _, some _] _ from ⟨rfl, ⟨rfl, ⟨rfl, ⟨rfl, trivial⟩⟩⟩⟩) H
theorem w_441_4 {m : Nat} {x1 : Int32} {x2 : Int32} {x3 : Int32} {h : hh_T} {Q : Option Value ⊕ Nat → hh_T → Prop} (hT : tw_ok h m) (H : ∃ n1, gm_ix x1 n1 640 ∧ ((¬ x3 < (hh_i h (m + 22) n1) → (gm_G 140 0 [some (.ref m), some (.int x1)] [] h (pV (fun h2 => Q (.inl (some (.int (Int32.ofInt (-8))))) h2) (fun _ _ => False)))) ∧ (x3 < (hh_i h (m + 22) n1) → (∃ n3, gm_ix (((Int32.ofNat 2) * x1) + x3) n3 1280 ∧ (∃ n4, gm_ix (hh_i h (m + 23) n3) n4 3 ∧ (∃ n5, gm_ix (hh_i h (m + 23) n3) n5 3 ∧ ((¬ (hh_i h (m + 11) n5) < (Int32.ofNat 2) → (gm_G 441 108 [some (.ref m), some (.int x1), some (.int x2), some (.int x3), none, some (.int (hh_i h (m + 13) n4)), some (.int (Int32.ofNat 0))] [] h Q)) ∧ ((hh_i h (m + 11) n5) < (Int32.ofNat 2) → (gm_G 441 49 [some (.ref m), some (.int x1), some (.int x2), some (.int x3), none, some (.int (hh_i h (m + 13) n4)), some (.int (Int32.ofNat 0))] [] h Q))))))))) : gm_G 441 4 [some (.ref m), some (.int x1), some (.int x2), some (.int x3)] [] h Q := by
  refine g_iload rfl rfl rfl (pc' := 5) ?_
  refine g_aload (r := some _) rfl rfl rfl (pc' := 6) ?_
  refine t_get (o := 22) rfl hT rfl rfl rfl (pc' := 9) rfl ?_
  refine g_iload rfl rfl rfl (pc' := 10) ?_
  obtain ⟨n1, hn1, H⟩ := H
  refine t_iaload hT (o := 22) (l := 640) rfl rfl rfl hn1 (pc' := 11) rfl ?_
  refine g_ic_ge rfl (pc' := 14) (pt := 233) rfl rfl ⟨fun hc => ?_, fun hc => ?_⟩
  · have H := H.1 hc
    refine g_aload (r := some _) rfl rfl rfl (pc' := 234) ?_
    refine g_iload rfl rfl rfl (pc' := 235) ?_
    refine t_call hT (y := 140) (n := 2) (pc' := 238) rfl rfl (t_vt hT rfl rfl) rfl rfl ⟨(Nat.le_of_ble_eq_true rfl), (Nat.le_of_ble_eq_true rfl), (Nat.le_of_ble_eq_true rfl)⟩ rfl H (tV_elim (fun h2 H hT => ?_))
    show gm_G _ 238 _ _ _ _
    refine g_iconst rfl rfl rfl (pc' := 240) ?_
    exact g_ireturn rfl (Or.inl rfl) H
  · have H := H.2 hc
    refine g_aload (r := some _) rfl rfl rfl (pc' := 15) ?_
    refine t_get (o := 23) rfl hT rfl rfl rfl (pc' := 18) rfl ?_
    refine g_iconst rfl rfl rfl (pc' := 19) ?_
    refine g_iload rfl rfl rfl (pc' := 20) ?_
    refine g_imul rfl rfl (pc' := 21) ?_
    refine g_iload rfl rfl rfl (pc' := 22) ?_
    refine g_iadd rfl rfl (pc' := 23) ?_
    obtain ⟨n3, hn3, H⟩ := H
    refine t_iaload hT (o := 23) (l := 1280) rfl rfl rfl hn3 (pc' := 24) rfl ?_
    refine g_istore rfl rfl rfl (pc' := 26) ?_
    refine g_aload (r := some _) rfl rfl rfl (pc' := 27) ?_
    refine t_get (o := 13) rfl hT rfl rfl rfl (pc' := 30) rfl ?_
    refine g_iload rfl rfl rfl (pc' := 32) ?_
    obtain ⟨n4, hn4, H⟩ := H
    refine t_iaload hT (o := 13) (l := 3) rfl rfl rfl hn4 (pc' := 33) rfl ?_
    refine g_istore rfl rfl rfl (pc' := 35) ?_
    refine g_aload (r := some _) rfl rfl rfl (pc' := 36) ?_
    refine t_get (o := 11) rfl hT rfl rfl rfl (pc' := 39) rfl ?_
    refine g_iload rfl rfl rfl (pc' := 41) ?_
    obtain ⟨n5, hn5, H⟩ := H
    refine t_iaload hT (o := 11) (l := 3) rfl rfl rfl hn5 (pc' := 42) rfl ?_
    refine g_iconst rfl rfl rfl (pc' := 43) ?_
    refine g_ic_ge rfl (pc' := 46) (pt := 105) rfl rfl ⟨fun hc => ?_, fun hc => ?_⟩
    · have H := H.1 hc
      refine g_iconst rfl rfl rfl (pc' := 106) ?_
      refine g_istore rfl rfl rfl (pc' := 108) ?_
      exact g_weak (show gm_Lle [some _, some _, some _, some _, none, some _, some _] _ from ⟨rfl, ⟨rfl, ⟨rfl, ⟨rfl, ⟨rfl, ⟨rfl, trivial⟩⟩⟩⟩⟩⟩) H
    · have H := H.2 hc
      refine g_iconst rfl rfl rfl (pc' := 47) ?_
      refine g_istore rfl rfl rfl (pc' := 49) ?_
      exact g_weak (show gm_Lle [some _, some _, some _, some _, none, some _, some _] _ from ⟨rfl, ⟨rfl, ⟨rfl, ⟨rfl, ⟨rfl, ⟨rfl, trivial⟩⟩⟩⟩⟩⟩) H
theorem w_441_49 {m : Nat} {x1 : Int32} {x2 : Int32} {x3 : Int32} {x5 : Int32} {x6 : Int32} {h : hh_T} {Q : Option Value ⊕ Nat → hh_T → Prop} (hT : tw_ok h m) (H : (¬ x6 < x5 → (gm_G 441 227 [some (.ref m), some (.int x1), some (.int x2), some (.int x3)] [] h Q)) ∧ (x6 < x5 → (gm_G 423 0 [some (.ref m), some (.int x1), some (.int x3), some (.int x6)] [] h (pI (fun v2 h1 => (v2 = Int32.ofNat 0 → (gm_G 441 94 [some (.ref m), some (.int x1), none, some (.int x3), none, some (.int x5), some (.int x6)] [] h1 Q)) ∧ (¬ v2 = Int32.ofNat 0 → (gm_G 278 0 [some (.ref m), some (.int x1)] [] h1 (pI (fun v4 h3 => (v4 = Int32.ofNat 0 → (gm_G 441 94 [some (.ref m), some (.int x1), none, some (.int x3), none, some (.int x5), some (.int x6)] [] h3 Q)) ∧ (¬ v4 = Int32.ofNat 0 → ((¬ x2 = Int32.ofNat 0 → (gm_G 441 87 [] [] h3 Q)) ∧ (x2 = Int32.ofNat 0 → (gm_G 419 0 [some (.ref m), some (.int x1)] [] h3 (pI (fun v6 h5 => (v6 = Int32.ofNat 0 → (Q (.inl (some (.int (Int32.ofInt (-12))))) h5)) ∧ (¬ v6 = Int32.ofNat 0 → (gm_G 441 87 [] [] h5 Q))) (fun _ _ => False))))))) (fun _ _ => False))))) (fun _ _ => False))))) : gm_G 441 49 [some (.ref m), some (.int x1), some (.int x2), some (.int x3), none, some (.int x5), some (.int x6)] [] h Q := by
  refine g_iload rfl rfl rfl (pc' := 51) ?_
  refine g_iload rfl rfl rfl (pc' := 53) ?_
  refine g_ic_ge rfl (pc' := 56) (pt := 102) rfl rfl ⟨fun hc => ?_, fun hc => ?_⟩
  · have H := H.1 hc
    refine g_goto rfl (pc' := 227) rfl ?_
    exact g_weak (show gm_Lle [some _, some _, some _, some _] _ from ⟨rfl, ⟨rfl, ⟨rfl, ⟨rfl, trivial⟩⟩⟩⟩) H
  · have H := H.2 hc
    refine g_aload (r := some _) rfl rfl rfl (pc' := 57) ?_
    refine g_iload rfl rfl rfl (pc' := 58) ?_
    refine g_iload rfl rfl rfl (pc' := 59) ?_
    refine g_iload rfl rfl rfl (pc' := 61) ?_
    refine t_call hT (y := 423) (n := 4) (pc' := 64) rfl rfl (t_vt hT rfl rfl) rfl rfl ⟨(Nat.le_of_ble_eq_true rfl), (Nat.le_of_ble_eq_true rfl), (Nat.le_of_ble_eq_true rfl)⟩ rfl H (tI_elim (fun v2 h1 H hT => ?_))
    show gm_G _ 64 _ _ _ _
    refine g_if_eq rfl (pc' := 67) (pt := 94) rfl rfl ⟨fun hc => ?_, fun hc => ?_⟩
    · have H := H.1 hc
      exact g_weak (show gm_Lle [some _, some _, none, some _, none, some _, some _] _ from ⟨rfl, ⟨rfl, ⟨rfl, ⟨rfl, ⟨rfl, trivial⟩⟩⟩⟩⟩) H
    · have H := H.2 hc
      refine g_aload (r := some _) rfl rfl rfl (pc' := 68) ?_
      refine g_iload rfl rfl rfl (pc' := 69) ?_
      refine t_call hT (y := 278) (n := 2) (pc' := 72) rfl rfl (t_vt hT rfl rfl) rfl rfl ⟨(Nat.le_of_ble_eq_true rfl), (Nat.le_of_ble_eq_true rfl), (Nat.le_of_ble_eq_true rfl)⟩ rfl H (tI_elim (fun v4 h3 H hT => ?_))
      show gm_G _ 72 _ _ _ _
      refine g_if_eq rfl (pc' := 75) (pt := 94) rfl rfl ⟨fun hc => ?_, fun hc => ?_⟩
      · have H := H.1 hc
        exact g_weak (show gm_Lle [some _, some _, none, some _, none, some _, some _] _ from ⟨rfl, ⟨rfl, ⟨rfl, ⟨rfl, ⟨rfl, trivial⟩⟩⟩⟩⟩) H
      · have H := H.2 hc
        refine g_iload rfl rfl rfl (pc' := 76) ?_
        refine g_if_ne rfl (pc' := 79) (pt := 87) rfl rfl ⟨fun hc => ?_, fun hc => ?_⟩
        · have H := H.1 hc
          exact g_weak (show gm_Lle [] _ from trivial) H
        · have H := H.2 hc
          refine g_aload (r := some _) rfl rfl rfl (pc' := 80) ?_
          refine g_iload rfl rfl rfl (pc' := 81) ?_
          refine t_call hT (y := 419) (n := 2) (pc' := 84) rfl rfl (t_vt hT rfl rfl) rfl rfl ⟨(Nat.le_of_ble_eq_true rfl), (Nat.le_of_ble_eq_true rfl), (Nat.le_of_ble_eq_true rfl)⟩ rfl H (tI_elim (fun v6 h5 H hT => ?_))
          show gm_G _ 84 _ _ _ _
          refine g_if_eq rfl (pc' := 87) (pt := 91) rfl rfl ⟨fun hc => ?_, fun hc => ?_⟩
          · have H := H.1 hc
            refine g_iconst rfl rfl rfl (pc' := 93) ?_
            exact g_ireturn rfl (Or.inl rfl) H
          · have H := H.2 hc
            exact g_weak (show gm_Lle [] _ from trivial) H
theorem w_441_87 {m : Nat}  {h : hh_T} {Q : Option Value ⊕ Nat → hh_T → Prop} (hT : tw_ok h m) (H : Q (.inl (some (.int (Int32.ofNat 0)))) h) : gm_G 441 87 [] [] h Q := by
  refine g_iconst rfl rfl rfl (pc' := 88) ?_
  refine g_goto rfl (pc' := 93) rfl ?_
  exact g_ireturn rfl (Or.inl rfl) H
theorem w_441_94 {m : Nat} {x1 : Int32} {x3 : Int32} {x5 : Int32} {x6 : Int32} {h : hh_T} {Q : Option Value ⊕ Nat → hh_T → Prop} (hT : tw_ok h m) (H : gm_G 441 49 [some (.ref m), some (.int x1), some (.int (Int32.ofNat 0)), some (.int x3), none, some (.int x5), some (.int (x6 + (Int32.ofNat 1)))] [] h Q) : gm_G 441 94 [some (.ref m), some (.int x1), none, some (.int x3), none, some (.int x5), some (.int x6)] [] h Q := by
  refine g_iconst rfl rfl rfl (pc' := 95) ?_
  refine g_istore rfl rfl rfl (pc' := 96) ?_
  refine g_iinc (c := (Int32.ofNat 1)) rfl rfl rfl rfl rfl (pc' := 99) ?_
  refine g_goto rfl (pc' := 49) rfl ?_
  exact g_weak (show gm_Lle [some _, some _, some _, some _, none, some _, some _] _ from ⟨rfl, ⟨rfl, ⟨rfl, ⟨rfl, ⟨rfl, ⟨rfl, trivial⟩⟩⟩⟩⟩⟩) H
theorem w_441_108 {m : Nat} {x1 : Int32} {x2 : Int32} {x3 : Int32} {x5 : Int32} {x6 : Int32} {h : hh_T} {Q : Option Value ⊕ Nat → hh_T → Prop} (hT : tw_ok h m) (H : (x5 < x6 → (gm_G 441 227 [some (.ref m), some (.int x1), some (.int x2), some (.int x3)] [] h Q)) ∧ (¬ x5 < x6 → (gm_G 441 118 [some (.ref m), some (.int x1), some (.int x2), some (.int x3), none, some (.int x5), some (.int x6), some (.int (Int32.ofNat 0))] [] h Q))) : gm_G 441 108 [some (.ref m), some (.int x1), some (.int x2), some (.int x3), none, some (.int x5), some (.int x6)] [] h Q := by
  refine g_iload rfl rfl rfl (pc' := 110) ?_
  refine g_iload rfl rfl rfl (pc' := 112) ?_
  refine g_ic_gt rfl (pc' := 115) (pt := 227) rfl rfl ⟨fun hc => ?_, fun hc => ?_⟩
  · have H := H.1 hc
    exact g_weak (show gm_Lle [some _, some _, some _, some _] _ from ⟨rfl, ⟨rfl, ⟨rfl, ⟨rfl, trivial⟩⟩⟩⟩) H
  · have H := H.2 hc
    refine g_iconst rfl rfl rfl (pc' := 116) ?_
    refine g_istore rfl rfl rfl (pc' := 118) ?_
    exact g_weak (show gm_Lle [some _, some _, some _, some _, none, some _, some _, some _] _ from ⟨rfl, ⟨rfl, ⟨rfl, ⟨rfl, ⟨rfl, ⟨rfl, ⟨rfl, trivial⟩⟩⟩⟩⟩⟩⟩) H
theorem w_441_118 {m : Nat} {x1 : Int32} {x2 : Int32} {x3 : Int32} {x5 : Int32} {x6 : Int32} {x7 : Int32} {h : hh_T} {Q : Option Value ⊕ Nat → hh_T → Prop} (hT : tw_ok h m) (H : (¬ x7 < ((Int32.ofNat 1) <<< (x5 &&& 31)) → (gm_G 441 108 [some (.ref m), some (.int x1), some (.int x2), some (.int x3), none, some (.int x5), some (.int (x6 + (Int32.ofNat 1)))] [] h Q)) ∧ (x7 < ((Int32.ofNat 1) <<< (x5 &&& 31)) → (gm_G 441 133 [some (.ref m), some (.int x1), some (.int x2), some (.int x3), none, some (.int x5), some (.int x6), some (.int x7), some (.int (Int32.ofNat 0)), some (.int (Int32.ofNat 0))] [] h Q))) : gm_G 441 118 [some (.ref m), some (.int x1), some (.int x2), some (.int x3), none, some (.int x5), some (.int x6), some (.int x7)] [] h Q := by
  refine g_iload rfl rfl rfl (pc' := 120) ?_
  refine g_iconst rfl rfl rfl (pc' := 121) ?_
  refine g_iload rfl rfl rfl (pc' := 123) ?_
  refine g_ishl rfl rfl (pc' := 124) ?_
  refine g_ic_ge rfl (pc' := 127) (pt := 221) rfl rfl ⟨fun hc => ?_, fun hc => ?_⟩
  · have H := H.1 hc
    refine g_iinc (c := (Int32.ofNat 1)) rfl rfl rfl rfl rfl (pc' := 224) ?_
    refine g_goto rfl (pc' := 108) rfl ?_
    exact g_weak (show gm_Lle [some _, some _, some _, some _, none, some _, some _] _ from ⟨rfl, ⟨rfl, ⟨rfl, ⟨rfl, ⟨rfl, ⟨rfl, trivial⟩⟩⟩⟩⟩⟩) H
  · have H := H.2 hc
    refine g_iconst rfl rfl rfl (pc' := 128) ?_
    refine g_istore rfl rfl rfl (pc' := 130) ?_
    refine g_iconst rfl rfl rfl (pc' := 131) ?_
    refine g_istore rfl rfl rfl (pc' := 133) ?_
    exact g_weak (show gm_Lle [some _, some _, some _, some _, none, some _, some _, some _, some _, some _] _ from ⟨rfl, ⟨rfl, ⟨rfl, ⟨rfl, ⟨rfl, ⟨rfl, ⟨rfl, ⟨rfl, ⟨rfl, trivial⟩⟩⟩⟩⟩⟩⟩⟩⟩) H
theorem w_441_133 {m : Nat} {x1 : Int32} {x2 : Int32} {x3 : Int32} {x5 : Int32} {x6 : Int32} {x7 : Int32} {x8 : Int32} {x9 : Int32} {h : hh_T} {Q : Option Value ⊕ Nat → hh_T → Prop} (hT : tw_ok h m) (H : (¬ x9 < x5 → ((x8 = x6 → (gm_G 423 0 [some (.ref m), some (.int x1), some (.int x3), some (.int x7)] [] h (pI (fun v2 h1 => (v2 = Int32.ofNat 0 → (gm_G 441 213 [some (.ref m), some (.int x1), none, some (.int x3), none, some (.int x5), some (.int x6), some (.int x7)] [] h1 Q)) ∧ (¬ v2 = Int32.ofNat 0 → (gm_G 278 0 [some (.ref m), some (.int x1)] [] h1 (pI (fun v4 h3 => (v4 = Int32.ofNat 0 → (gm_G 441 213 [some (.ref m), some (.int x1), none, some (.int x3), none, some (.int x5), some (.int x6), some (.int x7)] [] h3 Q)) ∧ (¬ v4 = Int32.ofNat 0 → ((x2 = Int32.ofNat 0 → (gm_G 441 198 [some (.ref m), some (.int x1)] [] h3 Q)) ∧ (¬ x2 = Int32.ofNat 0 → (((hh_i h3 m 53) = Int32.ofNat 0 → (gm_G 441 206 [] [] h3 Q)) ∧ (¬ (hh_i h3 m 53) = Int32.ofNat 0 → (gm_G 441 198 [some (.ref m), some (.int x1)] [] h3 Q))))))) (fun _ _ => False))))) (fun _ _ => False)))) ∧ (¬ x8 = x6 → (gm_G 441 215 [some (.ref m), some (.int x1), some (.int x2), some (.int x3), none, some (.int x5), some (.int x6), some (.int x7)] [] h Q)))) ∧ (x9 < x5 → (gm_G 441 133 [some (.ref m), some (.int x1), some (.int x2), some (.int x3), none, some (.int x5), some (.int x6), some (.int x7), some (.int (x8 + ((x7 >>> (x9 &&& 31)) &&& (Int32.ofNat 1)))), some (.int (x9 + (Int32.ofNat 1)))] [] h Q))) : gm_G 441 133 [some (.ref m), some (.int x1), some (.int x2), some (.int x3), none, some (.int x5), some (.int x6), some (.int x7), some (.int x8), some (.int x9)] [] h Q := by
  refine g_iload rfl rfl rfl (pc' := 135) ?_
  refine g_iload rfl rfl rfl (pc' := 137) ?_
  refine g_ic_ge rfl (pc' := 140) (pt := 158) rfl rfl ⟨fun hc => ?_, fun hc => ?_⟩
  · have H := H.1 hc
    refine g_iload rfl rfl rfl (pc' := 160) ?_
    refine g_iload rfl rfl rfl (pc' := 162) ?_
    refine g_ic_eq rfl (pc' := 165) (pt := 168) rfl rfl ⟨fun hc => ?_, fun hc => ?_⟩
    · have H := H.1 hc
      refine g_aload (r := some _) rfl rfl rfl (pc' := 169) ?_
      refine g_iload rfl rfl rfl (pc' := 170) ?_
      refine g_iload rfl rfl rfl (pc' := 171) ?_
      refine g_iload rfl rfl rfl (pc' := 173) ?_
      refine t_call hT (y := 423) (n := 4) (pc' := 176) rfl rfl (t_vt hT rfl rfl) rfl rfl ⟨(Nat.le_of_ble_eq_true rfl), (Nat.le_of_ble_eq_true rfl), (Nat.le_of_ble_eq_true rfl)⟩ rfl H (tI_elim (fun v2 h1 H hT => ?_))
      show gm_G _ 176 _ _ _ _
      refine g_if_eq rfl (pc' := 179) (pt := 213) rfl rfl ⟨fun hc => ?_, fun hc => ?_⟩
      · have H := H.1 hc
        exact g_weak (show gm_Lle [some _, some _, none, some _, none, some _, some _, some _] _ from ⟨rfl, ⟨rfl, ⟨rfl, ⟨rfl, ⟨rfl, ⟨rfl, trivial⟩⟩⟩⟩⟩⟩) H
      · have H := H.2 hc
        refine g_aload (r := some _) rfl rfl rfl (pc' := 180) ?_
        refine g_iload rfl rfl rfl (pc' := 181) ?_
        refine t_call hT (y := 278) (n := 2) (pc' := 184) rfl rfl (t_vt hT rfl rfl) rfl rfl ⟨(Nat.le_of_ble_eq_true rfl), (Nat.le_of_ble_eq_true rfl), (Nat.le_of_ble_eq_true rfl)⟩ rfl H (tI_elim (fun v4 h3 H hT => ?_))
        show gm_G _ 184 _ _ _ _
        refine g_if_eq rfl (pc' := 187) (pt := 213) rfl rfl ⟨fun hc => ?_, fun hc => ?_⟩
        · have H := H.1 hc
          exact g_weak (show gm_Lle [some _, some _, none, some _, none, some _, some _, some _] _ from ⟨rfl, ⟨rfl, ⟨rfl, ⟨rfl, ⟨rfl, ⟨rfl, trivial⟩⟩⟩⟩⟩⟩) H
        · have H := H.2 hc
          refine g_iload rfl rfl rfl (pc' := 188) ?_
          refine g_if_eq rfl (pc' := 191) (pt := 198) rfl rfl ⟨fun hc => ?_, fun hc => ?_⟩
          · have H := H.1 hc
            exact g_weak (show gm_Lle [some _, some _] _ from ⟨rfl, ⟨rfl, trivial⟩⟩) H
          · have H := H.2 hc
            refine g_aload (r := some _) rfl rfl rfl (pc' := 192) ?_
            refine t_getZ rfl hT rfl rfl (pc' := 195) rfl ?_
            refine g_if_eq rfl (pc' := 198) (pt := 206) rfl rfl ⟨fun hc => ?_, fun hc => ?_⟩
            · have H := H.1 hc
              exact g_weak (show gm_Lle [] _ from trivial) H
            · have H := H.2 hc
              exact g_weak (show gm_Lle [some _, some _] _ from ⟨rfl, ⟨rfl, trivial⟩⟩) H
    · have H := H.2 hc
      refine g_goto rfl (pc' := 215) rfl ?_
      exact g_weak (show gm_Lle [some _, some _, some _, some _, none, some _, some _, some _] _ from ⟨rfl, ⟨rfl, ⟨rfl, ⟨rfl, ⟨rfl, ⟨rfl, ⟨rfl, trivial⟩⟩⟩⟩⟩⟩⟩) H
  · have H := H.2 hc
    refine g_iload rfl rfl rfl (pc' := 142) ?_
    refine g_iload rfl rfl rfl (pc' := 144) ?_
    refine g_iload rfl rfl rfl (pc' := 146) ?_
    refine g_ishr rfl rfl (pc' := 147) ?_
    refine g_iconst rfl rfl rfl (pc' := 148) ?_
    refine g_iand rfl rfl (pc' := 149) ?_
    refine g_iadd rfl rfl (pc' := 150) ?_
    refine g_istore rfl rfl rfl (pc' := 152) ?_
    refine g_iinc (c := (Int32.ofNat 1)) rfl rfl rfl rfl rfl (pc' := 155) ?_
    refine g_goto rfl (pc' := 133) rfl ?_
    exact g_weak (show gm_Lle [some _, some _, some _, some _, none, some _, some _, some _, some _, some _] _ from ⟨rfl, ⟨rfl, ⟨rfl, ⟨rfl, ⟨rfl, ⟨rfl, ⟨rfl, ⟨rfl, ⟨rfl, trivial⟩⟩⟩⟩⟩⟩⟩⟩⟩) H
theorem w_441_198 {m : Nat} {x1 : Int32} {h : hh_T} {Q : Option Value ⊕ Nat → hh_T → Prop} (hT : tw_ok h m) (H : gm_G 419 0 [some (.ref m), some (.int x1)] [] h (pI (fun v2 h1 => (v2 = Int32.ofNat 0 → (Q (.inl (some (.int (Int32.ofInt (-12))))) h1)) ∧ (¬ v2 = Int32.ofNat 0 → (gm_G 441 206 [] [] h1 Q))) (fun _ _ => False))) : gm_G 441 198 [some (.ref m), some (.int x1)] [] h Q := by
  refine g_aload (r := some _) rfl rfl rfl (pc' := 199) ?_
  refine g_iload rfl rfl rfl (pc' := 200) ?_
  refine t_call hT (y := 419) (n := 2) (pc' := 203) rfl rfl (t_vt hT rfl rfl) rfl rfl ⟨(Nat.le_of_ble_eq_true rfl), (Nat.le_of_ble_eq_true rfl), (Nat.le_of_ble_eq_true rfl)⟩ rfl H (tI_elim (fun v2 h1 H hT => ?_))
  show gm_G _ 203 _ _ _ _
  refine g_if_eq rfl (pc' := 206) (pt := 210) rfl rfl ⟨fun hc => ?_, fun hc => ?_⟩
  · have H := H.1 hc
    refine g_iconst rfl rfl rfl (pc' := 212) ?_
    exact g_ireturn rfl (Or.inl rfl) H
  · have H := H.2 hc
    exact g_weak (show gm_Lle [] _ from trivial) H
theorem w_441_206 {m : Nat}  {h : hh_T} {Q : Option Value ⊕ Nat → hh_T → Prop} (hT : tw_ok h m) (H : Q (.inl (some (.int (Int32.ofNat 0)))) h) : gm_G 441 206 [] [] h Q := by
  refine g_iconst rfl rfl rfl (pc' := 207) ?_
  refine g_goto rfl (pc' := 212) rfl ?_
  exact g_ireturn rfl (Or.inl rfl) H
theorem w_441_213 {m : Nat} {x1 : Int32} {x3 : Int32} {x5 : Int32} {x6 : Int32} {x7 : Int32} {h : hh_T} {Q : Option Value ⊕ Nat → hh_T → Prop} (hT : tw_ok h m) (H : gm_G 441 215 [some (.ref m), some (.int x1), some (.int (Int32.ofNat 0)), some (.int x3), none, some (.int x5), some (.int x6), some (.int x7)] [] h Q) : gm_G 441 213 [some (.ref m), some (.int x1), none, some (.int x3), none, some (.int x5), some (.int x6), some (.int x7)] [] h Q := by
  refine g_iconst rfl rfl rfl (pc' := 214) ?_
  refine g_istore rfl rfl rfl (pc' := 215) ?_
  exact g_weak (show gm_Lle [some _, some _, some _, some _, none, some _, some _, some _] _ from ⟨rfl, ⟨rfl, ⟨rfl, ⟨rfl, ⟨rfl, ⟨rfl, ⟨rfl, trivial⟩⟩⟩⟩⟩⟩⟩) H
theorem w_441_215 {m : Nat} {x1 : Int32} {x2 : Int32} {x3 : Int32} {x5 : Int32} {x6 : Int32} {x7 : Int32} {h : hh_T} {Q : Option Value ⊕ Nat → hh_T → Prop} (hT : tw_ok h m) (H : gm_G 441 118 [some (.ref m), some (.int x1), some (.int x2), some (.int x3), none, some (.int x5), some (.int x6), some (.int (x7 + (Int32.ofNat 1)))] [] h Q) : gm_G 441 215 [some (.ref m), some (.int x1), some (.int x2), some (.int x3), none, some (.int x5), some (.int x6), some (.int x7)] [] h Q := by
  refine g_iinc (c := (Int32.ofNat 1)) rfl rfl rfl rfl rfl (pc' := 218) ?_
  refine g_goto rfl (pc' := 118) rfl ?_
  exact g_weak (show gm_Lle [some _, some _, some _, some _, none, some _, some _, some _] _ from ⟨rfl, ⟨rfl, ⟨rfl, ⟨rfl, ⟨rfl, ⟨rfl, ⟨rfl, trivial⟩⟩⟩⟩⟩⟩⟩) H
theorem w_441_227 {m : Nat} {x1 : Int32} {x2 : Int32} {x3 : Int32} {h : hh_T} {Q : Option Value ⊕ Nat → hh_T → Prop} (hT : tw_ok h m) (H : gm_G 441 4 [some (.ref m), some (.int x1), some (.int x2), some (.int (x3 + (Int32.ofNat 1)))] [] h Q) : gm_G 441 227 [some (.ref m), some (.int x1), some (.int x2), some (.int x3)] [] h Q := by
  refine g_iinc (c := (Int32.ofNat 1)) rfl rfl rfl rfl rfl (pc' := 230) ?_
  refine g_goto rfl (pc' := 4) rfl ?_
  exact g_weak (show gm_Lle [some _, some _, some _, some _] _ from ⟨rfl, ⟨rfl, ⟨rfl, ⟨rfl, trivial⟩⟩⟩⟩) H
theorem w_442_0 {m : Nat} {x1 : Int32} {x2 : Int32} {h : hh_T} {Q : Option Value ⊕ Nat → hh_T → Prop} (hT : tw_ok h m) (H : ∃ n1, gm_ix x1 n1 32 ∧ ((¬ (hh_i h m 111) = Int32.ofNat 0 → (gm_G 442 31 [some (.ref m), some (.int x1), some (.int x2)] [] h Q)) ∧ ((hh_i h m 111) = Int32.ofNat 0 → (gm_G 404 0 [some (.ref m), some (.int x1), some (.int (((Int32.ofNat 16) * (hh_i h (m + 63) n1)) + x2))] [] h (pI (fun v3 h2 => (v3 = Int32.ofNat 0 → (gm_G 442 31 [some (.ref m), some (.int x1), some (.int x2)] [] h2 Q)) ∧ (¬ v3 = Int32.ofNat 0 → (Q (.inl (some (.int (Int32.ofInt (-7))))) h2))) (fun _ _ => False)))))) : gm_G 442 0 [some (.ref m), some (.int x1), some (.int x2)] [] h Q := by
  refine g_iconst rfl rfl rfl (pc' := 2) ?_
  refine g_aload (r := some _) rfl rfl rfl (pc' := 3) ?_
  refine t_get (o := 63) rfl hT rfl rfl rfl (pc' := 6) rfl ?_
  refine g_iload rfl rfl rfl (pc' := 7) ?_
  obtain ⟨n1, hn1, H⟩ := H
  refine t_iaload hT (o := 63) (l := 32) rfl rfl rfl hn1 (pc' := 8) rfl ?_
  refine g_imul rfl rfl (pc' := 9) ?_
  refine g_iload rfl rfl rfl (pc' := 10) ?_
  refine g_iadd rfl rfl (pc' := 11) ?_
  refine g_istore rfl rfl rfl (pc' := 12) ?_
  refine g_aload (r := some _) rfl rfl rfl (pc' := 13) ?_
  refine t_getZ rfl hT rfl rfl (pc' := 16) rfl ?_
  refine g_if_ne rfl (pc' := 19) (pt := 31) rfl rfl ⟨fun hc => ?_, fun hc => ?_⟩
  · have H := H.1 hc
    exact g_weak (show gm_Lle [some _, some _, some _] _ from ⟨rfl, ⟨rfl, ⟨rfl, trivial⟩⟩⟩) H
  · have H := H.2 hc
    refine g_aload (r := some _) rfl rfl rfl (pc' := 20) ?_
    refine g_iload rfl rfl rfl (pc' := 21) ?_
    refine g_iload rfl rfl rfl (pc' := 22) ?_
    refine t_call hT (y := 404) (n := 3) (pc' := 25) rfl rfl (t_vt hT rfl rfl) rfl rfl ⟨(Nat.le_of_ble_eq_true rfl), (Nat.le_of_ble_eq_true rfl), (Nat.le_of_ble_eq_true rfl)⟩ rfl H (tI_elim (fun v3 h2 H hT => ?_))
    show gm_G _ 25 _ _ _ _
    refine g_if_eq rfl (pc' := 28) (pt := 31) rfl rfl ⟨fun hc => ?_, fun hc => ?_⟩
    · have H := H.1 hc
      exact g_weak (show gm_Lle [some _, some _, some _] _ from ⟨rfl, ⟨rfl, ⟨rfl, trivial⟩⟩⟩) H
    · have H := H.2 hc
      refine g_iconst rfl rfl rfl (pc' := 30) ?_
      exact g_ireturn rfl (Or.inl rfl) H
theorem w_442_31 {m : Nat} {x1 : Int32} {x2 : Int32} {h : hh_T} {Q : Option Value ⊕ Nat → hh_T → Prop} (hT : tw_ok h m) (H : gm_G 424 0 [some (.ref m)] [] h (pI (fun v2 h1 => (¬ v2 = Int32.ofNat 0 → (gm_G 420 0 [some (.ref m), some (.int x1)] [] h1 (pI (fun v4 h3 => gm_G 442 51 [some (.ref m), none, some (.int x2), none, some (.int v4), some (.int (Int32.ofNat 0))] [] h3 Q) (fun _ _ => False)))) ∧ (v2 = Int32.ofNat 0 → (Q (.inl (some (.int (Int32.ofInt (-12))))) h1))) (fun _ _ => False))) : gm_G 442 31 [some (.ref m), some (.int x1), some (.int x2)] [] h Q := by
  refine g_aload (r := some _) rfl rfl rfl (pc' := 32) ?_
  refine t_call hT (y := 424) (n := 1) (pc' := 35) rfl rfl (t_vt hT rfl rfl) rfl rfl ⟨(Nat.le_of_ble_eq_true rfl), (Nat.le_of_ble_eq_true rfl), (Nat.le_of_ble_eq_true rfl)⟩ rfl H (tI_elim (fun v2 h1 H hT => ?_))
  show gm_G _ 35 _ _ _ _
  refine g_if_ne rfl (pc' := 38) (pt := 41) rfl rfl ⟨fun hc => ?_, fun hc => ?_⟩
  · have H := H.1 hc
    refine g_aload (r := some _) rfl rfl rfl (pc' := 42) ?_
    refine g_iload rfl rfl rfl (pc' := 43) ?_
    refine t_call hT (y := 420) (n := 2) (pc' := 46) rfl rfl (t_vt hT rfl rfl) rfl rfl ⟨(Nat.le_of_ble_eq_true rfl), (Nat.le_of_ble_eq_true rfl), (Nat.le_of_ble_eq_true rfl)⟩ rfl H (tI_elim (fun v4 h3 H hT => ?_))
    show gm_G _ 46 _ _ _ _
    refine g_istore rfl rfl rfl (pc' := 48) ?_
    refine g_iconst rfl rfl rfl (pc' := 49) ?_
    refine g_istore rfl rfl rfl (pc' := 51) ?_
    exact g_weak (show gm_Lle [some _, none, some _, none, some _, some _] _ from ⟨rfl, ⟨rfl, ⟨rfl, ⟨rfl, trivial⟩⟩⟩⟩) H
  · have H := H.2 hc
    refine g_iconst rfl rfl rfl (pc' := 40) ?_
    exact g_ireturn rfl (Or.inl rfl) H
theorem w_442_51 {m : Nat} {x2 : Int32} {x4 : Int32} {x5 : Int32} {h : hh_T} {Q : Option Value ⊕ Nat → hh_T → Prop} (hT : tw_ok h m) (H : (¬ x5 < (Int32.ofNat 8) → (((hh_i h m 111) = Int32.ofNat 0 → (∀ h1, h1 = hh_wi h m 110 (hh_i h m 43) → (gm_G 442 120 [some (.ref m)] [] h1 Q))) ∧ (¬ (hh_i h m 111) = Int32.ofNat 0 → (∀ h2, h2 = hh_wi h m 42 ((hh_i h m 42) + (hh_i h m 43)) → (gm_G 442 120 [some (.ref m)] [] h2 Q))))) ∧ (x5 < (Int32.ofNat 8) → (∃ n3, gm_ix x5 n3 8 ∧ (∃ n4, gm_ix (((Int32.ofNat 8) * (((Int32.ofNat 16) * x4) + x2)) + x5) n4 12288 ∧ (∀ h5, h5 = hh_wi h (m + 55) n4 (hh_i h (m + 104) n3) → (gm_G 442 51 [some (.ref m), none, some (.int x2), none, some (.int x4), some (.int (x5 + (Int32.ofNat 1)))] [] h5 Q)))))) : gm_G 442 51 [some (.ref m), none, some (.int x2), none, some (.int x4), some (.int x5)] [] h Q := by
  refine g_iload rfl rfl rfl (pc' := 53) ?_
  refine g_iconst rfl rfl rfl (pc' := 55) ?_
  refine g_ic_ge rfl (pc' := 58) (pt := 89) rfl rfl ⟨fun hc => ?_, fun hc => ?_⟩
  · have H := H.1 hc
    refine g_aload (r := some _) rfl rfl rfl (pc' := 90) ?_
    refine t_getZ rfl hT rfl rfl (pc' := 93) rfl ?_
    refine g_if_eq rfl (pc' := 96) (pt := 112) rfl rfl ⟨fun hc => ?_, fun hc => ?_⟩
    · have H := H.1 hc
      refine g_aload (r := some _) rfl rfl rfl (pc' := 113) ?_
      refine g_aload (r := some _) rfl rfl rfl (pc' := 114) ?_
      refine t_getI rfl hT rfl rfl (pc' := 117) rfl ?_
      refine t_putI rfl hT rfl rfl  (pc' := 120) rfl (fun hT => ?_)
      have H := H _ rfl
      exact g_weak (show gm_Lle [some _] _ from ⟨rfl, trivial⟩) H
    · have H := H.2 hc
      refine g_aload (r := some _) rfl rfl rfl (pc' := 97) ?_
      refine g_dup_a (r := some _) rfl rfl (pc' := 98) ?_
      refine t_getI rfl hT rfl rfl (pc' := 101) rfl ?_
      refine g_aload (r := some _) rfl rfl rfl (pc' := 102) ?_
      refine t_getI rfl hT rfl rfl (pc' := 105) rfl ?_
      refine g_iadd rfl rfl (pc' := 106) ?_
      refine t_putI rfl hT rfl rfl  (pc' := 109) rfl (fun hT => ?_)
      have H := H _ rfl
      refine g_goto rfl (pc' := 120) rfl ?_
      exact g_weak (show gm_Lle [some _] _ from ⟨rfl, trivial⟩) H
  · have H := H.2 hc
    refine g_aload (r := some _) rfl rfl rfl (pc' := 59) ?_
    refine t_get (o := 55) rfl hT rfl rfl rfl (pc' := 62) rfl ?_
    refine g_iconst rfl rfl rfl (pc' := 64) ?_
    refine g_iconst rfl rfl rfl (pc' := 66) ?_
    refine g_iload rfl rfl rfl (pc' := 68) ?_
    refine g_imul rfl rfl (pc' := 69) ?_
    refine g_iload rfl rfl rfl (pc' := 70) ?_
    refine g_iadd rfl rfl (pc' := 71) ?_
    refine g_imul rfl rfl (pc' := 72) ?_
    refine g_iload rfl rfl rfl (pc' := 74) ?_
    refine g_iadd rfl rfl (pc' := 75) ?_
    refine g_aload (r := some _) rfl rfl rfl (pc' := 76) ?_
    refine t_get (o := 104) rfl hT rfl rfl rfl (pc' := 79) rfl ?_
    refine g_iload rfl rfl rfl (pc' := 81) ?_
    obtain ⟨n3, hn3, H⟩ := H
    refine t_iaload hT (o := 104) (l := 8) rfl rfl rfl hn3 (pc' := 82) rfl ?_
    obtain ⟨n4, hn4, H⟩ := H
    refine t_iastore hT (o := 55) (l := 12288) rfl rfl rfl hn4  (pc' := 83) rfl (fun hT => ?_)
    have H := H _ rfl
    refine g_iinc (c := (Int32.ofNat 1)) rfl rfl rfl rfl rfl (pc' := 86) ?_
    refine g_goto rfl (pc' := 51) rfl ?_
    exact g_weak (show gm_Lle [some _, none, some _, none, some _, some _] _ from ⟨rfl, ⟨rfl, ⟨rfl, ⟨rfl, trivial⟩⟩⟩⟩) H
theorem w_442_120 {m : Nat}  {h : hh_T} {Q : Option Value ⊕ Nat → hh_T → Prop} (hT : tw_ok h m) (H : ∀ h1, h1 = hh_wi h m 41 (Int32.ofNat 0) → (Q (.inl (some (.int (Int32.ofNat 0)))) h1)) : gm_G 442 120 [some (.ref m)] [] h Q := by
  refine g_aload (r := some _) rfl rfl rfl (pc' := 121) ?_
  refine g_iconst rfl rfl rfl (pc' := 122) ?_
  refine t_putI rfl hT rfl rfl  (pc' := 125) rfl (fun hT => ?_)
  have H := H _ rfl
  refine g_iconst rfl rfl rfl (pc' := 126) ?_
  exact g_ireturn rfl (Or.inl rfl) H
theorem w_443_0 {m : Nat} {x1 : Int32} {h : hh_T} {Q : Option Value ⊕ Nat → hh_T → Prop} (hT : tw_ok h m) (H : (¬ (hh_i h m 77) = Int32.ofNat 0 → (gm_G 307 0 [some (.ref m), some (.int x1)] [] h (pI (fun v2 h1 => (¬ v2 < Int32.ofNat 0 → (gm_G 422 0 [some (.ref m)] [] h1 (pV (fun h3 => gm_G 443 32 [some (.ref m), some (.int x1), some (.int v2), some (.int (Int32.ofNat 0)), some (.int (Int32.ofNat 0))] [] h3 Q) (fun _ _ => False)))) ∧ (v2 < Int32.ofNat 0 → (Q (.inl (some (.int (Int32.ofInt (-2))))) h1))) (fun _ _ => False)))) ∧ ((hh_i h m 77) = Int32.ofNat 0 → (Q (.inl (some (.int (Int32.ofInt (-9))))) h))) : gm_G 443 0 [some (.ref m), some (.int x1)] [] h Q := by
  refine g_aload (r := some _) rfl rfl rfl (pc' := 1) ?_
  refine t_getZ rfl hT rfl rfl (pc' := 4) rfl ?_
  refine g_if_ne rfl (pc' := 7) (pt := 10) rfl rfl ⟨fun hc => ?_, fun hc => ?_⟩
  · have H := H.1 hc
    refine g_aload (r := some _) rfl rfl rfl (pc' := 11) ?_
    refine g_iload rfl rfl rfl (pc' := 12) ?_
    refine t_call hT (y := 307) (n := 2) (pc' := 15) rfl rfl (t_vt hT rfl rfl) rfl rfl ⟨(Nat.le_of_ble_eq_true rfl), (Nat.le_of_ble_eq_true rfl), (Nat.le_of_ble_eq_true rfl)⟩ rfl H (tI_elim (fun v2 h1 H hT => ?_))
    show gm_G _ 15 _ _ _ _
    refine g_istore rfl rfl rfl (pc' := 16) ?_
    refine g_iload rfl rfl rfl (pc' := 17) ?_
    refine g_if_ge rfl (pc' := 20) (pt := 23) rfl rfl ⟨fun hc => ?_, fun hc => ?_⟩
    · have H := H.1 hc
      refine g_aload (r := some _) rfl rfl rfl (pc' := 24) ?_
      refine t_call hT (y := 422) (n := 1) (pc' := 27) rfl rfl (t_vt hT rfl rfl) rfl rfl ⟨(Nat.le_of_ble_eq_true rfl), (Nat.le_of_ble_eq_true rfl), (Nat.le_of_ble_eq_true rfl)⟩ rfl H (tV_elim (fun h3 H hT => ?_))
      show gm_G _ 27 _ _ _ _
      refine g_iconst rfl rfl rfl (pc' := 28) ?_
      refine g_istore rfl rfl rfl (pc' := 29) ?_
      refine g_iconst rfl rfl rfl (pc' := 30) ?_
      refine g_istore rfl rfl rfl (pc' := 32) ?_
      exact g_weak (show gm_Lle [some _, some _, some _, some _, some _] _ from ⟨rfl, ⟨rfl, ⟨rfl, ⟨rfl, ⟨rfl, trivial⟩⟩⟩⟩⟩) H
    · have H := H.2 hc
      refine g_iconst rfl rfl rfl (pc' := 22) ?_
      exact g_ireturn rfl (Or.inl rfl) H
  · have H := H.2 hc
    refine g_iconst rfl rfl rfl (pc' := 9) ?_
    exact g_ireturn rfl (Or.inl rfl) H
theorem w_443_32 {m : Nat} {x1 : Int32} {x2 : Int32} {x3 : Int32} {x4 : Int32} {h : hh_T} {Q : Option Value ⊕ Nat → hh_T → Prop} (hT : tw_ok h m) (H : (¬ x4 < (Int32.ofNat 640) → (Q (.inl (some (.int x3))) h)) ∧ (x4 < (Int32.ofNat 640) → (∃ n1, gm_ix x4 n1 640 ∧ (((hh_i h (m + 18) n1) = Int32.ofNat 0 → (gm_G 443 216 [some (.ref m), some (.int x1), some (.int x2), some (.int x3), some (.int x4)] [] h Q)) ∧ (¬ (hh_i h (m + 18) n1) = Int32.ofNat 0 → (gm_G 128 0 [some (.ref m), some (.int x2), some (.int x4)] [] h (pI (fun v3 h2 => (¬ v3 = Int32.ofNat 0 → (gm_G 443 69 [some (.ref m), some (.int x1), some (.int x2), some (.int x3), some (.int x4), some (.int (Int32.ofNat 0)), some (.int (Int32.ofNat 0))] [] h2 Q)) ∧ (v3 = Int32.ofNat 0 → (gm_G 443 216 [some (.ref m), some (.int x1), some (.int x2), some (.int x3), some (.int x4)] [] h2 Q))) (fun _ _ => False)))))))) : gm_G 443 32 [some (.ref m), some (.int x1), some (.int x2), some (.int x3), some (.int x4)] [] h Q := by
  refine g_iload rfl rfl rfl (pc' := 34) ?_
  refine g_iconst rfl rfl rfl (pc' := 37) ?_
  refine g_ic_ge rfl (pc' := 40) (pt := 222) rfl rfl ⟨fun hc => ?_, fun hc => ?_⟩
  · have H := H.1 hc
    refine g_iload rfl rfl rfl (pc' := 223) ?_
    exact g_ireturn rfl (Or.inl rfl) H
  · have H := H.2 hc
    refine g_aload (r := some _) rfl rfl rfl (pc' := 41) ?_
    refine t_get (o := 18) rfl hT rfl rfl rfl (pc' := 44) rfl ?_
    refine g_iload rfl rfl rfl (pc' := 46) ?_
    obtain ⟨n1, hn1, H⟩ := H
    refine t_zaload hT (o := 18) (l := 640) rfl rfl rfl hn1 (pc' := 47) rfl ?_
    refine g_if_eq rfl (pc' := 50) (pt := 216) rfl rfl ⟨fun hc => ?_, fun hc => ?_⟩
    · have H := H.1 hc
      exact g_weak (show gm_Lle [some _, some _, some _, some _, some _] _ from ⟨rfl, ⟨rfl, ⟨rfl, ⟨rfl, ⟨rfl, trivial⟩⟩⟩⟩⟩) H
    · have H := H.2 hc
      refine g_aload (r := some _) rfl rfl rfl (pc' := 51) ?_
      refine g_iload rfl rfl rfl (pc' := 52) ?_
      refine g_iload rfl rfl rfl (pc' := 54) ?_
      refine t_call hT (y := 128) (n := 3) (pc' := 57) rfl rfl (t_vt hT rfl rfl) rfl rfl ⟨(Nat.le_of_ble_eq_true rfl), (Nat.le_of_ble_eq_true rfl), (Nat.le_of_ble_eq_true rfl)⟩ rfl H (tI_elim (fun v3 h2 H hT => ?_))
      show gm_G _ 57 _ _ _ _
      refine g_if_ne rfl (pc' := 60) (pt := 63) rfl rfl ⟨fun hc => ?_, fun hc => ?_⟩
      · have H := H.1 hc
        refine g_iconst rfl rfl rfl (pc' := 64) ?_
        refine g_istore rfl rfl rfl (pc' := 66) ?_
        refine g_iconst rfl rfl rfl (pc' := 67) ?_
        refine g_istore rfl rfl rfl (pc' := 69) ?_
        exact g_weak (show gm_Lle [some _, some _, some _, some _, some _, some _, some _] _ from ⟨rfl, ⟨rfl, ⟨rfl, ⟨rfl, ⟨rfl, ⟨rfl, ⟨rfl, trivial⟩⟩⟩⟩⟩⟩⟩) H
      · have H := H.2 hc
        refine g_goto rfl (pc' := 216) rfl ?_
        exact g_weak (show gm_Lle [some _, some _, some _, some _, some _] _ from ⟨rfl, ⟨rfl, ⟨rfl, ⟨rfl, ⟨rfl, trivial⟩⟩⟩⟩⟩) H
theorem w_443_69 {m : Nat} {x1 : Int32} {x2 : Int32} {x3 : Int32} {x4 : Int32} {x5 : Int32} {x6 : Int32} {h : hh_T} {Q : Option Value ⊕ Nat → hh_T → Prop} (hT : tw_ok h m) (H : (¬ x6 < (Int32.ofNat 8) → (gm_G 443 134 [some (.ref m), some (.int x1), some (.int x2), some (.int x3), some (.int x4), some (.int x5), some (.int (Int32.ofNat 0))] [] h Q)) ∧ (x6 < (Int32.ofNat 8) → (∃ n1, gm_ix x6 n1 32 ∧ (((hh_i h (m + 59) n1) < Int32.ofNat 0 → (gm_G 443 121 [some (.ref m), some (.int x1), some (.int x2), some (.int x3), some (.int x4), none, some (.int x6)] [.int x5] h Q)) ∧ (¬ (hh_i h (m + 59) n1) < Int32.ofNat 0 → (∃ n2, gm_ix x6 n2 32 ∧ ((((Int32.ofNat 2) * (hh_i h (m + 59) n2)) = x1 → (gm_G 443 121 [some (.ref m), some (.int x1), some (.int x2), some (.int x3), some (.int x4), none, some (.int x6)] [.int x5] h Q)) ∧ (¬ ((Int32.ofNat 2) * (hh_i h (m + 59) n2)) = x1 → (∃ n3, gm_ix x6 n3 32 ∧ (gm_G 128 0 [some (.ref m), some (.int (hh_i h (m + 63) n3)), some (.int x4)] [] h (pI (fun v5 h4 => (v5 = Int32.ofNat 0 → (gm_G 443 121 [some (.ref m), some (.int x1), some (.int x2), some (.int x3), some (.int x4), none, some (.int x6)] [.int x5] h4 Q)) ∧ (¬ v5 = Int32.ofNat 0 → (gm_G 443 122 [some (.ref m), some (.int x1), some (.int x2), some (.int x3), some (.int x4), none, some (.int x6)] [.int (Int32.ofNat 1), .int x5] h4 Q))) (fun _ _ => False)))))))))))) : gm_G 443 69 [some (.ref m), some (.int x1), some (.int x2), some (.int x3), some (.int x4), some (.int x5), some (.int x6)] [] h Q := by
  refine g_iload rfl rfl rfl (pc' := 71) ?_
  refine g_iconst rfl rfl rfl (pc' := 73) ?_
  refine g_ic_ge rfl (pc' := 76) (pt := 131) rfl rfl ⟨fun hc => ?_, fun hc => ?_⟩
  · have H := H.1 hc
    refine g_iconst rfl rfl rfl (pc' := 132) ?_
    refine g_istore rfl rfl rfl (pc' := 134) ?_
    exact g_weak (show gm_Lle [some _, some _, some _, some _, some _, some _, some _] _ from ⟨rfl, ⟨rfl, ⟨rfl, ⟨rfl, ⟨rfl, ⟨rfl, ⟨rfl, trivial⟩⟩⟩⟩⟩⟩⟩) H
  · have H := H.2 hc
    refine g_iload rfl rfl rfl (pc' := 78) ?_
    refine g_aload (r := some _) rfl rfl rfl (pc' := 79) ?_
    refine t_get (o := 59) rfl hT rfl rfl rfl (pc' := 82) rfl ?_
    refine g_iload rfl rfl rfl (pc' := 84) ?_
    obtain ⟨n1, hn1, H⟩ := H
    refine t_iaload hT (o := 59) (l := 32) rfl rfl rfl hn1 (pc' := 85) rfl ?_
    refine g_if_lt rfl (pc' := 88) (pt := 121) rfl rfl ⟨fun hc => ?_, fun hc => ?_⟩
    · have H := H.1 hc
      exact g_weak (show gm_Lle [some _, some _, some _, some _, some _, none, some _] _ from ⟨rfl, ⟨rfl, ⟨rfl, ⟨rfl, ⟨rfl, ⟨rfl, trivial⟩⟩⟩⟩⟩⟩) H
    · have H := H.2 hc
      refine g_iconst rfl rfl rfl (pc' := 89) ?_
      refine g_aload (r := some _) rfl rfl rfl (pc' := 90) ?_
      refine t_get (o := 59) rfl hT rfl rfl rfl (pc' := 93) rfl ?_
      refine g_iload rfl rfl rfl (pc' := 95) ?_
      obtain ⟨n2, hn2, H⟩ := H
      refine t_iaload hT (o := 59) (l := 32) rfl rfl rfl hn2 (pc' := 96) rfl ?_
      refine g_imul rfl rfl (pc' := 97) ?_
      refine g_iload rfl rfl rfl (pc' := 98) ?_
      refine g_ic_eq rfl (pc' := 101) (pt := 121) rfl rfl ⟨fun hc => ?_, fun hc => ?_⟩
      · have H := H.1 hc
        exact g_weak (show gm_Lle [some _, some _, some _, some _, some _, none, some _] _ from ⟨rfl, ⟨rfl, ⟨rfl, ⟨rfl, ⟨rfl, ⟨rfl, trivial⟩⟩⟩⟩⟩⟩) H
      · have H := H.2 hc
        refine g_aload (r := some _) rfl rfl rfl (pc' := 102) ?_
        refine g_aload (r := some _) rfl rfl rfl (pc' := 103) ?_
        refine t_get (o := 63) rfl hT rfl rfl rfl (pc' := 106) rfl ?_
        refine g_iload rfl rfl rfl (pc' := 108) ?_
        obtain ⟨n3, hn3, H⟩ := H
        refine t_iaload hT (o := 63) (l := 32) rfl rfl rfl hn3 (pc' := 109) rfl ?_
        refine g_iload rfl rfl rfl (pc' := 111) ?_
        refine t_call hT (y := 128) (n := 3) (pc' := 114) rfl rfl (t_vt hT rfl rfl) rfl rfl ⟨(Nat.le_of_ble_eq_true rfl), (Nat.le_of_ble_eq_true rfl), (Nat.le_of_ble_eq_true rfl)⟩ rfl H (tI_elim (fun v5 h4 H hT => ?_))
        show gm_G _ 114 _ _ _ _
        refine g_if_eq rfl (pc' := 117) (pt := 121) rfl rfl ⟨fun hc => ?_, fun hc => ?_⟩
        · have H := H.1 hc
          exact g_weak (show gm_Lle [some _, some _, some _, some _, some _, none, some _] _ from ⟨rfl, ⟨rfl, ⟨rfl, ⟨rfl, ⟨rfl, ⟨rfl, trivial⟩⟩⟩⟩⟩⟩) H
        · have H := H.2 hc
          refine g_iconst rfl rfl rfl (pc' := 118) ?_
          refine g_goto rfl (pc' := 122) rfl ?_
          exact g_weak (show gm_Lle [some _, some _, some _, some _, some _, none, some _] _ from ⟨rfl, ⟨rfl, ⟨rfl, ⟨rfl, ⟨rfl, ⟨rfl, trivial⟩⟩⟩⟩⟩⟩) H
theorem w_443_121 {m : Nat} {x1 : Int32} {x2 : Int32} {x3 : Int32} {x4 : Int32} {x6 : Int32} {y0 : Int32} {h : hh_T} {Q : Option Value ⊕ Nat → hh_T → Prop} (hT : tw_ok h m) (H : gm_G 443 122 [some (.ref m), some (.int x1), some (.int x2), some (.int x3), some (.int x4), none, some (.int x6)] [.int (Int32.ofNat 0), .int y0] h Q) : gm_G 443 121 [some (.ref m), some (.int x1), some (.int x2), some (.int x3), some (.int x4), none, some (.int x6)] [.int y0] h Q := by
  refine g_iconst rfl rfl rfl (pc' := 122) ?_
  exact g_weak (show gm_Lle [some _, some _, some _, some _, some _, none, some _] _ from ⟨rfl, ⟨rfl, ⟨rfl, ⟨rfl, ⟨rfl, ⟨rfl, trivial⟩⟩⟩⟩⟩⟩) H
theorem w_443_122 {m : Nat} {x1 : Int32} {x2 : Int32} {x3 : Int32} {x4 : Int32} {x6 : Int32} {y0 : Int32} {y1 : Int32} {h : hh_T} {Q : Option Value ⊕ Nat → hh_T → Prop} (hT : tw_ok h m) (H : gm_G 443 69 [some (.ref m), some (.int x1), some (.int x2), some (.int x3), some (.int x4), some (.int (y1 + y0)), some (.int (x6 + (Int32.ofNat 1)))] [] h Q) : gm_G 443 122 [some (.ref m), some (.int x1), some (.int x2), some (.int x3), some (.int x4), none, some (.int x6)] [.int y0, .int y1] h Q := by
  refine g_iadd rfl rfl (pc' := 123) ?_
  refine g_istore rfl rfl rfl (pc' := 125) ?_
  refine g_iinc (c := (Int32.ofNat 1)) rfl rfl rfl rfl rfl (pc' := 128) ?_
  refine g_goto rfl (pc' := 69) rfl ?_
  exact g_weak (show gm_Lle [some _, some _, some _, some _, some _, some _, some _] _ from ⟨rfl, ⟨rfl, ⟨rfl, ⟨rfl, ⟨rfl, ⟨rfl, ⟨rfl, trivial⟩⟩⟩⟩⟩⟩⟩) H
theorem w_443_134 {m : Nat} {x1 : Int32} {x2 : Int32} {x3 : Int32} {x4 : Int32} {x5 : Int32} {x6 : Int32} {h : hh_T} {Q : Option Value ⊕ Nat → hh_T → Prop} (hT : tw_ok h m) (H : (¬ x6 < (Int32.ofNat 12) → ((¬ x5 = Int32.ofNat 0 → (gm_G 443 214 [some (.ref m), some (.int x1), some (.int x2), none, some (.int x4)] [.int (Int32.ofNat 0), .int x3] h Q)) ∧ (x5 = Int32.ofNat 0 → (gm_G 294 0 [some (.ref m), some (.int x4)] [] h (pI (fun v2 h1 => gm_G 443 214 [some (.ref m), some (.int x1), some (.int x2), none, some (.int x4)] [.int v2, .int x3] h1 Q) (fun _ _ => False)))))) ∧ (x6 < (Int32.ofNat 12) → (∃ n3, gm_ix x6 n3 48 ∧ (((hh_i h (m + 69) n3) < Int32.ofNat 0 → (gm_G 443 188 [some (.ref m), some (.int x1), some (.int x2), some (.int x3), some (.int x4), none, some (.int x6)] [.int x5] h Q)) ∧ (¬ (hh_i h (m + 69) n3) < Int32.ofNat 0 → (∃ n4, gm_ix x6 n4 48 ∧ (((((Int32.ofNat 2) * (hh_i h (m + 69) n4)) + (Int32.ofNat 1)) = x1 → (gm_G 443 188 [some (.ref m), some (.int x1), some (.int x2), some (.int x3), some (.int x4), none, some (.int x6)] [.int x5] h Q)) ∧ (¬ (((Int32.ofNat 2) * (hh_i h (m + 69) n4)) + (Int32.ofNat 1)) = x1 → (∃ n5, gm_ix x6 n5 48 ∧ (gm_G 128 0 [some (.ref m), some (.int (hh_i h (m + 74) n5)), some (.int x4)] [] h (pI (fun v7 h6 => (v7 = Int32.ofNat 0 → (gm_G 443 188 [some (.ref m), some (.int x1), some (.int x2), some (.int x3), some (.int x4), none, some (.int x6)] [.int x5] h6 Q)) ∧ (¬ v7 = Int32.ofNat 0 → (gm_G 443 189 [some (.ref m), some (.int x1), some (.int x2), some (.int x3), some (.int x4), none, some (.int x6)] [.int (Int32.ofNat 1), .int x5] h6 Q))) (fun _ _ => False)))))))))))) : gm_G 443 134 [some (.ref m), some (.int x1), some (.int x2), some (.int x3), some (.int x4), some (.int x5), some (.int x6)] [] h Q := by
  refine g_iload rfl rfl rfl (pc' := 136) ?_
  refine g_iconst rfl rfl rfl (pc' := 138) ?_
  refine g_ic_ge rfl (pc' := 141) (pt := 198) rfl rfl ⟨fun hc => ?_, fun hc => ?_⟩
  · have H := H.1 hc
    refine g_iload rfl rfl rfl (pc' := 199) ?_
    refine g_iload rfl rfl rfl (pc' := 201) ?_
    refine g_if_ne rfl (pc' := 204) (pt := 213) rfl rfl ⟨fun hc => ?_, fun hc => ?_⟩
    · have H := H.1 hc
      refine g_iconst rfl rfl rfl (pc' := 214) ?_
      exact g_weak (show gm_Lle [some _, some _, some _, none, some _] _ from ⟨rfl, ⟨rfl, ⟨rfl, ⟨rfl, trivial⟩⟩⟩⟩) H
    · have H := H.2 hc
      refine g_aload (r := some _) rfl rfl rfl (pc' := 205) ?_
      refine g_iload rfl rfl rfl (pc' := 207) ?_
      refine t_call hT (y := 294) (n := 2) (pc' := 210) rfl rfl (t_vt hT rfl rfl) rfl rfl ⟨(Nat.le_of_ble_eq_true rfl), (Nat.le_of_ble_eq_true rfl), (Nat.le_of_ble_eq_true rfl)⟩ rfl H (tI_elim (fun v2 h1 H hT => ?_))
      show gm_G _ 210 _ _ _ _
      refine g_goto rfl (pc' := 214) rfl ?_
      exact g_weak (show gm_Lle [some _, some _, some _, none, some _] _ from ⟨rfl, ⟨rfl, ⟨rfl, ⟨rfl, trivial⟩⟩⟩⟩) H
  · have H := H.2 hc
    refine g_iload rfl rfl rfl (pc' := 143) ?_
    refine g_aload (r := some _) rfl rfl rfl (pc' := 144) ?_
    refine t_get (o := 69) rfl hT rfl rfl rfl (pc' := 147) rfl ?_
    refine g_iload rfl rfl rfl (pc' := 149) ?_
    obtain ⟨n3, hn3, H⟩ := H
    refine t_iaload hT (o := 69) (l := 48) rfl rfl rfl hn3 (pc' := 150) rfl ?_
    refine g_if_lt rfl (pc' := 153) (pt := 188) rfl rfl ⟨fun hc => ?_, fun hc => ?_⟩
    · have H := H.1 hc
      exact g_weak (show gm_Lle [some _, some _, some _, some _, some _, none, some _] _ from ⟨rfl, ⟨rfl, ⟨rfl, ⟨rfl, ⟨rfl, ⟨rfl, trivial⟩⟩⟩⟩⟩⟩) H
    · have H := H.2 hc
      refine g_iconst rfl rfl rfl (pc' := 154) ?_
      refine g_aload (r := some _) rfl rfl rfl (pc' := 155) ?_
      refine t_get (o := 69) rfl hT rfl rfl rfl (pc' := 158) rfl ?_
      refine g_iload rfl rfl rfl (pc' := 160) ?_
      obtain ⟨n4, hn4, H⟩ := H
      refine t_iaload hT (o := 69) (l := 48) rfl rfl rfl hn4 (pc' := 161) rfl ?_
      refine g_imul rfl rfl (pc' := 162) ?_
      refine g_iconst rfl rfl rfl (pc' := 163) ?_
      refine g_iadd rfl rfl (pc' := 164) ?_
      refine g_iload rfl rfl rfl (pc' := 165) ?_
      refine g_ic_eq rfl (pc' := 168) (pt := 188) rfl rfl ⟨fun hc => ?_, fun hc => ?_⟩
      · have H := H.1 hc
        exact g_weak (show gm_Lle [some _, some _, some _, some _, some _, none, some _] _ from ⟨rfl, ⟨rfl, ⟨rfl, ⟨rfl, ⟨rfl, ⟨rfl, trivial⟩⟩⟩⟩⟩⟩) H
      · have H := H.2 hc
        refine g_aload (r := some _) rfl rfl rfl (pc' := 169) ?_
        refine g_aload (r := some _) rfl rfl rfl (pc' := 170) ?_
        refine t_get (o := 74) rfl hT rfl rfl rfl (pc' := 173) rfl ?_
        refine g_iload rfl rfl rfl (pc' := 175) ?_
        obtain ⟨n5, hn5, H⟩ := H
        refine t_iaload hT (o := 74) (l := 48) rfl rfl rfl hn5 (pc' := 176) rfl ?_
        refine g_iload rfl rfl rfl (pc' := 178) ?_
        refine t_call hT (y := 128) (n := 3) (pc' := 181) rfl rfl (t_vt hT rfl rfl) rfl rfl ⟨(Nat.le_of_ble_eq_true rfl), (Nat.le_of_ble_eq_true rfl), (Nat.le_of_ble_eq_true rfl)⟩ rfl H (tI_elim (fun v7 h6 H hT => ?_))
        show gm_G _ 181 _ _ _ _
        refine g_if_eq rfl (pc' := 184) (pt := 188) rfl rfl ⟨fun hc => ?_, fun hc => ?_⟩
        · have H := H.1 hc
          exact g_weak (show gm_Lle [some _, some _, some _, some _, some _, none, some _] _ from ⟨rfl, ⟨rfl, ⟨rfl, ⟨rfl, ⟨rfl, ⟨rfl, trivial⟩⟩⟩⟩⟩⟩) H
        · have H := H.2 hc
          refine g_iconst rfl rfl rfl (pc' := 185) ?_
          refine g_goto rfl (pc' := 189) rfl ?_
          exact g_weak (show gm_Lle [some _, some _, some _, some _, some _, none, some _] _ from ⟨rfl, ⟨rfl, ⟨rfl, ⟨rfl, ⟨rfl, ⟨rfl, trivial⟩⟩⟩⟩⟩⟩) H
theorem w_443_188 {m : Nat} {x1 : Int32} {x2 : Int32} {x3 : Int32} {x4 : Int32} {x6 : Int32} {y0 : Int32} {h : hh_T} {Q : Option Value ⊕ Nat → hh_T → Prop} (hT : tw_ok h m) (H : gm_G 443 189 [some (.ref m), some (.int x1), some (.int x2), some (.int x3), some (.int x4), none, some (.int x6)] [.int (Int32.ofNat 0), .int y0] h Q) : gm_G 443 188 [some (.ref m), some (.int x1), some (.int x2), some (.int x3), some (.int x4), none, some (.int x6)] [.int y0] h Q := by
  refine g_iconst rfl rfl rfl (pc' := 189) ?_
  exact g_weak (show gm_Lle [some _, some _, some _, some _, some _, none, some _] _ from ⟨rfl, ⟨rfl, ⟨rfl, ⟨rfl, ⟨rfl, ⟨rfl, trivial⟩⟩⟩⟩⟩⟩) H
theorem w_443_189 {m : Nat} {x1 : Int32} {x2 : Int32} {x3 : Int32} {x4 : Int32} {x6 : Int32} {y0 : Int32} {y1 : Int32} {h : hh_T} {Q : Option Value ⊕ Nat → hh_T → Prop} (hT : tw_ok h m) (H : gm_G 443 134 [some (.ref m), some (.int x1), some (.int x2), some (.int x3), some (.int x4), some (.int (y1 + y0)), some (.int (x6 + (Int32.ofNat 1)))] [] h Q) : gm_G 443 189 [some (.ref m), some (.int x1), some (.int x2), some (.int x3), some (.int x4), none, some (.int x6)] [.int y0, .int y1] h Q := by
  refine g_iadd rfl rfl (pc' := 190) ?_
  refine g_istore rfl rfl rfl (pc' := 192) ?_
  refine g_iinc (c := (Int32.ofNat 1)) rfl rfl rfl rfl rfl (pc' := 195) ?_
  refine g_goto rfl (pc' := 134) rfl ?_
  exact g_weak (show gm_Lle [some _, some _, some _, some _, some _, some _, some _] _ from ⟨rfl, ⟨rfl, ⟨rfl, ⟨rfl, ⟨rfl, ⟨rfl, ⟨rfl, trivial⟩⟩⟩⟩⟩⟩⟩) H
theorem w_443_214 {m : Nat} {x1 : Int32} {x2 : Int32} {x4 : Int32} {y0 : Int32} {y1 : Int32} {h : hh_T} {Q : Option Value ⊕ Nat → hh_T → Prop} (hT : tw_ok h m) (H : gm_G 443 216 [some (.ref m), some (.int x1), some (.int x2), some (.int (y1 + y0)), some (.int x4)] [] h Q) : gm_G 443 214 [some (.ref m), some (.int x1), some (.int x2), none, some (.int x4)] [.int y0, .int y1] h Q := by
  refine g_iadd rfl rfl (pc' := 215) ?_
  refine g_istore rfl rfl rfl (pc' := 216) ?_
  exact g_weak (show gm_Lle [some _, some _, some _, some _, some _] _ from ⟨rfl, ⟨rfl, ⟨rfl, ⟨rfl, ⟨rfl, trivial⟩⟩⟩⟩⟩) H
theorem w_443_216 {m : Nat} {x1 : Int32} {x2 : Int32} {x3 : Int32} {x4 : Int32} {h : hh_T} {Q : Option Value ⊕ Nat → hh_T → Prop} (hT : tw_ok h m) (H : gm_G 443 32 [some (.ref m), some (.int x1), some (.int x2), some (.int x3), some (.int (x4 + (Int32.ofNat 1)))] [] h Q) : gm_G 443 216 [some (.ref m), some (.int x1), some (.int x2), some (.int x3), some (.int x4)] [] h Q := by
  refine g_iinc (c := (Int32.ofNat 1)) rfl rfl rfl rfl rfl (pc' := 219) ?_
  refine g_goto rfl (pc' := 32) rfl ?_
  exact g_weak (show gm_Lle [some _, some _, some _, some _, some _] _ from ⟨rfl, ⟨rfl, ⟨rfl, ⟨rfl, ⟨rfl, trivial⟩⟩⟩⟩⟩) H
theorem w_463_0 {m : Nat} {x1 : Int32} {x2 : Int32} {h : hh_T} {Q : Option Value ⊕ Nat → hh_T → Prop} (hT : tw_ok h m) (H : ∀ h1, h1 = hh_wi h m 2 (Int32.ofNat 0) → ((¬ (hh_i h1 m 77) = Int32.ofNat 0 → (gm_G 285 0 [some (.ref m), some (.ref (m + 1)), some (.int (Int32.ofNat 0)), some (.int (hh_i h m 2))] [] h1 (pI (fun v3 h2 => (¬ v3 = Int32.ofNat 0 → (gm_G 153 0 [some (.ref m), some (.int x1)] [] h2 (pI (fun v5 h4 => gm_G 152 0 [some (.ref m), some (.int x2)] [] h4 (pI (fun v7 h6 => (v5 < Int32.ofNat 0 → (Q (.inl (some (.int (Int32.ofInt (-2))))) h6)) ∧ (¬ v5 < Int32.ofNat 0 → ((¬ v7 < Int32.ofNat 0 → (∃ n8, gm_ix v7 n8 32 ∧ ((¬ Int32.ofNat 0 < (hh_i h6 (m + 61) n8) → (gm_G 94 0 [some (.ref m), some (.int x2), some (.ref (m + 1)), some (.int (Int32.ofNat 0)), some (.int (hh_i h m 2))] [] h6 (pI (fun v10 h9 => (v10 < Int32.ofNat 0 → (gm_G 112 0 [some (.ref m)] [] h9 (pI (fun v12 h11 => (¬ v12 < Int32.ofNat 0 → (∀ h13, h13 = hh_wi h11 (m + 76) 0 ((hh_i h11 (m + 76) 0) + (Int32.ofNat 1)) → (∃ n14, gm_ix v5 n14 48 ∧ (gm_G 152 0 [some (.ref m), some (.int (hh_i h13 (m + 70) n14))] [] h13 (pI (fun v16 h15 => ∃ n17, gm_ix v16 n17 32 ∧ (gm_G 134 0 [some (.ref m), some (.int v12), some (.int (hh_i h11 (m + 76) 0)), some (.int x2), some (.int (hh_i h15 (m + 61) n17)), some (.int x1)] [] h15 (pV (fun h18 => gm_G 133 0 [some (.ref m), some (.int v12), some (.ref (m + 1)), some (.int (Int32.ofNat 0)), some (.int (hh_i h m 2))] [] h18 (pV (fun h19 => ∃ n20, gm_ix v5 n20 48 ∧ (∃ n21, gm_ix v12 n21 32 ∧ (∀ h22, h22 = hh_wi h19 (m + 63) n21 (hh_i h19 (m + 74) n20) → (gm_G 440 0 [some (.ref m)] [] h22 (pI (fun v24 h23 => (¬ v24 < Int32.ofNat 0 → (Q (.inl (some (.int (hh_i h11 (m + 76) 0)))) h23)) ∧ (v24 < Int32.ofNat 0 → (Q (.inl (some (.int v24))) h23))) (fun _ _ => False)))))) (fun _ _ => False))) (fun _ _ => False)))) (fun _ _ => False)))))) ∧ (v12 < Int32.ofNat 0 → (Q (.inl (some (.int (Int32.ofInt (-3))))) h11))) (fun _ _ => False)))) ∧ (¬ v10 < Int32.ofNat 0 → (Q (.inl (some (.int (Int32.ofInt (-4))))) h9))) (fun _ _ => False)))) ∧ (Int32.ofNat 0 < (hh_i h6 (m + 61) n8) → (Q (.inl (some (.int (Int32.ofInt (-10))))) h6))))) ∧ (v7 < Int32.ofNat 0 → (Q (.inl (some (.int (Int32.ofInt (-2))))) h6))))) (fun _ _ => False))) (fun _ _ => False)))) ∧ (v3 = Int32.ofNat 0 → (Q (.inl (some (.int (Int32.ofInt (-11))))) h2))) (fun _ _ => False)))) ∧ ((hh_i h1 m 77) = Int32.ofNat 0 → (Q (.inl (some (.int (Int32.ofInt (-9))))) h1)))) : gm_G 463 0 [some (.ref m), some (.int x1), some (.int x2)] [] h Q := by
  refine g_aload (r := some _) rfl rfl rfl (pc' := 1) ?_
  refine t_getI rfl hT rfl rfl (pc' := 4) rfl ?_
  refine g_istore rfl rfl rfl (pc' := 5) ?_
  refine g_aload (r := some _) rfl rfl rfl (pc' := 6) ?_
  refine g_iconst rfl rfl rfl (pc' := 7) ?_
  refine t_putI rfl hT rfl rfl  (pc' := 10) rfl (fun hT => ?_)
  have H := H _ rfl
  refine g_aload (r := some _) rfl rfl rfl (pc' := 11) ?_
  refine t_getZ rfl hT rfl rfl (pc' := 14) rfl ?_
  refine g_if_ne rfl (pc' := 17) (pt := 20) rfl rfl ⟨fun hc => ?_, fun hc => ?_⟩
  · have H := H.1 hc
    refine g_aload (r := some _) rfl rfl rfl (pc' := 21) ?_
    refine g_aload (r := some _) rfl rfl rfl (pc' := 22) ?_
    refine t_get (o := 1) rfl hT rfl rfl rfl (pc' := 25) rfl ?_
    refine g_iconst rfl rfl rfl (pc' := 26) ?_
    refine g_iload rfl rfl rfl (pc' := 27) ?_
    refine t_call hT (y := 285) (n := 4) (pc' := 30) rfl rfl (t_vt hT rfl rfl) rfl rfl ⟨(Nat.le_of_ble_eq_true rfl), (Nat.le_of_ble_eq_true rfl), (Nat.le_of_ble_eq_true rfl)⟩ rfl H (tI_elim (fun v3 h2 H hT => ?_))
    show gm_G _ 30 _ _ _ _
    refine g_if_ne rfl (pc' := 33) (pt := 36) rfl rfl ⟨fun hc => ?_, fun hc => ?_⟩
    · have H := H.1 hc
      refine g_aload (r := some _) rfl rfl rfl (pc' := 37) ?_
      refine g_iload rfl rfl rfl (pc' := 38) ?_
      refine t_call hT (y := 153) (n := 2) (pc' := 41) rfl rfl (t_vt hT rfl rfl) rfl rfl ⟨(Nat.le_of_ble_eq_true rfl), (Nat.le_of_ble_eq_true rfl), (Nat.le_of_ble_eq_true rfl)⟩ rfl H (tI_elim (fun v5 h4 H hT => ?_))
      show gm_G _ 41 _ _ _ _
      refine g_istore rfl rfl rfl (pc' := 43) ?_
      refine g_aload (r := some _) rfl rfl rfl (pc' := 44) ?_
      refine g_iload rfl rfl rfl (pc' := 45) ?_
      refine t_call hT (y := 152) (n := 2) (pc' := 48) rfl rfl (t_vt hT rfl rfl) rfl rfl ⟨(Nat.le_of_ble_eq_true rfl), (Nat.le_of_ble_eq_true rfl), (Nat.le_of_ble_eq_true rfl)⟩ rfl H (tI_elim (fun v7 h6 H hT => ?_))
      show gm_G _ 48 _ _ _ _
      refine g_istore rfl rfl rfl (pc' := 50) ?_
      refine g_iload rfl rfl rfl (pc' := 52) ?_
      refine g_if_lt rfl (pc' := 55) (pt := 60) rfl rfl ⟨fun hc => ?_, fun hc => ?_⟩
      · have H := H.1 hc
        refine g_iconst rfl rfl rfl (pc' := 62) ?_
        exact g_ireturn rfl (Or.inl rfl) H
      · have H := H.2 hc
        refine g_iload rfl rfl rfl (pc' := 57) ?_
        refine g_if_ge rfl (pc' := 60) (pt := 63) rfl rfl ⟨fun hc => ?_, fun hc => ?_⟩
        · have H := H.1 hc
          refine g_aload (r := some _) rfl rfl rfl (pc' := 64) ?_
          refine t_get (o := 61) rfl hT rfl rfl rfl (pc' := 67) rfl ?_
          refine g_iload rfl rfl rfl (pc' := 69) ?_
          obtain ⟨n8, hn8, H⟩ := H
          refine t_iaload hT (o := 61) (l := 32) rfl rfl rfl hn8 (pc' := 70) rfl ?_
          refine g_if_le rfl (pc' := 73) (pt := 76) rfl rfl ⟨fun hc => ?_, fun hc => ?_⟩
          · have H := H.1 hc
            refine g_aload (r := some _) rfl rfl rfl (pc' := 77) ?_
            refine g_iload rfl rfl rfl (pc' := 78) ?_
            refine g_aload (r := some _) rfl rfl rfl (pc' := 79) ?_
            refine t_get (o := 1) rfl hT rfl rfl rfl (pc' := 82) rfl ?_
            refine g_iconst rfl rfl rfl (pc' := 83) ?_
            refine g_iload rfl rfl rfl (pc' := 84) ?_
            refine t_call hT (y := 94) (n := 5) (pc' := 87) rfl rfl (t_vt hT rfl rfl) rfl rfl ⟨(Nat.le_of_ble_eq_true rfl), (Nat.le_of_ble_eq_true rfl), (Nat.le_of_ble_eq_true rfl)⟩ rfl H (tI_elim (fun v10 h9 H hT => ?_))
            show gm_G _ 87 _ _ _ _
            refine g_if_lt rfl (pc' := 90) (pt := 93) rfl rfl ⟨fun hc => ?_, fun hc => ?_⟩
            · have H := H.1 hc
              refine g_aload (r := some _) rfl rfl rfl (pc' := 94) ?_
              refine t_call hT (y := 112) (n := 1) (pc' := 97) rfl rfl (t_vt hT rfl rfl) rfl rfl ⟨(Nat.le_of_ble_eq_true rfl), (Nat.le_of_ble_eq_true rfl), (Nat.le_of_ble_eq_true rfl)⟩ rfl H (tI_elim (fun v12 h11 H hT => ?_))
              show gm_G _ 97 _ _ _ _
              refine g_istore rfl rfl rfl (pc' := 99) ?_
              refine g_iload rfl rfl rfl (pc' := 101) ?_
              refine g_if_ge rfl (pc' := 104) (pt := 107) rfl rfl ⟨fun hc => ?_, fun hc => ?_⟩
              · have H := H.1 hc
                refine g_aload (r := some _) rfl rfl rfl (pc' := 108) ?_
                refine t_get (o := 76) rfl hT rfl rfl rfl (pc' := 111) rfl ?_
                refine g_iconst rfl rfl rfl (pc' := 112) ?_
                refine g_dup2_a rfl (pc' := 113) rfl ?_
                refine t_iaload hT (o := 76) (l := 4) rfl rfl rfl ⟨rfl, by decide, by decide⟩ (pc' := 114) rfl ?_
                refine g_dup_x2 rfl (pc' := 115) rfl ?_
                refine g_iconst rfl rfl rfl (pc' := 116) ?_
                refine g_iadd rfl rfl (pc' := 117) ?_
                refine t_iastore hT (o := 76) (l := 4) rfl rfl rfl ⟨rfl, by decide, by decide⟩  (pc' := 118) rfl (fun hT => ?_)
                have H := H _ rfl
                refine g_istore rfl rfl rfl (pc' := 120) ?_
                refine g_aload (r := some _) rfl rfl rfl (pc' := 121) ?_
                refine g_iload rfl rfl rfl (pc' := 123) ?_
                refine g_iload rfl rfl rfl (pc' := 125) ?_
                refine g_iload rfl rfl rfl (pc' := 126) ?_
                refine g_aload (r := some _) rfl rfl rfl (pc' := 127) ?_
                refine t_get (o := 61) rfl hT rfl rfl rfl (pc' := 130) rfl ?_
                refine g_aload (r := some _) rfl rfl rfl (pc' := 131) ?_
                refine g_aload (r := some _) rfl rfl rfl (pc' := 132) ?_
                refine t_get (o := 70) rfl hT rfl rfl rfl (pc' := 135) rfl ?_
                refine g_iload rfl rfl rfl (pc' := 137) ?_
                obtain ⟨n14, hn14, H⟩ := H
                refine t_iaload hT (o := 70) (l := 48) rfl rfl rfl hn14 (pc' := 138) rfl ?_
                refine t_call hT (y := 152) (n := 2) (pc' := 141) rfl rfl (t_vt hT rfl rfl) rfl rfl ⟨(Nat.le_of_ble_eq_true rfl), (Nat.le_of_ble_eq_true rfl), (Nat.le_of_ble_eq_true rfl)⟩ rfl H (tI_elim (fun v16 h15 H hT => ?_))
                show gm_G _ 141 _ _ _ _
                obtain ⟨n17, hn17, H⟩ := H
                refine t_iaload hT (o := 61) (l := 32) rfl rfl rfl hn17 (pc' := 142) rfl ?_
                refine g_iload rfl rfl rfl (pc' := 143) ?_
                refine t_call hT (y := 134) (n := 6) (pc' := 146) rfl rfl (t_vt hT rfl rfl) rfl rfl ⟨(Nat.le_of_ble_eq_true rfl), (Nat.le_of_ble_eq_true rfl), (Nat.le_of_ble_eq_true rfl)⟩ rfl H (tV_elim (fun h18 H hT => ?_))
                show gm_G _ 146 _ _ _ _
                refine g_aload (r := some _) rfl rfl rfl (pc' := 147) ?_
                refine g_iload rfl rfl rfl (pc' := 149) ?_
                refine g_aload (r := some _) rfl rfl rfl (pc' := 150) ?_
                refine t_get (o := 1) rfl hT rfl rfl rfl (pc' := 153) rfl ?_
                refine g_iconst rfl rfl rfl (pc' := 154) ?_
                refine g_iload rfl rfl rfl (pc' := 155) ?_
                refine t_call hT (y := 133) (n := 5) (pc' := 158) rfl rfl (t_vt hT rfl rfl) rfl rfl ⟨(Nat.le_of_ble_eq_true rfl), (Nat.le_of_ble_eq_true rfl), (Nat.le_of_ble_eq_true rfl)⟩ rfl H (tV_elim (fun h19 H hT => ?_))
                show gm_G _ 158 _ _ _ _
                refine g_aload (r := some _) rfl rfl rfl (pc' := 159) ?_
                refine t_get (o := 63) rfl hT rfl rfl rfl (pc' := 162) rfl ?_
                refine g_iload rfl rfl rfl (pc' := 164) ?_
                refine g_aload (r := some _) rfl rfl rfl (pc' := 165) ?_
                refine t_get (o := 74) rfl hT rfl rfl rfl (pc' := 168) rfl ?_
                refine g_iload rfl rfl rfl (pc' := 170) ?_
                obtain ⟨n20, hn20, H⟩ := H
                refine t_iaload hT (o := 74) (l := 48) rfl rfl rfl hn20 (pc' := 171) rfl ?_
                obtain ⟨n21, hn21, H⟩ := H
                refine t_iastore hT (o := 63) (l := 32) rfl rfl rfl hn21  (pc' := 172) rfl (fun hT => ?_)
                have H := H _ rfl
                refine g_aload (r := some _) rfl rfl rfl (pc' := 173) ?_
                refine t_call hT (y := 440) (n := 1) (pc' := 176) rfl rfl (t_vt hT rfl rfl) rfl rfl ⟨(Nat.le_of_ble_eq_true rfl), (Nat.le_of_ble_eq_true rfl), (Nat.le_of_ble_eq_true rfl)⟩ rfl H (tI_elim (fun v24 h23 H hT => ?_))
                show gm_G _ 176 _ _ _ _
                refine g_istore rfl rfl rfl (pc' := 178) ?_
                refine g_iload rfl rfl rfl (pc' := 180) ?_
                refine g_if_ge rfl (pc' := 183) (pt := 188) rfl rfl ⟨fun hc => ?_, fun hc => ?_⟩
                · have H := H.1 hc
                  refine g_iload rfl rfl rfl (pc' := 190) ?_
                  exact g_ireturn rfl (Or.inl rfl) H
                · have H := H.2 hc
                  refine g_iload rfl rfl rfl (pc' := 185) ?_
                  refine g_goto rfl (pc' := 190) rfl ?_
                  exact g_ireturn rfl (Or.inl rfl) H
              · have H := H.2 hc
                refine g_iconst rfl rfl rfl (pc' := 106) ?_
                exact g_ireturn rfl (Or.inl rfl) H
            · have H := H.2 hc
              refine g_iconst rfl rfl rfl (pc' := 92) ?_
              exact g_ireturn rfl (Or.inl rfl) H
          · have H := H.2 hc
            refine g_iconst rfl rfl rfl (pc' := 75) ?_
            exact g_ireturn rfl (Or.inl rfl) H
        · have H := H.2 hc
          refine g_iconst rfl rfl rfl (pc' := 62) ?_
          exact g_ireturn rfl (Or.inl rfl) H
    · have H := H.2 hc
      refine g_iconst rfl rfl rfl (pc' := 35) ?_
      exact g_ireturn rfl (Or.inl rfl) H
  · have H := H.2 hc
    refine g_iconst rfl rfl rfl (pc' := 19) ?_
    exact g_ireturn rfl (Or.inl rfl) H
theorem w_464_0 {m : Nat} {x1 : Int32} {x2 : Int32} {h : hh_T} {Q : Option Value ⊕ Nat → hh_T → Prop} (hT : tw_ok h m) (H : ∀ h1, h1 = hh_wi h m 2 (Int32.ofNat 0) → ((¬ (hh_i h1 m 77) = Int32.ofNat 0 → ((x2 < Int32.ofNat 0 → (Q (.inl (some (.int (Int32.ofInt (-1))))) h1)) ∧ (¬ x2 < Int32.ofNat 0 → ((¬ (Int32.ofNat 8) < x2 → (gm_G 285 0 [some (.ref m), some (.ref (m + 1)), some (.int (Int32.ofNat 0)), some (.int (hh_i h m 2))] [] h1 (pI (fun v3 h2 => (¬ v3 = Int32.ofNat 0 → (gm_G 152 0 [some (.ref m), some (.int x1)] [] h2 (pI (fun v5 h4 => (¬ v5 < Int32.ofNat 0 → (∃ n6, gm_ix v5 n6 32 ∧ ((¬ Int32.ofNat 0 < (hh_i h4 (m + 61) n6) → (gm_G 94 0 [some (.ref m), some (.int x1), some (.ref (m + 1)), some (.int (Int32.ofNat 0)), some (.int (hh_i h m 2))] [] h4 (pI (fun v8 h7 => (v8 < Int32.ofNat 0 → (gm_G 112 0 [some (.ref m)] [] h7 (pI (fun v10 h9 => (¬ v10 < Int32.ofNat 0 → (gm_G 403 0 [some (.ref m)] [] h9 (pI (fun v12 h11 => ∀ h13, h13 = hh_wi h11 (m + 76) 0 ((hh_i h11 (m + 76) 0) + (Int32.ofNat 1)) → (gm_G 134 0 [some (.ref m), some (.int v10), some (.int (hh_i h11 (m + 76) 0)), some (.int x1), some (.int x2), some (.int (Int32.ofInt (-1)))] [] h13 (pV (fun h14 => gm_G 133 0 [some (.ref m), some (.int v10), some (.ref (m + 1)), some (.int (Int32.ofNat 0)), some (.int (hh_i h m 2))] [] h14 (pV (fun h15 => gm_G 292 0 [some (.ref m), some (.int v12), some (.int x2)] [] h15 (pV (fun h16 => ∃ n17, gm_ix v10 n17 32 ∧ (∀ h18, h18 = hh_wi h16 (m + 63) n17 v12 → (gm_G 440 0 [some (.ref m)] [] h18 (pI (fun v20 h19 => (¬ v20 < Int32.ofNat 0 → (Q (.inl (some (.int (hh_i h11 (m + 76) 0)))) h19)) ∧ (v20 < Int32.ofNat 0 → (Q (.inl (some (.int v20))) h19))) (fun _ _ => False))))) (fun _ _ => False))) (fun _ _ => False))) (fun _ _ => False)))) (fun _ _ => False)))) ∧ (v10 < Int32.ofNat 0 → (Q (.inl (some (.int (Int32.ofInt (-3))))) h9))) (fun _ _ => False)))) ∧ (¬ v8 < Int32.ofNat 0 → (Q (.inl (some (.int (Int32.ofInt (-4))))) h7))) (fun _ _ => False)))) ∧ (Int32.ofNat 0 < (hh_i h4 (m + 61) n6) → (Q (.inl (some (.int (Int32.ofInt (-10))))) h4))))) ∧ (v5 < Int32.ofNat 0 → (Q (.inl (some (.int (Int32.ofInt (-2))))) h4))) (fun _ _ => False)))) ∧ (v3 = Int32.ofNat 0 → (Q (.inl (some (.int (Int32.ofInt (-11))))) h2))) (fun _ _ => False)))) ∧ ((Int32.ofNat 8) < x2 → (Q (.inl (some (.int (Int32.ofInt (-1))))) h1)))))) ∧ ((hh_i h1 m 77) = Int32.ofNat 0 → (Q (.inl (some (.int (Int32.ofInt (-9))))) h1)))) : gm_G 464 0 [some (.ref m), some (.int x1), some (.int x2)] [] h Q := by
  refine g_aload (r := some _) rfl rfl rfl (pc' := 1) ?_
  refine t_getI rfl hT rfl rfl (pc' := 4) rfl ?_
  refine g_istore rfl rfl rfl (pc' := 5) ?_
  refine g_aload (r := some _) rfl rfl rfl (pc' := 6) ?_
  refine g_iconst rfl rfl rfl (pc' := 7) ?_
  refine t_putI rfl hT rfl rfl  (pc' := 10) rfl (fun hT => ?_)
  have H := H _ rfl
  refine g_aload (r := some _) rfl rfl rfl (pc' := 11) ?_
  refine t_getZ rfl hT rfl rfl (pc' := 14) rfl ?_
  refine g_if_ne rfl (pc' := 17) (pt := 20) rfl rfl ⟨fun hc => ?_, fun hc => ?_⟩
  · have H := H.1 hc
    refine g_iload rfl rfl rfl (pc' := 21) ?_
    refine g_if_lt rfl (pc' := 24) (pt := 30) rfl rfl ⟨fun hc => ?_, fun hc => ?_⟩
    · have H := H.1 hc
      refine g_iconst rfl rfl rfl (pc' := 31) ?_
      exact g_ireturn rfl (Or.inl rfl) H
    · have H := H.2 hc
      refine g_iload rfl rfl rfl (pc' := 25) ?_
      refine g_iconst rfl rfl rfl (pc' := 27) ?_
      refine g_ic_le rfl (pc' := 30) (pt := 32) rfl rfl ⟨fun hc => ?_, fun hc => ?_⟩
      · have H := H.1 hc
        refine g_aload (r := some _) rfl rfl rfl (pc' := 33) ?_
        refine g_aload (r := some _) rfl rfl rfl (pc' := 34) ?_
        refine t_get (o := 1) rfl hT rfl rfl rfl (pc' := 37) rfl ?_
        refine g_iconst rfl rfl rfl (pc' := 38) ?_
        refine g_iload rfl rfl rfl (pc' := 39) ?_
        refine t_call hT (y := 285) (n := 4) (pc' := 42) rfl rfl (t_vt hT rfl rfl) rfl rfl ⟨(Nat.le_of_ble_eq_true rfl), (Nat.le_of_ble_eq_true rfl), (Nat.le_of_ble_eq_true rfl)⟩ rfl H (tI_elim (fun v3 h2 H hT => ?_))
        show gm_G _ 42 _ _ _ _
        refine g_if_ne rfl (pc' := 45) (pt := 48) rfl rfl ⟨fun hc => ?_, fun hc => ?_⟩
        · have H := H.1 hc
          refine g_aload (r := some _) rfl rfl rfl (pc' := 49) ?_
          refine g_iload rfl rfl rfl (pc' := 50) ?_
          refine t_call hT (y := 152) (n := 2) (pc' := 53) rfl rfl (t_vt hT rfl rfl) rfl rfl ⟨(Nat.le_of_ble_eq_true rfl), (Nat.le_of_ble_eq_true rfl), (Nat.le_of_ble_eq_true rfl)⟩ rfl H (tI_elim (fun v5 h4 H hT => ?_))
          show gm_G _ 53 _ _ _ _
          refine g_istore rfl rfl rfl (pc' := 55) ?_
          refine g_iload rfl rfl rfl (pc' := 57) ?_
          refine g_if_ge rfl (pc' := 60) (pt := 63) rfl rfl ⟨fun hc => ?_, fun hc => ?_⟩
          · have H := H.1 hc
            refine g_aload (r := some _) rfl rfl rfl (pc' := 64) ?_
            refine t_get (o := 61) rfl hT rfl rfl rfl (pc' := 67) rfl ?_
            refine g_iload rfl rfl rfl (pc' := 69) ?_
            obtain ⟨n6, hn6, H⟩ := H
            refine t_iaload hT (o := 61) (l := 32) rfl rfl rfl hn6 (pc' := 70) rfl ?_
            refine g_if_le rfl (pc' := 73) (pt := 76) rfl rfl ⟨fun hc => ?_, fun hc => ?_⟩
            · have H := H.1 hc
              refine g_aload (r := some _) rfl rfl rfl (pc' := 77) ?_
              refine g_iload rfl rfl rfl (pc' := 78) ?_
              refine g_aload (r := some _) rfl rfl rfl (pc' := 79) ?_
              refine t_get (o := 1) rfl hT rfl rfl rfl (pc' := 82) rfl ?_
              refine g_iconst rfl rfl rfl (pc' := 83) ?_
              refine g_iload rfl rfl rfl (pc' := 84) ?_
              refine t_call hT (y := 94) (n := 5) (pc' := 87) rfl rfl (t_vt hT rfl rfl) rfl rfl ⟨(Nat.le_of_ble_eq_true rfl), (Nat.le_of_ble_eq_true rfl), (Nat.le_of_ble_eq_true rfl)⟩ rfl H (tI_elim (fun v8 h7 H hT => ?_))
              show gm_G _ 87 _ _ _ _
              refine g_if_lt rfl (pc' := 90) (pt := 93) rfl rfl ⟨fun hc => ?_, fun hc => ?_⟩
              · have H := H.1 hc
                refine g_aload (r := some _) rfl rfl rfl (pc' := 94) ?_
                refine t_call hT (y := 112) (n := 1) (pc' := 97) rfl rfl (t_vt hT rfl rfl) rfl rfl ⟨(Nat.le_of_ble_eq_true rfl), (Nat.le_of_ble_eq_true rfl), (Nat.le_of_ble_eq_true rfl)⟩ rfl H (tI_elim (fun v10 h9 H hT => ?_))
                show gm_G _ 97 _ _ _ _
                refine g_istore rfl rfl rfl (pc' := 99) ?_
                refine g_iload rfl rfl rfl (pc' := 101) ?_
                refine g_if_ge rfl (pc' := 104) (pt := 107) rfl rfl ⟨fun hc => ?_, fun hc => ?_⟩
                · have H := H.1 hc
                  refine g_aload (r := some _) rfl rfl rfl (pc' := 108) ?_
                  refine t_call hT (y := 403) (n := 1) (pc' := 111) rfl rfl (t_vt hT rfl rfl) rfl rfl ⟨(Nat.le_of_ble_eq_true rfl), (Nat.le_of_ble_eq_true rfl), (Nat.le_of_ble_eq_true rfl)⟩ rfl H (tI_elim (fun v12 h11 H hT => ?_))
                  show gm_G _ 111 _ _ _ _
                  refine g_istore rfl rfl rfl (pc' := 113) ?_
                  refine g_aload (r := some _) rfl rfl rfl (pc' := 114) ?_
                  refine t_get (o := 76) rfl hT rfl rfl rfl (pc' := 117) rfl ?_
                  refine g_iconst rfl rfl rfl (pc' := 118) ?_
                  refine g_dup2_a rfl (pc' := 119) rfl ?_
                  refine t_iaload hT (o := 76) (l := 4) rfl rfl rfl ⟨rfl, by decide, by decide⟩ (pc' := 120) rfl ?_
                  refine g_dup_x2 rfl (pc' := 121) rfl ?_
                  refine g_iconst rfl rfl rfl (pc' := 122) ?_
                  refine g_iadd rfl rfl (pc' := 123) ?_
                  refine t_iastore hT (o := 76) (l := 4) rfl rfl rfl ⟨rfl, by decide, by decide⟩  (pc' := 124) rfl (fun hT => ?_)
                  have H := H _ rfl
                  refine g_istore rfl rfl rfl (pc' := 126) ?_
                  refine g_aload (r := some _) rfl rfl rfl (pc' := 127) ?_
                  refine g_iload rfl rfl rfl (pc' := 129) ?_
                  refine g_iload rfl rfl rfl (pc' := 131) ?_
                  refine g_iload rfl rfl rfl (pc' := 132) ?_
                  refine g_iload rfl rfl rfl (pc' := 133) ?_
                  refine g_iconst rfl rfl rfl (pc' := 134) ?_
                  refine t_call hT (y := 134) (n := 6) (pc' := 137) rfl rfl (t_vt hT rfl rfl) rfl rfl ⟨(Nat.le_of_ble_eq_true rfl), (Nat.le_of_ble_eq_true rfl), (Nat.le_of_ble_eq_true rfl)⟩ rfl H (tV_elim (fun h14 H hT => ?_))
                  show gm_G _ 137 _ _ _ _
                  refine g_aload (r := some _) rfl rfl rfl (pc' := 138) ?_
                  refine g_iload rfl rfl rfl (pc' := 140) ?_
                  refine g_aload (r := some _) rfl rfl rfl (pc' := 141) ?_
                  refine t_get (o := 1) rfl hT rfl rfl rfl (pc' := 144) rfl ?_
                  refine g_iconst rfl rfl rfl (pc' := 145) ?_
                  refine g_iload rfl rfl rfl (pc' := 146) ?_
                  refine t_call hT (y := 133) (n := 5) (pc' := 149) rfl rfl (t_vt hT rfl rfl) rfl rfl ⟨(Nat.le_of_ble_eq_true rfl), (Nat.le_of_ble_eq_true rfl), (Nat.le_of_ble_eq_true rfl)⟩ rfl H (tV_elim (fun h15 H hT => ?_))
                  show gm_G _ 149 _ _ _ _
                  refine g_aload (r := some _) rfl rfl rfl (pc' := 150) ?_
                  refine g_iload rfl rfl rfl (pc' := 152) ?_
                  refine g_iload rfl rfl rfl (pc' := 153) ?_
                  refine t_call hT (y := 292) (n := 3) (pc' := 156) rfl rfl (t_vt hT rfl rfl) rfl rfl ⟨(Nat.le_of_ble_eq_true rfl), (Nat.le_of_ble_eq_true rfl), (Nat.le_of_ble_eq_true rfl)⟩ rfl H (tV_elim (fun h16 H hT => ?_))
                  show gm_G _ 156 _ _ _ _
                  refine g_aload (r := some _) rfl rfl rfl (pc' := 157) ?_
                  refine t_get (o := 63) rfl hT rfl rfl rfl (pc' := 160) rfl ?_
                  refine g_iload rfl rfl rfl (pc' := 162) ?_
                  refine g_iload rfl rfl rfl (pc' := 164) ?_
                  obtain ⟨n17, hn17, H⟩ := H
                  refine t_iastore hT (o := 63) (l := 32) rfl rfl rfl hn17  (pc' := 165) rfl (fun hT => ?_)
                  have H := H _ rfl
                  refine g_aload (r := some _) rfl rfl rfl (pc' := 166) ?_
                  refine t_call hT (y := 440) (n := 1) (pc' := 169) rfl rfl (t_vt hT rfl rfl) rfl rfl ⟨(Nat.le_of_ble_eq_true rfl), (Nat.le_of_ble_eq_true rfl), (Nat.le_of_ble_eq_true rfl)⟩ rfl H (tI_elim (fun v20 h19 H hT => ?_))
                  show gm_G _ 169 _ _ _ _
                  refine g_istore rfl rfl rfl (pc' := 171) ?_
                  refine g_iload rfl rfl rfl (pc' := 173) ?_
                  refine g_if_ge rfl (pc' := 176) (pt := 181) rfl rfl ⟨fun hc => ?_, fun hc => ?_⟩
                  · have H := H.1 hc
                    refine g_iload rfl rfl rfl (pc' := 183) ?_
                    exact g_ireturn rfl (Or.inl rfl) H
                  · have H := H.2 hc
                    refine g_iload rfl rfl rfl (pc' := 178) ?_
                    refine g_goto rfl (pc' := 183) rfl ?_
                    exact g_ireturn rfl (Or.inl rfl) H
                · have H := H.2 hc
                  refine g_iconst rfl rfl rfl (pc' := 106) ?_
                  exact g_ireturn rfl (Or.inl rfl) H
              · have H := H.2 hc
                refine g_iconst rfl rfl rfl (pc' := 92) ?_
                exact g_ireturn rfl (Or.inl rfl) H
            · have H := H.2 hc
              refine g_iconst rfl rfl rfl (pc' := 75) ?_
              exact g_ireturn rfl (Or.inl rfl) H
          · have H := H.2 hc
            refine g_iconst rfl rfl rfl (pc' := 62) ?_
            exact g_ireturn rfl (Or.inl rfl) H
        · have H := H.2 hc
          refine g_iconst rfl rfl rfl (pc' := 47) ?_
          exact g_ireturn rfl (Or.inl rfl) H
      · have H := H.2 hc
        refine g_iconst rfl rfl rfl (pc' := 31) ?_
        exact g_ireturn rfl (Or.inl rfl) H
  · have H := H.2 hc
    refine g_iconst rfl rfl rfl (pc' := 19) ?_
    exact g_ireturn rfl (Or.inl rfl) H
theorem w_465_0 {m : Nat} {x1 : Int32} {h : hh_T} {Q : Option Value ⊕ Nat → hh_T → Prop} (hT : tw_ok h m) (H : (¬ (hh_i h m 77) = Int32.ofNat 0 → ((¬ x1 = Int32.ofNat 0 → (gm_G 152 0 [some (.ref m), some (.int x1)] [] h (pI (fun v2 h1 => (¬ v2 < Int32.ofNat 0 → (gm_G 156 0 [some (.ref m), some (.int x1)] [] h1 (pI (fun v4 h3 => (Int32.ofNat 0 < v4 → (gm_G 465 47 [some (.ref m), some (.int x1), some (.int v2)] [] h3 Q)) ∧ (¬ Int32.ofNat 0 < v4 → (gm_G 125 0 [some (.ref m), some (.int ((Int32.ofNat 2) * x1))] [] h3 (pI (fun v6 h5 => (v6 = Int32.ofNat 0 → (gm_G 465 52 [some (.ref m), some (.int x1), some (.int v2)] [.int (Int32.ofNat 0)] h5 Q)) ∧ (¬ v6 = Int32.ofNat 0 → (gm_G 465 47 [some (.ref m), some (.int x1), some (.int v2)] [] h5 Q))) (fun _ _ => False))))) (fun _ _ => False)))) ∧ (v2 < Int32.ofNat 0 → (Q (.inl (some (.int (Int32.ofInt (-2))))) h1))) (fun _ _ => False)))) ∧ (x1 = Int32.ofNat 0 → (Q (.inl (some (.int (Int32.ofInt (-1))))) h)))) ∧ ((hh_i h m 77) = Int32.ofNat 0 → (Q (.inl (some (.int (Int32.ofInt (-9))))) h))) : gm_G 465 0 [some (.ref m), some (.int x1)] [] h Q := by
  refine g_aload (r := some _) rfl rfl rfl (pc' := 1) ?_
  refine t_getZ rfl hT rfl rfl (pc' := 4) rfl ?_
  refine g_if_ne rfl (pc' := 7) (pt := 10) rfl rfl ⟨fun hc => ?_, fun hc => ?_⟩
  · have H := H.1 hc
    refine g_iload rfl rfl rfl (pc' := 11) ?_
    refine g_if_ne rfl (pc' := 14) (pt := 16) rfl rfl ⟨fun hc => ?_, fun hc => ?_⟩
    · have H := H.1 hc
      refine g_aload (r := some _) rfl rfl rfl (pc' := 17) ?_
      refine g_iload rfl rfl rfl (pc' := 18) ?_
      refine t_call hT (y := 152) (n := 2) (pc' := 21) rfl rfl (t_vt hT rfl rfl) rfl rfl ⟨(Nat.le_of_ble_eq_true rfl), (Nat.le_of_ble_eq_true rfl), (Nat.le_of_ble_eq_true rfl)⟩ rfl H (tI_elim (fun v2 h1 H hT => ?_))
      show gm_G _ 21 _ _ _ _
      refine g_istore rfl rfl rfl (pc' := 22) ?_
      refine g_iload rfl rfl rfl (pc' := 23) ?_
      refine g_if_ge rfl (pc' := 26) (pt := 29) rfl rfl ⟨fun hc => ?_, fun hc => ?_⟩
      · have H := H.1 hc
        refine g_aload (r := some _) rfl rfl rfl (pc' := 30) ?_
        refine g_iload rfl rfl rfl (pc' := 31) ?_
        refine t_call hT (y := 156) (n := 2) (pc' := 34) rfl rfl (t_vt hT rfl rfl) rfl rfl ⟨(Nat.le_of_ble_eq_true rfl), (Nat.le_of_ble_eq_true rfl), (Nat.le_of_ble_eq_true rfl)⟩ rfl H (tI_elim (fun v4 h3 H hT => ?_))
        show gm_G _ 34 _ _ _ _
        refine g_if_gt rfl (pc' := 37) (pt := 47) rfl rfl ⟨fun hc => ?_, fun hc => ?_⟩
        · have H := H.1 hc
          exact g_weak (show gm_Lle [some _, some _, some _] _ from ⟨rfl, ⟨rfl, ⟨rfl, trivial⟩⟩⟩) H
        · have H := H.2 hc
          refine g_aload (r := some _) rfl rfl rfl (pc' := 38) ?_
          refine g_iconst rfl rfl rfl (pc' := 39) ?_
          refine g_iload rfl rfl rfl (pc' := 40) ?_
          refine g_imul rfl rfl (pc' := 41) ?_
          refine t_call hT (y := 125) (n := 2) (pc' := 44) rfl rfl (t_vt hT rfl rfl) rfl rfl ⟨(Nat.le_of_ble_eq_true rfl), (Nat.le_of_ble_eq_true rfl), (Nat.le_of_ble_eq_true rfl)⟩ rfl H (tI_elim (fun v6 h5 H hT => ?_))
          show gm_G _ 44 _ _ _ _
          refine g_if_eq rfl (pc' := 47) (pt := 51) rfl rfl ⟨fun hc => ?_, fun hc => ?_⟩
          · have H := H.1 hc
            refine g_iconst rfl rfl rfl (pc' := 52) ?_
            exact g_weak (show gm_Lle [some _, some _, some _] _ from ⟨rfl, ⟨rfl, ⟨rfl, trivial⟩⟩⟩) H
          · have H := H.2 hc
            exact g_weak (show gm_Lle [some _, some _, some _] _ from ⟨rfl, ⟨rfl, ⟨rfl, trivial⟩⟩⟩) H
      · have H := H.2 hc
        refine g_iconst rfl rfl rfl (pc' := 28) ?_
        exact g_ireturn rfl (Or.inl rfl) H
    · have H := H.2 hc
      refine g_iconst rfl rfl rfl (pc' := 15) ?_
      exact g_ireturn rfl (Or.inl rfl) H
  · have H := H.2 hc
    refine g_iconst rfl rfl rfl (pc' := 9) ?_
    exact g_ireturn rfl (Or.inl rfl) H
theorem w_465_47 {m : Nat} {x1 : Int32} {x2 : Int32} {h : hh_T} {Q : Option Value ⊕ Nat → hh_T → Prop} (hT : tw_ok h m) (H : gm_G 465 52 [some (.ref m), some (.int x1), some (.int x2)] [.int (Int32.ofNat 1)] h Q) : gm_G 465 47 [some (.ref m), some (.int x1), some (.int x2)] [] h Q := by
  refine g_iconst rfl rfl rfl (pc' := 48) ?_
  refine g_goto rfl (pc' := 52) rfl ?_
  exact g_weak (show gm_Lle [some _, some _, some _] _ from ⟨rfl, ⟨rfl, ⟨rfl, trivial⟩⟩⟩) H
theorem w_465_52 {m : Nat} {x1 : Int32} {x2 : Int32} {y0 : Int32} {h : hh_T} {Q : Option Value ⊕ Nat → hh_T → Prop} (hT : tw_ok h m) (H : gm_G 465 56 [some (.ref m), some (.int x1), some (.int x2), some (.int y0), some (.int (Int32.ofNat 0))] [] h Q) : gm_G 465 52 [some (.ref m), some (.int x1), some (.int x2)] [.int y0] h Q := by
  refine g_istore rfl rfl rfl (pc' := 53) ?_
  refine g_iconst rfl rfl rfl (pc' := 54) ?_
  refine g_istore rfl rfl rfl (pc' := 56) ?_
  exact g_weak (show gm_Lle [some _, some _, some _, some _, some _] _ from ⟨rfl, ⟨rfl, ⟨rfl, ⟨rfl, ⟨rfl, trivial⟩⟩⟩⟩⟩) H
theorem w_465_56 {m : Nat} {x1 : Int32} {x2 : Int32} {x3 : Int32} {x4 : Int32} {h : hh_T} {Q : Option Value ⊕ Nat → hh_T → Prop} (hT : tw_ok h m) (H : (¬ x4 < (Int32.ofNat 8) → ((x3 = Int32.ofNat 0 → (∃ n1, gm_ix x2 n1 32 ∧ (∀ h2, h2 = hh_wi h (m + 59) n1 (Int32.ofInt (-1)) → (gm_G 103 0 [some (.ref m), some (.int x1)] [] h2 (pV (fun h3 => gm_G 465 122 [some (.ref m), none, some (.int x2), none, some (.int (Int32.ofNat 0))] [] h3 Q) (fun _ _ => False)))))) ∧ (¬ x3 = Int32.ofNat 0 → (Q (.inl (some (.int (Int32.ofInt (-5))))) h)))) ∧ (x4 < (Int32.ofNat 8) → ((¬ x3 = Int32.ofNat 0 → (gm_G 465 88 [some (.ref m), some (.int x1), some (.int x2), none, some (.int x4)] [] h Q)) ∧ (x3 = Int32.ofNat 0 → (∃ n4, gm_ix x4 n4 32 ∧ ((¬ Int32.ofNat 0 < (hh_i h (m + 59) n4) → (gm_G 465 92 [some (.ref m), some (.int x1), some (.int x2), none, some (.int x4)] [] h Q)) ∧ (Int32.ofNat 0 < (hh_i h (m + 59) n4) → (∃ n5, gm_ix x4 n5 32 ∧ ((¬ (hh_i h (m + 60) n5) = x1 → (gm_G 465 92 [some (.ref m), some (.int x1), some (.int x2), none, some (.int x4)] [] h Q)) ∧ ((hh_i h (m + 60) n5) = x1 → (gm_G 465 88 [some (.ref m), some (.int x1), some (.int x2), none, some (.int x4)] [] h Q))))))))))) : gm_G 465 56 [some (.ref m), some (.int x1), some (.int x2), some (.int x3), some (.int x4)] [] h Q := by
  refine g_iload rfl rfl rfl (pc' := 58) ?_
  refine g_iconst rfl rfl rfl (pc' := 60) ?_
  refine g_ic_ge rfl (pc' := 63) (pt := 100) rfl rfl ⟨fun hc => ?_, fun hc => ?_⟩
  · have H := H.1 hc
    refine g_iload rfl rfl rfl (pc' := 101) ?_
    refine g_if_eq rfl (pc' := 104) (pt := 107) rfl rfl ⟨fun hc => ?_, fun hc => ?_⟩
    · have H := H.1 hc
      refine g_aload (r := some _) rfl rfl rfl (pc' := 108) ?_
      refine t_get (o := 59) rfl hT rfl rfl rfl (pc' := 111) rfl ?_
      refine g_iload rfl rfl rfl (pc' := 112) ?_
      refine g_iconst rfl rfl rfl (pc' := 113) ?_
      obtain ⟨n1, hn1, H⟩ := H
      refine t_iastore hT (o := 59) (l := 32) rfl rfl rfl hn1  (pc' := 114) rfl (fun hT => ?_)
      have H := H _ rfl
      refine g_aload (r := some _) rfl rfl rfl (pc' := 115) ?_
      refine g_iload rfl rfl rfl (pc' := 116) ?_
      refine t_call hT (y := 103) (n := 2) (pc' := 119) rfl rfl (t_vt hT rfl rfl) rfl rfl ⟨(Nat.le_of_ble_eq_true rfl), (Nat.le_of_ble_eq_true rfl), (Nat.le_of_ble_eq_true rfl)⟩ rfl H (tV_elim (fun h3 H hT => ?_))
      show gm_G _ 119 _ _ _ _
      refine g_iconst rfl rfl rfl (pc' := 120) ?_
      refine g_istore rfl rfl rfl (pc' := 122) ?_
      exact g_weak (show gm_Lle [some _, none, some _, none, some _] _ from ⟨rfl, ⟨rfl, ⟨rfl, trivial⟩⟩⟩) H
    · have H := H.2 hc
      refine g_iconst rfl rfl rfl (pc' := 106) ?_
      exact g_ireturn rfl (Or.inl rfl) H
  · have H := H.2 hc
    refine g_iload rfl rfl rfl (pc' := 64) ?_
    refine g_if_ne rfl (pc' := 67) (pt := 88) rfl rfl ⟨fun hc => ?_, fun hc => ?_⟩
    · have H := H.1 hc
      exact g_weak (show gm_Lle [some _, some _, some _, none, some _] _ from ⟨rfl, ⟨rfl, ⟨rfl, ⟨rfl, trivial⟩⟩⟩⟩) H
    · have H := H.2 hc
      refine g_aload (r := some _) rfl rfl rfl (pc' := 68) ?_
      refine t_get (o := 59) rfl hT rfl rfl rfl (pc' := 71) rfl ?_
      refine g_iload rfl rfl rfl (pc' := 73) ?_
      obtain ⟨n4, hn4, H⟩ := H
      refine t_iaload hT (o := 59) (l := 32) rfl rfl rfl hn4 (pc' := 74) rfl ?_
      refine g_if_le rfl (pc' := 77) (pt := 92) rfl rfl ⟨fun hc => ?_, fun hc => ?_⟩
      · have H := H.1 hc
        exact g_weak (show gm_Lle [some _, some _, some _, none, some _] _ from ⟨rfl, ⟨rfl, ⟨rfl, ⟨rfl, trivial⟩⟩⟩⟩) H
      · have H := H.2 hc
        refine g_aload (r := some _) rfl rfl rfl (pc' := 78) ?_
        refine t_get (o := 60) rfl hT rfl rfl rfl (pc' := 81) rfl ?_
        refine g_iload rfl rfl rfl (pc' := 83) ?_
        obtain ⟨n5, hn5, H⟩ := H
        refine t_iaload hT (o := 60) (l := 32) rfl rfl rfl hn5 (pc' := 84) rfl ?_
        refine g_iload rfl rfl rfl (pc' := 85) ?_
        refine g_ic_ne rfl (pc' := 88) (pt := 92) rfl rfl ⟨fun hc => ?_, fun hc => ?_⟩
        · have H := H.1 hc
          exact g_weak (show gm_Lle [some _, some _, some _, none, some _] _ from ⟨rfl, ⟨rfl, ⟨rfl, ⟨rfl, trivial⟩⟩⟩⟩) H
        · have H := H.2 hc
          exact g_weak (show gm_Lle [some _, some _, some _, none, some _] _ from ⟨rfl, ⟨rfl, ⟨rfl, ⟨rfl, trivial⟩⟩⟩⟩) H
theorem w_465_88 {m : Nat} {x1 : Int32} {x2 : Int32} {x4 : Int32} {h : hh_T} {Q : Option Value ⊕ Nat → hh_T → Prop} (hT : tw_ok h m) (H : gm_G 465 93 [some (.ref m), some (.int x1), some (.int x2), none, some (.int x4)] [.int (Int32.ofNat 1)] h Q) : gm_G 465 88 [some (.ref m), some (.int x1), some (.int x2), none, some (.int x4)] [] h Q := by
  refine g_iconst rfl rfl rfl (pc' := 89) ?_
  refine g_goto rfl (pc' := 93) rfl ?_
  exact g_weak (show gm_Lle [some _, some _, some _, none, some _] _ from ⟨rfl, ⟨rfl, ⟨rfl, ⟨rfl, trivial⟩⟩⟩⟩) H
theorem w_465_92 {m : Nat} {x1 : Int32} {x2 : Int32} {x4 : Int32} {h : hh_T} {Q : Option Value ⊕ Nat → hh_T → Prop} (hT : tw_ok h m) (H : gm_G 465 93 [some (.ref m), some (.int x1), some (.int x2), none, some (.int x4)] [.int (Int32.ofNat 0)] h Q) : gm_G 465 92 [some (.ref m), some (.int x1), some (.int x2), none, some (.int x4)] [] h Q := by
  refine g_iconst rfl rfl rfl (pc' := 93) ?_
  exact g_weak (show gm_Lle [some _, some _, some _, none, some _] _ from ⟨rfl, ⟨rfl, ⟨rfl, ⟨rfl, trivial⟩⟩⟩⟩) H
theorem w_465_93 {m : Nat} {x1 : Int32} {x2 : Int32} {x4 : Int32} {y0 : Int32} {h : hh_T} {Q : Option Value ⊕ Nat → hh_T → Prop} (hT : tw_ok h m) (H : gm_G 465 56 [some (.ref m), some (.int x1), some (.int x2), some (.int y0), some (.int (x4 + (Int32.ofNat 1)))] [] h Q) : gm_G 465 93 [some (.ref m), some (.int x1), some (.int x2), none, some (.int x4)] [.int y0] h Q := by
  refine g_istore rfl rfl rfl (pc' := 94) ?_
  refine g_iinc (c := (Int32.ofNat 1)) rfl rfl rfl rfl rfl (pc' := 97) ?_
  refine g_goto rfl (pc' := 56) rfl ?_
  exact g_weak (show gm_Lle [some _, some _, some _, some _, some _] _ from ⟨rfl, ⟨rfl, ⟨rfl, ⟨rfl, ⟨rfl, trivial⟩⟩⟩⟩⟩) H
theorem w_465_122 {m : Nat} {x2 : Int32} {x4 : Int32} {h : hh_T} {Q : Option Value ⊕ Nat → hh_T → Prop} (hT : tw_ok h m) (H : (¬ x4 < (Int32.ofNat 4) → (gm_G 440 0 [some (.ref m)] [] h (pI (fun v2 h1 => (¬ v2 < Int32.ofNat 0 → (Q (.inl (some (.int (Int32.ofNat 0)))) h1)) ∧ (v2 < Int32.ofNat 0 → (Q (.inl (some (.int v2))) h1))) (fun _ _ => False)))) ∧ (x4 < (Int32.ofNat 4) → (∃ n3, gm_ix (((Int32.ofNat 8) * x4) + x2) n3 32 ∧ (∀ h4, h4 = hh_wi h (m + 116) n3 (Int32.ofNat 0) → (gm_G 465 122 [some (.ref m), none, some (.int x2), none, some (.int (x4 + (Int32.ofNat 1)))] [] h4 Q))))) : gm_G 465 122 [some (.ref m), none, some (.int x2), none, some (.int x4)] [] h Q := by
  refine g_iload rfl rfl rfl (pc' := 124) ?_
  refine g_iconst rfl rfl rfl (pc' := 125) ?_
  refine g_ic_ge rfl (pc' := 128) (pt := 147) rfl rfl ⟨fun hc => ?_, fun hc => ?_⟩
  · have H := H.1 hc
    refine g_aload (r := some _) rfl rfl rfl (pc' := 148) ?_
    refine t_call hT (y := 440) (n := 1) (pc' := 151) rfl rfl (t_vt hT rfl rfl) rfl rfl ⟨(Nat.le_of_ble_eq_true rfl), (Nat.le_of_ble_eq_true rfl), (Nat.le_of_ble_eq_true rfl)⟩ rfl H (tI_elim (fun v2 h1 H hT => ?_))
    show gm_G _ 151 _ _ _ _
    refine g_istore rfl rfl rfl (pc' := 153) ?_
    refine g_iload rfl rfl rfl (pc' := 155) ?_
    refine g_if_ge rfl (pc' := 158) (pt := 163) rfl rfl ⟨fun hc => ?_, fun hc => ?_⟩
    · have H := H.1 hc
      refine g_iconst rfl rfl rfl (pc' := 164) ?_
      exact g_ireturn rfl (Or.inl rfl) H
    · have H := H.2 hc
      refine g_iload rfl rfl rfl (pc' := 160) ?_
      refine g_goto rfl (pc' := 164) rfl ?_
      exact g_ireturn rfl (Or.inl rfl) H
  · have H := H.2 hc
    refine g_aload (r := some _) rfl rfl rfl (pc' := 129) ?_
    refine t_get (o := 116) rfl hT rfl rfl rfl (pc' := 132) rfl ?_
    refine g_iconst rfl rfl rfl (pc' := 134) ?_
    refine g_iload rfl rfl rfl (pc' := 136) ?_
    refine g_imul rfl rfl (pc' := 137) ?_
    refine g_iload rfl rfl rfl (pc' := 138) ?_
    refine g_iadd rfl rfl (pc' := 139) ?_
    refine g_iconst rfl rfl rfl (pc' := 140) ?_
    obtain ⟨n3, hn3, H⟩ := H
    refine t_zastore hT (o := 116) (l := 32) rfl rfl rfl hn3 (by decide) (pc' := 141) rfl (fun hT => ?_)
    have H := H _ rfl
    refine g_iinc (c := (Int32.ofNat 1)) rfl rfl rfl rfl rfl (pc' := 144) ?_
    refine g_goto rfl (pc' := 122) rfl ?_
    exact g_weak (show gm_Lle [some _, none, some _, none, some _] _ from ⟨rfl, ⟨rfl, ⟨rfl, trivial⟩⟩⟩) H
theorem w_466_0 {m : Nat} {x1 : Int32} {x2 : Int32} {x3 : Int32} {x4 : Int32} {x5 : Int32} {x6 : Int32} {h : hh_T} {Q : Option Value ⊕ Nat → hh_T → Prop} (hT : tw_ok h m) (H : ∃ n1, gm_ix x1 n1 32 ∧ (∃ n2, gm_ix x1 n2 32 ∧ (gm_G 421 0 [some (.ref m)] [] h (pV (fun h3 => gm_G 142 0 [some (.ref m), some (.int (((Int32.ofNat 16) * (hh_i h (m + 63) n2)) + x3))] [] h3 (pV (fun h4 => gm_G 466 39 [some (.ref m), some (.int x1), some (.int x2), some (.int x3), some (.int x4), some (.int x5), some (.int x6), some (.int (((Int32.ofNat 16) * (hh_i h (m + 63) n1)) + x2)), none, some (.int (Int32.ofNat 0))] [] h4 Q) (fun _ _ => False))) (fun _ _ => False))))) : gm_G 466 0 [some (.ref m), some (.int x1), some (.int x2), some (.int x3), some (.int x4), some (.int x5), some (.int x6)] [] h Q := by
  refine g_iconst rfl rfl rfl (pc' := 2) ?_
  refine g_aload (r := some _) rfl rfl rfl (pc' := 3) ?_
  refine t_get (o := 63) rfl hT rfl rfl rfl (pc' := 6) rfl ?_
  refine g_iload rfl rfl rfl (pc' := 7) ?_
  obtain ⟨n1, hn1, H⟩ := H
  refine t_iaload hT (o := 63) (l := 32) rfl rfl rfl hn1 (pc' := 8) rfl ?_
  refine g_imul rfl rfl (pc' := 9) ?_
  refine g_iload rfl rfl rfl (pc' := 10) ?_
  refine g_iadd rfl rfl (pc' := 11) ?_
  refine g_istore rfl rfl rfl (pc' := 13) ?_
  refine g_iconst rfl rfl rfl (pc' := 15) ?_
  refine g_aload (r := some _) rfl rfl rfl (pc' := 16) ?_
  refine t_get (o := 63) rfl hT rfl rfl rfl (pc' := 19) rfl ?_
  refine g_iload rfl rfl rfl (pc' := 20) ?_
  obtain ⟨n2, hn2, H⟩ := H
  refine t_iaload hT (o := 63) (l := 32) rfl rfl rfl hn2 (pc' := 21) rfl ?_
  refine g_imul rfl rfl (pc' := 22) ?_
  refine g_iload rfl rfl rfl (pc' := 23) ?_
  refine g_iadd rfl rfl (pc' := 24) ?_
  refine g_istore rfl rfl rfl (pc' := 26) ?_
  refine g_aload (r := some _) rfl rfl rfl (pc' := 27) ?_
  refine t_call hT (y := 421) (n := 1) (pc' := 30) rfl rfl (t_vt hT rfl rfl) rfl rfl ⟨(Nat.le_of_ble_eq_true rfl), (Nat.le_of_ble_eq_true rfl), (Nat.le_of_ble_eq_true rfl)⟩ rfl H (tV_elim (fun h3 H hT => ?_))
  show gm_G _ 30 _ _ _ _
  refine g_aload (r := some _) rfl rfl rfl (pc' := 31) ?_
  refine g_iload rfl rfl rfl (pc' := 33) ?_
  refine t_call hT (y := 142) (n := 2) (pc' := 36) rfl rfl (t_vt hT rfl rfl) rfl rfl ⟨(Nat.le_of_ble_eq_true rfl), (Nat.le_of_ble_eq_true rfl), (Nat.le_of_ble_eq_true rfl)⟩ rfl H (tV_elim (fun h4 H hT => ?_))
  show gm_G _ 36 _ _ _ _
  refine g_iconst rfl rfl rfl (pc' := 37) ?_
  refine g_istore rfl rfl rfl (pc' := 39) ?_
  exact g_weak (show gm_Lle [some _, some _, some _, some _, some _, some _, some _, some _, none, some _] _ from ⟨rfl, ⟨rfl, ⟨rfl, ⟨rfl, ⟨rfl, ⟨rfl, ⟨rfl, ⟨rfl, ⟨rfl, trivial⟩⟩⟩⟩⟩⟩⟩⟩⟩) H
theorem w_466_39 {m : Nat} {x1 : Int32} {x2 : Int32} {x3 : Int32} {x4 : Int32} {x5 : Int32} {x6 : Int32} {x7 : Int32} {x9 : Int32} {h : hh_T} {Q : Option Value ⊕ Nat → hh_T → Prop} (hT : tw_ok h m) (H : (¬ x9 < x6 → (∃ n1, gm_ix x7 n1 1536 ∧ ((¬ ((hh_i h (m + 45) n1) - ((Int32.ofNat 32) * x4)) < ((Int32.ofNat 32) * x6) → (gm_G 466 120 [some (.ref m), some (.int x1), some (.int x2), some (.int x3), some (.int x4), some (.int x5), some (.int x6)] [.int ((Int32.ofNat 32) * x6)] h Q)) ∧ (((hh_i h (m + 45) n1) - ((Int32.ofNat 32) * x4)) < ((Int32.ofNat 32) * x6) → (∃ n2, gm_ix x7 n2 1536 ∧ (gm_G 466 120 [some (.ref m), some (.int x1), some (.int x2), some (.int x3), some (.int x4), some (.int x5), some (.int x6)] [.int ((hh_i h (m + 45) n2) - ((Int32.ofNat 32) * x4))] h Q)))))) ∧ (x9 < x6 → (∃ n3, gm_ix ((((Int32.ofNat 8) * x7) + x4) + x9) n3 12288 ∧ (∃ n4, gm_ix (x5 + x9) n4 8 ∧ (∀ h5, h5 = hh_wi h (m + 104) n4 (hh_i h (m + 55) n3) → (gm_G 466 39 [some (.ref m), some (.int x1), some (.int x2), some (.int x3), some (.int x4), some (.int x5), some (.int x6), some (.int x7), none, some (.int (x9 + (Int32.ofNat 1)))] [] h5 Q)))))) : gm_G 466 39 [some (.ref m), some (.int x1), some (.int x2), some (.int x3), some (.int x4), some (.int x5), some (.int x6), some (.int x7), none, some (.int x9)] [] h Q := by
  refine g_iload rfl rfl rfl (pc' := 41) ?_
  refine g_iload rfl rfl rfl (pc' := 43) ?_
  refine g_ic_ge rfl (pc' := 46) (pt := 78) rfl rfl ⟨fun hc => ?_, fun hc => ?_⟩
  · have H := H.1 hc
    refine g_aload (r := some _) rfl rfl rfl (pc' := 79) ?_
    refine t_get (o := 45) rfl hT rfl rfl rfl (pc' := 82) rfl ?_
    refine g_iload rfl rfl rfl (pc' := 84) ?_
    obtain ⟨n1, hn1, H⟩ := H
    refine t_iaload hT (o := 45) (l := 1536) rfl rfl rfl hn1 (pc' := 85) rfl ?_
    refine g_iconst rfl rfl rfl (pc' := 87) ?_
    refine g_iload rfl rfl rfl (pc' := 89) ?_
    refine g_imul rfl rfl (pc' := 90) ?_
    refine g_isub rfl rfl (pc' := 91) ?_
    refine g_iconst rfl rfl rfl (pc' := 93) ?_
    refine g_iload rfl rfl rfl (pc' := 95) ?_
    refine g_imul rfl rfl (pc' := 96) ?_
    refine g_ic_ge rfl (pc' := 99) (pt := 115) rfl rfl ⟨fun hc => ?_, fun hc => ?_⟩
    · have H := H.1 hc
      refine g_iconst rfl rfl rfl (pc' := 117) ?_
      refine g_iload rfl rfl rfl (pc' := 119) ?_
      refine g_imul rfl rfl (pc' := 120) ?_
      exact g_weak (show gm_Lle [some _, some _, some _, some _, some _, some _, some _] _ from ⟨rfl, ⟨rfl, ⟨rfl, ⟨rfl, ⟨rfl, ⟨rfl, ⟨rfl, trivial⟩⟩⟩⟩⟩⟩⟩) H
    · have H := H.2 hc
      refine g_aload (r := some _) rfl rfl rfl (pc' := 100) ?_
      refine t_get (o := 45) rfl hT rfl rfl rfl (pc' := 103) rfl ?_
      refine g_iload rfl rfl rfl (pc' := 105) ?_
      obtain ⟨n2, hn2, H⟩ := H
      refine t_iaload hT (o := 45) (l := 1536) rfl rfl rfl hn2 (pc' := 106) rfl ?_
      refine g_iconst rfl rfl rfl (pc' := 108) ?_
      refine g_iload rfl rfl rfl (pc' := 110) ?_
      refine g_imul rfl rfl (pc' := 111) ?_
      refine g_isub rfl rfl (pc' := 112) ?_
      refine g_goto rfl (pc' := 120) rfl ?_
      exact g_weak (show gm_Lle [some _, some _, some _, some _, some _, some _, some _] _ from ⟨rfl, ⟨rfl, ⟨rfl, ⟨rfl, ⟨rfl, ⟨rfl, ⟨rfl, trivial⟩⟩⟩⟩⟩⟩⟩) H
  · have H := H.2 hc
    refine g_aload (r := some _) rfl rfl rfl (pc' := 47) ?_
    refine t_get (o := 104) rfl hT rfl rfl rfl (pc' := 50) rfl ?_
    refine g_iload rfl rfl rfl (pc' := 52) ?_
    refine g_iload rfl rfl rfl (pc' := 54) ?_
    refine g_iadd rfl rfl (pc' := 55) ?_
    refine g_aload (r := some _) rfl rfl rfl (pc' := 56) ?_
    refine t_get (o := 55) rfl hT rfl rfl rfl (pc' := 59) rfl ?_
    refine g_iconst rfl rfl rfl (pc' := 61) ?_
    refine g_iload rfl rfl rfl (pc' := 63) ?_
    refine g_imul rfl rfl (pc' := 64) ?_
    refine g_iload rfl rfl rfl (pc' := 66) ?_
    refine g_iadd rfl rfl (pc' := 67) ?_
    refine g_iload rfl rfl rfl (pc' := 69) ?_
    refine g_iadd rfl rfl (pc' := 70) ?_
    obtain ⟨n3, hn3, H⟩ := H
    refine t_iaload hT (o := 55) (l := 12288) rfl rfl rfl hn3 (pc' := 71) rfl ?_
    obtain ⟨n4, hn4, H⟩ := H
    refine t_iastore hT (o := 104) (l := 8) rfl rfl rfl hn4  (pc' := 72) rfl (fun hT => ?_)
    have H := H _ rfl
    refine g_iinc (c := (Int32.ofNat 1)) rfl rfl rfl rfl rfl (pc' := 75) ?_
    refine g_goto rfl (pc' := 39) rfl ?_
    exact g_weak (show gm_Lle [some _, some _, some _, some _, some _, some _, some _, some _, none, some _] _ from ⟨rfl, ⟨rfl, ⟨rfl, ⟨rfl, ⟨rfl, ⟨rfl, ⟨rfl, ⟨rfl, ⟨rfl, trivial⟩⟩⟩⟩⟩⟩⟩⟩⟩) H
theorem w_466_120 {m : Nat} {x1 : Int32} {x2 : Int32} {x3 : Int32} {x4 : Int32} {x5 : Int32} {x6 : Int32} {y0 : Int32} {h : hh_T} {Q : Option Value ⊕ Nat → hh_T → Prop} (hT : tw_ok h m) (H : gm_G 442 0 [some (.ref m), some (.int x1), some (.int x3)] [] h (pI (fun v2 h1 => (¬ v2 < Int32.ofNat 0 → (gm_G 364 0 [some (.ref m), some (.int x1), some (.int (Int32.ofNat 10)), some (.int x2), some (.int x3), some (.int x4), some (.int x5), some (.int x6)] [] h1 (pV (fun h3 => ∃ n4, gm_ix x1 n4 32 ∧ (∃ n5, gm_ix (((Int32.ofNat 16) * (hh_i h3 (m + 63) n4)) + x3) n5 1536 ∧ ((¬ (hh_i h3 (m + 45) n5) < (((Int32.ofNat 32) * x5) + y0) → (gm_G 466 197 [some (.ref m), some (.int x1), none, some (.int x3), none, none, none, none, some (.int (((Int32.ofNat 16) * (hh_i h3 (m + 63) n4)) + x3))] [] h3 Q)) ∧ ((hh_i h3 (m + 45) n5) < (((Int32.ofNat 32) * x5) + y0) → (∃ n6, gm_ix (((Int32.ofNat 16) * (hh_i h3 (m + 63) n4)) + x3) n6 1536 ∧ (∀ h7, h7 = hh_wi h3 (m + 45) n6 (((Int32.ofNat 32) * x5) + y0) → (gm_G 466 197 [some (.ref m), some (.int x1), none, some (.int x3), none, none, none, none, some (.int (((Int32.ofNat 16) * (hh_i h3 (m + 63) n4)) + x3))] [] h7 Q))))))) (fun _ _ => False)))) ∧ (v2 < Int32.ofNat 0 → (Q (.inl (some (.int v2))) h1))) (fun _ _ => False))) : gm_G 466 120 [some (.ref m), some (.int x1), some (.int x2), some (.int x3), some (.int x4), some (.int x5), some (.int x6)] [.int y0] h Q := by
  refine g_istore rfl rfl rfl (pc' := 122) ?_
  refine g_iconst rfl rfl rfl (pc' := 124) ?_
  refine g_iload rfl rfl rfl (pc' := 126) ?_
  refine g_imul rfl rfl (pc' := 127) ?_
  refine g_iload rfl rfl rfl (pc' := 129) ?_
  refine g_iadd rfl rfl (pc' := 130) ?_
  refine g_istore rfl rfl rfl (pc' := 132) ?_
  refine g_aload (r := some _) rfl rfl rfl (pc' := 133) ?_
  refine g_iload rfl rfl rfl (pc' := 134) ?_
  refine g_iload rfl rfl rfl (pc' := 135) ?_
  refine t_call hT (y := 442) (n := 3) (pc' := 138) rfl rfl (t_vt hT rfl rfl) rfl rfl ⟨(Nat.le_of_ble_eq_true rfl), (Nat.le_of_ble_eq_true rfl), (Nat.le_of_ble_eq_true rfl)⟩ rfl H (tI_elim (fun v2 h1 H hT => ?_))
  show gm_G _ 138 _ _ _ _
  refine g_istore rfl rfl rfl (pc' := 140) ?_
  refine g_iload rfl rfl rfl (pc' := 142) ?_
  refine g_if_ge rfl (pc' := 145) (pt := 148) rfl rfl ⟨fun hc => ?_, fun hc => ?_⟩
  · have H := H.1 hc
    refine g_aload (r := some _) rfl rfl rfl (pc' := 149) ?_
    refine g_iload rfl rfl rfl (pc' := 150) ?_
    refine g_iconst rfl rfl rfl (pc' := 152) ?_
    refine g_iload rfl rfl rfl (pc' := 153) ?_
    refine g_iload rfl rfl rfl (pc' := 154) ?_
    refine g_iload rfl rfl rfl (pc' := 156) ?_
    refine g_iload rfl rfl rfl (pc' := 158) ?_
    refine g_iload rfl rfl rfl (pc' := 160) ?_
    refine t_call hT (y := 364) (n := 8) (pc' := 163) rfl rfl (t_vt hT rfl rfl) rfl rfl ⟨(Nat.le_of_ble_eq_true rfl), (Nat.le_of_ble_eq_true rfl), (Nat.le_of_ble_eq_true rfl)⟩ rfl H (tV_elim (fun h3 H hT => ?_))
    show gm_G _ 163 _ _ _ _
    refine g_iconst rfl rfl rfl (pc' := 165) ?_
    refine g_aload (r := some _) rfl rfl rfl (pc' := 166) ?_
    refine t_get (o := 63) rfl hT rfl rfl rfl (pc' := 169) rfl ?_
    refine g_iload rfl rfl rfl (pc' := 170) ?_
    obtain ⟨n4, hn4, H⟩ := H
    refine t_iaload hT (o := 63) (l := 32) rfl rfl rfl hn4 (pc' := 171) rfl ?_
    refine g_imul rfl rfl (pc' := 172) ?_
    refine g_iload rfl rfl rfl (pc' := 173) ?_
    refine g_iadd rfl rfl (pc' := 174) ?_
    refine g_istore rfl rfl rfl (pc' := 176) ?_
    refine g_aload (r := some _) rfl rfl rfl (pc' := 177) ?_
    refine t_get (o := 45) rfl hT rfl rfl rfl (pc' := 180) rfl ?_
    refine g_iload rfl rfl rfl (pc' := 182) ?_
    obtain ⟨n5, hn5, H⟩ := H
    refine t_iaload hT (o := 45) (l := 1536) rfl rfl rfl hn5 (pc' := 183) rfl ?_
    refine g_iload rfl rfl rfl (pc' := 185) ?_
    refine g_ic_ge rfl (pc' := 188) (pt := 197) rfl rfl ⟨fun hc => ?_, fun hc => ?_⟩
    · have H := H.1 hc
      exact g_weak (show gm_Lle [some _, some _, none, some _, none, none, none, none, some _] _ from ⟨rfl, ⟨rfl, ⟨rfl, ⟨rfl, trivial⟩⟩⟩⟩) H
    · have H := H.2 hc
      refine g_aload (r := some _) rfl rfl rfl (pc' := 189) ?_
      refine t_get (o := 45) rfl hT rfl rfl rfl (pc' := 192) rfl ?_
      refine g_iload rfl rfl rfl (pc' := 194) ?_
      refine g_iload rfl rfl rfl (pc' := 196) ?_
      obtain ⟨n6, hn6, H⟩ := H
      refine t_iastore hT (o := 45) (l := 1536) rfl rfl rfl hn6  (pc' := 197) rfl (fun hT => ?_)
      have H := H _ rfl
      exact g_weak (show gm_Lle [some _, some _, none, some _, none, none, none, none, some _] _ from ⟨rfl, ⟨rfl, ⟨rfl, ⟨rfl, trivial⟩⟩⟩⟩) H
  · have H := H.2 hc
    refine g_iload rfl rfl rfl (pc' := 147) ?_
    exact g_ireturn rfl (Or.inl rfl) H
theorem w_466_197 {m : Nat} {x1 : Int32} {x3 : Int32} {x8 : Int32} {h : hh_T} {Q : Option Value ⊕ Nat → hh_T → Prop} (hT : tw_ok h m) (H : gm_G 93 0 [some (.ref m), some (.int x8)] [] h (pV (fun h1 => gm_G 304 0 [some (.ref m), some (.int x1), some (.int x3), some (.int (Int32.ofNat 5))] [] h1 (pV (fun h2 => Q (.inl (some (.int (Int32.ofNat 0)))) h2) (fun _ _ => False))) (fun _ _ => False))) : gm_G 466 197 [some (.ref m), some (.int x1), none, some (.int x3), none, none, none, none, some (.int x8)] [] h Q := by
  refine g_aload (r := some _) rfl rfl rfl (pc' := 198) ?_
  refine g_iload rfl rfl rfl (pc' := 200) ?_
  refine t_call hT (y := 93) (n := 2) (pc' := 203) rfl rfl (t_vt hT rfl rfl) rfl rfl ⟨(Nat.le_of_ble_eq_true rfl), (Nat.le_of_ble_eq_true rfl), (Nat.le_of_ble_eq_true rfl)⟩ rfl H (tV_elim (fun h1 H hT => ?_))
  show gm_G _ 203 _ _ _ _
  refine g_aload (r := some _) rfl rfl rfl (pc' := 204) ?_
  refine g_iload rfl rfl rfl (pc' := 205) ?_
  refine g_iload rfl rfl rfl (pc' := 206) ?_
  refine g_iconst rfl rfl rfl (pc' := 207) ?_
  refine t_call hT (y := 304) (n := 4) (pc' := 210) rfl rfl (t_vt hT rfl rfl) rfl rfl ⟨(Nat.le_of_ble_eq_true rfl), (Nat.le_of_ble_eq_true rfl), (Nat.le_of_ble_eq_true rfl)⟩ rfl H (tV_elim (fun h2 H hT => ?_))
  show gm_G _ 210 _ _ _ _
  refine g_iconst rfl rfl rfl (pc' := 211) ?_
  exact g_ireturn rfl (Or.inl rfl) H
theorem w_467_0 {m : Nat} {x1 : Int32} {h : hh_T} {Q : Option Value ⊕ Nat → hh_T → Prop} (hT : tw_ok h m) (H : (¬ (hh_i h m 77) = Int32.ofNat 0 → (gm_G 153 0 [some (.ref m), some (.int x1)] [] h (pI (fun v2 h1 => (¬ v2 < Int32.ofNat 0 → (∃ n3, gm_ix v2 n3 48 ∧ ((Int32.ofNat 0 < (hh_i h1 (m + 72) n3) → (Q (.inl (some (.int (Int32.ofInt (-5))))) h1)) ∧ (¬ Int32.ofNat 0 < (hh_i h1 (m + 72) n3) → (gm_G 96 0 [some (.ref m), some (.int v2)] [] h1 (pI (fun v5 h4 => (Int32.ofNat 0 < v5 → (Q (.inl (some (.int (Int32.ofInt (-5))))) h4)) ∧ (¬ Int32.ofNat 0 < v5 → (gm_G 125 0 [some (.ref m), some (.int (((Int32.ofNat 2) * x1) + (Int32.ofNat 1)))] [] h4 (pI (fun v7 h6 => (v7 = Int32.ofNat 0 → (gm_G 467 57 [some (.ref m), none, some (.int v2), some (.int (Int32.ofNat 0))] [] h6 Q)) ∧ (¬ v7 = Int32.ofNat 0 → (Q (.inl (some (.int (Int32.ofInt (-5))))) h6))) (fun _ _ => False))))) (fun _ _ => False))))))) ∧ (v2 < Int32.ofNat 0 → (Q (.inl (some (.int (Int32.ofInt (-2))))) h1))) (fun _ _ => False)))) ∧ ((hh_i h m 77) = Int32.ofNat 0 → (Q (.inl (some (.int (Int32.ofInt (-9))))) h))) : gm_G 467 0 [some (.ref m), some (.int x1)] [] h Q := by
  refine g_aload (r := some _) rfl rfl rfl (pc' := 1) ?_
  refine t_getZ rfl hT rfl rfl (pc' := 4) rfl ?_
  refine g_if_ne rfl (pc' := 7) (pt := 10) rfl rfl ⟨fun hc => ?_, fun hc => ?_⟩
  · have H := H.1 hc
    refine g_aload (r := some _) rfl rfl rfl (pc' := 11) ?_
    refine g_iload rfl rfl rfl (pc' := 12) ?_
    refine t_call hT (y := 153) (n := 2) (pc' := 15) rfl rfl (t_vt hT rfl rfl) rfl rfl ⟨(Nat.le_of_ble_eq_true rfl), (Nat.le_of_ble_eq_true rfl), (Nat.le_of_ble_eq_true rfl)⟩ rfl H (tI_elim (fun v2 h1 H hT => ?_))
    show gm_G _ 15 _ _ _ _
    refine g_istore rfl rfl rfl (pc' := 16) ?_
    refine g_iload rfl rfl rfl (pc' := 17) ?_
    refine g_if_ge rfl (pc' := 20) (pt := 23) rfl rfl ⟨fun hc => ?_, fun hc => ?_⟩
    · have H := H.1 hc
      refine g_aload (r := some _) rfl rfl rfl (pc' := 24) ?_
      refine t_get (o := 72) rfl hT rfl rfl rfl (pc' := 27) rfl ?_
      refine g_iload rfl rfl rfl (pc' := 28) ?_
      obtain ⟨n3, hn3, H⟩ := H
      refine t_iaload hT (o := 72) (l := 48) rfl rfl rfl hn3 (pc' := 29) rfl ?_
      refine g_if_gt rfl (pc' := 32) (pt := 52) rfl rfl ⟨fun hc => ?_, fun hc => ?_⟩
      · have H := H.1 hc
        refine g_iconst rfl rfl rfl (pc' := 54) ?_
        exact g_ireturn rfl (Or.inl rfl) H
      · have H := H.2 hc
        refine g_aload (r := some _) rfl rfl rfl (pc' := 33) ?_
        refine g_iload rfl rfl rfl (pc' := 34) ?_
        refine t_call hT (y := 96) (n := 2) (pc' := 37) rfl rfl (t_vt hT rfl rfl) rfl rfl ⟨(Nat.le_of_ble_eq_true rfl), (Nat.le_of_ble_eq_true rfl), (Nat.le_of_ble_eq_true rfl)⟩ rfl H (tI_elim (fun v5 h4 H hT => ?_))
        show gm_G _ 37 _ _ _ _
        refine g_if_gt rfl (pc' := 40) (pt := 52) rfl rfl ⟨fun hc => ?_, fun hc => ?_⟩
        · have H := H.1 hc
          refine g_iconst rfl rfl rfl (pc' := 54) ?_
          exact g_ireturn rfl (Or.inl rfl) H
        · have H := H.2 hc
          refine g_aload (r := some _) rfl rfl rfl (pc' := 41) ?_
          refine g_iconst rfl rfl rfl (pc' := 42) ?_
          refine g_iload rfl rfl rfl (pc' := 43) ?_
          refine g_imul rfl rfl (pc' := 44) ?_
          refine g_iconst rfl rfl rfl (pc' := 45) ?_
          refine g_iadd rfl rfl (pc' := 46) ?_
          refine t_call hT (y := 125) (n := 2) (pc' := 49) rfl rfl (t_vt hT rfl rfl) rfl rfl ⟨(Nat.le_of_ble_eq_true rfl), (Nat.le_of_ble_eq_true rfl), (Nat.le_of_ble_eq_true rfl)⟩ rfl H (tI_elim (fun v7 h6 H hT => ?_))
          show gm_G _ 49 _ _ _ _
          refine g_if_eq rfl (pc' := 52) (pt := 55) rfl rfl ⟨fun hc => ?_, fun hc => ?_⟩
          · have H := H.1 hc
            refine g_iconst rfl rfl rfl (pc' := 56) ?_
            refine g_istore rfl rfl rfl (pc' := 57) ?_
            exact g_weak (show gm_Lle [some _, none, some _, some _] _ from ⟨rfl, ⟨rfl, ⟨rfl, trivial⟩⟩⟩) H
          · have H := H.2 hc
            refine g_iconst rfl rfl rfl (pc' := 54) ?_
            exact g_ireturn rfl (Or.inl rfl) H
    · have H := H.2 hc
      refine g_iconst rfl rfl rfl (pc' := 22) ?_
      exact g_ireturn rfl (Or.inl rfl) H
  · have H := H.2 hc
    refine g_iconst rfl rfl rfl (pc' := 9) ?_
    exact g_ireturn rfl (Or.inl rfl) H
theorem w_467_57 {m : Nat} {x2 : Int32} {x3 : Int32} {h : hh_T} {Q : Option Value ⊕ Nat → hh_T → Prop} (hT : tw_ok h m) (H : (¬ x3 < (Int32.ofNat 12) → (∃ n1, gm_ix x2 n1 48 ∧ (∀ h2, h2 = hh_wi h (m + 69) n1 (Int32.ofInt (-1)) → (gm_G 440 0 [some (.ref m)] [] h2 (pI (fun v4 h3 => (¬ v4 < Int32.ofNat 0 → (Q (.inl (some (.int (Int32.ofNat 0)))) h3)) ∧ (v4 < Int32.ofNat 0 → (Q (.inl (some (.int v4))) h3))) (fun _ _ => False)))))) ∧ (x3 < (Int32.ofNat 12) → (∃ n5, gm_ix x3 n5 48 ∧ (((hh_i h (m + 69) n5) < Int32.ofNat 0 → (gm_G 467 112 [some (.ref m), none, some (.int x2), some (.int x3)] [] h Q)) ∧ (¬ (hh_i h (m + 69) n5) < Int32.ofNat 0 → (∃ n6, gm_ix x3 n6 48 ∧ (∃ n7, gm_ix x2 n7 48 ∧ ((¬ (hh_i h (m + 70) n6) = (hh_i h (m + 70) n7) → (gm_G 467 112 [some (.ref m), none, some (.int x2), some (.int x3)] [] h Q)) ∧ ((hh_i h (m + 70) n6) = (hh_i h (m + 70) n7) → (∃ n8, gm_ix x3 n8 48 ∧ (∃ n9, gm_ix x2 n9 48 ∧ ((¬ (hh_i h (m + 71) n9) < (hh_i h (m + 71) n8) → (gm_G 467 112 [some (.ref m), none, some (.int x2), some (.int x3)] [] h Q)) ∧ ((hh_i h (m + 71) n9) < (hh_i h (m + 71) n8) → (∃ n10, gm_ix x3 n10 48 ∧ (∃ n11, gm_ix x3 n11 48 ∧ (∀ h12, h12 = hh_wi h (m + 71) n11 ((hh_i h (m + 71) n10) - (Int32.ofNat 1)) → (gm_G 467 112 [some (.ref m), none, some (.int x2), some (.int x3)] [] h12 Q))))))))))))))))) : gm_G 467 57 [some (.ref m), none, some (.int x2), some (.int x3)] [] h Q := by
  refine g_iload rfl rfl rfl (pc' := 58) ?_
  refine g_iconst rfl rfl rfl (pc' := 60) ?_
  refine g_ic_ge rfl (pc' := 63) (pt := 118) rfl rfl ⟨fun hc => ?_, fun hc => ?_⟩
  · have H := H.1 hc
    refine g_aload (r := some _) rfl rfl rfl (pc' := 119) ?_
    refine t_get (o := 69) rfl hT rfl rfl rfl (pc' := 122) rfl ?_
    refine g_iload rfl rfl rfl (pc' := 123) ?_
    refine g_iconst rfl rfl rfl (pc' := 124) ?_
    obtain ⟨n1, hn1, H⟩ := H
    refine t_iastore hT (o := 69) (l := 48) rfl rfl rfl hn1  (pc' := 125) rfl (fun hT => ?_)
    have H := H _ rfl
    refine g_aload (r := some _) rfl rfl rfl (pc' := 126) ?_
    refine t_call hT (y := 440) (n := 1) (pc' := 129) rfl rfl (t_vt hT rfl rfl) rfl rfl ⟨(Nat.le_of_ble_eq_true rfl), (Nat.le_of_ble_eq_true rfl), (Nat.le_of_ble_eq_true rfl)⟩ rfl H (tI_elim (fun v4 h3 H hT => ?_))
    show gm_G _ 129 _ _ _ _
    refine g_istore rfl rfl rfl (pc' := 130) ?_
    refine g_iload rfl rfl rfl (pc' := 131) ?_
    refine g_if_ge rfl (pc' := 134) (pt := 138) rfl rfl ⟨fun hc => ?_, fun hc => ?_⟩
    · have H := H.1 hc
      refine g_iconst rfl rfl rfl (pc' := 139) ?_
      exact g_ireturn rfl (Or.inl rfl) H
    · have H := H.2 hc
      refine g_iload rfl rfl rfl (pc' := 135) ?_
      refine g_goto rfl (pc' := 139) rfl ?_
      exact g_ireturn rfl (Or.inl rfl) H
  · have H := H.2 hc
    refine g_aload (r := some _) rfl rfl rfl (pc' := 64) ?_
    refine t_get (o := 69) rfl hT rfl rfl rfl (pc' := 67) rfl ?_
    refine g_iload rfl rfl rfl (pc' := 68) ?_
    obtain ⟨n5, hn5, H⟩ := H
    refine t_iaload hT (o := 69) (l := 48) rfl rfl rfl hn5 (pc' := 69) rfl ?_
    refine g_if_lt rfl (pc' := 72) (pt := 112) rfl rfl ⟨fun hc => ?_, fun hc => ?_⟩
    · have H := H.1 hc
      exact g_weak (show gm_Lle [some _, none, some _, some _] _ from ⟨rfl, ⟨rfl, ⟨rfl, trivial⟩⟩⟩) H
    · have H := H.2 hc
      refine g_aload (r := some _) rfl rfl rfl (pc' := 73) ?_
      refine t_get (o := 70) rfl hT rfl rfl rfl (pc' := 76) rfl ?_
      refine g_iload rfl rfl rfl (pc' := 77) ?_
      obtain ⟨n6, hn6, H⟩ := H
      refine t_iaload hT (o := 70) (l := 48) rfl rfl rfl hn6 (pc' := 78) rfl ?_
      refine g_aload (r := some _) rfl rfl rfl (pc' := 79) ?_
      refine t_get (o := 70) rfl hT rfl rfl rfl (pc' := 82) rfl ?_
      refine g_iload rfl rfl rfl (pc' := 83) ?_
      obtain ⟨n7, hn7, H⟩ := H
      refine t_iaload hT (o := 70) (l := 48) rfl rfl rfl hn7 (pc' := 84) rfl ?_
      refine g_ic_ne rfl (pc' := 87) (pt := 112) rfl rfl ⟨fun hc => ?_, fun hc => ?_⟩
      · have H := H.1 hc
        exact g_weak (show gm_Lle [some _, none, some _, some _] _ from ⟨rfl, ⟨rfl, ⟨rfl, trivial⟩⟩⟩) H
      · have H := H.2 hc
        refine g_aload (r := some _) rfl rfl rfl (pc' := 88) ?_
        refine t_get (o := 71) rfl hT rfl rfl rfl (pc' := 91) rfl ?_
        refine g_iload rfl rfl rfl (pc' := 92) ?_
        obtain ⟨n8, hn8, H⟩ := H
        refine t_iaload hT (o := 71) (l := 48) rfl rfl rfl hn8 (pc' := 93) rfl ?_
        refine g_aload (r := some _) rfl rfl rfl (pc' := 94) ?_
        refine t_get (o := 71) rfl hT rfl rfl rfl (pc' := 97) rfl ?_
        refine g_iload rfl rfl rfl (pc' := 98) ?_
        obtain ⟨n9, hn9, H⟩ := H
        refine t_iaload hT (o := 71) (l := 48) rfl rfl rfl hn9 (pc' := 99) rfl ?_
        refine g_ic_le rfl (pc' := 102) (pt := 112) rfl rfl ⟨fun hc => ?_, fun hc => ?_⟩
        · have H := H.1 hc
          exact g_weak (show gm_Lle [some _, none, some _, some _] _ from ⟨rfl, ⟨rfl, ⟨rfl, trivial⟩⟩⟩) H
        · have H := H.2 hc
          refine g_aload (r := some _) rfl rfl rfl (pc' := 103) ?_
          refine t_get (o := 71) rfl hT rfl rfl rfl (pc' := 106) rfl ?_
          refine g_iload rfl rfl rfl (pc' := 107) ?_
          refine g_dup2_a rfl (pc' := 108) rfl ?_
          obtain ⟨n10, hn10, H⟩ := H
          refine t_iaload hT (o := 71) (l := 48) rfl rfl rfl hn10 (pc' := 109) rfl ?_
          refine g_iconst rfl rfl rfl (pc' := 110) ?_
          refine g_isub rfl rfl (pc' := 111) ?_
          obtain ⟨n11, hn11, H⟩ := H
          refine t_iastore hT (o := 71) (l := 48) rfl rfl rfl hn11  (pc' := 112) rfl (fun hT => ?_)
          have H := H _ rfl
          exact g_weak (show gm_Lle [some _, none, some _, some _] _ from ⟨rfl, ⟨rfl, ⟨rfl, trivial⟩⟩⟩) H
theorem w_467_112 {m : Nat} {x2 : Int32} {x3 : Int32} {h : hh_T} {Q : Option Value ⊕ Nat → hh_T → Prop} (hT : tw_ok h m) (H : gm_G 467 57 [some (.ref m), none, some (.int x2), some (.int (x3 + (Int32.ofNat 1)))] [] h Q) : gm_G 467 112 [some (.ref m), none, some (.int x2), some (.int x3)] [] h Q := by
  refine g_iinc (c := (Int32.ofNat 1)) rfl rfl rfl rfl rfl (pc' := 115) ?_
  refine g_goto rfl (pc' := 57) rfl ?_
  exact g_weak (show gm_Lle [some _, none, some _, some _] _ from ⟨rfl, ⟨rfl, ⟨rfl, trivial⟩⟩⟩) H
theorem w_468_0 {m : Nat} {x1 : Int32} {h : hh_T} {Q : Option Value ⊕ Nat → hh_T → Prop} (hT : tw_ok h m) (H : ∀ h1, h1 = hh_wi h m 110 (Int32.ofNat 0) → (((hh_i h1 m 112) = Int32.ofNat 0 → (gm_G 422 0 [some (.ref m)] [] h1 (pV (fun h2 => gm_G 468 40 [some (.ref m), some (.int x1), some (.int (hh_i h m 110))] [] h2 Q) (fun _ _ => False)))) ∧ (¬ (hh_i h1 m 112) = Int32.ofNat 0 → (∀ h3, h3 = hh_wi h1 m 112 (Int32.ofNat 0) → (gm_G 440 0 [some (.ref m)] [] h3 (pI (fun v5 h4 => (¬ v5 < Int32.ofNat 0 → (gm_G 468 40 [some (.ref m), some (.int x1), some (.int (hh_i h m 110))] [] h4 Q)) ∧ (v5 < Int32.ofNat 0 → (Q (.inl (some (.int v5))) h4))) (fun _ _ => False))))))) : gm_G 468 0 [some (.ref m), some (.int x1)] [] h Q := by
  refine g_aload (r := some _) rfl rfl rfl (pc' := 1) ?_
  refine t_getI rfl hT rfl rfl (pc' := 4) rfl ?_
  refine g_istore rfl rfl rfl (pc' := 5) ?_
  refine g_aload (r := some _) rfl rfl rfl (pc' := 6) ?_
  refine g_iconst rfl rfl rfl (pc' := 7) ?_
  refine t_putI rfl hT rfl rfl  (pc' := 10) rfl (fun hT => ?_)
  have H := H _ rfl
  refine g_aload (r := some _) rfl rfl rfl (pc' := 11) ?_
  refine t_getZ rfl hT rfl rfl (pc' := 14) rfl ?_
  refine g_if_eq rfl (pc' := 17) (pt := 36) rfl rfl ⟨fun hc => ?_, fun hc => ?_⟩
  · have H := H.1 hc
    refine g_aload (r := some _) rfl rfl rfl (pc' := 37) ?_
    refine t_call hT (y := 422) (n := 1) (pc' := 40) rfl rfl (t_vt hT rfl rfl) rfl rfl ⟨(Nat.le_of_ble_eq_true rfl), (Nat.le_of_ble_eq_true rfl), (Nat.le_of_ble_eq_true rfl)⟩ rfl H (tV_elim (fun h2 H hT => ?_))
    show gm_G _ 40 _ _ _ _
    exact g_weak (show gm_Lle [some _, some _, some _] _ from ⟨rfl, ⟨rfl, ⟨rfl, trivial⟩⟩⟩) H
  · have H := H.2 hc
    refine g_aload (r := some _) rfl rfl rfl (pc' := 18) ?_
    refine g_iconst rfl rfl rfl (pc' := 19) ?_
    refine t_putZ rfl hT rfl rfl (by decide) (pc' := 22) rfl (fun hT => ?_)
    have H := H _ rfl
    refine g_aload (r := some _) rfl rfl rfl (pc' := 23) ?_
    refine t_call hT (y := 440) (n := 1) (pc' := 26) rfl rfl (t_vt hT rfl rfl) rfl rfl ⟨(Nat.le_of_ble_eq_true rfl), (Nat.le_of_ble_eq_true rfl), (Nat.le_of_ble_eq_true rfl)⟩ rfl H (tI_elim (fun v5 h4 H hT => ?_))
    show gm_G _ 26 _ _ _ _
    refine g_istore rfl rfl rfl (pc' := 27) ?_
    refine g_iload rfl rfl rfl (pc' := 28) ?_
    refine g_if_ge rfl (pc' := 31) (pt := 33) rfl rfl ⟨fun hc => ?_, fun hc => ?_⟩
    · have H := H.1 hc
      refine g_goto rfl (pc' := 40) rfl ?_
      exact g_weak (show gm_Lle [some _, some _, some _] _ from ⟨rfl, ⟨rfl, ⟨rfl, trivial⟩⟩⟩) H
    · have H := H.2 hc
      refine g_iload rfl rfl rfl (pc' := 32) ?_
      exact g_ireturn rfl (Or.inl rfl) H
theorem w_468_40 {m : Nat} {x1 : Int32} {x2 : Int32} {h : hh_T} {Q : Option Value ⊕ Nat → hh_T → Prop} (hT : tw_ok h m) (H : ∀ h1, h1 = hh_wi h m 42 ((hh_i h m 42) + x2) → (Q (.inl (some (.int x1))) h1)) : gm_G 468 40 [some (.ref m), some (.int x1), some (.int x2)] [] h Q := by
  refine g_aload (r := some _) rfl rfl rfl (pc' := 41) ?_
  refine g_dup_a (r := some _) rfl rfl (pc' := 42) ?_
  refine t_getI rfl hT rfl rfl (pc' := 45) rfl ?_
  refine g_iload rfl rfl rfl (pc' := 46) ?_
  refine g_iadd rfl rfl (pc' := 47) ?_
  refine t_putI rfl hT rfl rfl  (pc' := 50) rfl (fun hT => ?_)
  have H := H _ rfl
  refine g_iload rfl rfl rfl (pc' := 51) ?_
  exact g_ireturn rfl (Or.inl rfl) H
theorem w_469_0 {m : Nat} {x1 : Int32} {x2 : Int32} {h : hh_T} {Q : Option Value ⊕ Nat → hh_T → Prop} (hT : tw_ok h m) (H : (¬ (hh_i h m 77) = Int32.ofNat 0 → (gm_G 153 0 [some (.ref m), some (.int x1)] [] h (pI (fun v2 h1 => (¬ v2 < Int32.ofNat 0 → ((¬ x2 = Int32.ofNat 0 → (gm_G 469 38 [some (.ref m), none, some (.int x2), some (.int v2)] [] h1 Q)) ∧ (x2 = Int32.ofNat 0 → (∃ n3, gm_ix v2 n3 48 ∧ ((¬ (hh_i h1 (m + 72) n3) = Int32.ofNat 0 → (gm_G 469 38 [some (.ref m), none, some (.int x2), some (.int v2)] [] h1 Q)) ∧ ((hh_i h1 (m + 72) n3) = Int32.ofNat 0 → (Q (.inl (some (.int (Int32.ofInt (-1))))) h1))))))) ∧ (v2 < Int32.ofNat 0 → (Q (.inl (some (.int (Int32.ofInt (-2))))) h1))) (fun _ _ => False)))) ∧ ((hh_i h m 77) = Int32.ofNat 0 → (Q (.inl (some (.int (Int32.ofInt (-9))))) h))) : gm_G 469 0 [some (.ref m), some (.int x1), some (.int x2)] [] h Q := by
  refine g_aload (r := some _) rfl rfl rfl (pc' := 1) ?_
  refine t_getZ rfl hT rfl rfl (pc' := 4) rfl ?_
  refine g_if_ne rfl (pc' := 7) (pt := 10) rfl rfl ⟨fun hc => ?_, fun hc => ?_⟩
  · have H := H.1 hc
    refine g_aload (r := some _) rfl rfl rfl (pc' := 11) ?_
    refine g_iload rfl rfl rfl (pc' := 12) ?_
    refine t_call hT (y := 153) (n := 2) (pc' := 15) rfl rfl (t_vt hT rfl rfl) rfl rfl ⟨(Nat.le_of_ble_eq_true rfl), (Nat.le_of_ble_eq_true rfl), (Nat.le_of_ble_eq_true rfl)⟩ rfl H (tI_elim (fun v2 h1 H hT => ?_))
    show gm_G _ 15 _ _ _ _
    refine g_istore rfl rfl rfl (pc' := 16) ?_
    refine g_iload rfl rfl rfl (pc' := 17) ?_
    refine g_if_ge rfl (pc' := 20) (pt := 23) rfl rfl ⟨fun hc => ?_, fun hc => ?_⟩
    · have H := H.1 hc
      refine g_iload rfl rfl rfl (pc' := 24) ?_
      refine g_if_ne rfl (pc' := 27) (pt := 38) rfl rfl ⟨fun hc => ?_, fun hc => ?_⟩
      · have H := H.1 hc
        exact g_weak (show gm_Lle [some _, none, some _, some _] _ from ⟨rfl, ⟨rfl, ⟨rfl, trivial⟩⟩⟩) H
      · have H := H.2 hc
        refine g_aload (r := some _) rfl rfl rfl (pc' := 28) ?_
        refine t_get (o := 72) rfl hT rfl rfl rfl (pc' := 31) rfl ?_
        refine g_iload rfl rfl rfl (pc' := 32) ?_
        obtain ⟨n3, hn3, H⟩ := H
        refine t_iaload hT (o := 72) (l := 48) rfl rfl rfl hn3 (pc' := 33) rfl ?_
        refine g_if_ne rfl (pc' := 36) (pt := 38) rfl rfl ⟨fun hc => ?_, fun hc => ?_⟩
        · have H := H.1 hc
          exact g_weak (show gm_Lle [some _, none, some _, some _] _ from ⟨rfl, ⟨rfl, ⟨rfl, trivial⟩⟩⟩) H
        · have H := H.2 hc
          refine g_iconst rfl rfl rfl (pc' := 37) ?_
          exact g_ireturn rfl (Or.inl rfl) H
    · have H := H.2 hc
      refine g_iconst rfl rfl rfl (pc' := 22) ?_
      exact g_ireturn rfl (Or.inl rfl) H
  · have H := H.2 hc
    refine g_iconst rfl rfl rfl (pc' := 9) ?_
    exact g_ireturn rfl (Or.inl rfl) H
theorem w_469_38 {m : Nat} {x2 : Int32} {x3 : Int32} {h : hh_T} {Q : Option Value ⊕ Nat → hh_T → Prop} (hT : tw_ok h m) (H : (x2 = Int32.ofNat 0 → (gm_G 469 56 [some (.ref m), none, some (.int x2), some (.int x3)] [] h Q)) ∧ (¬ x2 = Int32.ofNat 0 → (∃ n1, gm_ix x3 n1 48 ∧ ((¬ (hh_i h (m + 72) n1) = (Int32.ofNat 100) → (gm_G 469 56 [some (.ref m), none, some (.int x2), some (.int x3)] [] h Q)) ∧ ((hh_i h (m + 72) n1) = (Int32.ofNat 100) → (Q (.inl (some (.int (Int32.ofInt (-3))))) h)))))) : gm_G 469 38 [some (.ref m), none, some (.int x2), some (.int x3)] [] h Q := by
  refine g_iload rfl rfl rfl (pc' := 39) ?_
  refine g_if_eq rfl (pc' := 42) (pt := 56) rfl rfl ⟨fun hc => ?_, fun hc => ?_⟩
  · have H := H.1 hc
    exact g_weak (show gm_Lle [some _, none, some _, some _] _ from ⟨rfl, ⟨rfl, ⟨rfl, trivial⟩⟩⟩) H
  · have H := H.2 hc
    refine g_aload (r := some _) rfl rfl rfl (pc' := 43) ?_
    refine t_get (o := 72) rfl hT rfl rfl rfl (pc' := 46) rfl ?_
    refine g_iload rfl rfl rfl (pc' := 47) ?_
    obtain ⟨n1, hn1, H⟩ := H
    refine t_iaload hT (o := 72) (l := 48) rfl rfl rfl hn1 (pc' := 48) rfl ?_
    refine g_iconst rfl rfl rfl (pc' := 50) ?_
    refine g_ic_ne rfl (pc' := 53) (pt := 56) rfl rfl ⟨fun hc => ?_, fun hc => ?_⟩
    · have H := H.1 hc
      exact g_weak (show gm_Lle [some _, none, some _, some _] _ from ⟨rfl, ⟨rfl, ⟨rfl, trivial⟩⟩⟩) H
    · have H := H.2 hc
      refine g_iconst rfl rfl rfl (pc' := 55) ?_
      exact g_ireturn rfl (Or.inl rfl) H
theorem w_469_56 {m : Nat} {x2 : Int32} {x3 : Int32} {h : hh_T} {Q : Option Value ⊕ Nat → hh_T → Prop} (hT : tw_ok h m) (H : ∃ n1, gm_ix x3 n1 48 ∧ ((x2 = Int32.ofNat 0 → (gm_G 469 72 [some (.ref m), none, none, some (.int x3)] [.int (Int32.ofInt (-1)), .int (hh_i h (m + 72) n1), .int x3, .ref (m + 72)] h Q)) ∧ (¬ x2 = Int32.ofNat 0 → (gm_G 469 72 [some (.ref m), none, none, some (.int x3)] [.int (Int32.ofNat 1), .int (hh_i h (m + 72) n1), .int x3, .ref (m + 72)] h Q)))) : gm_G 469 56 [some (.ref m), none, some (.int x2), some (.int x3)] [] h Q := by
  refine g_aload (r := some _) rfl rfl rfl (pc' := 57) ?_
  refine t_get (o := 72) rfl hT rfl rfl rfl (pc' := 60) rfl ?_
  refine g_iload rfl rfl rfl (pc' := 61) ?_
  refine g_dup2_a rfl (pc' := 62) rfl ?_
  obtain ⟨n1, hn1, H⟩ := H
  refine t_iaload hT (o := 72) (l := 48) rfl rfl rfl hn1 (pc' := 63) rfl ?_
  refine g_iload rfl rfl rfl (pc' := 64) ?_
  refine g_if_eq rfl (pc' := 67) (pt := 71) rfl rfl ⟨fun hc => ?_, fun hc => ?_⟩
  · have H := H.1 hc
    refine g_iconst rfl rfl rfl (pc' := 72) ?_
    exact g_weak (show gm_Lle [some _, none, none, some _] _ from ⟨rfl, ⟨rfl, trivial⟩⟩) H
  · have H := H.2 hc
    refine g_iconst rfl rfl rfl (pc' := 68) ?_
    refine g_goto rfl (pc' := 72) rfl ?_
    exact g_weak (show gm_Lle [some _, none, none, some _] _ from ⟨rfl, ⟨rfl, trivial⟩⟩) H
theorem w_469_72 {m : Nat} {x3 : Int32} {y0 : Int32} {y1 : Int32} {y2 : Int32} {h : hh_T} {Q : Option Value ⊕ Nat → hh_T → Prop} (hT : tw_ok h m) (H : ∃ n1, gm_ix y2 n1 48 ∧ (∀ h2, h2 = hh_wi h (m + 72) n1 (y1 + y0) → (∃ n3, gm_ix x3 n3 48 ∧ (gm_G 440 0 [some (.ref m)] [] h2 (pI (fun v5 h4 => (¬ v5 < Int32.ofNat 0 → (Q (.inl (some (.int (hh_i h2 (m + 72) n3)))) h4)) ∧ (v5 < Int32.ofNat 0 → (Q (.inl (some (.int v5))) h4))) (fun _ _ => False)))))) : gm_G 469 72 [some (.ref m), none, none, some (.int x3)] [.int y0, .int y1, .int y2, .ref (m + 72)] h Q := by
  refine g_iadd rfl rfl (pc' := 73) ?_
  obtain ⟨n1, hn1, H⟩ := H
  refine t_iastore hT (o := 72) (l := 48) rfl rfl rfl hn1  (pc' := 74) rfl (fun hT => ?_)
  have H := H _ rfl
  refine g_aload (r := some _) rfl rfl rfl (pc' := 75) ?_
  refine t_get (o := 72) rfl hT rfl rfl rfl (pc' := 78) rfl ?_
  refine g_iload rfl rfl rfl (pc' := 79) ?_
  obtain ⟨n3, hn3, H⟩ := H
  refine t_iaload hT (o := 72) (l := 48) rfl rfl rfl hn3 (pc' := 80) rfl ?_
  refine g_istore rfl rfl rfl (pc' := 82) ?_
  refine g_aload (r := some _) rfl rfl rfl (pc' := 83) ?_
  refine t_call hT (y := 440) (n := 1) (pc' := 86) rfl rfl (t_vt hT rfl rfl) rfl rfl ⟨(Nat.le_of_ble_eq_true rfl), (Nat.le_of_ble_eq_true rfl), (Nat.le_of_ble_eq_true rfl)⟩ rfl H (tI_elim (fun v5 h4 H hT => ?_))
  show gm_G _ 86 _ _ _ _
  refine g_istore rfl rfl rfl (pc' := 88) ?_
  refine g_iload rfl rfl rfl (pc' := 90) ?_
  refine g_if_ge rfl (pc' := 93) (pt := 98) rfl rfl ⟨fun hc => ?_, fun hc => ?_⟩
  · have H := H.1 hc
    refine g_iload rfl rfl rfl (pc' := 100) ?_
    exact g_ireturn rfl (Or.inl rfl) H
  · have H := H.2 hc
    refine g_iload rfl rfl rfl (pc' := 95) ?_
    refine g_goto rfl (pc' := 100) rfl ?_
    exact g_ireturn rfl (Or.inl rfl) H
theorem w_470_0 {m : Nat}  {h : hh_T} {Q : Option Value ⊕ Nat → hh_T → Prop} (hT : tw_ok h m) (H : ∀ h1, h1 = hh_wi h m 2 (Int32.ofNat 0) → (((hh_i h1 m 77) = Int32.ofNat 0 → (gm_G 147 0 [some (.ref m), some (.int (hh_i h m 2))] [] h1 (pI (fun v3 h2 => (v3 < Int32.ofNat 0 → (∀ h4, h4 = hh_wi h2 m 19 (hh_i h2 m 138) → (gm_G 470 45 [some (.ref m), none, none, some (.int (Int32.ofNat 0))] [] h4 Q))) ∧ (¬ v3 < Int32.ofNat 0 → (Q (.inl (some (.int ((Int32.ofInt (-100)) - v3)))) h2))) (fun _ _ => False)))) ∧ (¬ (hh_i h1 m 77) = Int32.ofNat 0 → (Q (.inl (some (.int (Int32.ofInt (-5))))) h1)))) : gm_G 470 0 [some (.ref m)] [] h Q := by
  refine g_aload (r := some _) rfl rfl rfl (pc' := 1) ?_
  refine t_getI rfl hT rfl rfl (pc' := 4) rfl ?_
  refine g_istore rfl rfl rfl (pc' := 5) ?_
  refine g_aload (r := some _) rfl rfl rfl (pc' := 6) ?_
  refine g_iconst rfl rfl rfl (pc' := 7) ?_
  refine t_putI rfl hT rfl rfl  (pc' := 10) rfl (fun hT => ?_)
  have H := H _ rfl
  refine g_aload (r := some _) rfl rfl rfl (pc' := 11) ?_
  refine t_getZ rfl hT rfl rfl (pc' := 14) rfl ?_
  refine g_if_eq rfl (pc' := 17) (pt := 20) rfl rfl ⟨fun hc => ?_, fun hc => ?_⟩
  · have H := H.1 hc
    refine g_aload (r := some _) rfl rfl rfl (pc' := 21) ?_
    refine g_iload rfl rfl rfl (pc' := 22) ?_
    refine t_call hT (y := 147) (n := 2) (pc' := 25) rfl rfl (t_vt hT rfl rfl) rfl rfl ⟨(Nat.le_of_ble_eq_true rfl), (Nat.le_of_ble_eq_true rfl), (Nat.le_of_ble_eq_true rfl)⟩ rfl H (tI_elim (fun v3 h2 H hT => ?_))
    show gm_G _ 25 _ _ _ _
    refine g_istore rfl rfl rfl (pc' := 26) ?_
    refine g_iload rfl rfl rfl (pc' := 27) ?_
    refine g_if_lt rfl (pc' := 30) (pt := 35) rfl rfl ⟨fun hc => ?_, fun hc => ?_⟩
    · have H := H.1 hc
      refine g_aload (r := some _) rfl rfl rfl (pc' := 36) ?_
      refine g_aload (r := some _) rfl rfl rfl (pc' := 37) ?_
      refine t_getI rfl hT rfl rfl (pc' := 40) rfl ?_
      refine t_putI rfl hT rfl rfl  (pc' := 43) rfl (fun hT => ?_)
      have H := H _ rfl
      refine g_iconst rfl rfl rfl (pc' := 44) ?_
      refine g_istore rfl rfl rfl (pc' := 45) ?_
      exact g_weak (show gm_Lle [some _, none, none, some _] _ from ⟨rfl, ⟨rfl, trivial⟩⟩) H
    · have H := H.2 hc
      refine g_iconst rfl rfl rfl (pc' := 32) ?_
      refine g_iload rfl rfl rfl (pc' := 33) ?_
      refine g_isub rfl rfl (pc' := 34) ?_
      exact g_ireturn rfl (Or.inl rfl) H
  · have H := H.2 hc
    refine g_iconst rfl rfl rfl (pc' := 19) ?_
    exact g_ireturn rfl (Or.inl rfl) H
