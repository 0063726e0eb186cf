/-! STAGE 2, 5: the twin, label by label (printed) -/
theorem w_381_223 {m : Nat} {x1 : Int32} {x2 : Int32} {x4 : Int32} {h : hh_T} {Q : Option Value ⊕ Nat → hh_T → Prop} (hT : tw_ok h m) (H : gm_G 381 224 [some (.ref m), some (.int x1), some (.int x2), none, some (.int x4)] [.int (Int32.ofNat 0)] h Q) : gm_G 381 223 [some (.ref m), some (.int x1), some (.int x2), none, some (.int x4)] [] h Q := by
  refine g_iconst rfl rfl rfl (pc' := 224) ?_
  exact g_weak (show gm_Lle [some _, some _, some _, none, some _] _ from ⟨rfl, ⟨rfl, ⟨rfl, ⟨rfl, trivial⟩⟩⟩⟩) H
theorem w_381_224 {m : Nat} {x1 : Int32} {x2 : Int32} {x4 : Int32} {y0 : Int32} {h : hh_T} {Q : Option Value ⊕ Nat → hh_T → Prop} (hT : tw_ok h m) (H : gm_G 381 129 [some (.ref m), some (.int x1), some (.int x2), some (.int y0), some (.int (x4 + (Int32.ofNat 1)))] [] h Q) : gm_G 381 224 [some (.ref m), some (.int x1), some (.int x2), none, some (.int x4)] [.int y0] h Q := by
  refine g_istore rfl rfl rfl (pc' := 225) ?_
  refine g_iinc (c := (Int32.ofNat 1)) rfl rfl rfl rfl rfl (pc' := 228) ?_
  refine g_goto rfl (pc' := 129) rfl ?_
  exact g_weak (show gm_Lle [some _, some _, some _, some _, some _] _ from ⟨rfl, ⟨rfl, ⟨rfl, ⟨rfl, ⟨rfl, trivial⟩⟩⟩⟩⟩) H
theorem w_381_231 {m : Nat} {x1 : Int32} {x2 : Int32} {x3 : Int32} {h : hh_T} {Q : Option Value ⊕ Nat → hh_T → Prop} (hT : tw_ok h m) (H : (¬ x3 = Int32.ofNat 0 → (∃ n1, gm_ix x1 n1 1536 ∧ ((¬ (hh_i h (m + 40) n1) = (Int32.ofNat 3) → (gm_G 381 296 [some (.ref m), some (.int x1), some (.int x2)] [] h Q)) ∧ ((hh_i h (m + 40) n1) = (Int32.ofNat 3) → (gm_G 381 250 [some (.ref m), some (.int x1), some (.int x2), none, some (.int (Int32.ofNat 0))] [] h Q))))) ∧ (x3 = Int32.ofNat 0 → (Q (.inl (some (.int (Int32.ofNat 0)))) h))) : gm_G 381 231 [some (.ref m), some (.int x1), some (.int x2), some (.int x3)] [] h Q := by
  refine g_iload rfl rfl rfl (pc' := 232) ?_
  refine g_if_ne rfl (pc' := 235) (pt := 237) rfl rfl ⟨fun hc => ?_, fun hc => ?_⟩
  · have H := H.1 hc
    refine g_aload (r := some _) rfl rfl rfl (pc' := 238) ?_
    refine t_get (o := 40) rfl hT rfl rfl rfl (pc' := 241) rfl ?_
    refine g_iload rfl rfl rfl (pc' := 242) ?_
    obtain ⟨n1, hn1, H⟩ := H
    refine t_iaload hT (o := 40) (l := 1536) rfl rfl rfl hn1 (pc' := 243) rfl ?_
    refine g_iconst rfl rfl rfl (pc' := 244) ?_
    refine g_ic_ne rfl (pc' := 247) (pt := 296) rfl rfl ⟨fun hc => ?_, fun hc => ?_⟩
    · have H := H.1 hc
      exact g_weak (show gm_Lle [some _, some _, some _] _ from ⟨rfl, ⟨rfl, ⟨rfl, trivial⟩⟩⟩) H
    · have H := H.2 hc
      refine g_iconst rfl rfl rfl (pc' := 248) ?_
      refine g_istore rfl rfl rfl (pc' := 250) ?_
      exact g_weak (show gm_Lle [some _, some _, some _, none, some _] _ from ⟨rfl, ⟨rfl, ⟨rfl, ⟨rfl, trivial⟩⟩⟩⟩) H
  · have H := H.2 hc
    refine g_iconst rfl rfl rfl (pc' := 236) ?_
    exact g_ireturn rfl (Or.inr (by decide)) H
theorem w_381_250 {m : Nat} {x1 : Int32} {x2 : Int32} {x4 : Int32} {h : hh_T} {Q : Option Value ⊕ Nat → hh_T → Prop} (hT : tw_ok h m) (H : ∃ n1, gm_ix x1 n1 1536 ∧ ((¬ x4 < (hh_i h (m + 45) n1) → (gm_G 381 296 [some (.ref m), some (.int x1), some (.int x2)] [] h Q)) ∧ (x4 < (hh_i h (m + 45) n1) → (∃ n2, gm_ix (((Int32.ofNat 24) * x1) + x4) n2 36864 ∧ (∃ n3, gm_ix (((Int32.ofNat 24) * x2) + x4) n3 36864 ∧ (((hh_i h (m + 57) n2) = (hh_i h (m + 57) n3) → (gm_G 381 250 [some (.ref m), some (.int x1), some (.int x2), none, some (.int (x4 + (Int32.ofNat 1)))] [] h Q)) ∧ (¬ (hh_i h (m + 57) n2) = (hh_i h (m + 57) n3) → (Q (.inl (some (.int (Int32.ofNat 0)))) h)))))))) : gm_G 381 250 [some (.ref m), some (.int x1), some (.int x2), none, some (.int x4)] [] h Q := by
  refine g_iload rfl rfl rfl (pc' := 252) ?_
  refine g_aload (r := some _) rfl rfl rfl (pc' := 253) ?_
  refine t_get (o := 45) rfl hT rfl rfl rfl (pc' := 256) rfl ?_
  refine g_iload rfl rfl rfl (pc' := 257) ?_
  obtain ⟨n1, hn1, H⟩ := H
  refine t_iaload hT (o := 45) (l := 1536) rfl rfl rfl hn1 (pc' := 258) rfl ?_
  refine g_ic_ge rfl (pc' := 261) (pt := 296) rfl rfl ⟨fun hc => ?_, fun hc => ?_⟩
  · have H := H.1 hc
    exact g_weak (show gm_Lle [some _, some _, some _] _ from ⟨rfl, ⟨rfl, ⟨rfl, trivial⟩⟩⟩) H
  · have H := H.2 hc
    refine g_aload (r := some _) rfl rfl rfl (pc' := 262) ?_
    refine t_get (o := 57) rfl hT rfl rfl rfl (pc' := 265) rfl ?_
    refine g_iconst rfl rfl rfl (pc' := 267) ?_
    refine g_iload rfl rfl rfl (pc' := 268) ?_
    refine g_imul rfl rfl (pc' := 269) ?_
    refine g_iload rfl rfl rfl (pc' := 271) ?_
    refine g_iadd rfl rfl (pc' := 272) ?_
    obtain ⟨n2, hn2, H⟩ := H
    refine t_baload hT (o := 57) (l := 36864) rfl rfl rfl hn2 (pc' := 273) rfl ?_
    refine g_aload (r := some _) rfl rfl rfl (pc' := 274) ?_
    refine t_get (o := 57) rfl hT rfl rfl rfl (pc' := 277) rfl ?_
    refine g_iconst rfl rfl rfl (pc' := 279) ?_
    refine g_iload rfl rfl rfl (pc' := 280) ?_
    refine g_imul rfl rfl (pc' := 281) ?_
    refine g_iload rfl rfl rfl (pc' := 283) ?_
    refine g_iadd rfl rfl (pc' := 284) ?_
    obtain ⟨n3, hn3, H⟩ := H
    refine t_baload hT (o := 57) (l := 36864) rfl rfl rfl hn3 (pc' := 285) rfl ?_
    refine g_ic_eq rfl (pc' := 288) (pt := 290) rfl rfl ⟨fun hc => ?_, fun hc => ?_⟩
    · have H := H.1 hc
      refine g_iinc (c := (Int32.ofNat 1)) rfl rfl rfl rfl rfl (pc' := 293) ?_
      refine g_goto rfl (pc' := 250) rfl ?_
      exact g_weak (show gm_Lle [some _, some _, some _, none, some _] _ from ⟨rfl, ⟨rfl, ⟨rfl, ⟨rfl, trivial⟩⟩⟩⟩) H
    · have H := H.2 hc
      refine g_iconst rfl rfl rfl (pc' := 289) ?_
      exact g_ireturn rfl (Or.inr (by decide)) H
theorem w_381_296 {m : Nat} {x1 : Int32} {x2 : Int32} {h : hh_T} {Q : Option Value ⊕ Nat → hh_T → Prop} (hT : tw_ok h m) (H : ∃ n1, gm_ix x1 n1 1536 ∧ (((hh_i h (m + 40) n1) = (Int32.ofNat 2) → (∃ n2, gm_ix x1 n2 1536 ∧ (∃ n3, gm_ix x2 n3 1536 ∧ (((hh_i h (m + 48) n2) = (hh_i h (m + 48) n3) → (gm_G 381 328 [some (.ref m), some (.int x1), some (.int x2), none, some (.int (Int32.ofNat 0))] [] h Q)) ∧ (¬ (hh_i h (m + 48) n2) = (hh_i h (m + 48) n3) → (Q (.inl (some (.int (Int32.ofNat 0)))) h)))))) ∧ (¬ (hh_i h (m + 40) n1) = (Int32.ofNat 2) → (Q (.inl (some (.int (Int32.ofNat 1)))) h)))) : gm_G 381 296 [some (.ref m), some (.int x1), some (.int x2)] [] h Q := by
  refine g_aload (r := some _) rfl rfl rfl (pc' := 297) ?_
  refine t_get (o := 40) rfl hT rfl rfl rfl (pc' := 300) rfl ?_
  refine g_iload rfl rfl rfl (pc' := 301) ?_
  obtain ⟨n1, hn1, H⟩ := H
  refine t_iaload hT (o := 40) (l := 1536) rfl rfl rfl hn1 (pc' := 302) rfl ?_
  refine g_iconst rfl rfl rfl (pc' := 303) ?_
  refine g_ic_eq rfl (pc' := 306) (pt := 308) rfl rfl ⟨fun hc => ?_, fun hc => ?_⟩
  · have H := H.1 hc
    refine g_aload (r := some _) rfl rfl rfl (pc' := 309) ?_
    refine t_get (o := 48) rfl hT rfl rfl rfl (pc' := 312) rfl ?_
    refine g_iload rfl rfl rfl (pc' := 313) ?_
    obtain ⟨n2, hn2, H⟩ := H
    refine t_iaload hT (o := 48) (l := 1536) rfl rfl rfl hn2 (pc' := 314) rfl ?_
    refine g_aload (r := some _) rfl rfl rfl (pc' := 315) ?_
    refine t_get (o := 48) rfl hT rfl rfl rfl (pc' := 318) rfl ?_
    refine g_iload rfl rfl rfl (pc' := 319) ?_
    obtain ⟨n3, hn3, H⟩ := H
    refine t_iaload hT (o := 48) (l := 1536) rfl rfl rfl hn3 (pc' := 320) rfl ?_
    refine g_ic_eq rfl (pc' := 323) (pt := 325) rfl rfl ⟨fun hc => ?_, fun hc => ?_⟩
    · have H := H.1 hc
      refine g_iconst rfl rfl rfl (pc' := 326) ?_
      refine g_istore rfl rfl rfl (pc' := 328) ?_
      exact g_weak (show gm_Lle [some _, some _, some _, none, some _] _ from ⟨rfl, ⟨rfl, ⟨rfl, ⟨rfl, trivial⟩⟩⟩⟩) H
    · have H := H.2 hc
      refine g_iconst rfl rfl rfl (pc' := 324) ?_
      exact g_ireturn rfl (Or.inr (by decide)) H
  · have H := H.2 hc
    refine g_iconst rfl rfl rfl (pc' := 307) ?_
    exact g_ireturn rfl (Or.inr (by decide)) H
theorem w_381_328 {m : Nat} {x1 : Int32} {x2 : Int32} {x4 : Int32} {h : hh_T} {Q : Option Value ⊕ Nat → hh_T → Prop} (hT : tw_ok h m) (H : ∃ n1, gm_ix x1 n1 1536 ∧ ((¬ x4 < (hh_i h (m + 45) n1) → (Q (.inl (some (.int (Int32.ofNat 1)))) h)) ∧ (x4 < (hh_i h (m + 45) n1) → (gm_G 299 0 [some (.ref m), some (.int x1), some (.int x4)] [] h (pI (fun v3 h2 => gm_G 299 0 [some (.ref m), some (.int x2), some (.int x4)] [] h2 (pI (fun v5 h4 => ∃ n6, gm_ix (((Int32.ofNat 8) * x1) + v3) n6 12288 ∧ (∃ n7, gm_ix (((Int32.ofNat 8) * x2) + v5) n7 12288 ∧ ((¬ (hh_i h4 (m + 54) n6) = (hh_i h4 (m + 54) n7) → (Q (.inl (some (.int (Int32.ofNat 0)))) h4)) ∧ ((hh_i h4 (m + 54) n6) = (hh_i h4 (m + 54) n7) → (∃ n8, gm_ix (((Int32.ofNat 8) * x1) + v3) n8 12288 ∧ (∃ n9, gm_ix (((Int32.ofNat 8) * x2) + v5) n9 12288 ∧ (((hh_i h4 (m + 53) n8) = (hh_i h4 (m + 53) n9) → (gm_G 381 406 [some (.ref m), some (.int x1), some (.int x2), none, some (.int x4), some (.int (((Int32.ofNat 8) * x1) + v3)), some (.int (((Int32.ofNat 8) * x2) + v5)), some (.int (Int32.ofNat 0))] [] h4 Q)) ∧ (¬ (hh_i h4 (m + 53) n8) = (hh_i h4 (m + 53) n9) → (Q (.inl (some (.int (Int32.ofNat 0)))) h4))))))))) (fun _ _ => False))) (fun _ _ => False)))))) : gm_G 381 328 [some (.ref m), some (.int x1), some (.int x2), none, some (.int x4)] [] h Q := by
  refine g_iload rfl rfl rfl (pc' := 330) ?_
  refine g_aload (r := some _) rfl rfl rfl (pc' := 331) ?_
  refine t_get (o := 45) rfl hT rfl rfl rfl (pc' := 334) rfl ?_
  refine g_iload rfl rfl rfl (pc' := 335) ?_
  obtain ⟨n1, hn1, H⟩ := H
  refine t_iaload hT (o := 45) (l := 1536) rfl rfl rfl hn1 (pc' := 336) rfl ?_
  refine g_ic_ge rfl (pc' := 339) (pt := 461) rfl rfl ⟨fun hc => ?_, fun hc => ?_⟩
  · have H := H.1 hc
    refine g_iconst rfl rfl rfl (pc' := 462) ?_
    exact g_ireturn rfl (Or.inr (by decide)) H
  · have H := H.2 hc
    refine g_iconst rfl rfl rfl (pc' := 341) ?_
    refine g_iload rfl rfl rfl (pc' := 342) ?_
    refine g_imul rfl rfl (pc' := 343) ?_
    refine g_aload (r := some _) rfl rfl rfl (pc' := 344) ?_
    refine g_iload rfl rfl rfl (pc' := 345) ?_
    refine g_iload rfl rfl rfl (pc' := 347) ?_
    refine t_call hT (y := 299) (n := 3) (pc' := 350) rfl rfl (t_vt hT rfl rfl) rfl rfl ⟨(Nat.le_of_ble_eq_true rfl), (Nat.le_of_ble_eq_true rfl), (Nat.le_of_ble_eq_true rfl)⟩ rfl H (tI_elim (fun v3 h2 H hT => ?_))
    show gm_G _ 350 _ _ _ _
    refine g_iadd rfl rfl (pc' := 351) ?_
    refine g_istore rfl rfl rfl (pc' := 353) ?_
    refine g_iconst rfl rfl rfl (pc' := 355) ?_
    refine g_iload rfl rfl rfl (pc' := 356) ?_
    refine g_imul rfl rfl (pc' := 357) ?_
    refine g_aload (r := some _) rfl rfl rfl (pc' := 358) ?_
    refine g_iload rfl rfl rfl (pc' := 359) ?_
    refine g_iload rfl rfl rfl (pc' := 361) ?_
    refine t_call hT (y := 299) (n := 3) (pc' := 364) rfl rfl (t_vt hT rfl rfl) rfl rfl ⟨(Nat.le_of_ble_eq_true rfl), (Nat.le_of_ble_eq_true rfl), (Nat.le_of_ble_eq_true rfl)⟩ rfl H (tI_elim (fun v5 h4 H hT => ?_))
    show gm_G _ 364 _ _ _ _
    refine g_iadd rfl rfl (pc' := 365) ?_
    refine g_istore rfl rfl rfl (pc' := 367) ?_
    refine g_aload (r := some _) rfl rfl rfl (pc' := 368) ?_
    refine t_get (o := 54) rfl hT rfl rfl rfl (pc' := 371) rfl ?_
    refine g_iload rfl rfl rfl (pc' := 373) ?_
    obtain ⟨n6, hn6, H⟩ := H
    refine t_iaload hT (o := 54) (l := 12288) rfl rfl rfl hn6 (pc' := 374) rfl ?_
    refine g_aload (r := some _) rfl rfl rfl (pc' := 375) ?_
    refine t_get (o := 54) rfl hT rfl rfl rfl (pc' := 378) rfl ?_
    refine g_iload rfl rfl rfl (pc' := 380) ?_
    obtain ⟨n7, hn7, H⟩ := H
    refine t_iaload hT (o := 54) (l := 12288) rfl rfl rfl hn7 (pc' := 381) rfl ?_
    refine g_ic_ne rfl (pc' := 384) (pt := 401) rfl rfl ⟨fun hc => ?_, fun hc => ?_⟩
    · have H := H.1 hc
      refine g_iconst rfl rfl rfl (pc' := 402) ?_
      exact g_ireturn rfl (Or.inr (by decide)) H
    · have H := H.2 hc
      refine g_aload (r := some _) rfl rfl rfl (pc' := 385) ?_
      refine t_get (o := 53) rfl hT rfl rfl rfl (pc' := 388) rfl ?_
      refine g_iload rfl rfl rfl (pc' := 390) ?_
      obtain ⟨n8, hn8, H⟩ := H
      refine t_iaload hT (o := 53) (l := 12288) rfl rfl rfl hn8 (pc' := 391) rfl ?_
      refine g_aload (r := some _) rfl rfl rfl (pc' := 392) ?_
      refine t_get (o := 53) rfl hT rfl rfl rfl (pc' := 395) rfl ?_
      refine g_iload rfl rfl rfl (pc' := 397) ?_
      obtain ⟨n9, hn9, H⟩ := H
      refine t_iaload hT (o := 53) (l := 12288) rfl rfl rfl hn9 (pc' := 398) rfl ?_
      refine g_ic_eq rfl (pc' := 401) (pt := 403) rfl rfl ⟨fun hc => ?_, fun hc => ?_⟩
      · have H := H.1 hc
        refine g_iconst rfl rfl rfl (pc' := 404) ?_
        refine g_istore rfl rfl rfl (pc' := 406) ?_
        exact g_weak (show gm_Lle [some _, some _, some _, none, some _, some _, some _, some _] _ from ⟨rfl, ⟨rfl, ⟨rfl, ⟨rfl, ⟨rfl, ⟨rfl, ⟨rfl, trivial⟩⟩⟩⟩⟩⟩⟩) H
      · have H := H.2 hc
        refine g_iconst rfl rfl rfl (pc' := 402) ?_
        exact g_ireturn rfl (Or.inr (by decide)) H
theorem w_381_406 {m : Nat} {x1 : Int32} {x2 : Int32} {x4 : Int32} {x5 : Int32} {x6 : Int32} {x7 : Int32} {h : hh_T} {Q : Option Value ⊕ Nat → hh_T → Prop} (hT : tw_ok h m) (H : ∃ n1, gm_ix x5 n1 12288 ∧ ((¬ x7 < (hh_i h (m + 54) n1) → (gm_G 381 328 [some (.ref m), some (.int x1), some (.int x2), none, some (.int (x4 + (Int32.ofNat 1)))] [] h Q)) ∧ (x7 < (hh_i h (m + 54) n1) → (∃ n2, gm_ix (((Int32.ofNat 8) * x5) + x7) n2 98304 ∧ (∃ n3, gm_ix (((Int32.ofNat 8) * x6) + x7) n3 98304 ∧ (((hh_i h (m + 56) n2) = (hh_i h (m + 56) n3) → (gm_G 381 406 [some (.ref m), some (.int x1), some (.int x2), none, some (.int x4), some (.int x5), some (.int x6), some (.int (x7 + (Int32.ofNat 1)))] [] h Q)) ∧ (¬ (hh_i h (m + 56) n2) = (hh_i h (m + 56) n3) → (Q (.inl (some (.int (Int32.ofNat 0)))) h)))))))) : gm_G 381 406 [some (.ref m), some (.int x1), some (.int x2), none, some (.int x4), some (.int x5), some (.int x6), some (.int x7)] [] h Q := by
  refine g_iload rfl rfl rfl (pc' := 408) ?_
  refine g_aload (r := some _) rfl rfl rfl (pc' := 409) ?_
  refine t_get (o := 54) rfl hT rfl rfl rfl (pc' := 412) rfl ?_
  refine g_iload rfl rfl rfl (pc' := 414) ?_
  obtain ⟨n1, hn1, H⟩ := H
  refine t_iaload hT (o := 54) (l := 12288) rfl rfl rfl hn1 (pc' := 415) rfl ?_
  refine g_ic_ge rfl (pc' := 418) (pt := 455) rfl rfl ⟨fun hc => ?_, fun hc => ?_⟩
  · have H := H.1 hc
    refine g_iinc (c := (Int32.ofNat 1)) rfl rfl rfl rfl rfl (pc' := 458) ?_
    refine g_goto rfl (pc' := 328) rfl ?_
    exact g_weak (show gm_Lle [some _, some _, some _, none, some _] _ from ⟨rfl, ⟨rfl, ⟨rfl, ⟨rfl, trivial⟩⟩⟩⟩) H
  · have H := H.2 hc
    refine g_aload (r := some _) rfl rfl rfl (pc' := 419) ?_
    refine t_get (o := 56) rfl hT rfl rfl rfl (pc' := 422) rfl ?_
    refine g_iconst rfl rfl rfl (pc' := 424) ?_
    refine g_iload rfl rfl rfl (pc' := 426) ?_
    refine g_imul rfl rfl (pc' := 427) ?_
    refine g_iload rfl rfl rfl (pc' := 429) ?_
    refine g_iadd rfl rfl (pc' := 430) ?_
    obtain ⟨n2, hn2, H⟩ := H
    refine t_baload hT (o := 56) (l := 98304) rfl rfl rfl hn2 (pc' := 431) rfl ?_
    refine g_aload (r := some _) rfl rfl rfl (pc' := 432) ?_
    refine t_get (o := 56) rfl hT rfl rfl rfl (pc' := 435) rfl ?_
    refine g_iconst rfl rfl rfl (pc' := 437) ?_
    refine g_iload rfl rfl rfl (pc' := 439) ?_
    refine g_imul rfl rfl (pc' := 440) ?_
    refine g_iload rfl rfl rfl (pc' := 442) ?_
    refine g_iadd rfl rfl (pc' := 443) ?_
    obtain ⟨n3, hn3, H⟩ := H
    refine t_baload hT (o := 56) (l := 98304) rfl rfl rfl hn3 (pc' := 444) rfl ?_
    refine g_ic_eq rfl (pc' := 447) (pt := 449) rfl rfl ⟨fun hc => ?_, fun hc => ?_⟩
    · have H := H.1 hc
      refine g_iinc (c := (Int32.ofNat 1)) rfl rfl rfl rfl rfl (pc' := 452) ?_
      refine g_goto rfl (pc' := 406) rfl ?_
      exact g_weak (show gm_Lle [some _, some _, some _, none, some _, some _, some _, some _] _ from ⟨rfl, ⟨rfl, ⟨rfl, ⟨rfl, ⟨rfl, ⟨rfl, ⟨rfl, trivial⟩⟩⟩⟩⟩⟩⟩) H
    · have H := H.2 hc
      refine g_iconst rfl rfl rfl (pc' := 448) ?_
      exact g_ireturn rfl (Or.inr (by decide)) H
theorem w_382_0 {m : Nat} {x1 : Int32} {h : hh_T} {Q : Option Value ⊕ Nat → hh_T → Prop} (hT : tw_ok h m) (H : gm_G 382 2 [some (.ref m), some (.int x1), some (.int (Int32.ofNat 0))] [] h Q) : gm_G 382 0 [some (.ref m), some (.int x1)] [] h Q := by
  refine g_iconst rfl rfl rfl (pc' := 1) ?_
  refine g_istore rfl rfl rfl (pc' := 2) ?_
  exact g_weak (show gm_Lle [some _, some _, some _] _ from ⟨rfl, ⟨rfl, ⟨rfl, trivial⟩⟩⟩) H
theorem w_382_2 {m : Nat} {x1 : Int32} {x2 : Int32} {h : hh_T} {Q : Option Value ⊕ Nat → hh_T → Prop} (hT : tw_ok h m) (H : (¬ x2 < x1 → (Q (.inl none) h)) ∧ (x2 < x1 → (gm_G 382 9 [some (.ref m), some (.int x1), some (.int x2), some (.int x2)] [] h Q))) : gm_G 382 2 [some (.ref m), some (.int x1), some (.int x2)] [] h Q := by
  refine g_iload rfl rfl rfl (pc' := 3) ?_
  refine g_iload rfl rfl rfl (pc' := 4) ?_
  refine g_ic_ge rfl (pc' := 7) (pt := 253) rfl rfl ⟨fun hc => ?_, fun hc => ?_⟩
  · have H := H.1 hc
    exact g_return rfl H
  · have H := H.2 hc
    refine g_iload rfl rfl rfl (pc' := 8) ?_
    refine g_istore rfl rfl rfl (pc' := 9) ?_
    exact g_weak (show gm_Lle [some _, some _, some _, some _] _ from ⟨rfl, ⟨rfl, ⟨rfl, ⟨rfl, trivial⟩⟩⟩⟩) H
theorem w_382_9 {m : Nat} {x1 : Int32} {x2 : Int32} {x3 : Int32} {h : hh_T} {Q : Option Value ⊕ Nat → hh_T → Prop} (hT : tw_ok h m) (H : ∃ n1, gm_ix (((Int32.ofNat 8) * x3) + x2) n1 64 ∧ ((¬ (hh_i h (m + 39) n1) = Int32.ofNat 0 → (gm_G 382 32 [some (.ref m), some (.int x1), some (.int x2), some (.int x3), some (.int (Int32.ofNat 0))] [] h Q)) ∧ ((hh_i h (m + 39) n1) = Int32.ofNat 0 → (gm_G 382 9 [some (.ref m), some (.int x1), some (.int x2), some (.int (x3 + (Int32.ofNat 1)))] [] h Q)))) : gm_G 382 9 [some (.ref m), some (.int x1), some (.int x2), some (.int x3)] [] h Q := by
  refine g_aload (r := some _) rfl rfl rfl (pc' := 10) ?_
  refine t_get (o := 39) rfl hT rfl rfl rfl (pc' := 13) rfl ?_
  refine g_iconst rfl rfl rfl (pc' := 15) ?_
  refine g_iload rfl rfl rfl (pc' := 16) ?_
  refine g_imul rfl rfl (pc' := 17) ?_
  refine g_iload rfl rfl rfl (pc' := 18) ?_
  refine g_iadd rfl rfl (pc' := 19) ?_
  obtain ⟨n1, hn1, H⟩ := H
  refine t_iaload hT (o := 39) (l := 64) rfl rfl rfl hn1 (pc' := 20) rfl ?_
  refine g_if_ne rfl (pc' := 23) (pt := 29) rfl rfl ⟨fun hc => ?_, fun hc => ?_⟩
  · have H := H.1 hc
    refine g_iconst rfl rfl rfl (pc' := 30) ?_
    refine g_istore rfl rfl rfl (pc' := 32) ?_
    exact g_weak (show gm_Lle [some _, some _, some _, some _, some _] _ from ⟨rfl, ⟨rfl, ⟨rfl, ⟨rfl, ⟨rfl, trivial⟩⟩⟩⟩⟩) H
  · have H := H.2 hc
    refine g_iinc (c := (Int32.ofNat 1)) rfl rfl rfl rfl rfl (pc' := 26) ?_
    refine g_goto rfl (pc' := 9) rfl ?_
    exact g_weak (show gm_Lle [some _, some _, some _, some _] _ from ⟨rfl, ⟨rfl, ⟨rfl, ⟨rfl, trivial⟩⟩⟩⟩) H
theorem w_382_32 {m : Nat} {x1 : Int32} {x2 : Int32} {x3 : Int32} {x4 : Int32} {h : hh_T} {Q : Option Value ⊕ Nat → hh_T → Prop} (hT : tw_ok h m) (H : (x1 < x4 → (∃ n1, gm_ix (((Int32.ofNat 8) * x2) + x2) n1 64 ∧ (gm_G 283 0 [some (.int (hh_i h (m + 39) n1))] [] h (pI (fun v3 h2 => gm_G 382 115 [some (.ref m), some (.int x1), some (.int x2), none, some (.int v3), some (.int (Int32.ofNat 0))] [] h2 Q) (fun _ _ => False))))) ∧ (¬ x1 < x4 → (∃ n4, gm_ix (((Int32.ofNat 8) * x3) + x4) n4 64 ∧ (∃ n5, gm_ix (((Int32.ofNat 8) * x2) + x4) n5 64 ∧ (∃ n6, gm_ix (((Int32.ofNat 8) * x3) + x4) n6 64 ∧ (∀ h7, h7 = hh_wi h (m + 39) n6 (hh_i h (m + 39) n5) → (∃ n8, gm_ix (((Int32.ofNat 8) * x2) + x4) n8 64 ∧ (∀ h9, h9 = hh_wi h7 (m + 39) n8 (hh_i h (m + 39) n4) → (gm_G 382 32 [some (.ref m), some (.int x1), some (.int x2), some (.int x3), some (.int (x4 + (Int32.ofNat 1)))] [] h9 Q))))))))) : gm_G 382 32 [some (.ref m), some (.int x1), some (.int x2), some (.int x3), some (.int x4)] [] h Q := by
  refine g_iload rfl rfl rfl (pc' := 34) ?_
  refine g_iload rfl rfl rfl (pc' := 35) ?_
  refine g_ic_gt rfl (pc' := 38) (pt := 96) rfl rfl ⟨fun hc => ?_, fun hc => ?_⟩
  · have H := H.1 hc
    refine g_aload (r := some _) rfl rfl rfl (pc' := 97) ?_
    refine t_get (o := 39) rfl hT rfl rfl rfl (pc' := 100) rfl ?_
    refine g_iconst rfl rfl rfl (pc' := 102) ?_
    refine g_iload rfl rfl rfl (pc' := 103) ?_
    refine g_imul rfl rfl (pc' := 104) ?_
    refine g_iload rfl rfl rfl (pc' := 105) ?_
    refine g_iadd rfl rfl (pc' := 106) ?_
    obtain ⟨n1, hn1, H⟩ := H
    refine t_iaload hT (o := 39) (l := 64) rfl rfl rfl hn1 (pc' := 107) rfl ?_
    refine t_call hT (y := 283) (n := 1) (pc' := 110) rfl rfl (fun _ => rfl) rfl rfl ⟨(Nat.le_of_ble_eq_true rfl), (Nat.le_of_ble_eq_true rfl), (Nat.le_of_ble_eq_true rfl)⟩ rfl H (tI_elim (fun v3 h2 H hT => ?_))
    show gm_G _ 110 _ _ _ _
    refine g_istore rfl rfl rfl (pc' := 112) ?_
    refine g_iconst rfl rfl rfl (pc' := 113) ?_
    refine g_istore rfl rfl rfl (pc' := 115) ?_
    exact g_weak (show gm_Lle [some _, some _, some _, none, some _, some _] _ from ⟨rfl, ⟨rfl, ⟨rfl, ⟨rfl, ⟨rfl, trivial⟩⟩⟩⟩⟩) H
  · have H := H.2 hc
    refine g_aload (r := some _) rfl rfl rfl (pc' := 39) ?_
    refine t_get (o := 39) rfl hT rfl rfl rfl (pc' := 42) rfl ?_
    refine g_iconst rfl rfl rfl (pc' := 44) ?_
    refine g_iload rfl rfl rfl (pc' := 45) ?_
    refine g_imul rfl rfl (pc' := 46) ?_
    refine g_iload rfl rfl rfl (pc' := 48) ?_
    refine g_iadd rfl rfl (pc' := 49) ?_
    obtain ⟨n4, hn4, H⟩ := H
    refine t_iaload hT (o := 39) (l := 64) rfl rfl rfl hn4 (pc' := 50) rfl ?_
    refine g_istore rfl rfl rfl (pc' := 52) ?_
    refine g_aload (r := some _) rfl rfl rfl (pc' := 53) ?_
    refine t_get (o := 39) rfl hT rfl rfl rfl (pc' := 56) rfl ?_
    refine g_iconst rfl rfl rfl (pc' := 58) ?_
    refine g_iload rfl rfl rfl (pc' := 59) ?_
    refine g_imul rfl rfl (pc' := 60) ?_
    refine g_iload rfl rfl rfl (pc' := 62) ?_
    refine g_iadd rfl rfl (pc' := 63) ?_
    refine g_aload (r := some _) rfl rfl rfl (pc' := 64) ?_
    refine t_get (o := 39) rfl hT rfl rfl rfl (pc' := 67) rfl ?_
    refine g_iconst rfl rfl rfl (pc' := 69) ?_
    refine g_iload rfl rfl rfl (pc' := 70) ?_
    refine g_imul rfl rfl (pc' := 71) ?_
    refine g_iload rfl rfl rfl (pc' := 73) ?_
    refine g_iadd rfl rfl (pc' := 74) ?_
    obtain ⟨n5, hn5, H⟩ := H
    refine t_iaload hT (o := 39) (l := 64) rfl rfl rfl hn5 (pc' := 75) rfl ?_
    obtain ⟨n6, hn6, H⟩ := H
    refine t_iastore hT (o := 39) (l := 64) rfl rfl rfl hn6  (pc' := 76) rfl (fun hT => ?_)
    have H := H _ rfl
    refine g_aload (r := some _) rfl rfl rfl (pc' := 77) ?_
    refine t_get (o := 39) rfl hT rfl rfl rfl (pc' := 80) rfl ?_
    refine g_iconst rfl rfl rfl (pc' := 82) ?_
    refine g_iload rfl rfl rfl (pc' := 83) ?_
    refine g_imul rfl rfl (pc' := 84) ?_
    refine g_iload rfl rfl rfl (pc' := 86) ?_
    refine g_iadd rfl rfl (pc' := 87) ?_
    refine g_iload rfl rfl rfl (pc' := 89) ?_
    obtain ⟨n8, hn8, H⟩ := H
    refine t_iastore hT (o := 39) (l := 64) rfl rfl rfl hn8  (pc' := 90) rfl (fun hT => ?_)
    have H := H _ rfl
    refine g_iinc (c := (Int32.ofNat 1)) rfl rfl rfl rfl rfl (pc' := 93) ?_
    refine g_goto rfl (pc' := 32) rfl ?_
    exact g_weak (show gm_Lle [some _, some _, some _, some _, some _] _ from ⟨rfl, ⟨rfl, ⟨rfl, ⟨rfl, ⟨rfl, trivial⟩⟩⟩⟩⟩) H
theorem w_382_115 {m : Nat} {x1 : Int32} {x2 : Int32} {x4 : Int32} {x5 : Int32} {h : hh_T} {Q : Option Value ⊕ Nat → hh_T → Prop} (hT : tw_ok h m) (H : (x1 < x5 → (gm_G 382 159 [some (.ref m), some (.int x1), some (.int x2), none, none, some (.int (Int32.ofNat 0))] [] h Q)) ∧ (¬ x1 < x5 → (∃ n1, gm_ix (((Int32.ofNat 8) * x2) + x5) n1 64 ∧ (gm_G 161 0 [some (.int (hh_i h (m + 39) n1)), some (.int x4)] [] h (pI (fun v3 h2 => ∃ n4, gm_ix (((Int32.ofNat 8) * x2) + x5) n4 64 ∧ (∀ h5, h5 = hh_wi h2 (m + 39) n4 v3 → (gm_G 382 115 [some (.ref m), some (.int x1), some (.int x2), none, some (.int x4), some (.int (x5 + (Int32.ofNat 1)))] [] h5 Q))) (fun _ _ => False)))))) : gm_G 382 115 [some (.ref m), some (.int x1), some (.int x2), none, some (.int x4), some (.int x5)] [] h Q := by
  refine g_iload rfl rfl rfl (pc' := 117) ?_
  refine g_iload rfl rfl rfl (pc' := 118) ?_
  refine g_ic_gt rfl (pc' := 121) (pt := 156) rfl rfl ⟨fun hc => ?_, fun hc => ?_⟩
  · have H := H.1 hc
    refine g_iconst rfl rfl rfl (pc' := 157) ?_
    refine g_istore rfl rfl rfl (pc' := 159) ?_
    exact g_weak (show gm_Lle [some _, some _, some _, none, none, some _] _ from ⟨rfl, ⟨rfl, ⟨rfl, ⟨rfl, trivial⟩⟩⟩⟩) H
  · have H := H.2 hc
    refine g_aload (r := some _) rfl rfl rfl (pc' := 122) ?_
    refine t_get (o := 39) rfl hT rfl rfl rfl (pc' := 125) rfl ?_
    refine g_iconst rfl rfl rfl (pc' := 127) ?_
    refine g_iload rfl rfl rfl (pc' := 128) ?_
    refine g_imul rfl rfl (pc' := 129) ?_
    refine g_iload rfl rfl rfl (pc' := 131) ?_
    refine g_iadd rfl rfl (pc' := 132) ?_
    refine g_aload (r := some _) rfl rfl rfl (pc' := 133) ?_
    refine t_get (o := 39) rfl hT rfl rfl rfl (pc' := 136) rfl ?_
    refine g_iconst rfl rfl rfl (pc' := 138) ?_
    refine g_iload rfl rfl rfl (pc' := 139) ?_
    refine g_imul rfl rfl (pc' := 140) ?_
    refine g_iload rfl rfl rfl (pc' := 142) ?_
    refine g_iadd rfl rfl (pc' := 143) ?_
    obtain ⟨n1, hn1, H⟩ := H
    refine t_iaload hT (o := 39) (l := 64) rfl rfl rfl hn1 (pc' := 144) rfl ?_
    refine g_iload rfl rfl rfl (pc' := 146) ?_
    refine t_call hT (y := 161) (n := 2) (pc' := 149) rfl rfl (fun _ => rfl) rfl rfl ⟨(Nat.le_of_ble_eq_true rfl), (Nat.le_of_ble_eq_true rfl), (Nat.le_of_ble_eq_true rfl)⟩ rfl H (tI_elim (fun v3 h2 H hT => ?_))
    show gm_G _ 149 _ _ _ _
    obtain ⟨n4, hn4, H⟩ := H
    refine t_iastore hT (o := 39) (l := 64) rfl rfl rfl hn4  (pc' := 150) rfl (fun hT => ?_)
    have H := H _ rfl
    refine g_iinc (c := (Int32.ofNat 1)) rfl rfl rfl rfl rfl (pc' := 153) ?_
    refine g_goto rfl (pc' := 115) rfl ?_
    exact g_weak (show gm_Lle [some _, some _, some _, none, some _, some _] _ from ⟨rfl, ⟨rfl, ⟨rfl, ⟨rfl, ⟨rfl, trivial⟩⟩⟩⟩⟩) H
theorem w_382_159 {m : Nat} {x1 : Int32} {x2 : Int32} {x5 : Int32} {h : hh_T} {Q : Option Value ⊕ Nat → hh_T → Prop} (hT : tw_ok h m) (H : (¬ x5 < x1 → (gm_G 382 2 [some (.ref m), some (.int x1), some (.int (x2 + (Int32.ofNat 1)))] [] h Q)) ∧ (x5 < x1 → (∃ n1, gm_ix (((Int32.ofNat 8) * x5) + x2) n1 64 ∧ ((x5 = x2 → (gm_G 382 241 [some (.ref m), some (.int x1), some (.int x2), none, none, some (.int x5)] [] h Q)) ∧ (¬ x5 = x2 → ((¬ (hh_i h (m + 39) n1) = Int32.ofNat 0 → (gm_G 382 196 [some (.ref m), some (.int x1), some (.int x2), none, none, some (.int x5), some (.int (hh_i h (m + 39) n1)), some (.int (Int32.ofNat 0))] [] h Q)) ∧ ((hh_i h (m + 39) n1) = Int32.ofNat 0 → (gm_G 382 241 [some (.ref m), some (.int x1), some (.int x2), none, none, some (.int x5)] [] h Q)))))))) : gm_G 382 159 [some (.ref m), some (.int x1), some (.int x2), none, none, some (.int x5)] [] h Q := by
  refine g_iload rfl rfl rfl (pc' := 161) ?_
  refine g_iload rfl rfl rfl (pc' := 162) ?_
  refine g_ic_ge rfl (pc' := 165) (pt := 247) rfl rfl ⟨fun hc => ?_, fun hc => ?_⟩
  · have H := H.1 hc
    refine g_iinc (c := (Int32.ofNat 1)) rfl rfl rfl rfl rfl (pc' := 250) ?_
    refine g_goto rfl (pc' := 2) rfl ?_
    exact g_weak (show gm_Lle [some _, some _, some _] _ from ⟨rfl, ⟨rfl, ⟨rfl, trivial⟩⟩⟩) H
  · have H := H.2 hc
    refine g_aload (r := some _) rfl rfl rfl (pc' := 166) ?_
    refine t_get (o := 39) rfl hT rfl rfl rfl (pc' := 169) rfl ?_
    refine g_iconst rfl rfl rfl (pc' := 171) ?_
    refine g_iload rfl rfl rfl (pc' := 173) ?_
    refine g_imul rfl rfl (pc' := 174) ?_
    refine g_iload rfl rfl rfl (pc' := 175) ?_
    refine g_iadd rfl rfl (pc' := 176) ?_
    obtain ⟨n1, hn1, H⟩ := H
    refine t_iaload hT (o := 39) (l := 64) rfl rfl rfl hn1 (pc' := 177) rfl ?_
    refine g_istore rfl rfl rfl (pc' := 179) ?_
    refine g_iload rfl rfl rfl (pc' := 181) ?_
    refine g_iload rfl rfl rfl (pc' := 182) ?_
    refine g_ic_eq rfl (pc' := 185) (pt := 241) rfl rfl ⟨fun hc => ?_, fun hc => ?_⟩
    · have H := H.1 hc
      exact g_weak (show gm_Lle [some _, some _, some _, none, none, some _] _ from ⟨rfl, ⟨rfl, ⟨rfl, ⟨rfl, trivial⟩⟩⟩⟩) H
    · have H := H.2 hc
      refine g_iload rfl rfl rfl (pc' := 187) ?_
      refine g_if_ne rfl (pc' := 190) (pt := 193) rfl rfl ⟨fun hc => ?_, fun hc => ?_⟩
      · have H := H.1 hc
        refine g_iconst rfl rfl rfl (pc' := 194) ?_
        refine g_istore rfl rfl rfl (pc' := 196) ?_
        exact g_weak (show gm_Lle [some _, some _, some _, none, none, some _, some _, some _] _ from ⟨rfl, ⟨rfl, ⟨rfl, ⟨rfl, ⟨rfl, ⟨rfl, trivial⟩⟩⟩⟩⟩⟩) H
      · have H := H.2 hc
        refine g_goto rfl (pc' := 241) rfl ?_
        exact g_weak (show gm_Lle [some _, some _, some _, none, none, some _] _ from ⟨rfl, ⟨rfl, ⟨rfl, ⟨rfl, trivial⟩⟩⟩⟩) H
theorem w_382_196 {m : Nat} {x1 : Int32} {x2 : Int32} {x5 : Int32} {x6 : Int32} {x7 : Int32} {h : hh_T} {Q : Option Value ⊕ Nat → hh_T → Prop} (hT : tw_ok h m) (H : (x1 < x7 → (gm_G 382 241 [some (.ref m), some (.int x1), some (.int x2), none, none, some (.int x5)] [] h Q)) ∧ (¬ x1 < x7 → (∃ n1, gm_ix (((Int32.ofNat 8) * x5) + x7) n1 64 ∧ (∃ n2, gm_ix (((Int32.ofNat 8) * x2) + x7) n2 64 ∧ (gm_G 161 0 [some (.int (hh_i h (m + 39) n2)), some (.int x6)] [] h (pI (fun v4 h3 => ∃ n5, gm_ix (((Int32.ofNat 8) * x5) + x7) n5 64 ∧ (∀ h6, h6 = hh_wi h3 (m + 39) n5 ((hh_i h (m + 39) n1) ^^^ v4) → (gm_G 382 196 [some (.ref m), some (.int x1), some (.int x2), none, none, some (.int x5), some (.int x6), some (.int (x7 + (Int32.ofNat 1)))] [] h6 Q))) (fun _ _ => False))))))) : gm_G 382 196 [some (.ref m), some (.int x1), some (.int x2), none, none, some (.int x5), some (.int x6), some (.int x7)] [] h Q := by
  refine g_iload rfl rfl rfl (pc' := 198) ?_
  refine g_iload rfl rfl rfl (pc' := 199) ?_
  refine g_ic_gt rfl (pc' := 202) (pt := 241) rfl rfl ⟨fun hc => ?_, fun hc => ?_⟩
  · have H := H.1 hc
    exact g_weak (show gm_Lle [some _, some _, some _, none, none, some _] _ from ⟨rfl, ⟨rfl, ⟨rfl, ⟨rfl, trivial⟩⟩⟩⟩) H
  · have H := H.2 hc
    refine g_aload (r := some _) rfl rfl rfl (pc' := 203) ?_
    refine t_get (o := 39) rfl hT rfl rfl rfl (pc' := 206) rfl ?_
    refine g_iconst rfl rfl rfl (pc' := 208) ?_
    refine g_iload rfl rfl rfl (pc' := 210) ?_
    refine g_imul rfl rfl (pc' := 211) ?_
    refine g_iload rfl rfl rfl (pc' := 213) ?_
    refine g_iadd rfl rfl (pc' := 214) ?_
    refine g_dup2_a rfl (pc' := 215) rfl ?_
    obtain ⟨n1, hn1, H⟩ := H
    refine t_iaload hT (o := 39) (l := 64) rfl rfl rfl hn1 (pc' := 216) rfl ?_
    refine g_aload (r := some _) rfl rfl rfl (pc' := 217) ?_
    refine t_get (o := 39) rfl hT rfl rfl rfl (pc' := 220) rfl ?_
    refine g_iconst rfl rfl rfl (pc' := 222) ?_
    refine g_iload rfl rfl rfl (pc' := 223) ?_
    refine g_imul rfl rfl (pc' := 224) ?_
    refine g_iload rfl rfl rfl (pc' := 226) ?_
    refine g_iadd rfl rfl (pc' := 227) ?_
    obtain ⟨n2, hn2, H⟩ := H
    refine t_iaload hT (o := 39) (l := 64) rfl rfl rfl hn2 (pc' := 228) rfl ?_
    refine g_iload rfl rfl rfl (pc' := 230) ?_
    refine t_call hT (y := 161) (n := 2) (pc' := 233) rfl rfl (fun _ => rfl) rfl rfl ⟨(Nat.le_of_ble_eq_true rfl), (Nat.le_of_ble_eq_true rfl), (Nat.le_of_ble_eq_true rfl)⟩ rfl H (tI_elim (fun v4 h3 H hT => ?_))
    show gm_G _ 233 _ _ _ _
    refine g_ixor rfl rfl (pc' := 234) ?_
    obtain ⟨n5, hn5, H⟩ := H
    refine t_iastore hT (o := 39) (l := 64) rfl rfl rfl hn5  (pc' := 235) rfl (fun hT => ?_)
    have H := H _ rfl
    refine g_iinc (c := (Int32.ofNat 1)) rfl rfl rfl rfl rfl (pc' := 238) ?_
    refine g_goto rfl (pc' := 196) rfl ?_
    exact g_weak (show gm_Lle [some _, some _, some _, none, none, some _, some _, some _] _ from ⟨rfl, ⟨rfl, ⟨rfl, ⟨rfl, ⟨rfl, ⟨rfl, trivial⟩⟩⟩⟩⟩⟩) H
theorem w_382_241 {m : Nat} {x1 : Int32} {x2 : Int32} {x5 : Int32} {h : hh_T} {Q : Option Value ⊕ Nat → hh_T → Prop} (hT : tw_ok h m) (H : gm_G 382 159 [some (.ref m), some (.int x1), some (.int x2), none, none, some (.int (x5 + (Int32.ofNat 1)))] [] h Q) : gm_G 382 241 [some (.ref m), some (.int x1), some (.int x2), none, none, some (.int x5)] [] h Q := by
  refine g_iinc (c := (Int32.ofNat 1)) rfl rfl rfl rfl rfl (pc' := 244) ?_
  refine g_goto rfl (pc' := 159) rfl ?_
  exact g_weak (show gm_Lle [some _, some _, some _, none, none, some _] _ from ⟨rfl, ⟨rfl, ⟨rfl, ⟨rfl, trivial⟩⟩⟩⟩) H
theorem w_383_0 {m : Nat} {x1 : Int32} {x2 : Int32} {h : hh_T} {Q : Option Value ⊕ Nat → hh_T → Prop} (hT : tw_ok h m) (H : gm_G 383 8 [some (.ref m), some (.int x1), some (.int x2), some (.int (Int32.ofNat 0)), some (.int ((Int32.ofNat 16) * x1))] [] h Q) : gm_G 383 0 [some (.ref m), some (.int x1), some (.int x2)] [] h Q := by
  refine g_iconst rfl rfl rfl (pc' := 1) ?_
  refine g_istore rfl rfl rfl (pc' := 2) ?_
  refine g_iconst rfl rfl rfl (pc' := 4) ?_
  refine g_iload rfl rfl rfl (pc' := 5) ?_
  refine g_imul rfl rfl (pc' := 6) ?_
  refine g_istore rfl rfl rfl (pc' := 8) ?_
  exact g_weak (show gm_Lle [some _, some _, some _, some _, some _] _ from ⟨rfl, ⟨rfl, ⟨rfl, ⟨rfl, ⟨rfl, trivial⟩⟩⟩⟩⟩) H
theorem w_383_8 {m : Nat} {x1 : Int32} {x2 : Int32} {x3 : Int32} {x4 : Int32} {h : hh_T} {Q : Option Value ⊕ Nat → hh_T → Prop} (hT : tw_ok h m) (H : (¬ x4 < (((Int32.ofNat 16) * x1) + (Int32.ofNat 16)) → (Q (.inl (some (.int x3))) h)) ∧ (x4 < (((Int32.ofNat 16) * x1) + (Int32.ofNat 16)) → (∃ n1, gm_ix x4 n1 1536 ∧ (((hh_i h (m + 40) n1) = (Int32.ofNat 1) → (gm_G 383 42 [some (.ref m), some (.int x1), some (.int x2), some (.int x3), some (.int x4)] [] h Q)) ∧ (¬ (hh_i h (m + 40) n1) = (Int32.ofNat 1) → (∃ n2, gm_ix x4 n2 1536 ∧ ((¬ (hh_i h (m + 40) n2) = (Int32.ofNat 4) → (gm_G 383 114 [some (.ref m), some (.int x1), some (.int x2), some (.int x3), some (.int x4)] [] h Q)) ∧ ((hh_i h (m + 40) n2) = (Int32.ofNat 4) → (gm_G 383 42 [some (.ref m), some (.int x1), some (.int x2), some (.int x3), some (.int x4)] [] h Q))))))))) : gm_G 383 8 [some (.ref m), some (.int x1), some (.int x2), some (.int x3), some (.int x4)] [] h Q := by
  refine g_iload rfl rfl rfl (pc' := 10) ?_
  refine g_iconst rfl rfl rfl (pc' := 12) ?_
  refine g_iload rfl rfl rfl (pc' := 13) ?_
  refine g_imul rfl rfl (pc' := 14) ?_
  refine g_iconst rfl rfl rfl (pc' := 16) ?_
  refine g_iadd rfl rfl (pc' := 17) ?_
  refine g_ic_ge rfl (pc' := 20) (pt := 120) rfl rfl ⟨fun hc => ?_, fun hc => ?_⟩
  · have H := H.1 hc
    refine g_iload rfl rfl rfl (pc' := 121) ?_
    exact g_ireturn rfl (Or.inl rfl) H
  · have H := H.2 hc
    refine g_aload (r := some _) rfl rfl rfl (pc' := 21) ?_
    refine t_get (o := 40) rfl hT rfl rfl rfl (pc' := 24) rfl ?_
    refine g_iload rfl rfl rfl (pc' := 26) ?_
    obtain ⟨n1, hn1, H⟩ := H
    refine t_iaload hT (o := 40) (l := 1536) rfl rfl rfl hn1 (pc' := 27) rfl ?_
    refine g_iconst rfl rfl rfl (pc' := 28) ?_
    refine g_ic_eq rfl (pc' := 31) (pt := 42) rfl rfl ⟨fun hc => ?_, fun hc => ?_⟩
    · have H := H.1 hc
      exact g_weak (show gm_Lle [some _, some _, some _, some _, some _] _ from ⟨rfl, ⟨rfl, ⟨rfl, ⟨rfl, ⟨rfl, trivial⟩⟩⟩⟩⟩) H
    · have H := H.2 hc
      refine g_aload (r := some _) rfl rfl rfl (pc' := 32) ?_
      refine t_get (o := 40) rfl hT rfl rfl rfl (pc' := 35) rfl ?_
      refine g_iload rfl rfl rfl (pc' := 37) ?_
      obtain ⟨n2, hn2, H⟩ := H
      refine t_iaload hT (o := 40) (l := 1536) rfl rfl rfl hn2 (pc' := 38) rfl ?_
      refine g_iconst rfl rfl rfl (pc' := 39) ?_
      refine g_ic_ne rfl (pc' := 42) (pt := 114) rfl rfl ⟨fun hc => ?_, fun hc => ?_⟩
      · have H := H.1 hc
        exact g_weak (show gm_Lle [some _, some _, some _, some _, some _] _ from ⟨rfl, ⟨rfl, ⟨rfl, ⟨rfl, ⟨rfl, trivial⟩⟩⟩⟩⟩) H
      · have H := H.2 hc
        exact g_weak (show gm_Lle [some _, some _, some _, some _, some _] _ from ⟨rfl, ⟨rfl, ⟨rfl, ⟨rfl, ⟨rfl, trivial⟩⟩⟩⟩⟩) H
theorem w_383_42 {m : Nat} {x1 : Int32} {x2 : Int32} {x3 : Int32} {x4 : Int32} {h : hh_T} {Q : Option Value ⊕ Nat → hh_T → Prop} (hT : tw_ok h m) (H : (x2 < Int32.ofNat 0 → (gm_G 383 60 [some (.ref m), some (.int x1), some (.int x2), some (.int x3), some (.int x4)] [] h Q)) ∧ (¬ x2 < Int32.ofNat 0 → (∃ n1, gm_ix x4 n1 1536 ∧ (((hh_i h (m + 42) n1) = x2 → (gm_G 383 60 [some (.ref m), some (.int x1), some (.int x2), some (.int x3), some (.int x4)] [] h Q)) ∧ (¬ (hh_i h (m + 42) n1) = x2 → (gm_G 383 114 [some (.ref m), some (.int x1), some (.int x2), some (.int x3), some (.int x4)] [] h Q)))))) : gm_G 383 42 [some (.ref m), some (.int x1), some (.int x2), some (.int x3), some (.int x4)] [] h Q := by
  refine g_iload rfl rfl rfl (pc' := 43) ?_
  refine g_if_lt rfl (pc' := 46) (pt := 60) rfl rfl ⟨fun hc => ?_, fun hc => ?_⟩
  · have H := H.1 hc
    exact g_weak (show gm_Lle [some _, some _, some _, some _, some _] _ from ⟨rfl, ⟨rfl, ⟨rfl, ⟨rfl, ⟨rfl, trivial⟩⟩⟩⟩⟩) H
  · have H := H.2 hc
    refine g_aload (r := some _) rfl rfl rfl (pc' := 47) ?_
    refine t_get (o := 42) rfl hT rfl rfl rfl (pc' := 50) rfl ?_
    refine g_iload rfl rfl rfl (pc' := 52) ?_
    obtain ⟨n1, hn1, H⟩ := H
    refine t_iaload hT (o := 42) (l := 1536) rfl rfl rfl hn1 (pc' := 53) rfl ?_
    refine g_iload rfl rfl rfl (pc' := 54) ?_
    refine g_ic_eq rfl (pc' := 57) (pt := 60) rfl rfl ⟨fun hc => ?_, fun hc => ?_⟩
    · have H := H.1 hc
      exact g_weak (show gm_Lle [some _, some _, some _, some _, some _] _ from ⟨rfl, ⟨rfl, ⟨rfl, ⟨rfl, ⟨rfl, trivial⟩⟩⟩⟩⟩) H
    · have H := H.2 hc
      refine g_goto rfl (pc' := 114) rfl ?_
      exact g_weak (show gm_Lle [some _, some _, some _, some _, some _] _ from ⟨rfl, ⟨rfl, ⟨rfl, ⟨rfl, ⟨rfl, trivial⟩⟩⟩⟩⟩) H
theorem w_383_60 {m : Nat} {x1 : Int32} {x2 : Int32} {x3 : Int32} {x4 : Int32} {h : hh_T} {Q : Option Value ⊕ Nat → hh_T → Prop} (hT : tw_ok h m) (H : gm_G 383 67 [some (.ref m), some (.int x1), some (.int x2), some (.int x3), some (.int x4), some (.int ((Int32.ofNat 8) * x4))] [] h Q) : gm_G 383 60 [some (.ref m), some (.int x1), some (.int x2), some (.int x3), some (.int x4)] [] h Q := by
  refine g_iconst rfl rfl rfl (pc' := 62) ?_
  refine g_iload rfl rfl rfl (pc' := 64) ?_
  refine g_imul rfl rfl (pc' := 65) ?_
  refine g_istore rfl rfl rfl (pc' := 67) ?_
  exact g_weak (show gm_Lle [some _, some _, some _, some _, some _, some _] _ from ⟨rfl, ⟨rfl, ⟨rfl, ⟨rfl, ⟨rfl, ⟨rfl, trivial⟩⟩⟩⟩⟩⟩) H
theorem w_383_67 {m : Nat} {x1 : Int32} {x2 : Int32} {x3 : Int32} {x4 : Int32} {x5 : Int32} {h : hh_T} {Q : Option Value ⊕ Nat → hh_T → Prop} (hT : tw_ok h m) (H : (¬ x5 < (((Int32.ofNat 8) * x4) + (Int32.ofNat 8)) → (gm_G 383 114 [some (.ref m), some (.int x1), some (.int x2), some (.int x3), some (.int x4)] [] h Q)) ∧ (x5 < (((Int32.ofNat 8) * x4) + (Int32.ofNat 8)) → (∃ n1, gm_ix x5 n1 12288 ∧ (((hh_i h (m + 55) n1) < Int32.ofNat 0 → (gm_G 383 106 [some (.ref m), some (.int x1), some (.int x2), none, some (.int x4), some (.int x5)] [.int (Int32.ofNat 0), .int x3] h Q)) ∧ (¬ (hh_i h (m + 55) n1) < Int32.ofNat 0 → (∃ n2, gm_ix x5 n2 12288 ∧ (gm_G 294 0 [some (.ref m), some (.int (hh_i h (m + 55) n2))] [] h (pI (fun v4 h3 => gm_G 383 106 [some (.ref m), some (.int x1), some (.int x2), none, some (.int x4), some (.int x5)] [.int v4, .int x3] h3 Q) (fun _ _ => False))))))))) : gm_G 383 67 [some (.ref m), some (.int x1), some (.int x2), some (.int x3), some (.int x4), some (.int x5)] [] h Q := by
  refine g_iload rfl rfl rfl (pc' := 69) ?_
  refine g_iconst rfl rfl rfl (pc' := 71) ?_
  refine g_iload rfl rfl rfl (pc' := 73) ?_
  refine g_imul rfl rfl (pc' := 74) ?_
  refine g_iconst rfl rfl rfl (pc' := 76) ?_
  refine g_iadd rfl rfl (pc' := 77) ?_
  refine g_ic_ge rfl (pc' := 80) (pt := 114) rfl rfl ⟨fun hc => ?_, fun hc => ?_⟩
  · have H := H.1 hc
    exact g_weak (show gm_Lle [some _, some _, some _, some _, some _] _ from ⟨rfl, ⟨rfl, ⟨rfl, ⟨rfl, ⟨rfl, trivial⟩⟩⟩⟩⟩) H
  · have H := H.2 hc
    refine g_iload rfl rfl rfl (pc' := 81) ?_
    refine g_aload (r := some _) rfl rfl rfl (pc' := 82) ?_
    refine t_get (o := 55) rfl hT rfl rfl rfl (pc' := 85) rfl ?_
    refine g_iload rfl rfl rfl (pc' := 87) ?_
    obtain ⟨n1, hn1, H⟩ := H
    refine t_iaload hT (o := 55) (l := 12288) rfl rfl rfl hn1 (pc' := 88) rfl ?_
    refine g_if_lt rfl (pc' := 91) (pt := 105) rfl rfl ⟨fun hc => ?_, fun hc => ?_⟩
    · have H := H.1 hc
      refine g_iconst rfl rfl rfl (pc' := 106) ?_
      exact g_weak (show gm_Lle [some _, some _, some _, none, some _, some _] _ from ⟨rfl, ⟨rfl, ⟨rfl, ⟨rfl, ⟨rfl, trivial⟩⟩⟩⟩⟩) H
    · have H := H.2 hc
      refine g_aload (r := some _) rfl rfl rfl (pc' := 92) ?_
      refine g_aload (r := some _) rfl rfl rfl (pc' := 93) ?_
      refine t_get (o := 55) rfl hT rfl rfl rfl (pc' := 96) rfl ?_
      refine g_iload rfl rfl rfl (pc' := 98) ?_
      obtain ⟨n2, hn2, H⟩ := H
      refine t_iaload hT (o := 55) (l := 12288) rfl rfl rfl hn2 (pc' := 99) rfl ?_
      refine t_call hT (y := 294) (n := 2) (pc' := 102) rfl rfl (t_vt hT rfl rfl) rfl rfl ⟨(Nat.le_of_ble_eq_true rfl), (Nat.le_of_ble_eq_true rfl), (Nat.le_of_ble_eq_true rfl)⟩ rfl H (tI_elim (fun v4 h3 H hT => ?_))
      show gm_G _ 102 _ _ _ _
      refine g_goto rfl (pc' := 106) rfl ?_
      exact g_weak (show gm_Lle [some _, some _, some _, none, some _, some _] _ from ⟨rfl, ⟨rfl, ⟨rfl, ⟨rfl, ⟨rfl, trivial⟩⟩⟩⟩⟩) H
theorem w_383_106 {m : Nat} {x1 : Int32} {x2 : Int32} {x4 : Int32} {x5 : Int32} {y0 : Int32} {y1 : Int32} {h : hh_T} {Q : Option Value ⊕ Nat → hh_T → Prop} (hT : tw_ok h m) (H : gm_G 383 67 [some (.ref m), some (.int x1), some (.int x2), some (.int (y1 + y0)), some (.int x4), some (.int (x5 + (Int32.ofNat 1)))] [] h Q) : gm_G 383 106 [some (.ref m), some (.int x1), some (.int x2), none, some (.int x4), some (.int x5)] [.int y0, .int y1] h Q := by
  refine g_iadd rfl rfl (pc' := 107) ?_
  refine g_istore rfl rfl rfl (pc' := 108) ?_
  refine g_iinc (c := (Int32.ofNat 1)) rfl rfl rfl rfl rfl (pc' := 111) ?_
  refine g_goto rfl (pc' := 67) rfl ?_
  exact g_weak (show gm_Lle [some _, some _, some _, some _, some _, some _] _ from ⟨rfl, ⟨rfl, ⟨rfl, ⟨rfl, ⟨rfl, ⟨rfl, trivial⟩⟩⟩⟩⟩⟩) H
theorem w_383_114 {m : Nat} {x1 : Int32} {x2 : Int32} {x3 : Int32} {x4 : Int32} {h : hh_T} {Q : Option Value ⊕ Nat → hh_T → Prop} (hT : tw_ok h m) (H : gm_G 383 8 [some (.ref m), some (.int x1), some (.int x2), some (.int x3), some (.int (x4 + (Int32.ofNat 1)))] [] h Q) : gm_G 383 114 [some (.ref m), some (.int x1), some (.int x2), some (.int x3), some (.int x4)] [] h Q := by
  refine g_iinc (c := (Int32.ofNat 1)) rfl rfl rfl rfl rfl (pc' := 117) ?_
  refine g_goto rfl (pc' := 8) rfl ?_
  exact g_weak (show gm_Lle [some _, some _, some _, some _, some _] _ from ⟨rfl, ⟨rfl, ⟨rfl, ⟨rfl, ⟨rfl, trivial⟩⟩⟩⟩⟩) H
theorem w_384_0 {m : Nat} {x1 : Int32} {b2 : Nat} {x3 : Int32} {x4 : Int32} {h : hh_T} {Q : Option Value ⊕ Nat → hh_T → Prop} (hT : tw_ok h m) (H : (¬ x3 < x4 → (gm_G 384 20 [some (.ref m), some (.int x1)] [.int (Int32.ofNat 0), .int x3, .ref b2, .int x1, .ref m] h Q)) ∧ (x3 < x4 → (gm_G 384 20 [some (.ref m), some (.int x1)] [.int ((x4 - (Int32.ofNat 1)) - x3), .int x3, .ref b2, .int x1, .ref m] h Q))) : gm_G 384 0 [some (.ref m), some (.int x1), some (.ref b2), some (.int x3), some (.int x4)] [] h Q := by
  refine g_aload (r := some _) rfl rfl rfl (pc' := 1) ?_
  refine g_iload rfl rfl rfl (pc' := 2) ?_
  refine g_aload (r := some _) rfl rfl rfl (pc' := 3) ?_
  refine g_iload rfl rfl rfl (pc' := 4) ?_
  refine g_iload rfl rfl rfl (pc' := 6) ?_
  refine g_iload rfl rfl rfl (pc' := 7) ?_
  refine g_ic_le rfl (pc' := 10) (pt := 19) rfl rfl ⟨fun hc => ?_, fun hc => ?_⟩
  · have H := H.1 hc
    refine g_iconst rfl rfl rfl (pc' := 20) ?_
    exact g_weak (show gm_Lle [some _, some _] _ from ⟨rfl, ⟨rfl, trivial⟩⟩) H
  · have H := H.2 hc
    refine g_iload rfl rfl rfl (pc' := 12) ?_
    refine g_iconst rfl rfl rfl (pc' := 13) ?_
    refine g_isub rfl rfl (pc' := 14) ?_
    refine g_iload rfl rfl rfl (pc' := 15) ?_
    refine g_isub rfl rfl (pc' := 16) ?_
    refine g_goto rfl (pc' := 20) rfl ?_
    exact g_weak (show gm_Lle [some _, some _] _ from ⟨rfl, ⟨rfl, trivial⟩⟩) H
theorem w_384_20 {m : Nat} {x1 : Int32} {y0 : Int32} {y1 : Int32} {c2 : Nat} {y3 : Int32} {h : hh_T} {Q : Option Value ⊕ Nat → hh_T → Prop} (hT : tw_ok h m) (H : gm_G 308 0 [some (.ref m), some (.int y3), some (.ref c2), some (.int y1), some (.int y0), some (.int (Int32.ofNat 1))] [] h (pI (fun v2 h1 => (v2 < Int32.ofNat 0 → (gm_G 384 52 [none, none, none, none, none, some (.int v2)] [] h1 Q)) ∧ (¬ v2 < Int32.ofNat 0 → (∃ n3, gm_ix (((Int32.ofNat 16) * x1) + v2) n3 1536 ∧ (((hh_i h1 (m + 40) n3) = (Int32.ofNat 2) → (gm_G 384 52 [none, none, none, none, none, some (.int v2)] [] h1 Q)) ∧ (¬ (hh_i h1 (m + 40) n3) = (Int32.ofNat 2) → (Q (.inl (some (.int (Int32.ofInt (-10))))) h1)))))) (fun _ _ => False))) : gm_G 384 20 [some (.ref m), some (.int x1)] [.int y0, .int y1, .ref c2, .int y3, .ref m] h Q := by
  refine g_iconst rfl rfl rfl (pc' := 21) ?_
  refine t_call hT (y := 308) (n := 6) (pc' := 24) rfl rfl (t_vt hT rfl rfl) rfl rfl ⟨(Nat.le_of_ble_eq_true rfl), (Nat.le_of_ble_eq_true rfl), (Nat.le_of_ble_eq_true rfl)⟩ rfl H (tI_elim (fun v2 h1 H hT => ?_))
  show gm_G _ 24 _ _ _ _
  refine g_istore rfl rfl rfl (pc' := 26) ?_
  refine g_iload rfl rfl rfl (pc' := 28) ?_
  refine g_if_lt rfl (pc' := 31) (pt := 52) rfl rfl ⟨fun hc => ?_, fun hc => ?_⟩
  · have H := H.1 hc
    exact g_weak (show gm_Lle [none, none, none, none, none, some _] _ from ⟨rfl, trivial⟩) H
  · have H := H.2 hc
    refine g_aload (r := some _) rfl rfl rfl (pc' := 32) ?_
    refine t_get (o := 40) rfl hT rfl rfl rfl (pc' := 35) rfl ?_
    refine g_iconst rfl rfl rfl (pc' := 37) ?_
    refine g_iload rfl rfl rfl (pc' := 38) ?_
    refine g_imul rfl rfl (pc' := 39) ?_
    refine g_iload rfl rfl rfl (pc' := 41) ?_
    refine g_iadd rfl rfl (pc' := 42) ?_
    obtain ⟨n3, hn3, H⟩ := H
    refine t_iaload hT (o := 40) (l := 1536) rfl rfl rfl hn3 (pc' := 43) rfl ?_
    refine g_iconst rfl rfl rfl (pc' := 44) ?_
    refine g_ic_eq rfl (pc' := 47) (pt := 52) rfl rfl ⟨fun hc => ?_, fun hc => ?_⟩
    · have H := H.1 hc
      exact g_weak (show gm_Lle [none, none, none, none, none, some _] _ from ⟨rfl, trivial⟩) H
    · have H := H.2 hc
      refine g_iconst rfl rfl rfl (pc' := 49) ?_
      refine g_goto rfl (pc' := 54) rfl ?_
      exact g_ireturn rfl (Or.inl rfl) H
theorem w_384_52 {m : Nat} {x5 : Int32} {h : hh_T} {Q : Option Value ⊕ Nat → hh_T → Prop} (hT : tw_ok h m) (H : Q (.inl (some (.int x5))) h) : gm_G 384 52 [none, none, none, none, none, some (.int x5)] [] h Q := by
  refine g_iload rfl rfl rfl (pc' := 54) ?_
  exact g_ireturn rfl (Or.inl rfl) H
theorem w_402_0 {m : Nat} {x1 : Int32} {x2 : Int32} {h : hh_T} {Q : Option Value ⊕ Nat → hh_T → Prop} (hT : tw_ok h m) (H : (¬ (hh_i h m 77) = Int32.ofNat 0 → (gm_G 307 0 [some (.ref m), some (.int x1)] [] h (pI (fun v2 h1 => gm_G 307 0 [some (.ref m), some (.int x2)] [] h1 (pI (fun v4 h3 => (v2 < Int32.ofNat 0 → (Q (.inl (some (.int (Int32.ofInt (-2))))) h3)) ∧ (¬ v2 < Int32.ofNat 0 → ((¬ v4 < Int32.ofNat 0 → (gm_G 402 41 [some (.ref m), none, none, some (.int v2), some (.int v4), some (.int (Int32.ofNat 0)), some (.int (Int32.ofNat 0))] [] h3 Q)) ∧ (v4 < Int32.ofNat 0 → (Q (.inl (some (.int (Int32.ofInt (-2))))) h3))))) (fun _ _ => False))) (fun _ _ => False)))) ∧ ((hh_i h m 77) = Int32.ofNat 0 → (Q (.inl (some (.int (Int32.ofInt (-9))))) h))) : gm_G 402 0 [some (.ref m), some (.int x1), some (.int x2)] [] h Q := by
  refine g_aload (r := some _) rfl rfl rfl (pc' := 1) ?_
  refine t_getZ rfl hT rfl rfl (pc' := 4) rfl ?_
  refine g_if_ne rfl (pc' := 7) (pt := 10) rfl rfl ⟨fun hc => ?_, fun hc => ?_⟩
  · have H := H.1 hc
    refine g_aload (r := some _) rfl rfl rfl (pc' := 11) ?_
    refine g_iload rfl rfl rfl (pc' := 12) ?_
    refine t_call hT (y := 307) (n := 2) (pc' := 15) rfl rfl (t_vt hT rfl rfl) rfl rfl ⟨(Nat.le_of_ble_eq_true rfl), (Nat.le_of_ble_eq_true rfl), (Nat.le_of_ble_eq_true rfl)⟩ rfl H (tI_elim (fun v2 h1 H hT => ?_))
    show gm_G _ 15 _ _ _ _
    refine g_istore rfl rfl rfl (pc' := 16) ?_
    refine g_aload (r := some _) rfl rfl rfl (pc' := 17) ?_
    refine g_iload rfl rfl rfl (pc' := 18) ?_
    refine t_call hT (y := 307) (n := 2) (pc' := 21) rfl rfl (t_vt hT rfl rfl) rfl rfl ⟨(Nat.le_of_ble_eq_true rfl), (Nat.le_of_ble_eq_true rfl), (Nat.le_of_ble_eq_true rfl)⟩ rfl H (tI_elim (fun v4 h3 H hT => ?_))
    show gm_G _ 21 _ _ _ _
    refine g_istore rfl rfl rfl (pc' := 23) ?_
    refine g_iload rfl rfl rfl (pc' := 24) ?_
    refine g_if_lt rfl (pc' := 27) (pt := 32) rfl rfl ⟨fun hc => ?_, fun hc => ?_⟩
    · have H := H.1 hc
      refine g_iconst rfl rfl rfl (pc' := 34) ?_
      exact g_ireturn rfl (Or.inl rfl) H
    · have H := H.2 hc
      refine g_iload rfl rfl rfl (pc' := 29) ?_
      refine g_if_ge rfl (pc' := 32) (pt := 35) rfl rfl ⟨fun hc => ?_, fun hc => ?_⟩
      · have H := H.1 hc
        refine g_iconst rfl rfl rfl (pc' := 36) ?_
        refine g_istore rfl rfl rfl (pc' := 38) ?_
        refine g_iconst rfl rfl rfl (pc' := 39) ?_
        refine g_istore rfl rfl rfl (pc' := 41) ?_
        exact g_weak (show gm_Lle [some _, none, none, some _, some _, some _, some _] _ from ⟨rfl, ⟨rfl, ⟨rfl, ⟨rfl, ⟨rfl, trivial⟩⟩⟩⟩⟩) H
      · have H := H.2 hc
        refine g_iconst rfl rfl rfl (pc' := 34) ?_
        exact g_ireturn rfl (Or.inl rfl) H
  · have H := H.2 hc
    refine g_iconst rfl rfl rfl (pc' := 9) ?_
    exact g_ireturn rfl (Or.inl rfl) H
theorem w_402_41 {m : Nat} {x3 : Int32} {x4 : Int32} {x5 : Int32} {x6 : Int32} {h : hh_T} {Q : Option Value ⊕ Nat → hh_T → Prop} (hT : tw_ok h m) (H : (¬ x6 < (Int32.ofNat 16) → (∀ h1, h1 = hh_wi h m 3 ((Int32.ofNat 2) * x5) → (Q (.inl (some (.int x5))) h1))) ∧ (x6 < (Int32.ofNat 16) → (∃ n2, gm_ix (((Int32.ofNat 16) * x3) + x6) n2 1536 ∧ ((¬ (hh_i h (m + 40) n2) = Int32.ofNat 0 → (gm_G 402 96 [some (.ref m), none, none, some (.int x3), some (.int x4), some (.int x5), some (.int x6), some (.int (((Int32.ofNat 16) * x3) + x6)), some (.int (((Int32.ofNat 16) * x4) + x6)), some (.int (Int32.ofNat 0))] [] h Q)) ∧ ((hh_i h (m + 40) n2) = Int32.ofNat 0 → (∃ n3, gm_ix (((Int32.ofNat 16) * x4) + x6) n3 1536 ∧ ((¬ Int32.ofNat 0 < (hh_i h (m + 40) n3) → (gm_G 402 96 [some (.ref m), none, none, some (.int x3), some (.int x4), some (.int x5), some (.int x6), some (.int (((Int32.ofNat 16) * x3) + x6)), some (.int (((Int32.ofNat 16) * x4) + x6)), some (.int (Int32.ofNat 0))] [] h Q)) ∧ (Int32.ofNat 0 < (hh_i h (m + 40) n3) → (gm_G 402 190 [some (.ref m), none, none, some (.int x3), some (.int x4), some (.int x5), some (.int x6), none, none, some (.int (Int32.ofNat 1))] [] h Q))))))))) : gm_G 402 41 [some (.ref m), none, none, some (.int x3), some (.int x4), some (.int x5), some (.int x6)] [] h Q := by
  refine g_iload rfl rfl rfl (pc' := 43) ?_
  refine g_iconst rfl rfl rfl (pc' := 45) ?_
  refine g_ic_ge rfl (pc' := 48) (pt := 230) rfl rfl ⟨fun hc => ?_, fun hc => ?_⟩
  · have H := H.1 hc
    refine g_aload (r := some _) rfl rfl rfl (pc' := 231) ?_
    refine g_iconst rfl rfl rfl (pc' := 232) ?_
    refine g_iload rfl rfl rfl (pc' := 234) ?_
    refine g_imul rfl rfl (pc' := 235) ?_
    refine t_putI rfl hT rfl rfl  (pc' := 238) rfl (fun hT => ?_)
    have H := H _ rfl
    refine g_iload rfl rfl rfl (pc' := 240) ?_
    exact g_ireturn rfl (Or.inl rfl) H
  · have H := H.2 hc
    refine g_iconst rfl rfl rfl (pc' := 50) ?_
    refine g_iload rfl rfl rfl (pc' := 51) ?_
    refine g_imul rfl rfl (pc' := 52) ?_
    refine g_iload rfl rfl rfl (pc' := 54) ?_
    refine g_iadd rfl rfl (pc' := 55) ?_
    refine g_istore rfl rfl rfl (pc' := 57) ?_
    refine g_iconst rfl rfl rfl (pc' := 59) ?_
    refine g_iload rfl rfl rfl (pc' := 61) ?_
    refine g_imul rfl rfl (pc' := 62) ?_
    refine g_iload rfl rfl rfl (pc' := 64) ?_
    refine g_iadd rfl rfl (pc' := 65) ?_
    refine g_istore rfl rfl rfl (pc' := 67) ?_
    refine g_iconst rfl rfl rfl (pc' := 68) ?_
    refine g_istore rfl rfl rfl (pc' := 70) ?_
    refine g_aload (r := some _) rfl rfl rfl (pc' := 71) ?_
    refine t_get (o := 40) rfl hT rfl rfl rfl (pc' := 74) rfl ?_
    refine g_iload rfl rfl rfl (pc' := 76) ?_
    obtain ⟨n2, hn2, H⟩ := H
    refine t_iaload hT (o := 40) (l := 1536) rfl rfl rfl hn2 (pc' := 77) rfl ?_
    refine g_if_ne rfl (pc' := 80) (pt := 96) rfl rfl ⟨fun hc => ?_, fun hc => ?_⟩
    · have H := H.1 hc
      exact g_weak (show gm_Lle [some _, none, none, some _, some _, some _, some _, some _, some _, some _] _ from ⟨rfl, ⟨rfl, ⟨rfl, ⟨rfl, ⟨rfl, ⟨rfl, ⟨rfl, ⟨rfl, trivial⟩⟩⟩⟩⟩⟩⟩⟩) H
    · have H := H.2 hc
      refine g_aload (r := some _) rfl rfl rfl (pc' := 81) ?_
      refine t_get (o := 40) rfl hT rfl rfl rfl (pc' := 84) rfl ?_
      refine g_iload rfl rfl rfl (pc' := 86) ?_
      obtain ⟨n3, hn3, H⟩ := H
      refine t_iaload hT (o := 40) (l := 1536) rfl rfl rfl hn3 (pc' := 87) rfl ?_
      refine g_if_le rfl (pc' := 90) (pt := 96) rfl rfl ⟨fun hc => ?_, fun hc => ?_⟩
      · have H := H.1 hc
        exact g_weak (show gm_Lle [some _, none, none, some _, some _, some _, some _, some _, some _, some _] _ from ⟨rfl, ⟨rfl, ⟨rfl, ⟨rfl, ⟨rfl, ⟨rfl, ⟨rfl, ⟨rfl, trivial⟩⟩⟩⟩⟩⟩⟩⟩) H
      · have H := H.2 hc
        refine g_iconst rfl rfl rfl (pc' := 91) ?_
        refine g_istore rfl rfl rfl (pc' := 93) ?_
        refine g_goto rfl (pc' := 190) rfl ?_
        exact g_weak (show gm_Lle [some _, none, none, some _, some _, some _, some _, none, none, some _] _ from ⟨rfl, ⟨rfl, ⟨rfl, ⟨rfl, ⟨rfl, ⟨rfl, trivial⟩⟩⟩⟩⟩⟩) H
theorem w_402_96 {m : Nat} {x3 : Int32} {x4 : Int32} {x5 : Int32} {x6 : Int32} {x7 : Int32} {x8 : Int32} {x9 : Int32} {h : hh_T} {Q : Option Value ⊕ Nat → hh_T → Prop} (hT : tw_ok h m) (H : ∃ n1, gm_ix x7 n1 1536 ∧ ((¬ Int32.ofNat 0 < (hh_i h (m + 40) n1) → (gm_G 402 122 [some (.ref m), none, none, some (.int x3), some (.int x4), some (.int x5), some (.int x6), some (.int x7), some (.int x8), some (.int x9)] [] h Q)) ∧ (Int32.ofNat 0 < (hh_i h (m + 40) n1) → (∃ n2, gm_ix x8 n2 1536 ∧ ((¬ (hh_i h (m + 40) n2) = Int32.ofNat 0 → (gm_G 402 122 [some (.ref m), none, none, some (.int x3), some (.int x4), some (.int x5), some (.int x6), some (.int x7), some (.int x8), some (.int x9)] [] h Q)) ∧ ((hh_i h (m + 40) n2) = Int32.ofNat 0 → (gm_G 402 190 [some (.ref m), none, none, some (.int x3), some (.int x4), some (.int x5), some (.int x6), none, none, some (.int (Int32.ofNat 2))] [] h Q))))))) : gm_G 402 96 [some (.ref m), none, none, some (.int x3), some (.int x4), some (.int x5), some (.int x6), some (.int x7), some (.int x8), some (.int x9)] [] h Q := by
  refine g_aload (r := some _) rfl rfl rfl (pc' := 97) ?_
  refine t_get (o := 40) rfl hT rfl rfl rfl (pc' := 100) rfl ?_
  refine g_iload rfl rfl rfl (pc' := 102) ?_
  obtain ⟨n1, hn1, H⟩ := H
  refine t_iaload hT (o := 40) (l := 1536) rfl rfl rfl hn1 (pc' := 103) rfl ?_
  refine g_if_le rfl (pc' := 106) (pt := 122) rfl rfl ⟨fun hc => ?_, fun hc => ?_⟩
  · have H := H.1 hc
    exact g_weak (show gm_Lle [some _, none, none, some _, some _, some _, some _, some _, some _, some _] _ from ⟨rfl, ⟨rfl, ⟨rfl, ⟨rfl, ⟨rfl, ⟨rfl, ⟨rfl, ⟨rfl, trivial⟩⟩⟩⟩⟩⟩⟩⟩) H
  · have H := H.2 hc
    refine g_aload (r := some _) rfl rfl rfl (pc' := 107) ?_
    refine t_get (o := 40) rfl hT rfl rfl rfl (pc' := 110) rfl ?_
    refine g_iload rfl rfl rfl (pc' := 112) ?_
    obtain ⟨n2, hn2, H⟩ := H
    refine t_iaload hT (o := 40) (l := 1536) rfl rfl rfl hn2 (pc' := 113) rfl ?_
    refine g_if_ne rfl (pc' := 116) (pt := 122) rfl rfl ⟨fun hc => ?_, fun hc => ?_⟩
    · have H := H.1 hc
      exact g_weak (show gm_Lle [some _, none, none, some _, some _, some _, some _, some _, some _, some _] _ from ⟨rfl, ⟨rfl, ⟨rfl, ⟨rfl, ⟨rfl, ⟨rfl, ⟨rfl, ⟨rfl, trivial⟩⟩⟩⟩⟩⟩⟩⟩) H
    · have H := H.2 hc
      refine g_iconst rfl rfl rfl (pc' := 117) ?_
      refine g_istore rfl rfl rfl (pc' := 119) ?_
      refine g_goto rfl (pc' := 190) rfl ?_
      exact g_weak (show gm_Lle [some _, none, none, some _, some _, some _, some _, none, none, some _] _ from ⟨rfl, ⟨rfl, ⟨rfl, ⟨rfl, ⟨rfl, ⟨rfl, trivial⟩⟩⟩⟩⟩⟩) H
theorem w_402_122 {m : Nat} {x3 : Int32} {x4 : Int32} {x5 : Int32} {x6 : Int32} {x7 : Int32} {x8 : Int32} {x9 : Int32} {h : hh_T} {Q : Option Value ⊕ Nat → hh_T → Prop} (hT : tw_ok h m) (H : ∃ n1, gm_ix x7 n1 1536 ∧ ((¬ Int32.ofNat 0 < (hh_i h (m + 40) n1) → (gm_G 402 155 [some (.ref m), none, none, some (.int x3), some (.int x4), some (.int x5), some (.int x6), some (.int x7), some (.int x8), some (.int x9)] [] h Q)) ∧ (Int32.ofNat 0 < (hh_i h (m + 40) n1) → (∃ n2, gm_ix x7 n2 1536 ∧ (∃ n3, gm_ix x8 n3 1536 ∧ (((hh_i h (m + 47) n2) = (hh_i h (m + 47) n3) → (gm_G 402 155 [some (.ref m), none, none, some (.int x3), some (.int x4), some (.int x5), some (.int x6), some (.int x7), some (.int x8), some (.int x9)] [] h Q)) ∧ (¬ (hh_i h (m + 47) n2) = (hh_i h (m + 47) n3) → (gm_G 402 190 [some (.ref m), none, none, some (.int x3), some (.int x4), some (.int x5), some (.int x6), none, none, some (.int (Int32.ofNat 3))] [] h Q)))))))) : gm_G 402 122 [some (.ref m), none, none, some (.int x3), some (.int x4), some (.int x5), some (.int x6), some (.int x7), some (.int x8), some (.int x9)] [] h Q := by
  refine g_aload (r := some _) rfl rfl rfl (pc' := 123) ?_
  refine t_get (o := 40) rfl hT rfl rfl rfl (pc' := 126) rfl ?_
  refine g_iload rfl rfl rfl (pc' := 128) ?_
  obtain ⟨n1, hn1, H⟩ := H
  refine t_iaload hT (o := 40) (l := 1536) rfl rfl rfl hn1 (pc' := 129) rfl ?_
  refine g_if_le rfl (pc' := 132) (pt := 155) rfl rfl ⟨fun hc => ?_, fun hc => ?_⟩
  · have H := H.1 hc
    exact g_weak (show gm_Lle [some _, none, none, some _, some _, some _, some _, some _, some _, some _] _ from ⟨rfl, ⟨rfl, ⟨rfl, ⟨rfl, ⟨rfl, ⟨rfl, ⟨rfl, ⟨rfl, trivial⟩⟩⟩⟩⟩⟩⟩⟩) H
  · have H := H.2 hc
    refine g_aload (r := some _) rfl rfl rfl (pc' := 133) ?_
    refine t_get (o := 47) rfl hT rfl rfl rfl (pc' := 136) rfl ?_
    refine g_iload rfl rfl rfl (pc' := 138) ?_
    obtain ⟨n2, hn2, H⟩ := H
    refine t_iaload hT (o := 47) (l := 1536) rfl rfl rfl hn2 (pc' := 139) rfl ?_
    refine g_aload (r := some _) rfl rfl rfl (pc' := 140) ?_
    refine t_get (o := 47) rfl hT rfl rfl rfl (pc' := 143) rfl ?_
    refine g_iload rfl rfl rfl (pc' := 145) ?_
    obtain ⟨n3, hn3, H⟩ := H
    refine t_iaload hT (o := 47) (l := 1536) rfl rfl rfl hn3 (pc' := 146) rfl ?_
    refine g_ic_eq rfl (pc' := 149) (pt := 155) rfl rfl ⟨fun hc => ?_, fun hc => ?_⟩
    · have H := H.1 hc
      exact g_weak (show gm_Lle [some _, none, none, some _, some _, some _, some _, some _, some _, some _] _ from ⟨rfl, ⟨rfl, ⟨rfl, ⟨rfl, ⟨rfl, ⟨rfl, ⟨rfl, ⟨rfl, trivial⟩⟩⟩⟩⟩⟩⟩⟩) H
    · have H := H.2 hc
      refine g_iconst rfl rfl rfl (pc' := 150) ?_
      refine g_istore rfl rfl rfl (pc' := 152) ?_
      refine g_goto rfl (pc' := 190) rfl ?_
      exact g_weak (show gm_Lle [some _, none, none, some _, some _, some _, some _, none, none, some _] _ from ⟨rfl, ⟨rfl, ⟨rfl, ⟨rfl, ⟨rfl, ⟨rfl, trivial⟩⟩⟩⟩⟩⟩) H
theorem w_402_155 {m : Nat} {x3 : Int32} {x4 : Int32} {x5 : Int32} {x6 : Int32} {x7 : Int32} {x8 : Int32} {x9 : Int32} {h : hh_T} {Q : Option Value ⊕ Nat → hh_T → Prop} (hT : tw_ok h m) (H : ∃ n1, gm_ix x7 n1 1536 ∧ ((¬ Int32.ofNat 0 < (hh_i h (m + 40) n1) → (gm_G 402 190 [some (.ref m), none, none, some (.int x3), some (.int x4), some (.int x5), some (.int x6), none, none, some (.int x9)] [] h Q)) ∧ (Int32.ofNat 0 < (hh_i h (m + 40) n1) → (gm_G 381 0 [some (.ref m), some (.int x7), some (.int x8)] [] h (pI (fun v3 h2 => (v3 = Int32.ofNat 0 → (gm_G 402 187 [some (.ref m), none, none, some (.int x3), some (.int x4), some (.int x5), some (.int x6)] [] h2 Q)) ∧ (¬ v3 = Int32.ofNat 0 → (gm_G 150 0 [some (.ref m), some (.int x7), some (.int x8)] [] h2 (pI (fun v5 h4 => (¬ v5 = Int32.ofNat 0 → (gm_G 402 190 [some (.ref m), none, none, some (.int x3), some (.int x4), some (.int x5), some (.int x6), none, none, some (.int x9)] [] h4 Q)) ∧ (v5 = Int32.ofNat 0 → (gm_G 402 187 [some (.ref m), none, none, some (.int x3), some (.int x4), some (.int x5), some (.int x6)] [] h4 Q))) (fun _ _ => False))))) (fun _ _ => False)))))) : gm_G 402 155 [some (.ref m), none, none, some (.int x3), some (.int x4), some (.int x5), some (.int x6), some (.int x7), some (.int x8), some (.int x9)] [] h Q := by
  refine g_aload (r := some _) rfl rfl rfl (pc' := 156) ?_
  refine t_get (o := 40) rfl hT rfl rfl rfl (pc' := 159) rfl ?_
  refine g_iload rfl rfl rfl (pc' := 161) ?_
  obtain ⟨n1, hn1, H⟩ := H
  refine t_iaload hT (o := 40) (l := 1536) rfl rfl rfl hn1 (pc' := 162) rfl ?_
  refine g_if_le rfl (pc' := 165) (pt := 190) rfl rfl ⟨fun hc => ?_, fun hc => ?_⟩
  · have H := H.1 hc
    exact g_weak (show gm_Lle [some _, none, none, some _, some _, some _, some _, none, none, some _] _ from ⟨rfl, ⟨rfl, ⟨rfl, ⟨rfl, ⟨rfl, ⟨rfl, trivial⟩⟩⟩⟩⟩⟩) H
  · have H := H.2 hc
    refine g_aload (r := some _) rfl rfl rfl (pc' := 166) ?_
    refine g_iload rfl rfl rfl (pc' := 168) ?_
    refine g_iload rfl rfl rfl (pc' := 170) ?_
    refine t_call hT (y := 381) (n := 3) (pc' := 173) rfl rfl (t_vt hT rfl rfl) rfl rfl ⟨(Nat.le_of_ble_eq_true rfl), (Nat.le_of_ble_eq_true rfl), (Nat.le_of_ble_eq_true rfl)⟩ rfl H (tI_elim (fun v3 h2 H hT => ?_))
    show gm_G _ 173 _ _ _ _
    refine g_if_eq rfl (pc' := 176) (pt := 187) rfl rfl ⟨fun hc => ?_, fun hc => ?_⟩
    · have H := H.1 hc
      exact g_weak (show gm_Lle [some _, none, none, some _, some _, some _, some _] _ from ⟨rfl, ⟨rfl, ⟨rfl, ⟨rfl, ⟨rfl, trivial⟩⟩⟩⟩⟩) H
    · have H := H.2 hc
      refine g_aload (r := some _) rfl rfl rfl (pc' := 177) ?_
      refine g_iload rfl rfl rfl (pc' := 179) ?_
      refine g_iload rfl rfl rfl (pc' := 181) ?_
      refine t_call hT (y := 150) (n := 3) (pc' := 184) rfl rfl (t_vt hT rfl rfl) rfl rfl ⟨(Nat.le_of_ble_eq_true rfl), (Nat.le_of_ble_eq_true rfl), (Nat.le_of_ble_eq_true rfl)⟩ rfl H (tI_elim (fun v5 h4 H hT => ?_))
      show gm_G _ 184 _ _ _ _
      refine g_if_ne rfl (pc' := 187) (pt := 190) rfl rfl ⟨fun hc => ?_, fun hc => ?_⟩
      · have H := H.1 hc
        exact g_weak (show gm_Lle [some _, none, none, some _, some _, some _, some _, none, none, some _] _ from ⟨rfl, ⟨rfl, ⟨rfl, ⟨rfl, ⟨rfl, ⟨rfl, trivial⟩⟩⟩⟩⟩⟩) H
      · have H := H.2 hc
        exact g_weak (show gm_Lle [some _, none, none, some _, some _, some _, some _] _ from ⟨rfl, ⟨rfl, ⟨rfl, ⟨rfl, ⟨rfl, trivial⟩⟩⟩⟩⟩) H
theorem w_402_187 {m : Nat} {x3 : Int32} {x4 : Int32} {x5 : Int32} {x6 : Int32} {h : hh_T} {Q : Option Value ⊕ Nat → hh_T → Prop} (hT : tw_ok h m) (H : gm_G 402 190 [some (.ref m), none, none, some (.int x3), some (.int x4), some (.int x5), some (.int x6), none, none, some (.int (Int32.ofNat 4))] [] h Q) : gm_G 402 187 [some (.ref m), none, none, some (.int x3), some (.int x4), some (.int x5), some (.int x6)] [] h Q := by
  refine g_iconst rfl rfl rfl (pc' := 188) ?_
  refine g_istore rfl rfl rfl (pc' := 190) ?_
  exact g_weak (show gm_Lle [some _, none, none, some _, some _, some _, some _, none, none, some _] _ from ⟨rfl, ⟨rfl, ⟨rfl, ⟨rfl, ⟨rfl, ⟨rfl, trivial⟩⟩⟩⟩⟩⟩) H
theorem w_402_190 {m : Nat} {x3 : Int32} {x4 : Int32} {x5 : Int32} {x6 : Int32} {x9 : Int32} {h : hh_T} {Q : Option Value ⊕ Nat → hh_T → Prop} (hT : tw_ok h m) (H : (¬ Int32.ofNat 0 < x9 → (gm_G 402 224 [some (.ref m), none, none, some (.int x3), some (.int x4), some (.int x5), some (.int x6)] [] h Q)) ∧ (Int32.ofNat 0 < x9 → (∃ n1, gm_ix ((Int32.ofNat 2) * x5) n1 512 ∧ (∀ h2, h2 = hh_wi h (m + 2) n1 ((x9.toInt8.toInt32).toInt8.toInt32) → (∃ n3, gm_ix (((Int32.ofNat 2) * x5) + (Int32.ofNat 1)) n3 512 ∧ (∀ h4, h4 = hh_wi h2 (m + 2) n3 ((x6.toInt8.toInt32).toInt8.toInt32) → (gm_G 402 224 [some (.ref m), none, none, some (.int x3), some (.int x4), some (.int (x5 + (Int32.ofNat 1))), some (.int x6)] [] h4 Q))))))) : gm_G 402 190 [some (.ref m), none, none, some (.int x3), some (.int x4), some (.int x5), some (.int x6), none, none, some (.int x9)] [] h Q := by
  refine g_iload rfl rfl rfl (pc' := 192) ?_
  refine g_if_le rfl (pc' := 195) (pt := 224) rfl rfl ⟨fun hc => ?_, fun hc => ?_⟩
  · have H := H.1 hc
    exact g_weak (show gm_Lle [some _, none, none, some _, some _, some _, some _] _ from ⟨rfl, ⟨rfl, ⟨rfl, ⟨rfl, ⟨rfl, trivial⟩⟩⟩⟩⟩) H
  · have H := H.2 hc
    refine g_aload (r := some _) rfl rfl rfl (pc' := 196) ?_
    refine t_get (o := 2) rfl hT rfl rfl rfl (pc' := 199) rfl ?_
    refine g_iconst rfl rfl rfl (pc' := 200) ?_
    refine g_iload rfl rfl rfl (pc' := 202) ?_
    refine g_imul rfl rfl (pc' := 203) ?_
    refine g_iload rfl rfl rfl (pc' := 205) ?_
    refine g_i2b rfl rfl (pc' := 206) ?_
    obtain ⟨n1, hn1, H⟩ := H
    refine t_bastore hT (o := 2) (l := 512) rfl rfl rfl hn1  (pc' := 207) rfl (fun hT => ?_)
    have H := H _ rfl
    refine g_aload (r := some _) rfl rfl rfl (pc' := 208) ?_
    refine t_get (o := 2) rfl hT rfl rfl rfl (pc' := 211) rfl ?_
    refine g_iconst rfl rfl rfl (pc' := 212) ?_
    refine g_iload rfl rfl rfl (pc' := 214) ?_
    refine g_imul rfl rfl (pc' := 215) ?_
    refine g_iconst rfl rfl rfl (pc' := 216) ?_
    refine g_iadd rfl rfl (pc' := 217) ?_
    refine g_iload rfl rfl rfl (pc' := 219) ?_
    refine g_i2b rfl rfl (pc' := 220) ?_
    obtain ⟨n3, hn3, H⟩ := H
    refine t_bastore hT (o := 2) (l := 512) rfl rfl rfl hn3  (pc' := 221) rfl (fun hT => ?_)
    have H := H _ rfl
    refine g_iinc (c := (Int32.ofNat 1)) rfl rfl rfl rfl rfl (pc' := 224) ?_
    exact g_weak (show gm_Lle [some _, none, none, some _, some _, some _, some _] _ from ⟨rfl, ⟨rfl, ⟨rfl, ⟨rfl, ⟨rfl, trivial⟩⟩⟩⟩⟩) H
theorem w_402_224 {m : Nat} {x3 : Int32} {x4 : Int32} {x5 : Int32} {x6 : Int32} {h : hh_T} {Q : Option Value ⊕ Nat → hh_T → Prop} (hT : tw_ok h m) (H : gm_G 402 41 [some (.ref m), none, none, some (.int x3), some (.int x4), some (.int x5), some (.int (x6 + (Int32.ofNat 1)))] [] h Q) : gm_G 402 224 [some (.ref m), none, none, some (.int x3), some (.int x4), some (.int x5), some (.int x6)] [] h Q := by
  refine g_iinc (c := (Int32.ofNat 1)) rfl rfl rfl rfl rfl (pc' := 227) ?_
  refine g_goto rfl (pc' := 41) rfl ?_
  exact g_weak (show gm_Lle [some _, none, none, some _, some _, some _, some _] _ from ⟨rfl, ⟨rfl, ⟨rfl, ⟨rfl, ⟨rfl, trivial⟩⟩⟩⟩⟩) H
theorem w_403_0 {m : Nat}  {h : hh_T} {Q : Option Value ⊕ Nat → hh_T → Prop} (hT : tw_ok h m) (H : gm_G 403 2 [some (.ref m), some (.int (Int32.ofNat 0))] [] h Q) : gm_G 403 0 [some (.ref m)] [] h Q := by
  refine g_iconst rfl rfl rfl (pc' := 1) ?_
  refine g_istore rfl rfl rfl (pc' := 2) ?_
  exact g_weak (show gm_Lle [some _, some _] _ from ⟨rfl, ⟨rfl, trivial⟩⟩) H
theorem w_403_2 {m : Nat} {x1 : Int32} {h : hh_T} {Q : Option Value ⊕ Nat → hh_T → Prop} (hT : tw_ok h m) (H : gm_G 371 0 [some (.ref m), some (.int x1)] [] h (pI (fun v2 h1 => (v2 = Int32.ofNat 0 → (Q (.inl (some (.int x1))) h1)) ∧ (¬ v2 = Int32.ofNat 0 → (gm_G 403 2 [some (.ref m), some (.int (x1 + (Int32.ofNat 1)))] [] h1 Q))) (fun _ _ => False))) : gm_G 403 2 [some (.ref m), some (.int x1)] [] h Q := by
  refine g_aload (r := some _) rfl rfl rfl (pc' := 3) ?_
  refine g_iload rfl rfl rfl (pc' := 4) ?_
  refine t_call hT (y := 371) (n := 2) (pc' := 7) rfl rfl (t_vt hT rfl rfl) rfl rfl ⟨(Nat.le_of_ble_eq_true rfl), (Nat.le_of_ble_eq_true rfl), (Nat.le_of_ble_eq_true rfl)⟩ rfl H (tI_elim (fun v2 h1 H hT => ?_))
  show gm_G _ 7 _ _ _ _
  refine g_if_eq rfl (pc' := 10) (pt := 16) rfl rfl ⟨fun hc => ?_, fun hc => ?_⟩
  · have H := H.1 hc
    refine g_iload rfl rfl rfl (pc' := 17) ?_
    exact g_ireturn rfl (Or.inl rfl) H
  · have H := H.2 hc
    refine g_iinc (c := (Int32.ofNat 1)) rfl rfl rfl rfl rfl (pc' := 13) ?_
    refine g_goto rfl (pc' := 2) rfl ?_
    exact g_weak (show gm_Lle [some _, some _] _ from ⟨rfl, ⟨rfl, trivial⟩⟩) H
theorem w_404_0 {m : Nat} {x1 : Int32} {x2 : Int32} {h : hh_T} {Q : Option Value ⊕ Nat → hh_T → Prop} (hT : tw_ok h m) (H : gm_G 404 8 [some (.ref m), some (.int x1), some (.int x2), some (.int (Int32.ofNat 0)), some (.int (Int32.ofNat 0)), some (.int (Int32.ofNat 0))] [] h Q) : gm_G 404 0 [some (.ref m), some (.int x1), some (.int x2)] [] h Q := by
  refine g_iconst rfl rfl rfl (pc' := 1) ?_
  refine g_istore rfl rfl rfl (pc' := 2) ?_
  refine g_iconst rfl rfl rfl (pc' := 3) ?_
  refine g_istore rfl rfl rfl (pc' := 5) ?_
  refine g_iconst rfl rfl rfl (pc' := 6) ?_
  refine g_istore rfl rfl rfl (pc' := 8) ?_
  exact g_weak (show gm_Lle [some _, some _, some _, some _, some _, some _] _ from ⟨rfl, ⟨rfl, ⟨rfl, ⟨rfl, ⟨rfl, ⟨rfl, trivial⟩⟩⟩⟩⟩⟩) H
theorem w_404_8 {m : Nat} {x1 : Int32} {x2 : Int32} {x3 : Int32} {x4 : Int32} {x5 : Int32} {h : hh_T} {Q : Option Value ⊕ Nat → hh_T → Prop} (hT : tw_ok h m) (H : (¬ x5 < (Int32.ofNat 8) → ((x3 < x4 → (∃ n1, gm_ix ((Int32.ofNat 9) * x1) n1 288 ∧ (∃ n2, gm_ix x2 n2 1536 ∧ (∃ n3, gm_ix ((((Int32.ofNat 9) * x1) + (Int32.ofNat 1)) + (hh_i h (m + 42) n2)) n3 288 ∧ (((hh_i h (m + 66) n1) < Int32.ofNat 0 → (gm_G 404 156 [some (.ref m), none, some (.int x2), some (.int x3), some (.int x4), some (.int (x2 / (Int32.ofNat 16))), none, some (.int (hh_i h (m + 66) n3))] [] h Q)) ∧ (¬ (hh_i h (m + 66) n1) < Int32.ofNat 0 → (gm_G 383 0 [some (.ref m), some (.int (x2 / (Int32.ofNat 16))), some (.int (Int32.ofInt (-1)))] [] h (pI (fun v5 h4 => ((hh_i h (m + 66) n1) < ((v5 + x4) - x3) → (gm_G 404 183 [] [] h4 Q)) ∧ (¬ (hh_i h (m + 66) n1) < ((v5 + x4) - x3) → (gm_G 404 156 [some (.ref m), none, some (.int x2), some (.int x3), some (.int x4), some (.int (x2 / (Int32.ofNat 16))), none, some (.int (hh_i h (m + 66) n3))] [] h4 Q))) (fun _ _ => False))))))))) ∧ (¬ x3 < x4 → (Q (.inl (some (.int (Int32.ofNat 0)))) h)))) ∧ (x5 < (Int32.ofNat 8) → (∃ n6, gm_ix (((Int32.ofNat 8) * x2) + x5) n6 12288 ∧ (((hh_i h (m + 55) n6) < Int32.ofNat 0 → (gm_G 404 51 [some (.ref m), some (.int x1), some (.int x2), none, some (.int x4), some (.int x5)] [.int (Int32.ofNat 0), .int x3] h Q)) ∧ (¬ (hh_i h (m + 55) n6) < Int32.ofNat 0 → (∃ n7, gm_ix (((Int32.ofNat 8) * x2) + x5) n7 12288 ∧ (gm_G 294 0 [some (.ref m), some (.int (hh_i h (m + 55) n7))] [] h (pI (fun v9 h8 => gm_G 404 51 [some (.ref m), some (.int x1), some (.int x2), none, some (.int x4), some (.int x5)] [.int v9, .int x3] h8 Q) (fun _ _ => False))))))))) : gm_G 404 8 [some (.ref m), some (.int x1), some (.int x2), some (.int x3), some (.int x4), some (.int x5)] [] h Q := by
  refine g_iload rfl rfl rfl (pc' := 10) ?_
  refine g_iconst rfl rfl rfl (pc' := 12) ?_
  refine g_ic_ge rfl (pc' := 15) (pt := 89) rfl rfl ⟨fun hc => ?_, fun hc => ?_⟩
  · have H := H.1 hc
    refine g_iload rfl rfl rfl (pc' := 91) ?_
    refine g_iload rfl rfl rfl (pc' := 92) ?_
    refine g_ic_gt rfl (pc' := 95) (pt := 97) rfl rfl ⟨fun hc => ?_, fun hc => ?_⟩
    · have H := H.1 hc
      refine g_iload rfl rfl rfl (pc' := 98) ?_
      refine g_iconst rfl rfl rfl (pc' := 100) ?_
      refine g_idiv rfl (by decide) (pc' := 101) rfl ?_
      refine g_istore rfl rfl rfl (pc' := 103) ?_
      refine g_aload (r := some _) rfl rfl rfl (pc' := 104) ?_
      refine t_get (o := 66) rfl hT rfl rfl rfl (pc' := 107) rfl ?_
      refine g_iconst rfl rfl rfl (pc' := 109) ?_
      refine g_iload rfl rfl rfl (pc' := 110) ?_
      refine g_imul rfl rfl (pc' := 111) ?_
      obtain ⟨n1, hn1, H⟩ := H
      refine t_iaload hT (o := 66) (l := 288) rfl rfl rfl hn1 (pc' := 112) rfl ?_
      refine g_istore rfl rfl rfl (pc' := 114) ?_
      refine g_aload (r := some _) rfl rfl rfl (pc' := 115) ?_
      refine t_get (o := 66) rfl hT rfl rfl rfl (pc' := 118) rfl ?_
      refine g_iconst rfl rfl rfl (pc' := 120) ?_
      refine g_iload rfl rfl rfl (pc' := 121) ?_
      refine g_imul rfl rfl (pc' := 122) ?_
      refine g_iconst rfl rfl rfl (pc' := 123) ?_
      refine g_iadd rfl rfl (pc' := 124) ?_
      refine g_aload (r := some _) rfl rfl rfl (pc' := 125) ?_
      refine t_get (o := 42) rfl hT rfl rfl rfl (pc' := 128) rfl ?_
      refine g_iload rfl rfl rfl (pc' := 129) ?_
      obtain ⟨n2, hn2, H⟩ := H
      refine t_iaload hT (o := 42) (l := 1536) rfl rfl rfl hn2 (pc' := 130) rfl ?_
      refine g_iadd rfl rfl (pc' := 131) ?_
      obtain ⟨n3, hn3, H⟩ := H
      refine t_iaload hT (o := 66) (l := 288) rfl rfl rfl hn3 (pc' := 132) rfl ?_
      refine g_istore rfl rfl rfl (pc' := 134) ?_
      refine g_iload rfl rfl rfl (pc' := 136) ?_
      refine g_if_lt rfl (pc' := 139) (pt := 156) rfl rfl ⟨fun hc => ?_, fun hc => ?_⟩
      · have H := H.1 hc
        exact g_weak (show gm_Lle [some _, none, some _, some _, some _, some _, none, some _] _ from ⟨rfl, ⟨rfl, ⟨rfl, ⟨rfl, ⟨rfl, ⟨rfl, trivial⟩⟩⟩⟩⟩⟩) H
      · have H := H.2 hc
        refine g_aload (r := some _) rfl rfl rfl (pc' := 140) ?_
        refine g_iload rfl rfl rfl (pc' := 142) ?_
        refine g_iconst rfl rfl rfl (pc' := 143) ?_
        refine t_call hT (y := 383) (n := 3) (pc' := 146) rfl rfl (t_vt hT rfl rfl) rfl rfl ⟨(Nat.le_of_ble_eq_true rfl), (Nat.le_of_ble_eq_true rfl), (Nat.le_of_ble_eq_true rfl)⟩ rfl H (tI_elim (fun v5 h4 H hT => ?_))
        show gm_G _ 146 _ _ _ _
        refine g_iload rfl rfl rfl (pc' := 148) ?_
        refine g_iadd rfl rfl (pc' := 149) ?_
        refine g_iload rfl rfl rfl (pc' := 150) ?_
        refine g_isub rfl rfl (pc' := 151) ?_
        refine g_iload rfl rfl rfl (pc' := 153) ?_
        refine g_ic_gt rfl (pc' := 156) (pt := 183) rfl rfl ⟨fun hc => ?_, fun hc => ?_⟩
        · have H := H.1 hc
          exact g_weak (show gm_Lle [] _ from trivial) H
        · have H := H.2 hc
          exact g_weak (show gm_Lle [some _, none, some _, some _, some _, some _, none, some _] _ from ⟨rfl, ⟨rfl, ⟨rfl, ⟨rfl, ⟨rfl, ⟨rfl, trivial⟩⟩⟩⟩⟩⟩) H
    · have H := H.2 hc
      refine g_iconst rfl rfl rfl (pc' := 96) ?_
      exact g_ireturn rfl (Or.inr (by decide)) H
  · have H := H.2 hc
    refine g_iload rfl rfl rfl (pc' := 16) ?_
    refine g_aload (r := some _) rfl rfl rfl (pc' := 17) ?_
    refine t_get (o := 55) rfl hT rfl rfl rfl (pc' := 20) rfl ?_
    refine g_iconst rfl rfl rfl (pc' := 22) ?_
    refine g_iload rfl rfl rfl (pc' := 23) ?_
    refine g_imul rfl rfl (pc' := 24) ?_
    refine g_iload rfl rfl rfl (pc' := 26) ?_
    refine g_iadd rfl rfl (pc' := 27) ?_
    obtain ⟨n6, hn6, H⟩ := H
    refine t_iaload hT (o := 55) (l := 12288) rfl rfl rfl hn6 (pc' := 28) rfl ?_
    refine g_if_lt rfl (pc' := 31) (pt := 50) rfl rfl ⟨fun hc => ?_, fun hc => ?_⟩
    · have H := H.1 hc
      refine g_iconst rfl rfl rfl (pc' := 51) ?_
      exact g_weak (show gm_Lle [some _, some _, some _, none, some _, some _] _ from ⟨rfl, ⟨rfl, ⟨rfl, ⟨rfl, ⟨rfl, trivial⟩⟩⟩⟩⟩) H
    · have H := H.2 hc
      refine g_aload (r := some _) rfl rfl rfl (pc' := 32) ?_
      refine g_aload (r := some _) rfl rfl rfl (pc' := 33) ?_
      refine t_get (o := 55) rfl hT rfl rfl rfl (pc' := 36) rfl ?_
      refine g_iconst rfl rfl rfl (pc' := 38) ?_
      refine g_iload rfl rfl rfl (pc' := 39) ?_
      refine g_imul rfl rfl (pc' := 40) ?_
      refine g_iload rfl rfl rfl (pc' := 42) ?_
      refine g_iadd rfl rfl (pc' := 43) ?_
      obtain ⟨n7, hn7, H⟩ := H
      refine t_iaload hT (o := 55) (l := 12288) rfl rfl rfl hn7 (pc' := 44) rfl ?_
      refine t_call hT (y := 294) (n := 2) (pc' := 47) rfl rfl (t_vt hT rfl rfl) rfl rfl ⟨(Nat.le_of_ble_eq_true rfl), (Nat.le_of_ble_eq_true rfl), (Nat.le_of_ble_eq_true rfl)⟩ rfl H (tI_elim (fun v9 h8 H hT => ?_))
      show gm_G _ 47 _ _ _ _
      refine g_goto rfl (pc' := 51) rfl ?_
      exact g_weak (show gm_Lle [some _, some _, some _, none, some _, some _] _ from ⟨rfl, ⟨rfl, ⟨rfl, ⟨rfl, ⟨rfl, trivial⟩⟩⟩⟩⟩) H
theorem w_404_51 {m : Nat} {x1 : Int32} {x2 : Int32} {x4 : Int32} {x5 : Int32} {y0 : Int32} {y1 : Int32} {h : hh_T} {Q : Option Value ⊕ Nat → hh_T → Prop} (hT : tw_ok h m) (H : ∃ n1, gm_ix x5 n1 8 ∧ (((hh_i h (m + 104) n1) < Int32.ofNat 0 → (gm_G 404 80 [some (.ref m), some (.int x1), some (.int x2), some (.int (y1 + y0)), none, some (.int x5)] [.int (Int32.ofNat 0), .int x4] h Q)) ∧ (¬ (hh_i h (m + 104) n1) < Int32.ofNat 0 → (∃ n2, gm_ix x5 n2 8 ∧ (gm_G 294 0 [some (.ref m), some (.int (hh_i h (m + 104) n2))] [] h (pI (fun v4 h3 => gm_G 404 80 [some (.ref m), some (.int x1), some (.int x2), some (.int (y1 + y0)), none, some (.int x5)] [.int v4, .int x4] h3 Q) (fun _ _ => False))))))) : gm_G 404 51 [some (.ref m), some (.int x1), some (.int x2), none, some (.int x4), some (.int x5)] [.int y0, .int y1] h Q := by
  refine g_iadd rfl rfl (pc' := 52) ?_
  refine g_istore rfl rfl rfl (pc' := 53) ?_
  refine g_iload rfl rfl rfl (pc' := 55) ?_
  refine g_aload (r := some _) rfl rfl rfl (pc' := 56) ?_
  refine t_get (o := 104) rfl hT rfl rfl rfl (pc' := 59) rfl ?_
  refine g_iload rfl rfl rfl (pc' := 61) ?_
  obtain ⟨n1, hn1, H⟩ := H
  refine t_iaload hT (o := 104) (l := 8) rfl rfl rfl hn1 (pc' := 62) rfl ?_
  refine g_if_lt rfl (pc' := 65) (pt := 79) rfl rfl ⟨fun hc => ?_, fun hc => ?_⟩
  · have H := H.1 hc
    refine g_iconst rfl rfl rfl (pc' := 80) ?_
    exact g_weak (show gm_Lle [some _, some _, some _, some _, none, some _] _ from ⟨rfl, ⟨rfl, ⟨rfl, ⟨rfl, ⟨rfl, trivial⟩⟩⟩⟩⟩) H
  · have H := H.2 hc
    refine g_aload (r := some _) rfl rfl rfl (pc' := 66) ?_
    refine g_aload (r := some _) rfl rfl rfl (pc' := 67) ?_
    refine t_get (o := 104) rfl hT rfl rfl rfl (pc' := 70) rfl ?_
    refine g_iload rfl rfl rfl (pc' := 72) ?_
    obtain ⟨n2, hn2, H⟩ := H
    refine t_iaload hT (o := 104) (l := 8) rfl rfl rfl hn2 (pc' := 73) rfl ?_
    refine t_call hT (y := 294) (n := 2) (pc' := 76) rfl rfl (t_vt hT rfl rfl) rfl rfl ⟨(Nat.le_of_ble_eq_true rfl), (Nat.le_of_ble_eq_true rfl), (Nat.le_of_ble_eq_true rfl)⟩ rfl H (tI_elim (fun v4 h3 H hT => ?_))
    show gm_G _ 76 _ _ _ _
    refine g_goto rfl (pc' := 80) rfl ?_
    exact g_weak (show gm_Lle [some _, some _, some _, some _, none, some _] _ from ⟨rfl, ⟨rfl, ⟨rfl, ⟨rfl, ⟨rfl, trivial⟩⟩⟩⟩⟩) H
theorem w_404_80 {m : Nat} {x1 : Int32} {x2 : Int32} {x3 : Int32} {x5 : Int32} {y0 : Int32} {y1 : Int32} {h : hh_T} {Q : Option Value ⊕ Nat → hh_T → Prop} (hT : tw_ok h m) (H : gm_G 404 8 [some (.ref m), some (.int x1), some (.int x2), some (.int x3), some (.int (y1 + y0)), some (.int (x5 + (Int32.ofNat 1)))] [] h Q) : gm_G 404 80 [some (.ref m), some (.int x1), some (.int x2), some (.int x3), none, some (.int x5)] [.int y0, .int y1] h Q := by
  refine g_iadd rfl rfl (pc' := 81) ?_
  refine g_istore rfl rfl rfl (pc' := 83) ?_
  refine g_iinc (c := (Int32.ofNat 1)) rfl rfl rfl rfl rfl (pc' := 86) ?_
  refine g_goto rfl (pc' := 8) rfl ?_
  exact g_weak (show gm_Lle [some _, some _, some _, some _, some _, some _] _ from ⟨rfl, ⟨rfl, ⟨rfl, ⟨rfl, ⟨rfl, ⟨rfl, trivial⟩⟩⟩⟩⟩⟩) H
theorem w_404_156 {m : Nat} {x2 : Int32} {x3 : Int32} {x4 : Int32} {x5 : Int32} {x7 : Int32} {h : hh_T} {Q : Option Value ⊕ Nat → hh_T → Prop} (hT : tw_ok h m) (H : (x7 < Int32.ofNat 0 → (Q (.inl (some (.int (Int32.ofNat 0)))) h)) ∧ (¬ x7 < Int32.ofNat 0 → (∃ n1, gm_ix x2 n1 1536 ∧ (gm_G 383 0 [some (.ref m), some (.int x5), some (.int (hh_i h (m + 42) n1))] [] h (pI (fun v3 h2 => (¬ x7 < ((v3 + x4) - x3) → (Q (.inl (some (.int (Int32.ofNat 0)))) h2)) ∧ (x7 < ((v3 + x4) - x3) → (gm_G 404 183 [] [] h2 Q))) (fun _ _ => False)))))) : gm_G 404 156 [some (.ref m), none, some (.int x2), some (.int x3), some (.int x4), some (.int x5), none, some (.int x7)] [] h Q := by
  refine g_iload rfl rfl rfl (pc' := 158) ?_
  refine g_if_lt rfl (pc' := 161) (pt := 187) rfl rfl ⟨fun hc => ?_, fun hc => ?_⟩
  · have H := H.1 hc
    refine g_iconst rfl rfl rfl (pc' := 188) ?_
    exact g_ireturn rfl (Or.inr (by decide)) H
  · have H := H.2 hc
    refine g_aload (r := some _) rfl rfl rfl (pc' := 162) ?_
    refine g_iload rfl rfl rfl (pc' := 164) ?_
    refine g_aload (r := some _) rfl rfl rfl (pc' := 165) ?_
    refine t_get (o := 42) rfl hT rfl rfl rfl (pc' := 168) rfl ?_
    refine g_iload rfl rfl rfl (pc' := 169) ?_
    obtain ⟨n1, hn1, H⟩ := H
    refine t_iaload hT (o := 42) (l := 1536) rfl rfl rfl hn1 (pc' := 170) rfl ?_
    refine t_call hT (y := 383) (n := 3) (pc' := 173) rfl rfl (t_vt hT rfl rfl) rfl rfl ⟨(Nat.le_of_ble_eq_true rfl), (Nat.le_of_ble_eq_true rfl), (Nat.le_of_ble_eq_true rfl)⟩ rfl H (tI_elim (fun v3 h2 H hT => ?_))
    show gm_G _ 173 _ _ _ _
    refine g_iload rfl rfl rfl (pc' := 175) ?_
    refine g_iadd rfl rfl (pc' := 176) ?_
    refine g_iload rfl rfl rfl (pc' := 177) ?_
    refine g_isub rfl rfl (pc' := 178) ?_
    refine g_iload rfl rfl rfl (pc' := 180) ?_
    refine g_ic_le rfl (pc' := 183) (pt := 187) rfl rfl ⟨fun hc => ?_, fun hc => ?_⟩
    · have H := H.1 hc
      refine g_iconst rfl rfl rfl (pc' := 188) ?_
      exact g_ireturn rfl (Or.inr (by decide)) H
    · have H := H.2 hc
      exact g_weak (show gm_Lle [] _ from trivial) H
theorem w_404_183 {m : Nat}  {h : hh_T} {Q : Option Value ⊕ Nat → hh_T → Prop} (hT : tw_ok h m) (H : Q (.inl (some (.int (Int32.ofNat 1)))) h) : gm_G 404 183 [] [] h Q := by
  refine g_iconst rfl rfl rfl (pc' := 184) ?_
  refine g_goto rfl (pc' := 188) rfl ?_
  exact g_ireturn rfl (Or.inr (by decide)) H
theorem w_405_0 {m : Nat} {x1 : Int32} {x2 : Int32} {x3 : Int32} {h : hh_T} {Q : Option Value ⊕ Nat → hh_T → Prop} (hT : tw_ok h m) (H : (¬ (hh_i h m 77) = Int32.ofNat 0 → (gm_G 367 0 [some (.ref m), some (.int x1)] [] h (pI (fun v2 h1 => (¬ v2 < Int32.ofNat 0 → (gm_G 307 0 [some (.ref m), some (.int x1)] [] h1 (pI (fun v4 h3 => gm_G 137 0 [some (.ref m), some (.int v4), some (.int x2)] [] h3 (pI (fun v6 h5 => (v6 = Int32.ofNat 0 → (∃ n7, gm_ix (((Int32.ofNat 16) * v4) + x2) n7 1536 ∧ (((hh_i h5 (m + 40) n7) = (Int32.ofNat 2) → (gm_G 115 0 [some (.ref m), some (.int (((Int32.ofNat 16) * v4) + x2)), some (.int (hh_i h5 m 5)), some (.int (Int32.ofNat 4))] [] h5 (pI (fun v9 h8 => (¬ v9 = Int32.ofNat 0 → ((x3 < Int32.ofNat 0 → (gm_G 405 100 [some (.ref m), none, none, none, none, none, some (.int (((Int32.ofNat 16) * v4) + x2))] [] h8 Q)) ∧ (¬ x3 < Int32.ofNat 0 → (∃ n10, gm_ix (((Int32.ofNat 16) * v4) + x2) n10 1536 ∧ ((x3 < (hh_i h8 (m + 45) n10) → (gm_G 299 0 [some (.ref m), some (.int (((Int32.ofNat 16) * v4) + x2)), some (.int x3)] [] h8 (pI (fun v12 h11 => gm_G 405 111 [some (.ref m), none, none, none, none, none, some (.int (((Int32.ofNat 16) * v4) + x2))] [.int v12] h11 Q) (fun _ _ => False)))) ∧ (¬ x3 < (hh_i h8 (m + 45) n10) → (gm_G 405 100 [some (.ref m), none, none, none, none, none, some (.int (((Int32.ofNat 16) * v4) + x2))] [] h8 Q))))))) ∧ (v9 = Int32.ofNat 0 → (Q (.inl (some (.int (Int32.ofInt (-6))))) h8))) (fun _ _ => False)))) ∧ (¬ (hh_i h5 (m + 40) n7) = (Int32.ofNat 2) → (Q (.inl (some (.int (Int32.ofInt (-10))))) h5))))) ∧ (¬ v6 = Int32.ofNat 0 → (Q (.inl (some (.int (Int32.ofInt (-2))))) h5))) (fun _ _ => False))) (fun _ _ => False)))) ∧ (v2 < Int32.ofNat 0 → (Q (.inl (some (.int v2))) h1))) (fun _ _ => False)))) ∧ ((hh_i h m 77) = Int32.ofNat 0 → (Q (.inl (some (.int (Int32.ofInt (-9))))) h))) : gm_G 405 0 [some (.ref m), some (.int x1), some (.int x2), some (.int x3)] [] h Q := by
  refine g_aload (r := some _) rfl rfl rfl (pc' := 1) ?_
  refine t_getZ rfl hT rfl rfl (pc' := 4) rfl ?_
  refine g_if_ne rfl (pc' := 7) (pt := 10) rfl rfl ⟨fun hc => ?_, fun hc => ?_⟩
  · have H := H.1 hc
    refine g_aload (r := some _) rfl rfl rfl (pc' := 11) ?_
    refine g_iload rfl rfl rfl (pc' := 12) ?_
    refine t_call hT (y := 367) (n := 2) (pc' := 15) rfl rfl (t_vt hT rfl rfl) rfl rfl ⟨(Nat.le_of_ble_eq_true rfl), (Nat.le_of_ble_eq_true rfl), (Nat.le_of_ble_eq_true rfl)⟩ rfl H (tI_elim (fun v2 h1 H hT => ?_))
    show gm_G _ 15 _ _ _ _
    refine g_istore rfl rfl rfl (pc' := 17) ?_
    refine g_iload rfl rfl rfl (pc' := 19) ?_
    refine g_if_ge rfl (pc' := 22) (pt := 25) rfl rfl ⟨fun hc => ?_, fun hc => ?_⟩
    · have H := H.1 hc
      refine g_aload (r := some _) rfl rfl rfl (pc' := 26) ?_
      refine g_iload rfl rfl rfl (pc' := 27) ?_
      refine t_call hT (y := 307) (n := 2) (pc' := 30) rfl rfl (t_vt hT rfl rfl) rfl rfl ⟨(Nat.le_of_ble_eq_true rfl), (Nat.le_of_ble_eq_true rfl), (Nat.le_of_ble_eq_true rfl)⟩ rfl H (tI_elim (fun v4 h3 H hT => ?_))
      show gm_G _ 30 _ _ _ _
      refine g_istore rfl rfl rfl (pc' := 32) ?_
      refine g_aload (r := some _) rfl rfl rfl (pc' := 33) ?_
      refine g_iload rfl rfl rfl (pc' := 35) ?_
      refine g_iload rfl rfl rfl (pc' := 36) ?_
      refine t_call hT (y := 137) (n := 3) (pc' := 39) rfl rfl (t_vt hT rfl rfl) rfl rfl ⟨(Nat.le_of_ble_eq_true rfl), (Nat.le_of_ble_eq_true rfl), (Nat.le_of_ble_eq_true rfl)⟩ rfl H (tI_elim (fun v6 h5 H hT => ?_))
      show gm_G _ 39 _ _ _ _
      refine g_if_eq rfl (pc' := 42) (pt := 45) rfl rfl ⟨fun hc => ?_, fun hc => ?_⟩
      · have H := H.1 hc
        refine g_iconst rfl rfl rfl (pc' := 47) ?_
        refine g_iload rfl rfl rfl (pc' := 49) ?_
        refine g_imul rfl rfl (pc' := 50) ?_
        refine g_iload rfl rfl rfl (pc' := 51) ?_
        refine g_iadd rfl rfl (pc' := 52) ?_
        refine g_istore rfl rfl rfl (pc' := 54) ?_
        refine g_aload (r := some _) rfl rfl rfl (pc' := 55) ?_
        refine t_get (o := 40) rfl hT rfl rfl rfl (pc' := 58) rfl ?_
        refine g_iload rfl rfl rfl (pc' := 60) ?_
        obtain ⟨n7, hn7, H⟩ := H
        refine t_iaload hT (o := 40) (l := 1536) rfl rfl rfl hn7 (pc' := 61) rfl ?_
        refine g_iconst rfl rfl rfl (pc' := 62) ?_
        refine g_ic_eq rfl (pc' := 65) (pt := 68) rfl rfl ⟨fun hc => ?_, fun hc => ?_⟩
        · have H := H.1 hc
          refine g_aload (r := some _) rfl rfl rfl (pc' := 69) ?_
          refine g_iload rfl rfl rfl (pc' := 71) ?_
          refine g_aload (r := some _) rfl rfl rfl (pc' := 72) ?_
          refine t_getI rfl hT rfl rfl (pc' := 75) rfl ?_
          refine g_iconst rfl rfl rfl (pc' := 76) ?_
          refine t_call hT (y := 115) (n := 4) (pc' := 79) rfl rfl (t_vt hT rfl rfl) rfl rfl ⟨(Nat.le_of_ble_eq_true rfl), (Nat.le_of_ble_eq_true rfl), (Nat.le_of_ble_eq_true rfl)⟩ rfl H (tI_elim (fun v9 h8 H hT => ?_))
          show gm_G _ 79 _ _ _ _
          refine g_if_ne rfl (pc' := 82) (pt := 85) rfl rfl ⟨fun hc => ?_, fun hc => ?_⟩
          · have H := H.1 hc
            refine g_iload rfl rfl rfl (pc' := 86) ?_
            refine g_if_lt rfl (pc' := 89) (pt := 100) rfl rfl ⟨fun hc => ?_, fun hc => ?_⟩
            · have H := H.1 hc
              exact g_weak (show gm_Lle [some _, none, none, none, none, none, some _] _ from ⟨rfl, ⟨rfl, trivial⟩⟩) H
            · have H := H.2 hc
              refine g_iload rfl rfl rfl (pc' := 90) ?_
              refine g_aload (r := some _) rfl rfl rfl (pc' := 91) ?_
              refine t_get (o := 45) rfl hT rfl rfl rfl (pc' := 94) rfl ?_
              refine g_iload rfl rfl rfl (pc' := 96) ?_
              obtain ⟨n10, hn10, H⟩ := H
              refine t_iaload hT (o := 45) (l := 1536) rfl rfl rfl hn10 (pc' := 97) rfl ?_
              refine g_ic_lt rfl (pc' := 100) (pt := 104) rfl rfl ⟨fun hc => ?_, fun hc => ?_⟩
              · have H := H.1 hc
                refine g_aload (r := some _) rfl rfl rfl (pc' := 105) ?_
                refine g_iload rfl rfl rfl (pc' := 107) ?_
                refine g_iload rfl rfl rfl (pc' := 108) ?_
                refine t_call hT (y := 299) (n := 3) (pc' := 111) rfl rfl (t_vt hT rfl rfl) rfl rfl ⟨(Nat.le_of_ble_eq_true rfl), (Nat.le_of_ble_eq_true rfl), (Nat.le_of_ble_eq_true rfl)⟩ rfl H (tI_elim (fun v12 h11 H hT => ?_))
                show gm_G _ 111 _ _ _ _
                exact g_weak (show gm_Lle [some _, none, none, none, none, none, some _] _ from ⟨rfl, ⟨rfl, trivial⟩⟩) H
              · have H := H.2 hc
                exact g_weak (show gm_Lle [some _, none, none, none, none, none, some _] _ from ⟨rfl, ⟨rfl, trivial⟩⟩) H
          · have H := H.2 hc
            refine g_iconst rfl rfl rfl (pc' := 84) ?_
            exact g_ireturn rfl (Or.inl rfl) H
        · have H := H.2 hc
          refine g_iconst rfl rfl rfl (pc' := 67) ?_
          exact g_ireturn rfl (Or.inl rfl) H
      · have H := H.2 hc
        refine g_iconst rfl rfl rfl (pc' := 44) ?_
        exact g_ireturn rfl (Or.inl rfl) H
    · have H := H.2 hc
      refine g_iload rfl rfl rfl (pc' := 24) ?_
      exact g_ireturn rfl (Or.inl rfl) H
  · have H := H.2 hc
    refine g_iconst rfl rfl rfl (pc' := 9) ?_
    exact g_ireturn rfl (Or.inl rfl) H
theorem w_405_100 {m : Nat} {x6 : Int32} {h : hh_T} {Q : Option Value ⊕ Nat → hh_T → Prop} (hT : tw_ok h m) (H : gm_G 405 111 [some (.ref m), none, none, none, none, none, some (.int x6)] [.int (Int32.ofInt (-1))] h Q) : gm_G 405 100 [some (.ref m), none, none, none, none, none, some (.int x6)] [] h Q := by
  refine g_iconst rfl rfl rfl (pc' := 101) ?_
  refine g_goto rfl (pc' := 111) rfl ?_
  exact g_weak (show gm_Lle [some _, none, none, none, none, none, some _] _ from ⟨rfl, ⟨rfl, trivial⟩⟩) H
theorem w_405_111 {m : Nat} {x6 : Int32} {y0 : Int32} {h : hh_T} {Q : Option Value ⊕ Nat → hh_T → Prop} (hT : tw_ok h m) (H : (¬ y0 < Int32.ofNat 0 → (∃ n1, gm_ix (((Int32.ofNat 8) * x6) + y0) n1 12288 ∧ (∀ h2, h2 = hh_wi h m 3 (hh_i h (m + 54) n1) → (gm_G 405 141 [some (.ref m), none, none, none, none, none, some (.int x6), some (.int y0), some (.int (Int32.ofNat 0))] [] h2 Q)))) ∧ (y0 < Int32.ofNat 0 → (Q (.inl (some (.int (Int32.ofInt (-2))))) h))) : gm_G 405 111 [some (.ref m), none, none, none, none, none, some (.int x6)] [.int y0] h Q := by
  refine g_istore rfl rfl rfl (pc' := 113) ?_
  refine g_iload rfl rfl rfl (pc' := 115) ?_
  refine g_if_ge rfl (pc' := 118) (pt := 121) rfl rfl ⟨fun hc => ?_, fun hc => ?_⟩
  · have H := H.1 hc
    refine g_aload (r := some _) rfl rfl rfl (pc' := 122) ?_
    refine g_aload (r := some _) rfl rfl rfl (pc' := 123) ?_
    refine t_get (o := 54) rfl hT rfl rfl rfl (pc' := 126) rfl ?_
    refine g_iconst rfl rfl rfl (pc' := 128) ?_
    refine g_iload rfl rfl rfl (pc' := 130) ?_
    refine g_imul rfl rfl (pc' := 131) ?_
    refine g_iload rfl rfl rfl (pc' := 133) ?_
    refine g_iadd rfl rfl (pc' := 134) ?_
    obtain ⟨n1, hn1, H⟩ := H
    refine t_iaload hT (o := 54) (l := 12288) rfl rfl rfl hn1 (pc' := 135) rfl ?_
    refine t_putI rfl hT rfl rfl  (pc' := 138) rfl (fun hT => ?_)
    have H := H _ rfl
    refine g_iconst rfl rfl rfl (pc' := 139) ?_
    refine g_istore rfl rfl rfl (pc' := 141) ?_
    exact g_weak (show gm_Lle [some _, none, none, none, none, none, some _, some _, some _] _ from ⟨rfl, ⟨rfl, ⟨rfl, ⟨rfl, trivial⟩⟩⟩⟩) H
  · have H := H.2 hc
    refine g_iconst rfl rfl rfl (pc' := 120) ?_
    exact g_ireturn rfl (Or.inl rfl) H
theorem w_405_141 {m : Nat} {x6 : Int32} {x7 : Int32} {x8 : Int32} {h : hh_T} {Q : Option Value ⊕ Nat → hh_T → Prop} (hT : tw_ok h m) (H : (¬ x8 < (hh_i h m 3) → (∃ n1, gm_ix (((Int32.ofNat 8) * x6) + x7) n1 12288 ∧ (Q (.inl (some (.int (hh_i h (m + 53) n1)))) h))) ∧ (x8 < (hh_i h m 3) → (∃ n2, gm_ix (((Int32.ofNat 8) * (((Int32.ofNat 8) * x6) + x7)) + x8) n2 98304 ∧ (∃ n3, gm_ix x8 n3 512 ∧ (∀ h4, h4 = hh_wi h (m + 2) n3 ((hh_i h (m + 56) n2).toInt8.toInt32) → (gm_G 405 141 [some (.ref m), none, none, none, none, none, some (.int x6), some (.int x7), some (.int (x8 + (Int32.ofNat 1)))] [] h4 Q)))))) : gm_G 405 141 [some (.ref m), none, none, none, none, none, some (.int x6), some (.int x7), some (.int x8)] [] h Q := by
  refine g_iload rfl rfl rfl (pc' := 143) ?_
  refine g_aload (r := some _) rfl rfl rfl (pc' := 144) ?_
  refine t_getI rfl hT rfl rfl (pc' := 147) rfl ?_
  refine g_ic_ge rfl (pc' := 150) (pt := 182) rfl rfl ⟨fun hc => ?_, fun hc => ?_⟩
  · have H := H.1 hc
    refine g_aload (r := some _) rfl rfl rfl (pc' := 183) ?_
    refine t_get (o := 53) rfl hT rfl rfl rfl (pc' := 186) rfl ?_
    refine g_iconst rfl rfl rfl (pc' := 188) ?_
    refine g_iload rfl rfl rfl (pc' := 190) ?_
    refine g_imul rfl rfl (pc' := 191) ?_
    refine g_iload rfl rfl rfl (pc' := 193) ?_
    refine g_iadd rfl rfl (pc' := 194) ?_
    obtain ⟨n1, hn1, H⟩ := H
    refine t_iaload hT (o := 53) (l := 12288) rfl rfl rfl hn1 (pc' := 195) rfl ?_
    exact g_ireturn rfl (Or.inl rfl) H
  · have H := H.2 hc
    refine g_aload (r := some _) rfl rfl rfl (pc' := 151) ?_
    refine t_get (o := 2) rfl hT rfl rfl rfl (pc' := 154) rfl ?_
    refine g_iload rfl rfl rfl (pc' := 156) ?_
    refine g_aload (r := some _) rfl rfl rfl (pc' := 157) ?_
    refine t_get (o := 56) rfl hT rfl rfl rfl (pc' := 160) rfl ?_
    refine g_iconst rfl rfl rfl (pc' := 162) ?_
    refine g_iconst rfl rfl rfl (pc' := 164) ?_
    refine g_iload rfl rfl rfl (pc' := 166) ?_
    refine g_imul rfl rfl (pc' := 167) ?_
    refine g_iload rfl rfl rfl (pc' := 169) ?_
    refine g_iadd rfl rfl (pc' := 170) ?_
    refine g_imul rfl rfl (pc' := 171) ?_
    refine g_iload rfl rfl rfl (pc' := 173) ?_
    refine g_iadd rfl rfl (pc' := 174) ?_
    obtain ⟨n2, hn2, H⟩ := H
    refine t_baload hT (o := 56) (l := 98304) rfl rfl rfl hn2 (pc' := 175) rfl ?_
    obtain ⟨n3, hn3, H⟩ := H
    refine t_bastore hT (o := 2) (l := 512) rfl rfl rfl hn3  (pc' := 176) rfl (fun hT => ?_)
    have H := H _ rfl
    refine g_iinc (c := (Int32.ofNat 1)) rfl rfl rfl rfl rfl (pc' := 179) ?_
    refine g_goto rfl (pc' := 141) rfl ?_
    exact g_weak (show gm_Lle [some _, none, none, none, none, none, some _, some _, some _] _ from ⟨rfl, ⟨rfl, ⟨rfl, ⟨rfl, trivial⟩⟩⟩⟩) H
theorem w_406_0 {m : Nat} {x1 : Int32} {x2 : Int32} {h : hh_T} {Q : Option Value ⊕ Nat → hh_T → Prop} (hT : tw_ok h m) (H : ∀ h1, h1 = hh_wi h m 2 (Int32.ofNat 0) → ((¬ (hh_i h1 m 77) = Int32.ofNat 0 → (gm_G 370 0 [some (.ref m), some (.ref (m + 1)), some (.int (Int32.ofNat 0)), some (.int (hh_i h m 2))] [] h1 (pI (fun v3 h2 => (¬ v3 = Int32.ofNat 0 → (gm_G 367 0 [some (.ref m), some (.int x1)] [] h2 (pI (fun v5 h4 => (¬ v5 < Int32.ofNat 0 → (gm_G 307 0 [some (.ref m), some (.int x1)] [] h4 (pI (fun v7 h6 => gm_G 308 0 [some (.ref m), some (.int v7), some (.ref (m + 1)), some (.int (Int32.ofNat 0)), some (.int (hh_i h m 2)), some (.int x2)] [] h6 (pI (fun v9 h8 => Q (.inl (some (.int v9))) h8) (fun _ _ => False))) (fun _ _ => False)))) ∧ (v5 < Int32.ofNat 0 → (Q (.inl (some (.int v5))) h4))) (fun _ _ => False)))) ∧ (v3 = Int32.ofNat 0 → (Q (.inl (some (.int (Int32.ofInt (-11))))) h2))) (fun _ _ => False)))) ∧ ((hh_i h1 m 77) = Int32.ofNat 0 → (Q (.inl (some (.int (Int32.ofInt (-9))))) h1)))) : gm_G 406 0 [some (.ref m), some (.int x1), some (.int x2)] [] h Q := by
  refine g_aload (r := some _) rfl rfl rfl (pc' := 1) ?_
  refine t_getI rfl hT rfl rfl (pc' := 4) rfl ?_
  refine g_istore rfl rfl rfl (pc' := 5) ?_
  refine g_aload (r := some _) rfl rfl rfl (pc' := 6) ?_
  refine g_iconst rfl rfl rfl (pc' := 7) ?_
  refine t_putI rfl hT rfl rfl  (pc' := 10) rfl (fun hT => ?_)
  have H := H _ rfl
  refine g_aload (r := some _) rfl rfl rfl (pc' := 11) ?_
  refine t_getZ rfl hT rfl rfl (pc' := 14) rfl ?_
  refine g_if_ne rfl (pc' := 17) (pt := 20) rfl rfl ⟨fun hc => ?_, fun hc => ?_⟩
  · have H := H.1 hc
    refine g_aload (r := some _) rfl rfl rfl (pc' := 21) ?_
    refine g_aload (r := some _) rfl rfl rfl (pc' := 22) ?_
    refine t_get (o := 1) rfl hT rfl rfl rfl (pc' := 25) rfl ?_
    refine g_iconst rfl rfl rfl (pc' := 26) ?_
    refine g_iload rfl rfl rfl (pc' := 27) ?_
    refine t_call hT (y := 370) (n := 4) (pc' := 30) rfl rfl (t_vt hT rfl rfl) rfl rfl ⟨(Nat.le_of_ble_eq_true rfl), (Nat.le_of_ble_eq_true rfl), (Nat.le_of_ble_eq_true rfl)⟩ rfl H (tI_elim (fun v3 h2 H hT => ?_))
    show gm_G _ 30 _ _ _ _
    refine g_if_ne rfl (pc' := 33) (pt := 36) rfl rfl ⟨fun hc => ?_, fun hc => ?_⟩
    · have H := H.1 hc
      refine g_aload (r := some _) rfl rfl rfl (pc' := 37) ?_
      refine g_iload rfl rfl rfl (pc' := 38) ?_
      refine t_call hT (y := 367) (n := 2) (pc' := 41) rfl rfl (t_vt hT rfl rfl) rfl rfl ⟨(Nat.le_of_ble_eq_true rfl), (Nat.le_of_ble_eq_true rfl), (Nat.le_of_ble_eq_true rfl)⟩ rfl H (tI_elim (fun v5 h4 H hT => ?_))
      show gm_G _ 41 _ _ _ _
      refine g_istore rfl rfl rfl (pc' := 43) ?_
      refine g_iload rfl rfl rfl (pc' := 45) ?_
      refine g_if_ge rfl (pc' := 48) (pt := 53) rfl rfl ⟨fun hc => ?_, fun hc => ?_⟩
      · have H := H.1 hc
        refine g_aload (r := some _) rfl rfl rfl (pc' := 54) ?_
        refine g_aload (r := some _) rfl rfl rfl (pc' := 55) ?_
        refine g_iload rfl rfl rfl (pc' := 56) ?_
        refine t_call hT (y := 307) (n := 2) (pc' := 59) rfl rfl (t_vt hT rfl rfl) rfl rfl ⟨(Nat.le_of_ble_eq_true rfl), (Nat.le_of_ble_eq_true rfl), (Nat.le_of_ble_eq_true rfl)⟩ rfl H (tI_elim (fun v7 h6 H hT => ?_))
        show gm_G _ 59 _ _ _ _
        refine g_aload (r := some _) rfl rfl rfl (pc' := 60) ?_
        refine t_get (o := 1) rfl hT rfl rfl rfl (pc' := 63) rfl ?_
        refine g_iconst rfl rfl rfl (pc' := 64) ?_
        refine g_iload rfl rfl rfl (pc' := 65) ?_
        refine g_iload rfl rfl rfl (pc' := 66) ?_
        refine t_call hT (y := 308) (n := 6) (pc' := 69) rfl rfl (t_vt hT rfl rfl) rfl rfl ⟨(Nat.le_of_ble_eq_true rfl), (Nat.le_of_ble_eq_true rfl), (Nat.le_of_ble_eq_true rfl)⟩ rfl H (tI_elim (fun v9 h8 H hT => ?_))
        show gm_G _ 69 _ _ _ _
        exact g_ireturn rfl (Or.inl rfl) H
      · have H := H.2 hc
        refine g_iload rfl rfl rfl (pc' := 50) ?_
        refine g_goto rfl (pc' := 69) rfl ?_
        exact g_ireturn rfl (Or.inl rfl) H
    · have H := H.2 hc
      refine g_iconst rfl rfl rfl (pc' := 35) ?_
      exact g_ireturn rfl (Or.inl rfl) H
  · have H := H.2 hc
    refine g_iconst rfl rfl rfl (pc' := 19) ?_
    exact g_ireturn rfl (Or.inl rfl) H
theorem w_407_0 {m : Nat}  {h : hh_T} {Q : Option Value ⊕ Nat → hh_T → Prop} (hT : tw_ok h m) (H : gm_G 407 2 [some (.ref m), some (.int (Int32.ofNat 0))] [] h Q) : gm_G 407 0 [some (.ref m)] [] h Q := by
  refine g_iconst rfl rfl rfl (pc' := 1) ?_
  refine g_istore rfl rfl rfl (pc' := 2) ?_
  exact g_weak (show gm_Lle [some _, some _] _ from ⟨rfl, ⟨rfl, trivial⟩⟩) H
theorem w_407_2 {m : Nat} {x1 : Int32} {h : hh_T} {Q : Option Value ⊕ Nat → hh_T → Prop} (hT : tw_ok h m) (H : (¬ x1 < (Int32.ofNat 640) → (gm_G 407 24 [some (.ref m), some (.int (Int32.ofNat 0))] [] h Q)) ∧ (x1 < (Int32.ofNat 640) → (∃ n1, gm_ix x1 n1 640 ∧ (∀ h2, h2 = hh_wi h (m + 18) n1 (Int32.ofNat 0) → (gm_G 407 2 [some (.ref m), some (.int (x1 + (Int32.ofNat 1)))] [] h2 Q))))) : gm_G 407 2 [some (.ref m), some (.int x1)] [] h Q := by
  refine g_iload rfl rfl rfl (pc' := 3) ?_
  refine g_iconst rfl rfl rfl (pc' := 6) ?_
  refine g_ic_ge rfl (pc' := 9) (pt := 22) rfl rfl ⟨fun hc => ?_, fun hc => ?_⟩
  · have H := H.1 hc
    refine g_iconst rfl rfl rfl (pc' := 23) ?_
    refine g_istore rfl rfl rfl (pc' := 24) ?_
    exact g_weak (show gm_Lle [some _, some _] _ from ⟨rfl, ⟨rfl, trivial⟩⟩) H
  · have H := H.2 hc
    refine g_aload (r := some _) rfl rfl rfl (pc' := 10) ?_
    refine t_get (o := 18) rfl hT rfl rfl rfl (pc' := 13) rfl ?_
    refine g_iload rfl rfl rfl (pc' := 14) ?_
    refine g_iconst rfl rfl rfl (pc' := 15) ?_
    obtain ⟨n1, hn1, H⟩ := H
    refine t_zastore hT (o := 18) (l := 640) rfl rfl rfl hn1 (by decide) (pc' := 16) rfl (fun hT => ?_)
    have H := H _ rfl
    refine g_iinc (c := (Int32.ofNat 1)) rfl rfl rfl rfl rfl (pc' := 19) ?_
    refine g_goto rfl (pc' := 2) rfl ?_
    exact g_weak (show gm_Lle [some _, some _] _ from ⟨rfl, ⟨rfl, trivial⟩⟩) H
theorem w_407_24 {m : Nat} {x1 : Int32} {h : hh_T} {Q : Option Value ⊕ Nat → hh_T → Prop} (hT : tw_ok h m) (H : (¬ x1 < (Int32.ofNat 96) → (gm_G 407 107 [some (.ref m), some (.int (Int32.ofNat 0))] [] h Q)) ∧ (x1 < (Int32.ofNat 96) → (gm_G 371 0 [some (.ref m), some (.int x1)] [] h (pI (fun v2 h1 => (¬ v2 = Int32.ofNat 0 → (gm_G 407 47 [some (.ref m), some (.int x1), some (.int ((Int32.ofNat 128) * x1))] [] h1 Q)) ∧ (v2 = Int32.ofNat 0 → (gm_G 407 99 [some (.ref m), some (.int x1)] [] h1 Q))) (fun _ _ => False))))) : gm_G 407 24 [some (.ref m), some (.int x1)] [] h Q := by
  refine g_iload rfl rfl rfl (pc' := 25) ?_
  refine g_iconst rfl rfl rfl (pc' := 27) ?_
  refine g_ic_ge rfl (pc' := 30) (pt := 105) rfl rfl ⟨fun hc => ?_, fun hc => ?_⟩
  · have H := H.1 hc
    refine g_iconst rfl rfl rfl (pc' := 106) ?_
    refine g_istore rfl rfl rfl (pc' := 107) ?_
    exact g_weak (show gm_Lle [some _, some _] _ from ⟨rfl, ⟨rfl, trivial⟩⟩) H
  · have H := H.2 hc
    refine g_aload (r := some _) rfl rfl rfl (pc' := 31) ?_
    refine g_iload rfl rfl rfl (pc' := 32) ?_
    refine t_call hT (y := 371) (n := 2) (pc' := 35) rfl rfl (t_vt hT rfl rfl) rfl rfl ⟨(Nat.le_of_ble_eq_true rfl), (Nat.le_of_ble_eq_true rfl), (Nat.le_of_ble_eq_true rfl)⟩ rfl H (tI_elim (fun v2 h1 H hT => ?_))
    show gm_G _ 35 _ _ _ _
    refine g_if_ne rfl (pc' := 38) (pt := 41) rfl rfl ⟨fun hc => ?_, fun hc => ?_⟩
    · have H := H.1 hc
      refine g_iconst rfl rfl rfl (pc' := 44) ?_
      refine g_iload rfl rfl rfl (pc' := 45) ?_
      refine g_imul rfl rfl (pc' := 46) ?_
      refine g_istore rfl rfl rfl (pc' := 47) ?_
      exact g_weak (show gm_Lle [some _, some _, some _] _ from ⟨rfl, ⟨rfl, ⟨rfl, trivial⟩⟩⟩) H
    · have H := H.2 hc
      refine g_goto rfl (pc' := 99) rfl ?_
      exact g_weak (show gm_Lle [some _, some _] _ from ⟨rfl, ⟨rfl, trivial⟩⟩) H
theorem w_407_47 {m : Nat} {x1 : Int32} {x2 : Int32} {h : hh_T} {Q : Option Value ⊕ Nat → hh_T → Prop} (hT : tw_ok h m) (H : (¬ x2 < (((Int32.ofNat 128) * x1) + (Int32.ofNat 128)) → (gm_G 407 99 [some (.ref m), some (.int x1)] [] h Q)) ∧ (x2 < (((Int32.ofNat 128) * x1) + (Int32.ofNat 128)) → (∃ n1, gm_ix x2 n1 12288 ∧ (((hh_i h (m + 55) n1) < Int32.ofNat 0 → (gm_G 407 93 [some (.ref m), some (.int x1), some (.int x2)] [] h Q)) ∧ (¬ (hh_i h (m + 55) n1) < Int32.ofNat 0 → (∃ n2, gm_ix (x2 / (Int32.ofNat 8)) n2 1536 ∧ ((¬ Int32.ofNat 0 < (hh_i h (m + 40) n2) → (gm_G 407 93 [some (.ref m), some (.int x1), some (.int x2)] [] h Q)) ∧ (Int32.ofNat 0 < (hh_i h (m + 40) n2) → (∃ n3, gm_ix x2 n3 12288 ∧ (∃ n4, gm_ix (hh_i h (m + 55) n3) n4 640 ∧ (∀ h5, h5 = hh_wi h (m + 18) n4 (Int32.ofNat 1) → (gm_G 407 93 [some (.ref m), some (.int x1), some (.int x2)] [] h5 Q)))))))))))) : gm_G 407 47 [some (.ref m), some (.int x1), some (.int x2)] [] h Q := by
  refine g_iload rfl rfl rfl (pc' := 48) ?_
  refine g_iconst rfl rfl rfl (pc' := 51) ?_
  refine g_iload rfl rfl rfl (pc' := 52) ?_
  refine g_imul rfl rfl (pc' := 53) ?_
  refine g_iconst rfl rfl rfl (pc' := 56) ?_
  refine g_iadd rfl rfl (pc' := 57) ?_
  refine g_ic_ge rfl (pc' := 60) (pt := 99) rfl rfl ⟨fun hc => ?_, fun hc => ?_⟩
  · have H := H.1 hc
    exact g_weak (show gm_Lle [some _, some _] _ from ⟨rfl, ⟨rfl, trivial⟩⟩) H
  · have H := H.2 hc
    refine g_aload (r := some _) rfl rfl rfl (pc' := 61) ?_
    refine t_get (o := 55) rfl hT rfl rfl rfl (pc' := 64) rfl ?_
    refine g_iload rfl rfl rfl (pc' := 65) ?_
    obtain ⟨n1, hn1, H⟩ := H
    refine t_iaload hT (o := 55) (l := 12288) rfl rfl rfl hn1 (pc' := 66) rfl ?_
    refine g_if_lt rfl (pc' := 69) (pt := 93) rfl rfl ⟨fun hc => ?_, fun hc => ?_⟩
    · have H := H.1 hc
      exact g_weak (show gm_Lle [some _, some _, some _] _ from ⟨rfl, ⟨rfl, ⟨rfl, trivial⟩⟩⟩) H
    · have H := H.2 hc
      refine g_aload (r := some _) rfl rfl rfl (pc' := 70) ?_
      refine t_get (o := 40) rfl hT rfl rfl rfl (pc' := 73) rfl ?_
      refine g_iload rfl rfl rfl (pc' := 74) ?_
      refine g_iconst rfl rfl rfl (pc' := 76) ?_
      refine g_idiv rfl (by decide) (pc' := 77) rfl ?_
      obtain ⟨n2, hn2, H⟩ := H
      refine t_iaload hT (o := 40) (l := 1536) rfl rfl rfl hn2 (pc' := 78) rfl ?_
      refine g_if_le rfl (pc' := 81) (pt := 93) rfl rfl ⟨fun hc => ?_, fun hc => ?_⟩
      · have H := H.1 hc
        exact g_weak (show gm_Lle [some _, some _, some _] _ from ⟨rfl, ⟨rfl, ⟨rfl, trivial⟩⟩⟩) H
      · have H := H.2 hc
        refine g_aload (r := some _) rfl rfl rfl (pc' := 82) ?_
        refine t_get (o := 18) rfl hT rfl rfl rfl (pc' := 85) rfl ?_
        refine g_aload (r := some _) rfl rfl rfl (pc' := 86) ?_
        refine t_get (o := 55) rfl hT rfl rfl rfl (pc' := 89) rfl ?_
        refine g_iload rfl rfl rfl (pc' := 90) ?_
        obtain ⟨n3, hn3, H⟩ := H
        refine t_iaload hT (o := 55) (l := 12288) rfl rfl rfl hn3 (pc' := 91) rfl ?_
        refine g_iconst rfl rfl rfl (pc' := 92) ?_
        obtain ⟨n4, hn4, H⟩ := H
        refine t_zastore hT (o := 18) (l := 640) rfl rfl rfl hn4 (by decide) (pc' := 93) rfl (fun hT => ?_)
        have H := H _ rfl
        exact g_weak (show gm_Lle [some _, some _, some _] _ from ⟨rfl, ⟨rfl, ⟨rfl, trivial⟩⟩⟩) H
theorem w_407_93 {m : Nat} {x1 : Int32} {x2 : Int32} {h : hh_T} {Q : Option Value ⊕ Nat → hh_T → Prop} (hT : tw_ok h m) (H : gm_G 407 47 [some (.ref m), some (.int x1), some (.int (x2 + (Int32.ofNat 1)))] [] h Q) : gm_G 407 93 [some (.ref m), some (.int x1), some (.int x2)] [] h Q := by
  refine g_iinc (c := (Int32.ofNat 1)) rfl rfl rfl rfl rfl (pc' := 96) ?_
  refine g_goto rfl (pc' := 47) rfl ?_
  exact g_weak (show gm_Lle [some _, some _, some _] _ from ⟨rfl, ⟨rfl, ⟨rfl, trivial⟩⟩⟩) H
theorem w_407_99 {m : Nat} {x1 : Int32} {h : hh_T} {Q : Option Value ⊕ Nat → hh_T → Prop} (hT : tw_ok h m) (H : gm_G 407 24 [some (.ref m), some (.int (x1 + (Int32.ofNat 1)))] [] h Q) : gm_G 407 99 [some (.ref m), some (.int x1)] [] h Q := by
  refine g_iinc (c := (Int32.ofNat 1)) rfl rfl rfl rfl rfl (pc' := 102) ?_
  refine g_goto rfl (pc' := 24) rfl ?_
  exact g_weak (show gm_Lle [some _, some _] _ from ⟨rfl, ⟨rfl, trivial⟩⟩) H
theorem w_407_107 {m : Nat} {x1 : Int32} {h : hh_T} {Q : Option Value ⊕ Nat → hh_T → Prop} (hT : tw_ok h m) (H : (¬ x1 < (hh_i h m 41) → (gm_G 407 144 [some (.ref m), some (.int (Int32.ofNat 0))] [] h Q)) ∧ (x1 < (hh_i h m 41) → (∃ n1, gm_ix x1 n1 136 ∧ (((hh_i h (m + 30) n1) < Int32.ofNat 0 → (gm_G 407 136 [some (.ref m), some (.int x1)] [] h Q)) ∧ (¬ (hh_i h (m + 30) n1) < Int32.ofNat 0 → (∃ n2, gm_ix x1 n2 136 ∧ (∃ n3, gm_ix (hh_i h (m + 30) n2) n3 640 ∧ (∀ h4, h4 = hh_wi h (m + 18) n3 (Int32.ofNat 1) → (gm_G 407 136 [some (.ref m), some (.int x1)] [] h4 Q))))))))) : gm_G 407 107 [some (.ref m), some (.int x1)] [] h Q := by
  refine g_iload rfl rfl rfl (pc' := 108) ?_
  refine g_aload (r := some _) rfl rfl rfl (pc' := 109) ?_
  refine t_getI rfl hT rfl rfl (pc' := 112) rfl ?_
  refine g_ic_ge rfl (pc' := 115) (pt := 142) rfl rfl ⟨fun hc => ?_, fun hc => ?_⟩
  · have H := H.1 hc
    refine g_iconst rfl rfl rfl (pc' := 143) ?_
    refine g_istore rfl rfl rfl (pc' := 144) ?_
    exact g_weak (show gm_Lle [some _, some _] _ from ⟨rfl, ⟨rfl, trivial⟩⟩) H
  · have H := H.2 hc
    refine g_aload (r := some _) rfl rfl rfl (pc' := 116) ?_
    refine t_get (o := 30) rfl hT rfl rfl rfl (pc' := 119) rfl ?_
    refine g_iload rfl rfl rfl (pc' := 120) ?_
    obtain ⟨n1, hn1, H⟩ := H
    refine t_iaload hT (o := 30) (l := 136) rfl rfl rfl hn1 (pc' := 121) rfl ?_
    refine g_if_lt rfl (pc' := 124) (pt := 136) rfl rfl ⟨fun hc => ?_, fun hc => ?_⟩
    · have H := H.1 hc
      exact g_weak (show gm_Lle [some _, some _] _ from ⟨rfl, ⟨rfl, trivial⟩⟩) H
    · have H := H.2 hc
      refine g_aload (r := some _) rfl rfl rfl (pc' := 125) ?_
      refine t_get (o := 18) rfl hT rfl rfl rfl (pc' := 128) rfl ?_
      refine g_aload (r := some _) rfl rfl rfl (pc' := 129) ?_
      refine t_get (o := 30) rfl hT rfl rfl rfl (pc' := 132) rfl ?_
      refine g_iload rfl rfl rfl (pc' := 133) ?_
      obtain ⟨n2, hn2, H⟩ := H
      refine t_iaload hT (o := 30) (l := 136) rfl rfl rfl hn2 (pc' := 134) rfl ?_
      refine g_iconst rfl rfl rfl (pc' := 135) ?_
      obtain ⟨n3, hn3, H⟩ := H
      refine t_zastore hT (o := 18) (l := 640) rfl rfl rfl hn3 (by decide) (pc' := 136) rfl (fun hT => ?_)
      have H := H _ rfl
      exact g_weak (show gm_Lle [some _, some _] _ from ⟨rfl, ⟨rfl, trivial⟩⟩) H
theorem w_407_136 {m : Nat} {x1 : Int32} {h : hh_T} {Q : Option Value ⊕ Nat → hh_T → Prop} (hT : tw_ok h m) (H : gm_G 407 107 [some (.ref m), some (.int (x1 + (Int32.ofNat 1)))] [] h Q) : gm_G 407 136 [some (.ref m), some (.int x1)] [] h Q := by
  refine g_iinc (c := (Int32.ofNat 1)) rfl rfl rfl rfl rfl (pc' := 139) ?_
  refine g_goto rfl (pc' := 107) rfl ?_
  exact g_weak (show gm_Lle [some _, some _] _ from ⟨rfl, ⟨rfl, trivial⟩⟩) H
theorem w_407_144 {m : Nat} {x1 : Int32} {h : hh_T} {Q : Option Value ⊕ Nat → hh_T → Prop} (hT : tw_ok h m) (H : (¬ x1 < (Int32.ofNat 1152) → (gm_G 407 166 [some (.ref m), some (.int (Int32.ofNat 0))] [] h Q)) ∧ (x1 < (Int32.ofNat 1152) → (∃ n1, gm_ix x1 n1 1152 ∧ (∀ h2, h2 = hh_wi h (m + 27) n1 (Int32.ofNat 0) → (gm_G 407 144 [some (.ref m), some (.int (x1 + (Int32.ofNat 1)))] [] h2 Q))))) : gm_G 407 144 [some (.ref m), some (.int x1)] [] h Q := by
  refine g_iload rfl rfl rfl (pc' := 145) ?_
  refine g_iconst rfl rfl rfl (pc' := 148) ?_
  refine g_ic_ge rfl (pc' := 151) (pt := 164) rfl rfl ⟨fun hc => ?_, fun hc => ?_⟩
  · have H := H.1 hc
    refine g_iconst rfl rfl rfl (pc' := 165) ?_
    refine g_istore rfl rfl rfl (pc' := 166) ?_
    exact g_weak (show gm_Lle [some _, some _] _ from ⟨rfl, ⟨rfl, trivial⟩⟩) H
  · have H := H.2 hc
    refine g_aload (r := some _) rfl rfl rfl (pc' := 152) ?_
    refine t_get (o := 27) rfl hT rfl rfl rfl (pc' := 155) rfl ?_
    refine g_iload rfl rfl rfl (pc' := 156) ?_
    refine g_iconst rfl rfl rfl (pc' := 157) ?_
    obtain ⟨n1, hn1, H⟩ := H
    refine t_zastore hT (o := 27) (l := 1152) rfl rfl rfl hn1 (by decide) (pc' := 158) rfl (fun hT => ?_)
    have H := H _ rfl
    refine g_iinc (c := (Int32.ofNat 1)) rfl rfl rfl rfl rfl (pc' := 161) ?_
    refine g_goto rfl (pc' := 144) rfl ?_
    exact g_weak (show gm_Lle [some _, some _] _ from ⟨rfl, ⟨rfl, trivial⟩⟩) H
theorem w_407_166 {m : Nat} {x1 : Int32} {h : hh_T} {Q : Option Value ⊕ Nat → hh_T → Prop} (hT : tw_ok h m) (H : (¬ x1 < (Int32.ofNat 640) → (Q (.inl none) h)) ∧ (x1 < (Int32.ofNat 640) → (∃ n1, gm_ix x1 n1 640 ∧ (((hh_i h (m + 17) n1) = Int32.ofNat 0 → (gm_G 407 200 [some (.ref m), some (.int x1)] [.int x1, .ref (m + 17)] h Q)) ∧ (¬ (hh_i h (m + 17) n1) = Int32.ofNat 0 → (∃ n2, gm_ix x1 n2 640 ∧ (((hh_i h (m + 18) n2) = Int32.ofNat 0 → (gm_G 407 200 [some (.ref m), some (.int x1)] [.int x1, .ref (m + 17)] h Q)) ∧ (¬ (hh_i h (m + 18) n2) = Int32.ofNat 0 → (gm_G 407 201 [some (.ref m), some (.int x1)] [.int (Int32.ofNat 1), .int x1, .ref (m + 17)] h Q))))))))) : gm_G 407 166 [some (.ref m), some (.int x1)] [] h Q := by
  refine g_iload rfl rfl rfl (pc' := 167) ?_
  refine g_iconst rfl rfl rfl (pc' := 170) ?_
  refine g_ic_ge rfl (pc' := 173) (pt := 241) rfl rfl ⟨fun hc => ?_, fun hc => ?_⟩
  · have H := H.1 hc
    exact g_return rfl H
  · have H := H.2 hc
    refine g_aload (r := some _) rfl rfl rfl (pc' := 174) ?_
    refine t_get (o := 17) rfl hT rfl rfl rfl (pc' := 177) rfl ?_
    refine g_iload rfl rfl rfl (pc' := 178) ?_
    refine g_aload (r := some _) rfl rfl rfl (pc' := 179) ?_
    refine t_get (o := 17) rfl hT rfl rfl rfl (pc' := 182) rfl ?_
    refine g_iload rfl rfl rfl (pc' := 183) ?_
    obtain ⟨n1, hn1, H⟩ := H
    refine t_zaload hT (o := 17) (l := 640) rfl rfl rfl hn1 (pc' := 184) rfl ?_
    refine g_if_eq rfl (pc' := 187) (pt := 200) rfl rfl ⟨fun hc => ?_, fun hc => ?_⟩
    · have H := H.1 hc
      exact g_weak (show gm_Lle [some _, some _] _ from ⟨rfl, ⟨rfl, trivial⟩⟩) H
    · have H := H.2 hc
      refine g_aload (r := some _) rfl rfl rfl (pc' := 188) ?_
      refine t_get (o := 18) rfl hT rfl rfl rfl (pc' := 191) rfl ?_
      refine g_iload rfl rfl rfl (pc' := 192) ?_
      obtain ⟨n2, hn2, H⟩ := H
      refine t_zaload hT (o := 18) (l := 640) rfl rfl rfl hn2 (pc' := 193) rfl ?_
      refine g_if_eq rfl (pc' := 196) (pt := 200) rfl rfl ⟨fun hc => ?_, fun hc => ?_⟩
      · have H := H.1 hc
        exact g_weak (show gm_Lle [some _, some _] _ from ⟨rfl, ⟨rfl, trivial⟩⟩) H
      · have H := H.2 hc
        refine g_iconst rfl rfl rfl (pc' := 197) ?_
        refine g_goto rfl (pc' := 201) rfl ?_
        exact g_weak (show gm_Lle [some _, some _] _ from ⟨rfl, ⟨rfl, trivial⟩⟩) H
theorem w_407_200 {m : Nat} {x1 : Int32} {y0 : Int32} {h : hh_T} {Q : Option Value ⊕ Nat → hh_T → Prop} (hT : tw_ok h m) (H : gm_G 407 201 [some (.ref m), some (.int x1)] [.int (Int32.ofNat 0), .int y0, .ref (m + 17)] h Q) : gm_G 407 200 [some (.ref m), some (.int x1)] [.int y0, .ref (m + 17)] h Q := by
  refine g_iconst rfl rfl rfl (pc' := 201) ?_
  exact g_weak (show gm_Lle [some _, some _] _ from ⟨rfl, ⟨rfl, trivial⟩⟩) H
theorem w_407_201 {m : Nat} {x1 : Int32} {y0 : Int32} {y1 : Int32} {h : hh_T} {Q : Option Value ⊕ Nat → hh_T → Prop} (hT : tw_ok h m) (H : ∃ n1, gm_ix y1 n1 640 ∧ ((y0 = 0 ∨ y0 = 1) ∧ (∀ h2, h2 = hh_wi h (m + 17) n1 y0 → (gm_G 407 204 [some (.ref m), some (.int x1), some (.int (Int32.ofNat 0))] [] h2 Q)))) : gm_G 407 201 [some (.ref m), some (.int x1)] [.int y0, .int y1, .ref (m + 17)] h Q := by
  obtain ⟨n1, hn1, H⟩ := H
  obtain ⟨Hz, H⟩ := H
  refine t_zastore hT (o := 17) (l := 640) rfl rfl rfl hn1 Hz (pc' := 202) rfl (fun hT => ?_)
  have H := H _ rfl
  refine g_iconst rfl rfl rfl (pc' := 203) ?_
  refine g_istore rfl rfl rfl (pc' := 204) ?_
  exact g_weak (show gm_Lle [some _, some _, some _] _ from ⟨rfl, ⟨rfl, ⟨rfl, trivial⟩⟩⟩) H
theorem w_407_204 {m : Nat} {x1 : Int32} {x2 : Int32} {h : hh_T} {Q : Option Value ⊕ Nat → hh_T → Prop} (hT : tw_ok h m) (H : ∃ n1, gm_ix x1 n1 640 ∧ (((hh_i h (m + 18) n1) = Int32.ofNat 0 → (gm_G 407 235 [some (.ref m), some (.int x1)] [] h Q)) ∧ (¬ (hh_i h (m + 18) n1) = Int32.ofNat 0 → (∃ n2, gm_ix x1 n2 640 ∧ ((¬ x2 < (hh_i h (m + 22) n2) → (gm_G 407 235 [some (.ref m), some (.int x1)] [] h Q)) ∧ (x2 < (hh_i h (m + 22) n2) → (gm_G 303 0 [some (.ref m), some (.int x1), some (.int x2)] [] h (pV (fun h3 => gm_G 407 204 [some (.ref m), some (.int x1), some (.int (x2 + (Int32.ofNat 1)))] [] h3 Q) (fun _ _ => False))))))))) : gm_G 407 204 [some (.ref m), some (.int x1), some (.int x2)] [] h Q := by
  refine g_aload (r := some _) rfl rfl rfl (pc' := 205) ?_
  refine t_get (o := 18) rfl hT rfl rfl rfl (pc' := 208) rfl ?_
  refine g_iload rfl rfl rfl (pc' := 209) ?_
  obtain ⟨n1, hn1, H⟩ := H
  refine t_zaload hT (o := 18) (l := 640) rfl rfl rfl hn1 (pc' := 210) rfl ?_
  refine g_if_eq rfl (pc' := 213) (pt := 235) rfl rfl ⟨fun hc => ?_, fun hc => ?_⟩
  · have H := H.1 hc
    exact g_weak (show gm_Lle [some _, some _] _ from ⟨rfl, ⟨rfl, trivial⟩⟩) H
  · have H := H.2 hc
    refine g_iload rfl rfl rfl (pc' := 214) ?_
    refine g_aload (r := some _) rfl rfl rfl (pc' := 215) ?_
    refine t_get (o := 22) rfl hT rfl rfl rfl (pc' := 218) rfl ?_
    refine g_iload rfl rfl rfl (pc' := 219) ?_
    obtain ⟨n2, hn2, H⟩ := H
    refine t_iaload hT (o := 22) (l := 640) rfl rfl rfl hn2 (pc' := 220) rfl ?_
    refine g_ic_ge rfl (pc' := 223) (pt := 235) rfl rfl ⟨fun hc => ?_, fun hc => ?_⟩
    · have H := H.1 hc
      exact g_weak (show gm_Lle [some _, some _] _ from ⟨rfl, ⟨rfl, trivial⟩⟩) H
    · have H := H.2 hc
      refine g_aload (r := some _) rfl rfl rfl (pc' := 224) ?_
      refine g_iload rfl rfl rfl (pc' := 225) ?_
      refine g_iload rfl rfl rfl (pc' := 226) ?_
      refine t_call hT (y := 303) (n := 3) (pc' := 229) rfl rfl (t_vt hT rfl rfl) rfl rfl ⟨(Nat.le_of_ble_eq_true rfl), (Nat.le_of_ble_eq_true rfl), (Nat.le_of_ble_eq_true rfl)⟩ rfl H (tV_elim (fun h3 H hT => ?_))
      show gm_G _ 229 _ _ _ _
      refine g_iinc (c := (Int32.ofNat 1)) rfl rfl rfl rfl rfl (pc' := 232) ?_
      refine g_goto rfl (pc' := 204) rfl ?_
      exact g_weak (show gm_Lle [some _, some _, some _] _ from ⟨rfl, ⟨rfl, ⟨rfl, trivial⟩⟩⟩) H
theorem w_407_235 {m : Nat} {x1 : Int32} {h : hh_T} {Q : Option Value ⊕ Nat → hh_T → Prop} (hT : tw_ok h m) (H : gm_G 407 166 [some (.ref m), some (.int (x1 + (Int32.ofNat 1)))] [] h Q) : gm_G 407 235 [some (.ref m), some (.int x1)] [] h Q := by
  refine g_iinc (c := (Int32.ofNat 1)) rfl rfl rfl rfl rfl (pc' := 238) ?_
  refine g_goto rfl (pc' := 166) rfl ?_
  exact g_weak (show gm_Lle [some _, some _] _ from ⟨rfl, ⟨rfl, trivial⟩⟩) H
theorem w_408_0 {m : Nat} {b1 : Nat} {x2 : Int32} {x3 : Int32} {h : hh_T} {Q : Option Value ⊕ Nat → hh_T → Prop} (hT : tw_ok h m) (H : gm_G 408 6 [some (.ref m), some (.ref b1), some (.int x2), some (.int x3), some (.int (Int32.ofNat 1)), some (.int (Int32.ofNat 0))] [] h Q) : gm_G 408 0 [some (.ref m), some (.ref b1), some (.int x2), some (.int x3)] [] h Q := by
  refine g_iconst rfl rfl rfl (pc' := 1) ?_
  refine g_istore rfl rfl rfl (pc' := 3) ?_
  refine g_iconst rfl rfl rfl (pc' := 4) ?_
  refine g_istore rfl rfl rfl (pc' := 6) ?_
  exact g_weak (show gm_Lle [some _, some _, some _, some _, some _, some _] _ from ⟨rfl, ⟨rfl, ⟨rfl, ⟨rfl, ⟨rfl, ⟨rfl, trivial⟩⟩⟩⟩⟩⟩) H
theorem w_408_6 {m : Nat} {b1 : Nat} {x2 : Int32} {x3 : Int32} {x4 : Int32} {x5 : Int32} {h : hh_T} {Q : Option Value ⊕ Nat → hh_T → Prop} (hT : tw_ok h m) (H : (¬ x5 < (Int32.ofNat 32) → (∃ n1, gm_ix (hh_i h m 41) n1 136 ∧ (∀ h2, h2 = hh_wi h (m + 30) n1 (Int32.ofInt (-1)) → (∃ n3, gm_ix (hh_i h2 m 41) n3 136 ∧ (∀ h4, h4 = hh_wi h2 (m + 31) n3 (Int32.ofNat 0) → ((x4 = Int32.ofNat 0 → (gm_G 297 0 [some (.ref m), some (.int x3), some (.int (Int32.ofNat 0))] [] h4 (pI (fun v6 h5 => (¬ v6 = Int32.ofNat 0 → (gm_G 275 0 [some (.ref m), some (.ref b1), some (.int x2), some (.int v6)] [] h5 (pI (fun v8 h7 => gm_G 408 103 [some (.ref m), some (.ref b1), some (.int x2), some (.int x3), none, some (.int v6)] [.int v8] h7 Q) (fun _ _ => False)))) ∧ (v6 = Int32.ofNat 0 → (gm_G 408 103 [some (.ref m), some (.ref b1), some (.int x2), some (.int x3), none, some (.int v6)] [.int (Int32.ofNat 32)] h5 Q))) (fun _ _ => False)))) ∧ (¬ x4 = Int32.ofNat 0 → (∀ h9, h9 = hh_wi h4 m 41 ((hh_i h4 m 41) + (Int32.ofNat 1)) → (Q (.inl (some (.int (Int32.ofNat 1)))) h9))))))))) ∧ (x5 < (Int32.ofNat 32) → ((x4 = Int32.ofNat 0 → (gm_G 408 31 [some (.ref m), some (.ref b1), some (.int x2), some (.int x3), none, some (.int x5)] [] h Q)) ∧ (¬ x4 = Int32.ofNat 0 → ((hh_tg h b1 = 101 ∨ hh_tg h b1 = 102) ∧ (∃ n10, gm_ix (x2 + x5) n10 (hh_ln h b1) ∧ ((¬ (hh_i h b1 n10) = Int32.ofNat 0 → (gm_G 408 31 [some (.ref m), some (.ref b1), some (.int x2), some (.int x3), none, some (.int x5)] [] h Q)) ∧ ((hh_i h b1 n10) = Int32.ofNat 0 → (gm_G 408 32 [some (.ref m), some (.ref b1), some (.int x2), some (.int x3), none, some (.int x5)] [.int (Int32.ofNat 1)] h Q))))))))) : gm_G 408 6 [some (.ref m), some (.ref b1), some (.int x2), some (.int x3), some (.int x4), some (.int x5)] [] h Q := by
  refine g_iload rfl rfl rfl (pc' := 8) ?_
  refine g_iconst rfl rfl rfl (pc' := 10) ?_
  refine g_ic_ge rfl (pc' := 13) (pt := 40) rfl rfl ⟨fun hc => ?_, fun hc => ?_⟩
  · have H := H.1 hc
    refine g_aload (r := some _) rfl rfl rfl (pc' := 41) ?_
    refine t_get (o := 30) rfl hT rfl rfl rfl (pc' := 44) rfl ?_
    refine g_aload (r := some _) rfl rfl rfl (pc' := 45) ?_
    refine t_getI rfl hT rfl rfl (pc' := 48) rfl ?_
    refine g_iconst rfl rfl rfl (pc' := 49) ?_
    obtain ⟨n1, hn1, H⟩ := H
    refine t_iastore hT (o := 30) (l := 136) rfl rfl rfl hn1  (pc' := 50) rfl (fun hT => ?_)
    have H := H _ rfl
    refine g_aload (r := some _) rfl rfl rfl (pc' := 51) ?_
    refine t_get (o := 31) rfl hT rfl rfl rfl (pc' := 54) rfl ?_
    refine g_aload (r := some _) rfl rfl rfl (pc' := 55) ?_
    refine t_getI rfl hT rfl rfl (pc' := 58) rfl ?_
    refine g_iconst rfl rfl rfl (pc' := 59) ?_
    obtain ⟨n3, hn3, H⟩ := H
    refine t_zastore hT (o := 31) (l := 136) rfl rfl rfl hn3 (by decide) (pc' := 60) rfl (fun hT => ?_)
    have H := H _ rfl
    refine g_iload rfl rfl rfl (pc' := 62) ?_
    refine g_if_eq rfl (pc' := 65) (pt := 77) rfl rfl ⟨fun hc => ?_, fun hc => ?_⟩
    · have H := H.1 hc
      refine g_aload (r := some _) rfl rfl rfl (pc' := 78) ?_
      refine g_iload rfl rfl rfl (pc' := 79) ?_
      refine g_iconst rfl rfl rfl (pc' := 80) ?_
      refine t_call hT (y := 297) (n := 3) (pc' := 83) rfl rfl (t_vt hT rfl rfl) rfl rfl ⟨(Nat.le_of_ble_eq_true rfl), (Nat.le_of_ble_eq_true rfl), (Nat.le_of_ble_eq_true rfl)⟩ rfl H (tI_elim (fun v6 h5 H hT => ?_))
      show gm_G _ 83 _ _ _ _
      refine g_istore rfl rfl rfl (pc' := 85) ?_
      refine g_iload rfl rfl rfl (pc' := 87) ?_
      refine g_if_ne rfl (pc' := 90) (pt := 95) rfl rfl ⟨fun hc => ?_, fun hc => ?_⟩
      · have H := H.1 hc
        refine g_aload (r := some _) rfl rfl rfl (pc' := 96) ?_
        refine g_aload (r := some _) rfl rfl rfl (pc' := 97) ?_
        refine g_iload rfl rfl rfl (pc' := 98) ?_
        refine g_iload rfl rfl rfl (pc' := 100) ?_
        refine t_call hT (y := 275) (n := 4) (pc' := 103) rfl rfl (t_vt hT rfl rfl) rfl rfl ⟨(Nat.le_of_ble_eq_true rfl), (Nat.le_of_ble_eq_true rfl), (Nat.le_of_ble_eq_true rfl)⟩ rfl H (tI_elim (fun v8 h7 H hT => ?_))
        show gm_G _ 103 _ _ _ _
        exact g_weak (show gm_Lle [some _, some _, some _, some _, none, some _] _ from ⟨rfl, ⟨rfl, ⟨rfl, ⟨rfl, ⟨rfl, trivial⟩⟩⟩⟩⟩) H
      · have H := H.2 hc
        refine g_iconst rfl rfl rfl (pc' := 92) ?_
        refine g_goto rfl (pc' := 103) rfl ?_
        exact g_weak (show gm_Lle [some _, some _, some _, some _, none, some _] _ from ⟨rfl, ⟨rfl, ⟨rfl, ⟨rfl, ⟨rfl, trivial⟩⟩⟩⟩⟩) H
    · have H := H.2 hc
      refine g_aload (r := some _) rfl rfl rfl (pc' := 66) ?_
      refine g_dup_a (r := some _) rfl rfl (pc' := 67) ?_
      refine t_getI rfl hT rfl rfl (pc' := 70) rfl ?_
      refine g_iconst rfl rfl rfl (pc' := 71) ?_
      refine g_iadd rfl rfl (pc' := 72) ?_
      refine t_putI rfl hT rfl rfl  (pc' := 75) rfl (fun hT => ?_)
      have H := H _ rfl
      refine g_iconst rfl rfl rfl (pc' := 76) ?_
      exact g_ireturn rfl (Or.inr (by decide)) H
  · have H := H.2 hc
    refine g_iload rfl rfl rfl (pc' := 15) ?_
    refine g_if_eq rfl (pc' := 18) (pt := 31) rfl rfl ⟨fun hc => ?_, fun hc => ?_⟩
    · have H := H.1 hc
      exact g_weak (show gm_Lle [some _, some _, some _, some _, none, some _] _ from ⟨rfl, ⟨rfl, ⟨rfl, ⟨rfl, ⟨rfl, trivial⟩⟩⟩⟩⟩) H
    · have H := H.2 hc
      refine g_aload (r := some _) rfl rfl rfl (pc' := 19) ?_
      refine g_iload rfl rfl rfl (pc' := 20) ?_
      refine g_iload rfl rfl rfl (pc' := 22) ?_
      refine g_iadd rfl rfl (pc' := 23) ?_
      obtain ⟨ht11, H⟩ := H
      obtain ⟨n10, hn10, H⟩ := H
      refine g_baload rfl ht11 hn10 (pc' := 24) rfl ?_
      refine g_if_ne rfl (pc' := 27) (pt := 31) rfl rfl ⟨fun hc => ?_, fun hc => ?_⟩
      · have H := H.1 hc
        exact g_weak (show gm_Lle [some _, some _, some _, some _, none, some _] _ from ⟨rfl, ⟨rfl, ⟨rfl, ⟨rfl, ⟨rfl, trivial⟩⟩⟩⟩⟩) H
      · have H := H.2 hc
        refine g_iconst rfl rfl rfl (pc' := 28) ?_
        refine g_goto rfl (pc' := 32) rfl ?_
        exact g_weak (show gm_Lle [some _, some _, some _, some _, none, some _] _ from ⟨rfl, ⟨rfl, ⟨rfl, ⟨rfl, ⟨rfl, trivial⟩⟩⟩⟩⟩) H
theorem w_408_31 {m : Nat} {b1 : Nat} {x2 : Int32} {x3 : Int32} {x5 : Int32} {h : hh_T} {Q : Option Value ⊕ Nat → hh_T → Prop} (hT : tw_ok h m) (H : gm_G 408 32 [some (.ref m), some (.ref b1), some (.int x2), some (.int x3), none, some (.int x5)] [.int (Int32.ofNat 0)] h Q) : gm_G 408 31 [some (.ref m), some (.ref b1), some (.int x2), some (.int x3), none, some (.int x5)] [] h Q := by
  refine g_iconst rfl rfl rfl (pc' := 32) ?_
  exact g_weak (show gm_Lle [some _, some _, some _, some _, none, some _] _ from ⟨rfl, ⟨rfl, ⟨rfl, ⟨rfl, ⟨rfl, trivial⟩⟩⟩⟩⟩) H
theorem w_408_32 {m : Nat} {b1 : Nat} {x2 : Int32} {x3 : Int32} {x5 : Int32} {y0 : Int32} {h : hh_T} {Q : Option Value ⊕ Nat → hh_T → Prop} (hT : tw_ok h m) (H : gm_G 408 6 [some (.ref m), some (.ref b1), some (.int x2), some (.int x3), some (.int y0), some (.int (x5 + (Int32.ofNat 1)))] [] h Q) : gm_G 408 32 [some (.ref m), some (.ref b1), some (.int x2), some (.int x3), none, some (.int x5)] [.int y0] h Q := by
  refine g_istore rfl rfl rfl (pc' := 34) ?_
  refine g_iinc (c := (Int32.ofNat 1)) rfl rfl rfl rfl rfl (pc' := 37) ?_
  refine g_goto rfl (pc' := 6) rfl ?_
  exact g_weak (show gm_Lle [some _, some _, some _, some _, some _, some _] _ from ⟨rfl, ⟨rfl, ⟨rfl, ⟨rfl, ⟨rfl, ⟨rfl, trivial⟩⟩⟩⟩⟩⟩) H
theorem w_408_103 {m : Nat} {b1 : Nat} {x2 : Int32} {x3 : Int32} {x5 : Int32} {y0 : Int32} {h : hh_T} {Q : Option Value ⊕ Nat → hh_T → Prop} (hT : tw_ok h m) (H : (x5 = Int32.ofNat 0 → (gm_G 408 117 [some (.ref m), some (.ref b1), some (.int x2), some (.int x3)] [] h Q)) ∧ (¬ x5 = Int32.ofNat 0 → ((¬ (Int32.ofNat 24) < y0 → (gm_G 408 153 [some (.ref m), none, none, some (.int x3), none, some (.int x5), some (.int y0)] [] h Q)) ∧ ((Int32.ofNat 24) < y0 → (gm_G 408 117 [some (.ref m), some (.ref b1), some (.int x2), some (.int x3)] [] h Q))))) : gm_G 408 103 [some (.ref m), some (.ref b1), some (.int x2), some (.int x3), none, some (.int x5)] [.int y0] h Q := by
  refine g_istore rfl rfl rfl (pc' := 105) ?_
  refine g_iload rfl rfl rfl (pc' := 107) ?_
  refine g_if_eq rfl (pc' := 110) (pt := 117) rfl rfl ⟨fun hc => ?_, fun hc => ?_⟩
  · have H := H.1 hc
    exact g_weak (show gm_Lle [some _, some _, some _, some _] _ from ⟨rfl, ⟨rfl, ⟨rfl, ⟨rfl, trivial⟩⟩⟩⟩) H
  · have H := H.2 hc
    refine g_iload rfl rfl rfl (pc' := 112) ?_
    refine g_iconst rfl rfl rfl (pc' := 114) ?_
    refine g_ic_le rfl (pc' := 117) (pt := 153) rfl rfl ⟨fun hc => ?_, fun hc => ?_⟩
    · have H := H.1 hc
      exact g_weak (show gm_Lle [some _, none, none, some _, none, some _, some _] _ from ⟨rfl, ⟨rfl, ⟨rfl, ⟨rfl, trivial⟩⟩⟩⟩) H
    · have H := H.2 hc
      exact g_weak (show gm_Lle [some _, some _, some _, some _] _ from ⟨rfl, ⟨rfl, ⟨rfl, ⟨rfl, trivial⟩⟩⟩⟩) H
theorem w_408_117 {m : Nat} {b1 : Nat} {x2 : Int32} {x3 : Int32} {h : hh_T} {Q : Option Value ⊕ Nat → hh_T → Prop} (hT : tw_ok h m) (H : gm_G 408 127 [some (.ref m), some (.ref b1), some (.int x2), some (.int x3), none, some (.int (Int32.ofNat 0)), some (.int (Int32.ofNat 32)), some (.int (Int32.ofNat 0))] [] h Q) : gm_G 408 117 [some (.ref m), some (.ref b1), some (.int x2), some (.int x3)] [] h Q := by
  refine g_iconst rfl rfl rfl (pc' := 118) ?_
  refine g_istore rfl rfl rfl (pc' := 120) ?_
  refine g_iconst rfl rfl rfl (pc' := 122) ?_
  refine g_istore rfl rfl rfl (pc' := 124) ?_
  refine g_iconst rfl rfl rfl (pc' := 125) ?_
  refine g_istore rfl rfl rfl (pc' := 127) ?_
  exact g_weak (show gm_Lle [some _, some _, some _, some _, none, some _, some _, some _] _ from ⟨rfl, ⟨rfl, ⟨rfl, ⟨rfl, ⟨rfl, ⟨rfl, ⟨rfl, trivial⟩⟩⟩⟩⟩⟩⟩) H
theorem w_408_127 {m : Nat} {b1 : Nat} {x2 : Int32} {x3 : Int32} {x5 : Int32} {x6 : Int32} {x7 : Int32} {h : hh_T} {Q : Option Value ⊕ Nat → hh_T → Prop} (hT : tw_ok h m) (H : (¬ x7 < (Int32.ofNat 32) → (gm_G 408 153 [some (.ref m), none, none, some (.int x3), none, some (.int x5), some (.int x6)] [] h Q)) ∧ (x7 < (Int32.ofNat 32) → ((hh_tg h b1 = 101 ∨ hh_tg h b1 = 102) ∧ (∃ n1, gm_ix (x2 + x7) n1 (hh_ln h b1) ∧ (∃ n3, gm_ix x7 n3 80 ∧ (∀ h4, h4 = hh_wi h (m + 28) n3 ((hh_i h b1 n1).toInt8.toInt32) → (gm_G 408 127 [some (.ref m), some (.ref b1), some (.int x2), some (.int x3), none, some (.int x5), some (.int x6), some (.int (x7 + (Int32.ofNat 1)))] [] h4 Q))))))) : gm_G 408 127 [some (.ref m), some (.ref b1), some (.int x2), some (.int x3), none, some (.int x5), some (.int x6), some (.int x7)] [] h Q := by
  refine g_iload rfl rfl rfl (pc' := 129) ?_
  refine g_iconst rfl rfl rfl (pc' := 131) ?_
  refine g_ic_ge rfl (pc' := 134) (pt := 153) rfl rfl ⟨fun hc => ?_, fun hc => ?_⟩
  · have H := H.1 hc
    exact g_weak (show gm_Lle [some _, none, none, some _, none, some _, some _] _ from ⟨rfl, ⟨rfl, ⟨rfl, ⟨rfl, trivial⟩⟩⟩⟩) H
  · have H := H.2 hc
    refine g_aload (r := some _) rfl rfl rfl (pc' := 135) ?_
    refine t_get (o := 28) rfl hT rfl rfl rfl (pc' := 138) rfl ?_
    refine g_iload rfl rfl rfl (pc' := 140) ?_
    refine g_aload (r := some _) rfl rfl rfl (pc' := 141) ?_
    refine g_iload rfl rfl rfl (pc' := 142) ?_
    refine g_iload rfl rfl rfl (pc' := 144) ?_
    refine g_iadd rfl rfl (pc' := 145) ?_
    obtain ⟨ht2, H⟩ := H
    obtain ⟨n1, hn1, H⟩ := H
    refine g_baload rfl ht2 hn1 (pc' := 146) rfl ?_
    obtain ⟨n3, hn3, H⟩ := H
    refine t_bastore hT (o := 28) (l := 80) rfl rfl rfl hn3  (pc' := 147) rfl (fun hT => ?_)
    have H := H _ rfl
    refine g_iinc (c := (Int32.ofNat 1)) rfl rfl rfl rfl rfl (pc' := 150) ?_
    refine g_goto rfl (pc' := 127) rfl ?_
    exact g_weak (show gm_Lle [some _, some _, some _, some _, none, some _, some _, some _] _ from ⟨rfl, ⟨rfl, ⟨rfl, ⟨rfl, ⟨rfl, ⟨rfl, ⟨rfl, trivial⟩⟩⟩⟩⟩⟩⟩) H
theorem w_408_153 {m : Nat} {x3 : Int32} {x5 : Int32} {x6 : Int32} {h : hh_T} {Q : Option Value ⊕ Nat → hh_T → Prop} (hT : tw_ok h m) (H : gm_G 408 167 [some (.ref m), none, none, some (.int x3), none, some (.int x5), none, some (.int ((x6 + (Int32.ofNat 7)) / (Int32.ofNat 8))), some (.int x6)] [] h Q) : gm_G 408 153 [some (.ref m), none, none, some (.int x3), none, some (.int x5), some (.int x6)] [] h Q := by
  refine g_iload rfl rfl rfl (pc' := 155) ?_
  refine g_iconst rfl rfl rfl (pc' := 157) ?_
  refine g_iadd rfl rfl (pc' := 158) ?_
  refine g_iconst rfl rfl rfl (pc' := 160) ?_
  refine g_idiv rfl (by decide) (pc' := 161) rfl ?_
  refine g_istore rfl rfl rfl (pc' := 163) ?_
  refine g_iload rfl rfl rfl (pc' := 165) ?_
  refine g_istore rfl rfl rfl (pc' := 167) ?_
  exact g_weak (show gm_Lle [some _, none, none, some _, none, some _, none, some _, some _] _ from ⟨rfl, ⟨rfl, ⟨rfl, ⟨rfl, ⟨rfl, trivial⟩⟩⟩⟩⟩) H
theorem w_408_167 {m : Nat} {x3 : Int32} {x5 : Int32} {x7 : Int32} {x8 : Int32} {h : hh_T} {Q : Option Value ⊕ Nat → hh_T → Prop} (hT : tw_ok h m) (H : (¬ x8 < ((Int32.ofNat 8) * x7) → (gm_G 297 0 [some (.ref m), some (.int x3), some (.int (Int32.ofNat 2))] [] h (pI (fun v2 h1 => (¬ v2 = (Int32.ofNat 1) → (gm_G 408 206 [some (.ref m), none, none, some (.int x3), none, some (.int x5), none, some (.int x7)] [.int (Int32.ofNat 0)] h1 Q)) ∧ (v2 = (Int32.ofNat 1) → (gm_G 408 206 [some (.ref m), none, none, some (.int x3), none, some (.int x5), none, some (.int x7)] [.int (Int32.ofNat 1)] h1 Q))) (fun _ _ => False)))) ∧ (x8 < ((Int32.ofNat 8) * x7) → (∃ n3, gm_ix x8 n3 80 ∧ (∀ h4, h4 = hh_wi h (m + 28) n3 ((Int32.ofNat 0).toInt8.toInt32) → (gm_G 408 167 [some (.ref m), none, none, some (.int x3), none, some (.int x5), none, some (.int x7), some (.int (x8 + (Int32.ofNat 1)))] [] h4 Q))))) : gm_G 408 167 [some (.ref m), none, none, some (.int x3), none, some (.int x5), none, some (.int x7), some (.int x8)] [] h Q := by
  refine g_iload rfl rfl rfl (pc' := 169) ?_
  refine g_iconst rfl rfl rfl (pc' := 171) ?_
  refine g_iload rfl rfl rfl (pc' := 173) ?_
  refine g_imul rfl rfl (pc' := 174) ?_
  refine g_ic_ge rfl (pc' := 177) (pt := 191) rfl rfl ⟨fun hc => ?_, fun hc => ?_⟩
  · have H := H.1 hc
    refine g_aload (r := some _) rfl rfl rfl (pc' := 192) ?_
    refine g_iload rfl rfl rfl (pc' := 193) ?_
    refine g_iconst rfl rfl rfl (pc' := 194) ?_
    refine t_call hT (y := 297) (n := 3) (pc' := 197) rfl rfl (t_vt hT rfl rfl) rfl rfl ⟨(Nat.le_of_ble_eq_true rfl), (Nat.le_of_ble_eq_true rfl), (Nat.le_of_ble_eq_true rfl)⟩ rfl H (tI_elim (fun v2 h1 H hT => ?_))
    show gm_G _ 197 _ _ _ _
    refine g_iconst rfl rfl rfl (pc' := 198) ?_
    refine g_ic_ne rfl (pc' := 201) (pt := 205) rfl rfl ⟨fun hc => ?_, fun hc => ?_⟩
    · have H := H.1 hc
      refine g_iconst rfl rfl rfl (pc' := 206) ?_
      exact g_weak (show gm_Lle [some _, none, none, some _, none, some _, none, some _] _ from ⟨rfl, ⟨rfl, ⟨rfl, ⟨rfl, trivial⟩⟩⟩⟩) H
    · have H := H.2 hc
      refine g_iconst rfl rfl rfl (pc' := 202) ?_
      refine g_goto rfl (pc' := 206) rfl ?_
      exact g_weak (show gm_Lle [some _, none, none, some _, none, some _, none, some _] _ from ⟨rfl, ⟨rfl, ⟨rfl, ⟨rfl, trivial⟩⟩⟩⟩) H
  · have H := H.2 hc
    refine g_aload (r := some _) rfl rfl rfl (pc' := 178) ?_
    refine t_get (o := 28) rfl hT rfl rfl rfl (pc' := 181) rfl ?_
    refine g_iload rfl rfl rfl (pc' := 183) ?_
    refine g_iconst rfl rfl rfl (pc' := 184) ?_
    obtain ⟨n3, hn3, H⟩ := H
    refine t_bastore hT (o := 28) (l := 80) rfl rfl rfl hn3  (pc' := 185) rfl (fun hT => ?_)
    have H := H _ rfl
    refine g_iinc (c := (Int32.ofNat 1)) rfl rfl rfl rfl rfl (pc' := 188) ?_
    refine g_goto rfl (pc' := 167) rfl ?_
    exact g_weak (show gm_Lle [some _, none, none, some _, none, some _, none, some _, some _] _ from ⟨rfl, ⟨rfl, ⟨rfl, ⟨rfl, ⟨rfl, trivial⟩⟩⟩⟩⟩) H
theorem w_408_206 {m : Nat} {x3 : Int32} {x5 : Int32} {x7 : Int32} {y0 : Int32} {h : hh_T} {Q : Option Value ⊕ Nat → hh_T → Prop} (hT : tw_ok h m) (H : gm_G 408 211 [some (.ref m), none, none, some (.int x3), none, some (.int x5), none, some (.int x7), some (.int y0), some (.int (Int32.ofNat 0))] [] h Q) : gm_G 408 206 [some (.ref m), none, none, some (.int x3), none, some (.int x5), none, some (.int x7)] [.int y0] h Q := by
  refine g_istore rfl rfl rfl (pc' := 208) ?_
  refine g_iconst rfl rfl rfl (pc' := 209) ?_
  refine g_istore rfl rfl rfl (pc' := 211) ?_
  exact g_weak (show gm_Lle [some _, none, none, some _, none, some _, none, some _, some _, some _] _ from ⟨rfl, ⟨rfl, ⟨rfl, ⟨rfl, ⟨rfl, ⟨rfl, trivial⟩⟩⟩⟩⟩⟩) H
theorem w_408_211 {m : Nat} {x3 : Int32} {x5 : Int32} {x7 : Int32} {x8 : Int32} {x9 : Int32} {h : hh_T} {Q : Option Value ⊕ Nat → hh_T → Prop} (hT : tw_ok h m) (H : (x8 = Int32.ofNat 0 → (gm_G 408 382 [some (.ref m), none, none, some (.int x3), none, some (.int x5), none, some (.int x7), some (.int x8)] [] h Q)) ∧ (¬ x8 = Int32.ofNat 0 → ((¬ x9 < (Int32.ofNat 640) → (gm_G 408 382 [some (.ref m), none, none, some (.int x3), none, some (.int x5), none, some (.int x7), some (.int x8)] [] h Q)) ∧ (x9 < (Int32.ofNat 640) → (∃ n1, gm_ix x9 n1 640 ∧ (((hh_i h (m + 17) n1) = Int32.ofNat 0 → (gm_G 408 376 [some (.ref m), none, none, some (.int x3), none, some (.int x5), none, some (.int x7), some (.int x8), some (.int x9)] [] h Q)) ∧ (¬ (hh_i h (m + 17) n1) = Int32.ofNat 0 → (∃ n2, gm_ix x9 n2 640 ∧ (((hh_i h (m + 18) n2) = Int32.ofNat 0 → (gm_G 408 376 [some (.ref m), none, none, some (.int x3), none, some (.int x5), none, some (.int x7), some (.int x8), some (.int x9)] [] h Q)) ∧ (¬ (hh_i h (m + 18) n2) = Int32.ofNat 0 → (∃ n3, gm_ix x9 n3 640 ∧ (((hh_i h (m + 19) n3) = Int32.ofNat 0 → (gm_G 408 376 [some (.ref m), none, none, some (.int x3), none, some (.int x5), none, some (.int x7), some (.int x8), some (.int x9)] [] h Q)) ∧ (¬ (hh_i h (m + 19) n3) = Int32.ofNat 0 → (∃ n4, gm_ix x9 n4 640 ∧ ((¬ (hh_i h (m + 20) n4) = x5 → (gm_G 408 376 [some (.ref m), none, none, some (.int x3), none, some (.int x5), none, some (.int x7), some (.int x8), some (.int x9)] [] h Q)) ∧ ((hh_i h (m + 20) n4) = x5 → (∃ n5, gm_ix x9 n5 640 ∧ (((hh_i h (m + 21) n5) = x7 → (gm_G 408 287 [some (.ref m), none, none, some (.int x3), none, some (.int x5), none, some (.int x7), some (.int x8), some (.int x9), some (.int (Int32.ofNat 1)), some (.int (Int32.ofNat 0))] [] h Q)) ∧ (¬ (hh_i h (m + 21) n5) = x7 → (gm_G 408 376 [some (.ref m), none, none, some (.int x3), none, some (.int x5), none, some (.int x7), some (.int x8), some (.int x9)] [] h Q)))))))))))))))))))) : gm_G 408 211 [some (.ref m), none, none, some (.int x3), none, some (.int x5), none, some (.int x7), some (.int x8), some (.int x9)] [] h Q := by
  refine g_iload rfl rfl rfl (pc' := 213) ?_
  refine g_if_eq rfl (pc' := 216) (pt := 382) rfl rfl ⟨fun hc => ?_, fun hc => ?_⟩
  · have H := H.1 hc
    exact g_weak (show gm_Lle [some _, none, none, some _, none, some _, none, some _, some _] _ from ⟨rfl, ⟨rfl, ⟨rfl, ⟨rfl, ⟨rfl, trivial⟩⟩⟩⟩⟩) H
  · have H := H.2 hc
    refine g_iload rfl rfl rfl (pc' := 218) ?_
    refine g_iconst rfl rfl rfl (pc' := 221) ?_
    refine g_ic_ge rfl (pc' := 224) (pt := 382) rfl rfl ⟨fun hc => ?_, fun hc => ?_⟩
    · have H := H.1 hc
      exact g_weak (show gm_Lle [some _, none, none, some _, none, some _, none, some _, some _] _ from ⟨rfl, ⟨rfl, ⟨rfl, ⟨rfl, ⟨rfl, trivial⟩⟩⟩⟩⟩) H
    · have H := H.2 hc
      refine g_aload (r := some _) rfl rfl rfl (pc' := 225) ?_
      refine t_get (o := 17) rfl hT rfl rfl rfl (pc' := 228) rfl ?_
      refine g_iload rfl rfl rfl (pc' := 230) ?_
      obtain ⟨n1, hn1, H⟩ := H
      refine t_zaload hT (o := 17) (l := 640) rfl rfl rfl hn1 (pc' := 231) rfl ?_
      refine g_if_eq rfl (pc' := 234) (pt := 376) rfl rfl ⟨fun hc => ?_, fun hc => ?_⟩
      · have H := H.1 hc
        exact g_weak (show gm_Lle [some _, none, none, some _, none, some _, none, some _, some _, some _] _ from ⟨rfl, ⟨rfl, ⟨rfl, ⟨rfl, ⟨rfl, ⟨rfl, trivial⟩⟩⟩⟩⟩⟩) H
      · have H := H.2 hc
        refine g_aload (r := some _) rfl rfl rfl (pc' := 235) ?_
        refine t_get (o := 18) rfl hT rfl rfl rfl (pc' := 238) rfl ?_
        refine g_iload rfl rfl rfl (pc' := 240) ?_
        obtain ⟨n2, hn2, H⟩ := H
        refine t_zaload hT (o := 18) (l := 640) rfl rfl rfl hn2 (pc' := 241) rfl ?_
        refine g_if_eq rfl (pc' := 244) (pt := 376) rfl rfl ⟨fun hc => ?_, fun hc => ?_⟩
        · have H := H.1 hc
          exact g_weak (show gm_Lle [some _, none, none, some _, none, some _, none, some _, some _, some _] _ from ⟨rfl, ⟨rfl, ⟨rfl, ⟨rfl, ⟨rfl, ⟨rfl, trivial⟩⟩⟩⟩⟩⟩) H
        · have H := H.2 hc
          refine g_aload (r := some _) rfl rfl rfl (pc' := 245) ?_
          refine t_get (o := 19) rfl hT rfl rfl rfl (pc' := 248) rfl ?_
          refine g_iload rfl rfl rfl (pc' := 250) ?_
          obtain ⟨n3, hn3, H⟩ := H
          refine t_zaload hT (o := 19) (l := 640) rfl rfl rfl hn3 (pc' := 251) rfl ?_
          refine g_if_eq rfl (pc' := 254) (pt := 376) rfl rfl ⟨fun hc => ?_, fun hc => ?_⟩
          · have H := H.1 hc
            exact g_weak (show gm_Lle [some _, none, none, some _, none, some _, none, some _, some _, some _] _ from ⟨rfl, ⟨rfl, ⟨rfl, ⟨rfl, ⟨rfl, ⟨rfl, trivial⟩⟩⟩⟩⟩⟩) H
          · have H := H.2 hc
            refine g_aload (r := some _) rfl rfl rfl (pc' := 255) ?_
            refine t_get (o := 20) rfl hT rfl rfl rfl (pc' := 258) rfl ?_
            refine g_iload rfl rfl rfl (pc' := 260) ?_
            obtain ⟨n4, hn4, H⟩ := H
            refine t_iaload hT (o := 20) (l := 640) rfl rfl rfl hn4 (pc' := 261) rfl ?_
            refine g_iload rfl rfl rfl (pc' := 263) ?_
            refine g_ic_ne rfl (pc' := 266) (pt := 376) rfl rfl ⟨fun hc => ?_, fun hc => ?_⟩
            · have H := H.1 hc
              exact g_weak (show gm_Lle [some _, none, none, some _, none, some _, none, some _, some _, some _] _ from ⟨rfl, ⟨rfl, ⟨rfl, ⟨rfl, ⟨rfl, ⟨rfl, trivial⟩⟩⟩⟩⟩⟩) H
            · have H := H.2 hc
              refine g_aload (r := some _) rfl rfl rfl (pc' := 267) ?_
              refine t_get (o := 21) rfl hT rfl rfl rfl (pc' := 270) rfl ?_
              refine g_iload rfl rfl rfl (pc' := 272) ?_
              obtain ⟨n5, hn5, H⟩ := H
              refine t_iaload hT (o := 21) (l := 640) rfl rfl rfl hn5 (pc' := 273) rfl ?_
              refine g_iload rfl rfl rfl (pc' := 275) ?_
              refine g_ic_eq rfl (pc' := 278) (pt := 281) rfl rfl ⟨fun hc => ?_, fun hc => ?_⟩
              · have H := H.1 hc
                refine g_iconst rfl rfl rfl (pc' := 282) ?_
                refine g_istore rfl rfl rfl (pc' := 284) ?_
                refine g_iconst rfl rfl rfl (pc' := 285) ?_
                refine g_istore rfl rfl rfl (pc' := 287) ?_
                exact g_weak (show gm_Lle [some _, none, none, some _, none, some _, none, some _, some _, some _, some _, some _] _ from ⟨rfl, ⟨rfl, ⟨rfl, ⟨rfl, ⟨rfl, ⟨rfl, ⟨rfl, ⟨rfl, trivial⟩⟩⟩⟩⟩⟩⟩⟩) H
              · have H := H.2 hc
                refine g_goto rfl (pc' := 376) rfl ?_
                exact g_weak (show gm_Lle [some _, none, none, some _, none, some _, none, some _, some _, some _] _ from ⟨rfl, ⟨rfl, ⟨rfl, ⟨rfl, ⟨rfl, ⟨rfl, trivial⟩⟩⟩⟩⟩⟩) H
theorem w_408_287 {m : Nat} {x3 : Int32} {x5 : Int32} {x7 : Int32} {x8 : Int32} {x9 : Int32} {x10 : Int32} {x11 : Int32} {h : hh_T} {Q : Option Value ⊕ Nat → hh_T → Prop} (hT : tw_ok h m) (H : (¬ x11 < ((Int32.ofNat 8) * x7) → ((x10 = Int32.ofNat 0 → (gm_G 408 376 [some (.ref m), none, none, some (.int x3), none, some (.int x5), none, some (.int x7), some (.int x8), some (.int x9)] [] h Q)) ∧ (¬ x10 = Int32.ofNat 0 → (∃ n1, gm_ix (hh_i h m 41) n1 136 ∧ (∀ h2, h2 = hh_wi h (m + 30) n1 x9 → (∀ h3, h3 = hh_wi h2 m 41 ((hh_i h2 m 41) + (Int32.ofNat 1)) → (∀ h4, h4 = hh_wi h3 m 43 ((hh_i h3 m 43) + (Int32.ofNat 1)) → (Q (.inl (some (.int (Int32.ofNat 1)))) h4)))))))) ∧ (x11 < ((Int32.ofNat 8) * x7) → ((x10 = Int32.ofNat 0 → (gm_G 408 329 [some (.ref m), none, none, some (.int x3), none, some (.int x5), none, some (.int x7), some (.int x8), some (.int x9), none, some (.int x11)] [] h Q)) ∧ (¬ x10 = Int32.ofNat 0 → (∃ n5, gm_ix (((Int32.ofNat 32) * x9) + x11) n5 20480 ∧ (∃ n6, gm_ix x11 n6 80 ∧ ((¬ (hh_i h (m + 26) n5) = (hh_i h (m + 28) n6) → (gm_G 408 329 [some (.ref m), none, none, some (.int x3), none, some (.int x5), none, some (.int x7), some (.int x8), some (.int x9), none, some (.int x11)] [] h Q)) ∧ ((hh_i h (m + 26) n5) = (hh_i h (m + 28) n6) → (gm_G 408 330 [some (.ref m), none, none, some (.int x3), none, some (.int x5), none, some (.int x7), some (.int x8), some (.int x9), none, some (.int x11)] [.int (Int32.ofNat 1)] h Q))))))))) : gm_G 408 287 [some (.ref m), none, none, some (.int x3), none, some (.int x5), none, some (.int x7), some (.int x8), some (.int x9), some (.int x10), some (.int x11)] [] h Q := by
  refine g_iload rfl rfl rfl (pc' := 289) ?_
  refine g_iconst rfl rfl rfl (pc' := 291) ?_
  refine g_iload rfl rfl rfl (pc' := 293) ?_
  refine g_imul rfl rfl (pc' := 294) ?_
  refine g_ic_ge rfl (pc' := 297) (pt := 338) rfl rfl ⟨fun hc => ?_, fun hc => ?_⟩
  · have H := H.1 hc
    refine g_iload rfl rfl rfl (pc' := 340) ?_
    refine g_if_eq rfl (pc' := 343) (pt := 376) rfl rfl ⟨fun hc => ?_, fun hc => ?_⟩
    · have H := H.1 hc
      exact g_weak (show gm_Lle [some _, none, none, some _, none, some _, none, some _, some _, some _] _ from ⟨rfl, ⟨rfl, ⟨rfl, ⟨rfl, ⟨rfl, ⟨rfl, trivial⟩⟩⟩⟩⟩⟩) H
    · have H := H.2 hc
      refine g_aload (r := some _) rfl rfl rfl (pc' := 344) ?_
      refine t_get (o := 30) rfl hT rfl rfl rfl (pc' := 347) rfl ?_
      refine g_aload (r := some _) rfl rfl rfl (pc' := 348) ?_
      refine t_getI rfl hT rfl rfl (pc' := 351) rfl ?_
      refine g_iload rfl rfl rfl (pc' := 353) ?_
      obtain ⟨n1, hn1, H⟩ := H
      refine t_iastore hT (o := 30) (l := 136) rfl rfl rfl hn1  (pc' := 354) rfl (fun hT => ?_)
      have H := H _ rfl
      refine g_aload (r := some _) rfl rfl rfl (pc' := 355) ?_
      refine g_dup_a (r := some _) rfl rfl (pc' := 356) ?_
      refine t_getI rfl hT rfl rfl (pc' := 359) rfl ?_
      refine g_iconst rfl rfl rfl (pc' := 360) ?_
      refine g_iadd rfl rfl (pc' := 361) ?_
      refine t_putI rfl hT rfl rfl  (pc' := 364) rfl (fun hT => ?_)
      have H := H _ rfl
      refine g_aload (r := some _) rfl rfl rfl (pc' := 365) ?_
      refine g_dup_a (r := some _) rfl rfl (pc' := 366) ?_
      refine t_getI rfl hT rfl rfl (pc' := 369) rfl ?_
      refine g_iconst rfl rfl rfl (pc' := 370) ?_
      refine g_iadd rfl rfl (pc' := 371) ?_
      refine t_putI rfl hT rfl rfl  (pc' := 374) rfl (fun hT => ?_)
      have H := H _ rfl
      refine g_iconst rfl rfl rfl (pc' := 375) ?_
      exact g_ireturn rfl (Or.inr (by decide)) H
  · have H := H.2 hc
    refine g_iload rfl rfl rfl (pc' := 299) ?_
    refine g_if_eq rfl (pc' := 302) (pt := 329) rfl rfl ⟨fun hc => ?_, fun hc => ?_⟩
    · have H := H.1 hc
      exact g_weak (show gm_Lle [some _, none, none, some _, none, some _, none, some _, some _, some _, none, some _] _ from ⟨rfl, ⟨rfl, ⟨rfl, ⟨rfl, ⟨rfl, ⟨rfl, ⟨rfl, trivial⟩⟩⟩⟩⟩⟩⟩) H
    · have H := H.2 hc
      refine g_aload (r := some _) rfl rfl rfl (pc' := 303) ?_
      refine t_get (o := 26) rfl hT rfl rfl rfl (pc' := 306) rfl ?_
      refine g_iconst rfl rfl rfl (pc' := 308) ?_
      refine g_iload rfl rfl rfl (pc' := 310) ?_
      refine g_imul rfl rfl (pc' := 311) ?_
      refine g_iload rfl rfl rfl (pc' := 313) ?_
      refine g_iadd rfl rfl (pc' := 314) ?_
      obtain ⟨n5, hn5, H⟩ := H
      refine t_baload hT (o := 26) (l := 20480) rfl rfl rfl hn5 (pc' := 315) rfl ?_
      refine g_aload (r := some _) rfl rfl rfl (pc' := 316) ?_
      refine t_get (o := 28) rfl hT rfl rfl rfl (pc' := 319) rfl ?_
      refine g_iload rfl rfl rfl (pc' := 321) ?_
      obtain ⟨n6, hn6, H⟩ := H
      refine t_baload hT (o := 28) (l := 80) rfl rfl rfl hn6 (pc' := 322) rfl ?_
      refine g_ic_ne rfl (pc' := 325) (pt := 329) rfl rfl ⟨fun hc => ?_, fun hc => ?_⟩
      · have H := H.1 hc
        exact g_weak (show gm_Lle [some _, none, none, some _, none, some _, none, some _, some _, some _, none, some _] _ from ⟨rfl, ⟨rfl, ⟨rfl, ⟨rfl, ⟨rfl, ⟨rfl, ⟨rfl, trivial⟩⟩⟩⟩⟩⟩⟩) H
      · have H := H.2 hc
        refine g_iconst rfl rfl rfl (pc' := 326) ?_
        refine g_goto rfl (pc' := 330) rfl ?_
        exact g_weak (show gm_Lle [some _, none, none, some _, none, some _, none, some _, some _, some _, none, some _] _ from ⟨rfl, ⟨rfl, ⟨rfl, ⟨rfl, ⟨rfl, ⟨rfl, ⟨rfl, trivial⟩⟩⟩⟩⟩⟩⟩) H
theorem w_408_329 {m : Nat} {x3 : Int32} {x5 : Int32} {x7 : Int32} {x8 : Int32} {x9 : Int32} {x11 : Int32} {h : hh_T} {Q : Option Value ⊕ Nat → hh_T → Prop} (hT : tw_ok h m) (H : gm_G 408 330 [some (.ref m), none, none, some (.int x3), none, some (.int x5), none, some (.int x7), some (.int x8), some (.int x9), none, some (.int x11)] [.int (Int32.ofNat 0)] h Q) : gm_G 408 329 [some (.ref m), none, none, some (.int x3), none, some (.int x5), none, some (.int x7), some (.int x8), some (.int x9), none, some (.int x11)] [] h Q := by
  refine g_iconst rfl rfl rfl (pc' := 330) ?_
  exact g_weak (show gm_Lle [some _, none, none, some _, none, some _, none, some _, some _, some _, none, some _] _ from ⟨rfl, ⟨rfl, ⟨rfl, ⟨rfl, ⟨rfl, ⟨rfl, ⟨rfl, trivial⟩⟩⟩⟩⟩⟩⟩) H
theorem w_408_330 {m : Nat} {x3 : Int32} {x5 : Int32} {x7 : Int32} {x8 : Int32} {x9 : Int32} {x11 : Int32} {y0 : Int32} {h : hh_T} {Q : Option Value ⊕ Nat → hh_T → Prop} (hT : tw_ok h m) (H : gm_G 408 287 [some (.ref m), none, none, some (.int x3), none, some (.int x5), none, some (.int x7), some (.int x8), some (.int x9), some (.int y0), some (.int (x11 + (Int32.ofNat 1)))] [] h Q) : gm_G 408 330 [some (.ref m), none, none, some (.int x3), none, some (.int x5), none, some (.int x7), some (.int x8), some (.int x9), none, some (.int x11)] [.int y0] h Q := by
  refine g_istore rfl rfl rfl (pc' := 332) ?_
  refine g_iinc (c := (Int32.ofNat 1)) rfl rfl rfl rfl rfl (pc' := 335) ?_
  refine g_goto rfl (pc' := 287) rfl ?_
  exact g_weak (show gm_Lle [some _, none, none, some _, none, some _, none, some _, some _, some _, some _, some _] _ from ⟨rfl, ⟨rfl, ⟨rfl, ⟨rfl, ⟨rfl, ⟨rfl, ⟨rfl, ⟨rfl, trivial⟩⟩⟩⟩⟩⟩⟩⟩) H
theorem w_408_376 {m : Nat} {x3 : Int32} {x5 : Int32} {x7 : Int32} {x8 : Int32} {x9 : Int32} {h : hh_T} {Q : Option Value ⊕ Nat → hh_T → Prop} (hT : tw_ok h m) (H : gm_G 408 211 [some (.ref m), none, none, some (.int x3), none, some (.int x5), none, some (.int x7), some (.int x8), some (.int (x9 + (Int32.ofNat 1)))] [] h Q) : gm_G 408 376 [some (.ref m), none, none, some (.int x3), none, some (.int x5), none, some (.int x7), some (.int x8), some (.int x9)] [] h Q := by
  refine g_iinc (c := (Int32.ofNat 1)) rfl rfl rfl rfl rfl (pc' := 379) ?_
  refine g_goto rfl (pc' := 211) rfl ?_
  exact g_weak (show gm_Lle [some _, none, none, some _, none, some _, none, some _, some _, some _] _ from ⟨rfl, ⟨rfl, ⟨rfl, ⟨rfl, ⟨rfl, ⟨rfl, trivial⟩⟩⟩⟩⟩⟩) H
theorem w_408_382 {m : Nat} {x3 : Int32} {x5 : Int32} {x7 : Int32} {x8 : Int32} {h : hh_T} {Q : Option Value ⊕ Nat → hh_T → Prop} (hT : tw_ok h m) (H : gm_G 408 385 [some (.ref m), none, none, some (.int x3), none, some (.int x5), none, some (.int x7), some (.int x8), some (.int (Int32.ofNat 0))] [] h Q) : gm_G 408 382 [some (.ref m), none, none, some (.int x3), none, some (.int x5), none, some (.int x7), some (.int x8)] [] h Q := by
  refine g_iconst rfl rfl rfl (pc' := 383) ?_
  refine g_istore rfl rfl rfl (pc' := 385) ?_
  exact g_weak (show gm_Lle [some _, none, none, some _, none, some _, none, some _, some _, some _] _ from ⟨rfl, ⟨rfl, ⟨rfl, ⟨rfl, ⟨rfl, ⟨rfl, trivial⟩⟩⟩⟩⟩⟩) H
theorem w_408_385 {m : Nat} {x3 : Int32} {x5 : Int32} {x7 : Int32} {x8 : Int32} {x9 : Int32} {h : hh_T} {Q : Option Value ⊕ Nat → hh_T → Prop} (hT : tw_ok h m) (H : ∃ n1, gm_ix x9 n1 640 ∧ ((¬ (hh_i h (m + 17) n1) = Int32.ofNat 0 → (gm_G 408 405 [some (.ref m), none, none, some (.int x3), none, some (.int x5), none, some (.int x7), some (.int x8), some (.int x9)] [] h Q)) ∧ ((hh_i h (m + 17) n1) = Int32.ofNat 0 → (∃ n2, gm_ix x9 n2 640 ∧ (((hh_i h (m + 18) n2) = Int32.ofNat 0 → (gm_G 297 0 [some (.ref m), some (.int x3), some (.int (Int32.ofNat 1))] [] h (pI (fun v4 h3 => ∃ n5, gm_ix x9 n5 640 ∧ (∀ h6, h6 = hh_wi h3 (m + 22) n5 (Int32.ofNat 0) → (∃ n7, gm_ix x9 n7 640 ∧ (∀ h8, h8 = hh_wi h6 (m + 21) n7 x7 → (gm_G 408 439 [some (.ref m), none, none, none, none, some (.int x5), none, some (.int x7), some (.int x8), some (.int x9), some (.int v4), some (.int (Int32.ofNat 0))] [] h8 Q))))) (fun _ _ => False)))) ∧ (¬ (hh_i h (m + 18) n2) = Int32.ofNat 0 → (gm_G 408 405 [some (.ref m), none, none, some (.int x3), none, some (.int x5), none, some (.int x7), some (.int x8), some (.int x9)] [] h Q))))))) : gm_G 408 385 [some (.ref m), none, none, some (.int x3), none, some (.int x5), none, some (.int x7), some (.int x8), some (.int x9)] [] h Q := by
  refine g_aload (r := some _) rfl rfl rfl (pc' := 386) ?_
  refine t_get (o := 17) rfl hT rfl rfl rfl (pc' := 389) rfl ?_
  refine g_iload rfl rfl rfl (pc' := 391) ?_
  obtain ⟨n1, hn1, H⟩ := H
  refine t_zaload hT (o := 17) (l := 640) rfl rfl rfl hn1 (pc' := 392) rfl ?_
  refine g_if_ne rfl (pc' := 395) (pt := 405) rfl rfl ⟨fun hc => ?_, fun hc => ?_⟩
  · have H := H.1 hc
    exact g_weak (show gm_Lle [some _, none, none, some _, none, some _, none, some _, some _, some _] _ from ⟨rfl, ⟨rfl, ⟨rfl, ⟨rfl, ⟨rfl, ⟨rfl, trivial⟩⟩⟩⟩⟩⟩) H
  · have H := H.2 hc
    refine g_aload (r := some _) rfl rfl rfl (pc' := 396) ?_
    refine t_get (o := 18) rfl hT rfl rfl rfl (pc' := 399) rfl ?_
    refine g_iload rfl rfl rfl (pc' := 401) ?_
    obtain ⟨n2, hn2, H⟩ := H
    refine t_zaload hT (o := 18) (l := 640) rfl rfl rfl hn2 (pc' := 402) rfl ?_
    refine g_if_eq rfl (pc' := 405) (pt := 411) rfl rfl ⟨fun hc => ?_, fun hc => ?_⟩
    · have H := H.1 hc
      refine g_aload (r := some _) rfl rfl rfl (pc' := 412) ?_
      refine g_iload rfl rfl rfl (pc' := 413) ?_
      refine g_iconst rfl rfl rfl (pc' := 414) ?_
      refine t_call hT (y := 297) (n := 3) (pc' := 417) rfl rfl (t_vt hT rfl rfl) rfl rfl ⟨(Nat.le_of_ble_eq_true rfl), (Nat.le_of_ble_eq_true rfl), (Nat.le_of_ble_eq_true rfl)⟩ rfl H (tI_elim (fun v4 h3 H hT => ?_))
      show gm_G _ 417 _ _ _ _
      refine g_istore rfl rfl rfl (pc' := 419) ?_
      refine g_aload (r := some _) rfl rfl rfl (pc' := 420) ?_
      refine t_get (o := 22) rfl hT rfl rfl rfl (pc' := 423) rfl ?_
      refine g_iload rfl rfl rfl (pc' := 425) ?_
      refine g_iconst rfl rfl rfl (pc' := 426) ?_
      obtain ⟨n5, hn5, H⟩ := H
      refine t_iastore hT (o := 22) (l := 640) rfl rfl rfl hn5  (pc' := 427) rfl (fun hT => ?_)
      have H := H _ rfl
      refine g_aload (r := some _) rfl rfl rfl (pc' := 428) ?_
      refine t_get (o := 21) rfl hT rfl rfl rfl (pc' := 431) rfl ?_
      refine g_iload rfl rfl rfl (pc' := 433) ?_
      refine g_iload rfl rfl rfl (pc' := 435) ?_
      obtain ⟨n7, hn7, H⟩ := H
      refine t_iastore hT (o := 21) (l := 640) rfl rfl rfl hn7  (pc' := 436) rfl (fun hT => ?_)
      have H := H _ rfl
      refine g_iconst rfl rfl rfl (pc' := 437) ?_
      refine g_istore rfl rfl rfl (pc' := 439) ?_
      exact g_weak (show gm_Lle [some _, none, none, none, none, some _, none, some _, some _, some _, some _, some _] _ from ⟨rfl, ⟨rfl, ⟨rfl, ⟨rfl, ⟨rfl, ⟨rfl, ⟨rfl, trivial⟩⟩⟩⟩⟩⟩⟩) H
    · have H := H.2 hc
      exact g_weak (show gm_Lle [some _, none, none, some _, none, some _, none, some _, some _, some _] _ from ⟨rfl, ⟨rfl, ⟨rfl, ⟨rfl, ⟨rfl, ⟨rfl, trivial⟩⟩⟩⟩⟩⟩) H
theorem w_408_405 {m : Nat} {x3 : Int32} {x5 : Int32} {x7 : Int32} {x8 : Int32} {x9 : Int32} {h : hh_T} {Q : Option Value ⊕ Nat → hh_T → Prop} (hT : tw_ok h m) (H : gm_G 408 385 [some (.ref m), none, none, some (.int x3), none, some (.int x5), none, some (.int x7), some (.int x8), some (.int (x9 + (Int32.ofNat 1)))] [] h Q) : gm_G 408 405 [some (.ref m), none, none, some (.int x3), none, some (.int x5), none, some (.int x7), some (.int x8), some (.int x9)] [] h Q := by
  refine g_iinc (c := (Int32.ofNat 1)) rfl rfl rfl rfl rfl (pc' := 408) ?_
  refine g_goto rfl (pc' := 385) rfl ?_
  exact g_weak (show gm_Lle [some _, none, none, some _, none, some _, none, some _, some _, some _] _ from ⟨rfl, ⟨rfl, ⟨rfl, ⟨rfl, ⟨rfl, ⟨rfl, trivial⟩⟩⟩⟩⟩⟩) H
theorem w_408_439 {m : Nat} {x5 : Int32} {x7 : Int32} {x8 : Int32} {x9 : Int32} {x10 : Int32} {x11 : Int32} {h : hh_T} {Q : Option Value ⊕ Nat → hh_T → Prop} (hT : tw_ok h m) (H : (¬ x11 < x10 → (∃ n1, gm_ix x9 n1 640 ∧ (∀ h2, h2 = hh_wi h (m + 17) n1 (Int32.ofNat 1) → (∃ n3, gm_ix x9 n3 640 ∧ (∀ h4, h4 = hh_wi h2 (m + 18) n3 (Int32.ofNat 1) → (∃ n5, gm_ix x9 n5 640 ∧ ((x8 = 0 ∨ x8 = 1) ∧ (∀ h6, h6 = hh_wi h4 (m + 19) n5 x8 → (∃ n7, gm_ix x9 n7 640 ∧ (∀ h8, h8 = hh_wi h6 (m + 20) n7 x5 → (gm_G 408 602 [some (.ref m), none, none, none, none, none, none, some (.int x7), none, some (.int x9), none, some (.int (Int32.ofNat 0))] [] h8 Q))))))))))) ∧ (x11 < x10 → ((¬ x11 = (Int32.ofNat 1) → (gm_G 408 468 [some (.ref m), none, none, none, none, some (.int x5), none, some (.int x7), some (.int x8), some (.int x9), some (.int x10), some (.int x11)] [.int (Int32.ofInt (-1)), .int x7, .ref m] h Q)) ∧ (x11 = (Int32.ofNat 1) → (∃ n9, gm_ix ((Int32.ofNat 2) * x9) n9 1280 ∧ (gm_G 408 468 [some (.ref m), none, none, none, none, some (.int x5), none, some (.int x7), some (.int x8), some (.int x9), some (.int x10), some (.int x11)] [.int (hh_i h (m + 23) n9), .int x7, .ref m] h Q)))))) : gm_G 408 439 [some (.ref m), none, none, none, none, some (.int x5), none, some (.int x7), some (.int x8), some (.int x9), some (.int x10), some (.int x11)] [] h Q := by
  refine g_iload rfl rfl rfl (pc' := 441) ?_
  refine g_iload rfl rfl rfl (pc' := 443) ?_
  refine g_ic_ge rfl (pc' := 446) (pt := 565) rfl rfl ⟨fun hc => ?_, fun hc => ?_⟩
  · have H := H.1 hc
    refine g_aload (r := some _) rfl rfl rfl (pc' := 566) ?_
    refine t_get (o := 17) rfl hT rfl rfl rfl (pc' := 569) rfl ?_
    refine g_iload rfl rfl rfl (pc' := 571) ?_
    refine g_iconst rfl rfl rfl (pc' := 572) ?_
    obtain ⟨n1, hn1, H⟩ := H
    refine t_zastore hT (o := 17) (l := 640) rfl rfl rfl hn1 (by decide) (pc' := 573) rfl (fun hT => ?_)
    have H := H _ rfl
    refine g_aload (r := some _) rfl rfl rfl (pc' := 574) ?_
    refine t_get (o := 18) rfl hT rfl rfl rfl (pc' := 577) rfl ?_
    refine g_iload rfl rfl rfl (pc' := 579) ?_
    refine g_iconst rfl rfl rfl (pc' := 580) ?_
    obtain ⟨n3, hn3, H⟩ := H
    refine t_zastore hT (o := 18) (l := 640) rfl rfl rfl hn3 (by decide) (pc' := 581) rfl (fun hT => ?_)
    have H := H _ rfl
    refine g_aload (r := some _) rfl rfl rfl (pc' := 582) ?_
    refine t_get (o := 19) rfl hT rfl rfl rfl (pc' := 585) rfl ?_
    refine g_iload rfl rfl rfl (pc' := 587) ?_
    refine g_iload rfl rfl rfl (pc' := 589) ?_
    obtain ⟨n5, hn5, H⟩ := H
    obtain ⟨Hz, H⟩ := H
    refine t_zastore hT (o := 19) (l := 640) rfl rfl rfl hn5 Hz (pc' := 590) rfl (fun hT => ?_)
    have H := H _ rfl
    refine g_aload (r := some _) rfl rfl rfl (pc' := 591) ?_
    refine t_get (o := 20) rfl hT rfl rfl rfl (pc' := 594) rfl ?_
    refine g_iload rfl rfl rfl (pc' := 596) ?_
    refine g_iload rfl rfl rfl (pc' := 598) ?_
    obtain ⟨n7, hn7, H⟩ := H
    refine t_iastore hT (o := 20) (l := 640) rfl rfl rfl hn7  (pc' := 599) rfl (fun hT => ?_)
    have H := H _ rfl
    refine g_iconst rfl rfl rfl (pc' := 600) ?_
    refine g_istore rfl rfl rfl (pc' := 602) ?_
    exact g_weak (show gm_Lle [some _, none, none, none, none, none, none, some _, none, some _, none, some _] _ from ⟨rfl, ⟨rfl, ⟨rfl, ⟨rfl, trivial⟩⟩⟩⟩) H
  · have H := H.2 hc
    refine g_aload (r := some _) rfl rfl rfl (pc' := 447) ?_
    refine g_iload rfl rfl rfl (pc' := 449) ?_
    refine g_iload rfl rfl rfl (pc' := 451) ?_
    refine g_iconst rfl rfl rfl (pc' := 452) ?_
    refine g_ic_ne rfl (pc' := 455) (pt := 467) rfl rfl ⟨fun hc => ?_, fun hc => ?_⟩
    · have H := H.1 hc
      refine g_iconst rfl rfl rfl (pc' := 468) ?_
      exact g_weak (show gm_Lle [some _, none, none, none, none, some _, none, some _, some _, some _, some _, some _] _ from ⟨rfl, ⟨rfl, ⟨rfl, ⟨rfl, ⟨rfl, ⟨rfl, ⟨rfl, trivial⟩⟩⟩⟩⟩⟩⟩) H
    · have H := H.2 hc
      refine g_aload (r := some _) rfl rfl rfl (pc' := 456) ?_
      refine t_get (o := 23) rfl hT rfl rfl rfl (pc' := 459) rfl ?_
      refine g_iconst rfl rfl rfl (pc' := 460) ?_
      refine g_iload rfl rfl rfl (pc' := 462) ?_
      refine g_imul rfl rfl (pc' := 463) ?_
      obtain ⟨n9, hn9, H⟩ := H
      refine t_iaload hT (o := 23) (l := 1280) rfl rfl rfl hn9 (pc' := 464) rfl ?_
      refine g_goto rfl (pc' := 468) rfl ?_
      exact g_weak (show gm_Lle [some _, none, none, none, none, some _, none, some _, some _, some _, some _, some _] _ from ⟨rfl, ⟨rfl, ⟨rfl, ⟨rfl, ⟨rfl, ⟨rfl, ⟨rfl, trivial⟩⟩⟩⟩⟩⟩⟩) H
theorem w_408_468 {m : Nat} {x5 : Int32} {x7 : Int32} {x8 : Int32} {x9 : Int32} {x10 : Int32} {x11 : Int32} {y0 : Int32} {y1 : Int32} {h : hh_T} {Q : Option Value ⊕ Nat → hh_T → Prop} (hT : tw_ok h m) (H : gm_G 365 0 [some (.ref m), some (.int y1), some (.int y0)] [] h (pI (fun v2 h1 => (¬ v2 < Int32.ofNat 0 → (gm_G 408 493 [some (.ref m), none, none, none, none, some (.int x5), none, some (.int x7), some (.int x8), some (.int x9), some (.int x10), some (.int x11), some (.int v2)] [] h1 Q)) ∧ (v2 < Int32.ofNat 0 → ((¬ x11 = (Int32.ofNat 1) → (gm_G 408 493 [some (.ref m), none, none, none, none, some (.int x5), none, some (.int x7), some (.int x8), some (.int x9), some (.int x10), some (.int x11), some (.int v2)] [] h1 Q)) ∧ (x11 = (Int32.ofNat 1) → (gm_G 365 0 [some (.ref m), some (.int x7), some (.int (Int32.ofInt (-1)))] [] h1 (pI (fun v4 h3 => gm_G 408 493 [some (.ref m), none, none, none, none, some (.int x5), none, some (.int x7), some (.int x8), some (.int x9), some (.int x10), some (.int x11), some (.int v4)] [] h3 Q) (fun _ _ => False))))))) (fun _ _ => False))) : gm_G 408 468 [some (.ref m), none, none, none, none, some (.int x5), none, some (.int x7), some (.int x8), some (.int x9), some (.int x10), some (.int x11)] [.int y0, .int y1, .ref m] h Q := by
  refine t_call hT (y := 365) (n := 3) (pc' := 471) rfl rfl (t_vt hT rfl rfl) rfl rfl ⟨(Nat.le_of_ble_eq_true rfl), (Nat.le_of_ble_eq_true rfl), (Nat.le_of_ble_eq_true rfl)⟩ rfl H (tI_elim (fun v2 h1 H hT => ?_))
  show gm_G _ 471 _ _ _ _
  refine g_istore rfl rfl rfl (pc' := 473) ?_
  refine g_iload rfl rfl rfl (pc' := 475) ?_
  refine g_if_ge rfl (pc' := 478) (pt := 493) rfl rfl ⟨fun hc => ?_, fun hc => ?_⟩
  · have H := H.1 hc
    exact g_weak (show gm_Lle [some _, none, none, none, none, some _, none, some _, some _, some _, some _, some _, some _] _ from ⟨rfl, ⟨rfl, ⟨rfl, ⟨rfl, ⟨rfl, ⟨rfl, ⟨rfl, ⟨rfl, trivial⟩⟩⟩⟩⟩⟩⟩⟩) H
  · have H := H.2 hc
    refine g_iload rfl rfl rfl (pc' := 480) ?_
    refine g_iconst rfl rfl rfl (pc' := 481) ?_
    refine g_ic_ne rfl (pc' := 484) (pt := 493) rfl rfl ⟨fun hc => ?_, fun hc => ?_⟩
    · have H := H.1 hc
      exact g_weak (show gm_Lle [some _, none, none, none, none, some _, none, some _, some _, some _, some _, some _, some _] _ from ⟨rfl, ⟨rfl, ⟨rfl, ⟨rfl, ⟨rfl, ⟨rfl, ⟨rfl, ⟨rfl, trivial⟩⟩⟩⟩⟩⟩⟩⟩) H
    · have H := H.2 hc
      refine g_aload (r := some _) rfl rfl rfl (pc' := 485) ?_
      refine g_iload rfl rfl rfl (pc' := 487) ?_
      refine g_iconst rfl rfl rfl (pc' := 488) ?_
      refine t_call hT (y := 365) (n := 3) (pc' := 491) rfl rfl (t_vt hT rfl rfl) rfl rfl ⟨(Nat.le_of_ble_eq_true rfl), (Nat.le_of_ble_eq_true rfl), (Nat.le_of_ble_eq_true rfl)⟩ rfl H (tI_elim (fun v4 h3 H hT => ?_))
      show gm_G _ 491 _ _ _ _
      refine g_istore rfl rfl rfl (pc' := 493) ?_
      exact g_weak (show gm_Lle [some _, none, none, none, none, some _, none, some _, some _, some _, some _, some _, some _] _ from ⟨rfl, ⟨rfl, ⟨rfl, ⟨rfl, ⟨rfl, ⟨rfl, ⟨rfl, ⟨rfl, trivial⟩⟩⟩⟩⟩⟩⟩⟩) H
theorem w_408_493 {m : Nat} {x5 : Int32} {x7 : Int32} {x8 : Int32} {x9 : Int32} {x10 : Int32} {x11 : Int32} {x12 : Int32} {h : hh_T} {Q : Option Value ⊕ Nat → hh_T → Prop} (hT : tw_ok h m) (H : (¬ x12 < Int32.ofNat 0 → (∃ n1, gm_ix (((Int32.ofNat 2) * x9) + x11) n1 1280 ∧ (∀ h2, h2 = hh_wi h (m + 23) n1 x12 → (gm_G 149 0 [some (.ref m), some (.int x12), some (.int x7)] [] h2 (pI (fun v4 h3 => gm_G 280 0 [some (.ref m), some (.int x12), some (.int v4)] [] h3 (pI (fun v6 h5 => ∃ n7, gm_ix (((Int32.ofNat 2) * x9) + x11) n7 1280 ∧ (∀ h8, h8 = hh_wi h5 (m + 24) n7 v6 → (∃ n9, gm_ix x9 n9 640 ∧ (∀ h10, h10 = hh_wi h8 (m + 22) n9 (x11 + (Int32.ofNat 1)) → (gm_G 303 0 [some (.ref m), some (.int x9), some (.int x11)] [] h10 (pV (fun h11 => gm_G 408 439 [some (.ref m), none, none, none, none, some (.int x5), none, some (.int x7), some (.int x8), some (.int x9), some (.int x10), some (.int (x11 + (Int32.ofNat 1)))] [] h11 Q) (fun _ _ => False))))))) (fun _ _ => False))) (fun _ _ => False)))))) ∧ (x12 < Int32.ofNat 0 → (Q (.inl (some (.int (Int32.ofNat 0)))) h))) : gm_G 408 493 [some (.ref m), none, none, none, none, some (.int x5), none, some (.int x7), some (.int x8), some (.int x9), some (.int x10), some (.int x11), some (.int x12)] [] h Q := by
  refine g_iload rfl rfl rfl (pc' := 495) ?_
  refine g_if_ge rfl (pc' := 498) (pt := 500) rfl rfl ⟨fun hc => ?_, fun hc => ?_⟩
  · have H := H.1 hc
    refine g_aload (r := some _) rfl rfl rfl (pc' := 501) ?_
    refine t_get (o := 23) rfl hT rfl rfl rfl (pc' := 504) rfl ?_
    refine g_iconst rfl rfl rfl (pc' := 505) ?_
    refine g_iload rfl rfl rfl (pc' := 507) ?_
    refine g_imul rfl rfl (pc' := 508) ?_
    refine g_iload rfl rfl rfl (pc' := 510) ?_
    refine g_iadd rfl rfl (pc' := 511) ?_
    refine g_iload rfl rfl rfl (pc' := 513) ?_
    obtain ⟨n1, hn1, H⟩ := H
    refine t_iastore hT (o := 23) (l := 1280) rfl rfl rfl hn1  (pc' := 514) rfl (fun hT => ?_)
    have H := H _ rfl
    refine g_aload (r := some _) rfl rfl rfl (pc' := 515) ?_
    refine t_get (o := 24) rfl hT rfl rfl rfl (pc' := 518) rfl ?_
    refine g_iconst rfl rfl rfl (pc' := 519) ?_
    refine g_iload rfl rfl rfl (pc' := 521) ?_
    refine g_imul rfl rfl (pc' := 522) ?_
    refine g_iload rfl rfl rfl (pc' := 524) ?_
    refine g_iadd rfl rfl (pc' := 525) ?_
    refine g_aload (r := some _) rfl rfl rfl (pc' := 526) ?_
    refine g_iload rfl rfl rfl (pc' := 528) ?_
    refine g_aload (r := some _) rfl rfl rfl (pc' := 529) ?_
    refine g_iload rfl rfl rfl (pc' := 531) ?_
    refine g_iload rfl rfl rfl (pc' := 533) ?_
    refine t_call hT (y := 149) (n := 3) (pc' := 536) rfl rfl (t_vt hT rfl rfl) rfl rfl ⟨(Nat.le_of_ble_eq_true rfl), (Nat.le_of_ble_eq_true rfl), (Nat.le_of_ble_eq_true rfl)⟩ rfl H (tI_elim (fun v4 h3 H hT => ?_))
    show gm_G _ 536 _ _ _ _
    refine t_call hT (y := 280) (n := 3) (pc' := 539) rfl rfl (t_vt hT rfl rfl) rfl rfl ⟨(Nat.le_of_ble_eq_true rfl), (Nat.le_of_ble_eq_true rfl), (Nat.le_of_ble_eq_true rfl)⟩ rfl H (tI_elim (fun v6 h5 H hT => ?_))
    show gm_G _ 539 _ _ _ _
    obtain ⟨n7, hn7, H⟩ := H
    refine t_iastore hT (o := 24) (l := 1280) rfl rfl rfl hn7  (pc' := 540) rfl (fun hT => ?_)
    have H := H _ rfl
    refine g_aload (r := some _) rfl rfl rfl (pc' := 541) ?_
    refine t_get (o := 22) rfl hT rfl rfl rfl (pc' := 544) rfl ?_
    refine g_iload rfl rfl rfl (pc' := 546) ?_
    refine g_iload rfl rfl rfl (pc' := 548) ?_
    refine g_iconst rfl rfl rfl (pc' := 549) ?_
    refine g_iadd rfl rfl (pc' := 550) ?_
    obtain ⟨n9, hn9, H⟩ := H
    refine t_iastore hT (o := 22) (l := 640) rfl rfl rfl hn9  (pc' := 551) rfl (fun hT => ?_)
    have H := H _ rfl
    refine g_aload (r := some _) rfl rfl rfl (pc' := 552) ?_
    refine g_iload rfl rfl rfl (pc' := 554) ?_
    refine g_iload rfl rfl rfl (pc' := 556) ?_
    refine t_call hT (y := 303) (n := 3) (pc' := 559) rfl rfl (t_vt hT rfl rfl) rfl rfl ⟨(Nat.le_of_ble_eq_true rfl), (Nat.le_of_ble_eq_true rfl), (Nat.le_of_ble_eq_true rfl)⟩ rfl H (tV_elim (fun h11 H hT => ?_))
    show gm_G _ 559 _ _ _ _
    refine g_iinc (c := (Int32.ofNat 1)) rfl rfl rfl rfl rfl (pc' := 562) ?_
    refine g_goto rfl (pc' := 439) rfl ?_
    exact g_weak (show gm_Lle [some _, none, none, none, none, some _, none, some _, some _, some _, some _, some _] _ from ⟨rfl, ⟨rfl, ⟨rfl, ⟨rfl, ⟨rfl, ⟨rfl, ⟨rfl, trivial⟩⟩⟩⟩⟩⟩⟩) H
  · have H := H.2 hc
    refine g_iconst rfl rfl rfl (pc' := 499) ?_
    exact g_ireturn rfl (Or.inr (by decide)) H
theorem w_408_602 {m : Nat} {x7 : Int32} {x9 : Int32} {x11 : Int32} {h : hh_T} {Q : Option Value ⊕ Nat → hh_T → Prop} (hT : tw_ok h m) (H : (¬ x11 < ((Int32.ofNat 8) * x7) → (gm_G 159 0 [some (.ref (m + 26)), some (.int ((Int32.ofNat 32) * x9)), some (.int ((Int32.ofNat 8) * x7))] [] h (pL (fun v2 h1 => ∃ n3, gm_ix x9 n3 640 ∧ (∀ h4, h4 = hh_wj h1 (m + 25) n3 v2 → (∃ n5, gm_ix (hh_i h4 m 41) n5 136 ∧ (∀ h6, h6 = hh_wi h4 (m + 30) n5 x9 → (∃ n7, gm_ix (hh_i h6 m 41) n7 136 ∧ (∀ h8, h8 = hh_wi h6 (m + 31) n7 (Int32.ofNat 1) → (∀ h9, h9 = hh_wi h8 m 41 ((hh_i h8 m 41) + (Int32.ofNat 1)) → (Q (.inl (some (.int (Int32.ofNat 1)))) h9)))))))) (fun _ _ => False)))) ∧ (x11 < ((Int32.ofNat 8) * x7) → (∃ n10, gm_ix x11 n10 80 ∧ (∃ n11, gm_ix (((Int32.ofNat 32) * x9) + x11) n11 20480 ∧ (∀ h12, h12 = hh_wi h (m + 26) n11 ((hh_i h (m + 28) n10).toInt8.toInt32) → (gm_G 408 602 [some (.ref m), none, none, none, none, none, none, some (.int x7), none, some (.int x9), none, some (.int (x11 + (Int32.ofNat 1)))] [] h12 Q)))))) : gm_G 408 602 [some (.ref m), none, none, none, none, none, none, some (.int x7), none, some (.int x9), none, some (.int x11)] [] h Q := by
  refine g_iload rfl rfl rfl (pc' := 604) ?_
  refine g_iconst rfl rfl rfl (pc' := 606) ?_
  refine g_iload rfl rfl rfl (pc' := 608) ?_
  refine g_imul rfl rfl (pc' := 609) ?_
  refine g_ic_ge rfl (pc' := 612) (pt := 638) rfl rfl ⟨fun hc => ?_, fun hc => ?_⟩
  · have H := H.1 hc
    refine g_aload (r := some _) rfl rfl rfl (pc' := 639) ?_
    refine t_get (o := 25) rfl hT rfl rfl rfl (pc' := 642) rfl ?_
    refine g_iload rfl rfl rfl (pc' := 644) ?_
    refine g_aload (r := some _) rfl rfl rfl (pc' := 645) ?_
    refine t_get (o := 26) rfl hT rfl rfl rfl (pc' := 648) rfl ?_
    refine g_iconst rfl rfl rfl (pc' := 650) ?_
    refine g_iload rfl rfl rfl (pc' := 652) ?_
    refine g_imul rfl rfl (pc' := 653) ?_
    refine g_iconst rfl rfl rfl (pc' := 655) ?_
    refine g_iload rfl rfl rfl (pc' := 657) ?_
    refine g_imul rfl rfl (pc' := 658) ?_
    refine t_call hT (y := 159) (n := 3) (pc' := 661) rfl rfl (fun _ => rfl) rfl rfl ⟨(Nat.le_of_ble_eq_true rfl), (Nat.le_of_ble_eq_true rfl), (Nat.le_of_ble_eq_true rfl)⟩ rfl H (tL_elim (fun v2 h1 H hT => ?_))
    show gm_G _ 661 _ _ _ _
    obtain ⟨n3, hn3, H⟩ := H
    refine t_lastore hT (o := 25) (l := 640) rfl rfl rfl hn3  (pc' := 662) rfl (fun hT => ?_)
    have H := H _ rfl
    refine g_aload (r := some _) rfl rfl rfl (pc' := 663) ?_
    refine t_get (o := 30) rfl hT rfl rfl rfl (pc' := 666) rfl ?_
    refine g_aload (r := some _) rfl rfl rfl (pc' := 667) ?_
    refine t_getI rfl hT rfl rfl (pc' := 670) rfl ?_
    refine g_iload rfl rfl rfl (pc' := 672) ?_
    obtain ⟨n5, hn5, H⟩ := H
    refine t_iastore hT (o := 30) (l := 136) rfl rfl rfl hn5  (pc' := 673) rfl (fun hT => ?_)
    have H := H _ rfl
    refine g_aload (r := some _) rfl rfl rfl (pc' := 674) ?_
    refine t_get (o := 31) rfl hT rfl rfl rfl (pc' := 677) rfl ?_
    refine g_aload (r := some _) rfl rfl rfl (pc' := 678) ?_
    refine t_getI rfl hT rfl rfl (pc' := 681) rfl ?_
    refine g_iconst rfl rfl rfl (pc' := 682) ?_
    obtain ⟨n7, hn7, H⟩ := H
    refine t_zastore hT (o := 31) (l := 136) rfl rfl rfl hn7 (by decide) (pc' := 683) rfl (fun hT => ?_)
    have H := H _ rfl
    refine g_aload (r := some _) rfl rfl rfl (pc' := 684) ?_
    refine g_dup_a (r := some _) rfl rfl (pc' := 685) ?_
    refine t_getI rfl hT rfl rfl (pc' := 688) rfl ?_
    refine g_iconst rfl rfl rfl (pc' := 689) ?_
    refine g_iadd rfl rfl (pc' := 690) ?_
    refine t_putI rfl hT rfl rfl  (pc' := 693) rfl (fun hT => ?_)
    have H := H _ rfl
    refine g_iconst rfl rfl rfl (pc' := 694) ?_
    exact g_ireturn rfl (Or.inr (by decide)) H
  · have H := H.2 hc
    refine g_aload (r := some _) rfl rfl rfl (pc' := 613) ?_
    refine t_get (o := 26) rfl hT rfl rfl rfl (pc' := 616) rfl ?_
    refine g_iconst rfl rfl rfl (pc' := 618) ?_
    refine g_iload rfl rfl rfl (pc' := 620) ?_
    refine g_imul rfl rfl (pc' := 621) ?_
    refine g_iload rfl rfl rfl (pc' := 623) ?_
    refine g_iadd rfl rfl (pc' := 624) ?_
    refine g_aload (r := some _) rfl rfl rfl (pc' := 625) ?_
    refine t_get (o := 28) rfl hT rfl rfl rfl (pc' := 628) rfl ?_
    refine g_iload rfl rfl rfl (pc' := 630) ?_
    obtain ⟨n10, hn10, H⟩ := H
    refine t_baload hT (o := 28) (l := 80) rfl rfl rfl hn10 (pc' := 631) rfl ?_
    obtain ⟨n11, hn11, H⟩ := H
    refine t_bastore hT (o := 26) (l := 20480) rfl rfl rfl hn11  (pc' := 632) rfl (fun hT => ?_)
    have H := H _ rfl
    refine g_iinc (c := (Int32.ofNat 1)) rfl rfl rfl rfl rfl (pc' := 635) ?_
    refine g_goto rfl (pc' := 602) rfl ?_
    exact g_weak (show gm_Lle [some _, none, none, none, none, none, none, some _, none, some _, none, some _] _ from ⟨rfl, ⟨rfl, ⟨rfl, ⟨rfl, trivial⟩⟩⟩⟩) H
theorem w_409_0 {m : Nat} {x1 : Int32} {x2 : Int32} {x3 : Int32} {h : hh_T} {Q : Option Value ⊕ Nat → hh_T → Prop} (hT : tw_ok h m) (H : (¬ (hh_i h m 77) = Int32.ofNat 0 → (gm_G 138 0 [some (.int x1)] [] h (pI (fun v2 h1 => (¬ v2 = Int32.ofNat 0 → (Q (.inl (some (.int (Int32.ofInt (-1))))) h1)) ∧ (v2 = Int32.ofNat 0 → ((x2 < Int32.ofNat 0 → (Q (.inl (some (.int (Int32.ofInt (-1))))) h1)) ∧ (¬ x2 < Int32.ofNat 0 → (((Int32.ofNat 2) < x2 → (Q (.inl (some (.int (Int32.ofInt (-1))))) h1)) ∧ (¬ (Int32.ofNat 2) < x2 → ((x3 < Int32.ofNat 0 → (Q (.inl (some (.int (Int32.ofInt (-1))))) h1)) ∧ (¬ x3 < Int32.ofNat 0 → ((¬ (Int32.ofNat 256) < x3 → (∃ n3, gm_ix x1 n3 8 ∧ ((¬ (hh_i h1 (m + 88) n3) = Int32.ofNat 0 → (gm_G 377 0 [some (.ref m), some (.int x1)] [] h1 (pI (fun v5 h4 => (¬ Int32.ofNat 0 < x2 → (gm_G 409 135 [some (.ref m), some (.int x1), none, none, none, some (.int x3)] [] h4 Q)) ∧ (Int32.ofNat 0 < x2 → (gm_G 409 65 [some (.ref m), some (.int x1), some (.int x2), none, some (.int v5), some (.int x3)] [] h4 Q))) (fun _ _ => False)))) ∧ ((hh_i h1 (m + 88) n3) = Int32.ofNat 0 → (Q (.inl (some (.int (Int32.ofInt (-2))))) h1))))) ∧ ((Int32.ofNat 256) < x3 → (Q (.inl (some (.int (Int32.ofInt (-1))))) h1))))))))))) (fun _ _ => False)))) ∧ ((hh_i h m 77) = Int32.ofNat 0 → (Q (.inl (some (.int (Int32.ofInt (-9))))) h))) : gm_G 409 0 [some (.ref m), some (.int x1), some (.int x2), some (.int x3)] [] h Q := by
  refine g_aload (r := some _) rfl rfl rfl (pc' := 1) ?_
  refine t_getZ rfl hT rfl rfl (pc' := 4) rfl ?_
  refine g_if_ne rfl (pc' := 7) (pt := 10) rfl rfl ⟨fun hc => ?_, fun hc => ?_⟩
  · have H := H.1 hc
    refine g_iload rfl rfl rfl (pc' := 11) ?_
    refine t_call hT (y := 138) (n := 1) (pc' := 14) rfl rfl (fun _ => rfl) rfl rfl ⟨(Nat.le_of_ble_eq_true rfl), (Nat.le_of_ble_eq_true rfl), (Nat.le_of_ble_eq_true rfl)⟩ rfl H (tI_elim (fun v2 h1 H hT => ?_))
    show gm_G _ 14 _ _ _ _
    refine g_if_ne rfl (pc' := 17) (pt := 37) rfl rfl ⟨fun hc => ?_, fun hc => ?_⟩
    · have H := H.1 hc
      refine g_iconst rfl rfl rfl (pc' := 38) ?_
      exact g_ireturn rfl (Or.inl rfl) H
    · have H := H.2 hc
      refine g_iload rfl rfl rfl (pc' := 18) ?_
      refine g_if_lt rfl (pc' := 21) (pt := 37) rfl rfl ⟨fun hc => ?_, fun hc => ?_⟩
      · have H := H.1 hc
        refine g_iconst rfl rfl rfl (pc' := 38) ?_
        exact g_ireturn rfl (Or.inl rfl) H
      · have H := H.2 hc
        refine g_iload rfl rfl rfl (pc' := 22) ?_
        refine g_iconst rfl rfl rfl (pc' := 23) ?_
        refine g_ic_gt rfl (pc' := 26) (pt := 37) rfl rfl ⟨fun hc => ?_, fun hc => ?_⟩
        · have H := H.1 hc
          refine g_iconst rfl rfl rfl (pc' := 38) ?_
          exact g_ireturn rfl (Or.inl rfl) H
        · have H := H.2 hc
          refine g_iload rfl rfl rfl (pc' := 27) ?_
          refine g_if_lt rfl (pc' := 30) (pt := 37) rfl rfl ⟨fun hc => ?_, fun hc => ?_⟩
          · have H := H.1 hc
            refine g_iconst rfl rfl rfl (pc' := 38) ?_
            exact g_ireturn rfl (Or.inl rfl) H
          · have H := H.2 hc
            refine g_iload rfl rfl rfl (pc' := 31) ?_
            refine g_iconst rfl rfl rfl (pc' := 34) ?_
            refine g_ic_le rfl (pc' := 37) (pt := 39) rfl rfl ⟨fun hc => ?_, fun hc => ?_⟩
            · have H := H.1 hc
              refine g_aload (r := some _) rfl rfl rfl (pc' := 40) ?_
              refine t_get (o := 88) rfl hT rfl rfl rfl (pc' := 43) rfl ?_
              refine g_iload rfl rfl rfl (pc' := 44) ?_
              obtain ⟨n3, hn3, H⟩ := H
              refine t_zaload hT (o := 88) (l := 8) rfl rfl rfl hn3 (pc' := 45) rfl ?_
              refine g_if_ne rfl (pc' := 48) (pt := 51) rfl rfl ⟨fun hc => ?_, fun hc => ?_⟩
              · have H := H.1 hc
                refine g_aload (r := some _) rfl rfl rfl (pc' := 52) ?_
                refine g_iload rfl rfl rfl (pc' := 53) ?_
                refine t_call hT (y := 377) (n := 2) (pc' := 56) rfl rfl (t_vt hT rfl rfl) rfl rfl ⟨(Nat.le_of_ble_eq_true rfl), (Nat.le_of_ble_eq_true rfl), (Nat.le_of_ble_eq_true rfl)⟩ rfl H (tI_elim (fun v5 h4 H hT => ?_))
                show gm_G _ 56 _ _ _ _
                refine g_istore rfl rfl rfl (pc' := 58) ?_
                refine g_iload rfl rfl rfl (pc' := 59) ?_
                refine g_istore rfl rfl rfl (pc' := 61) ?_
                refine g_iload rfl rfl rfl (pc' := 62) ?_
                refine g_if_le rfl (pc' := 65) (pt := 135) rfl rfl ⟨fun hc => ?_, fun hc => ?_⟩
                · have H := H.1 hc
                  exact g_weak (show gm_Lle [some _, some _, none, none, none, some _] _ from ⟨rfl, ⟨rfl, ⟨rfl, trivial⟩⟩⟩) H
                · have H := H.2 hc
                  exact g_weak (show gm_Lle [some _, some _, some _, none, some _, some _] _ from ⟨rfl, ⟨rfl, ⟨rfl, ⟨rfl, ⟨rfl, trivial⟩⟩⟩⟩⟩) H
              · have H := H.2 hc
                refine g_iconst rfl rfl rfl (pc' := 50) ?_
                exact g_ireturn rfl (Or.inl rfl) H
            · have H := H.2 hc
              refine g_iconst rfl rfl rfl (pc' := 38) ?_
              exact g_ireturn rfl (Or.inl rfl) H
  · have H := H.2 hc
    refine g_iconst rfl rfl rfl (pc' := 9) ?_
    exact g_ireturn rfl (Or.inl rfl) H
theorem w_409_65 {m : Nat} {x1 : Int32} {x2 : Int32} {x4 : Int32} {x5 : Int32} {h : hh_T} {Q : Option Value ⊕ Nat → hh_T → Prop} (hT : tw_ok h m) (H : ∃ n1, gm_ix x4 n1 1536 ∧ ((¬ x5 < (hh_i h (m + 45) n1) → (gm_G 409 120 [some (.ref m), some (.int x1), none, none, some (.int x4), some (.int x5)] [] h Q)) ∧ (x5 < (hh_i h (m + 45) n1) → (∃ n2, gm_ix (((Int32.ofNat 8) * x4) + (x5 / (Int32.ofNat 32))) n2 12288 ∧ (((hh_i h (m + 55) n2) < Int32.ofNat 0 → (gm_G 409 101 [some (.ref m), some (.int x1), some (.int x2), none, some (.int x4), some (.int x5)] [.int (Int32.ofNat 0)] h Q)) ∧ (¬ (hh_i h (m + 55) n2) < Int32.ofNat 0 → (gm_G 409 101 [some (.ref m), some (.int x1), some (.int x2), none, some (.int x4), some (.int x5)] [.int (Int32.ofNat 1)] h Q))))))) : gm_G 409 65 [some (.ref m), some (.int x1), some (.int x2), none, some (.int x4), some (.int x5)] [] h Q := by
  refine g_iload rfl rfl rfl (pc' := 67) ?_
  refine g_aload (r := some _) rfl rfl rfl (pc' := 68) ?_
  refine t_get (o := 45) rfl hT rfl rfl rfl (pc' := 71) rfl ?_
  refine g_iload rfl rfl rfl (pc' := 73) ?_
  obtain ⟨n1, hn1, H⟩ := H
  refine t_iaload hT (o := 45) (l := 1536) rfl rfl rfl hn1 (pc' := 74) rfl ?_
  refine g_ic_ge rfl (pc' := 77) (pt := 120) rfl rfl ⟨fun hc => ?_, fun hc => ?_⟩
  · have H := H.1 hc
    exact g_weak (show gm_Lle [some _, some _, none, none, some _, some _] _ from ⟨rfl, ⟨rfl, ⟨rfl, ⟨rfl, trivial⟩⟩⟩⟩) H
  · have H := H.2 hc
    refine g_aload (r := some _) rfl rfl rfl (pc' := 78) ?_
    refine t_get (o := 55) rfl hT rfl rfl rfl (pc' := 81) rfl ?_
    refine g_iconst rfl rfl rfl (pc' := 83) ?_
    refine g_iload rfl rfl rfl (pc' := 85) ?_
    refine g_imul rfl rfl (pc' := 86) ?_
    refine g_iload rfl rfl rfl (pc' := 88) ?_
    refine g_iconst rfl rfl rfl (pc' := 90) ?_
    refine g_idiv rfl (by decide) (pc' := 91) rfl ?_
    refine g_iadd rfl rfl (pc' := 92) ?_
    obtain ⟨n2, hn2, H⟩ := H
    refine t_iaload hT (o := 55) (l := 12288) rfl rfl rfl hn2 (pc' := 93) rfl ?_
    refine g_if_lt rfl (pc' := 96) (pt := 100) rfl rfl ⟨fun hc => ?_, fun hc => ?_⟩
    · have H := H.1 hc
      refine g_iconst rfl rfl rfl (pc' := 101) ?_
      exact g_weak (show gm_Lle [some _, some _, some _, none, some _, some _] _ from ⟨rfl, ⟨rfl, ⟨rfl, ⟨rfl, ⟨rfl, trivial⟩⟩⟩⟩⟩) H
    · have H := H.2 hc
      refine g_iconst rfl rfl rfl (pc' := 97) ?_
      refine g_goto rfl (pc' := 101) rfl ?_
      exact g_weak (show gm_Lle [some _, some _, some _, none, some _, some _] _ from ⟨rfl, ⟨rfl, ⟨rfl, ⟨rfl, ⟨rfl, trivial⟩⟩⟩⟩⟩) H
theorem w_409_101 {m : Nat} {x1 : Int32} {x2 : Int32} {x4 : Int32} {x5 : Int32} {y0 : Int32} {h : hh_T} {Q : Option Value ⊕ Nat → hh_T → Prop} (hT : tw_ok h m) (H : (¬ x2 = (Int32.ofNat 1) → (gm_G 409 111 [some (.ref m), some (.int x1), some (.int x2), none, some (.int x4), some (.int x5)] [.int (Int32.ofNat 0), .int y0] h Q)) ∧ (x2 = (Int32.ofNat 1) → (gm_G 409 111 [some (.ref m), some (.int x1), some (.int x2), none, some (.int x4), some (.int x5)] [.int (Int32.ofNat 1), .int y0] h Q))) : gm_G 409 101 [some (.ref m), some (.int x1), some (.int x2), none, some (.int x4), some (.int x5)] [.int y0] h Q := by
  refine g_iload rfl rfl rfl (pc' := 102) ?_
  refine g_iconst rfl rfl rfl (pc' := 103) ?_
  refine g_ic_ne rfl (pc' := 106) (pt := 110) rfl rfl ⟨fun hc => ?_, fun hc => ?_⟩
  · have H := H.1 hc
    refine g_iconst rfl rfl rfl (pc' := 111) ?_
    exact g_weak (show gm_Lle [some _, some _, some _, none, some _, some _] _ from ⟨rfl, ⟨rfl, ⟨rfl, ⟨rfl, ⟨rfl, trivial⟩⟩⟩⟩⟩) H
  · have H := H.2 hc
    refine g_iconst rfl rfl rfl (pc' := 107) ?_
    refine g_goto rfl (pc' := 111) rfl ?_
    exact g_weak (show gm_Lle [some _, some _, some _, none, some _, some _] _ from ⟨rfl, ⟨rfl, ⟨rfl, ⟨rfl, ⟨rfl, trivial⟩⟩⟩⟩⟩) H
theorem w_409_111 {m : Nat} {x1 : Int32} {x2 : Int32} {x4 : Int32} {x5 : Int32} {y0 : Int32} {y1 : Int32} {h : hh_T} {Q : Option Value ⊕ Nat → hh_T → Prop} (hT : tw_ok h m) (H : (y1 = y0 → (gm_G 409 120 [some (.ref m), some (.int x1), none, none, some (.int x4), some (.int x5)] [] h Q)) ∧ (¬ y1 = y0 → (gm_G 409 65 [some (.ref m), some (.int x1), some (.int x2), none, some (.int x4), some (.int (x5 + (Int32.ofNat 1)))] [] h Q))) : gm_G 409 111 [some (.ref m), some (.int x1), some (.int x2), none, some (.int x4), some (.int x5)] [.int y0, .int y1] h Q := by
  refine g_ic_eq rfl (pc' := 114) (pt := 120) rfl rfl ⟨fun hc => ?_, fun hc => ?_⟩
  · have H := H.1 hc
    exact g_weak (show gm_Lle [some _, some _, none, none, some _, some _] _ from ⟨rfl, ⟨rfl, ⟨rfl, ⟨rfl, trivial⟩⟩⟩⟩) H
  · have H := H.2 hc
    refine g_iinc (c := (Int32.ofNat 1)) rfl rfl rfl rfl rfl (pc' := 117) ?_
    refine g_goto rfl (pc' := 65) rfl ?_
    exact g_weak (show gm_Lle [some _, some _, some _, none, some _, some _] _ from ⟨rfl, ⟨rfl, ⟨rfl, ⟨rfl, ⟨rfl, trivial⟩⟩⟩⟩⟩) H
theorem w_409_120 {m : Nat} {x1 : Int32} {x4 : Int32} {x5 : Int32} {h : hh_T} {Q : Option Value ⊕ Nat → hh_T → Prop} (hT : tw_ok h m) (H : ∃ n1, gm_ix x4 n1 1536 ∧ ((x5 < (hh_i h (m + 45) n1) → (gm_G 409 135 [some (.ref m), some (.int x1), none, none, none, some (.int x5)] [] h Q)) ∧ (¬ x5 < (hh_i h (m + 45) n1) → (Q (.inl (some (.int (Int32.ofInt (-2))))) h)))) : gm_G 409 120 [some (.ref m), some (.int x1), none, none, some (.int x4), some (.int x5)] [] h Q := by
  refine g_iload rfl rfl rfl (pc' := 122) ?_
  refine g_aload (r := some _) rfl rfl rfl (pc' := 123) ?_
  refine t_get (o := 45) rfl hT rfl rfl rfl (pc' := 126) rfl ?_
  refine g_iload rfl rfl rfl (pc' := 128) ?_
  obtain ⟨n1, hn1, H⟩ := H
  refine t_iaload hT (o := 45) (l := 1536) rfl rfl rfl hn1 (pc' := 129) rfl ?_
  refine g_ic_lt rfl (pc' := 132) (pt := 135) rfl rfl ⟨fun hc => ?_, fun hc => ?_⟩
  · have H := H.1 hc
    exact g_weak (show gm_Lle [some _, some _, none, none, none, some _] _ from ⟨rfl, ⟨rfl, ⟨rfl, trivial⟩⟩⟩) H
  · have H := H.2 hc
    refine g_iconst rfl rfl rfl (pc' := 134) ?_
    exact g_ireturn rfl (Or.inl rfl) H
theorem w_409_135 {m : Nat} {x1 : Int32} {x5 : Int32} {h : hh_T} {Q : Option Value ⊕ Nat → hh_T → Prop} (hT : tw_ok h m) (H : ∃ n1, gm_ix x1 n1 8 ∧ (∀ h2, h2 = hh_wi h (m + 93) n1 x5 → (Q (.inl (some (.int x5))) h2))) : gm_G 409 135 [some (.ref m), some (.int x1), none, none, none, some (.int x5)] [] h Q := by
  refine g_aload (r := some _) rfl rfl rfl (pc' := 136) ?_
  refine t_get (o := 93) rfl hT rfl rfl rfl (pc' := 139) rfl ?_
  refine g_iload rfl rfl rfl (pc' := 140) ?_
  refine g_iload rfl rfl rfl (pc' := 142) ?_
  obtain ⟨n1, hn1, H⟩ := H
  refine t_iastore hT (o := 93) (l := 8) rfl rfl rfl hn1  (pc' := 143) rfl (fun hT => ?_)
  have H := H _ rfl
  refine g_iload rfl rfl rfl (pc' := 145) ?_
  exact g_ireturn rfl (Or.inl rfl) H
theorem w_410_0 {m : Nat} {x1 : Int32} {x2 : Int32} {x3 : Int32} {x4 : Int32} {x5 : Int32} {x6 : Int32} {h : hh_T} {Q : Option Value ⊕ Nat → hh_T → Prop} (hT : tw_ok h m) (H : gm_G 410 12 [some (.ref m), some (.int x1), some (.int x2), some (.int x3), some (.int x4), some (.int x5), some (.int x6), some (.int (Int32.ofNat 0)), some (.int (Int32.ofNat 0)), some (.int (Int32.ofNat 0)), some (.int (Int32.ofNat 0))] [] h Q) : gm_G 410 0 [some (.ref m), some (.int x1), some (.int x2), some (.int x3), some (.int x4), some (.int x5), some (.int x6)] [] h Q := by
  refine g_iconst rfl rfl rfl (pc' := 1) ?_
  refine g_istore rfl rfl rfl (pc' := 3) ?_
  refine g_iconst rfl rfl rfl (pc' := 4) ?_
  refine g_istore rfl rfl rfl (pc' := 6) ?_
  refine g_iconst rfl rfl rfl (pc' := 7) ?_
  refine g_istore rfl rfl rfl (pc' := 9) ?_
  refine g_iconst rfl rfl rfl (pc' := 10) ?_
  refine g_istore rfl rfl rfl (pc' := 12) ?_
  exact g_weak (show gm_Lle [some _, some _, some _, some _, some _, some _, some _, some _, some _, some _, some _] _ from ⟨rfl, ⟨rfl, ⟨rfl, ⟨rfl, ⟨rfl, ⟨rfl, ⟨rfl, ⟨rfl, ⟨rfl, ⟨rfl, ⟨rfl, trivial⟩⟩⟩⟩⟩⟩⟩⟩⟩⟩⟩) H
theorem w_410_12 {m : Nat} {x1 : Int32} {x2 : Int32} {x3 : Int32} {x4 : Int32} {x5 : Int32} {x6 : Int32} {x7 : Int32} {x8 : Int32} {x9 : Int32} {x10 : Int32} {h : hh_T} {Q : Option Value ⊕ Nat → hh_T → Prop} (hT : tw_ok h m) (H : (¬ x10 < (x3 + x4) → ((¬ x3 < x7 → (gm_G 410 164 [some (.ref m), some (.int x1), some (.int x2), some (.int x3), some (.int x4), some (.int x5), some (.int x6), none, some (.int x8), none, some (.int (Int32.ofNat 0))] [] h Q)) ∧ (x3 < x7 → (Q (.inl (some (.int (Int32.ofNat 0)))) h)))) ∧ (x10 < (x3 + x4) → (gm_G 286 0 [some (.ref m), some (.int x1), some (.int (x2 + x10)), some (.int x6)] [] h (pI (fun v2 h1 => (v2 = Int32.ofNat 0 → (gm_G 410 46 [some (.ref m), some (.int x1), some (.int x2), some (.int x3), some (.int x4), some (.int x5), some (.int x6), none, some (.int x8), some (.int x9), some (.int x10), some (.int v2)] [.int (Int32.ofNat 0), .int x7] h1 Q)) ∧ (¬ v2 = Int32.ofNat 0 → (gm_G 410 46 [some (.ref m), some (.int x1), some (.int x2), some (.int x3), some (.int x4), some (.int x5), some (.int x6), none, some (.int x8), some (.int x9), some (.int x10), some (.int v2)] [.int (Int32.ofNat 1), .int x7] h1 Q))) (fun _ _ => False))))) : gm_G 410 12 [some (.ref m), some (.int x1), some (.int x2), some (.int x3), some (.int x4), some (.int x5), some (.int x6), some (.int x7), some (.int x8), some (.int x9), some (.int x10)] [] h Q := by
  refine g_iload rfl rfl rfl (pc' := 14) ?_
  refine g_iload rfl rfl rfl (pc' := 15) ?_
  refine g_iload rfl rfl rfl (pc' := 17) ?_
  refine g_iadd rfl rfl (pc' := 18) ?_
  refine g_ic_ge rfl (pc' := 21) (pt := 153) rfl rfl ⟨fun hc => ?_, fun hc => ?_⟩
  · have H := H.1 hc
    refine g_iload rfl rfl rfl (pc' := 155) ?_
    refine g_iload rfl rfl rfl (pc' := 156) ?_
    refine g_ic_le rfl (pc' := 159) (pt := 161) rfl rfl ⟨fun hc => ?_, fun hc => ?_⟩
    · have H := H.1 hc
      refine g_iconst rfl rfl rfl (pc' := 162) ?_
      refine g_istore rfl rfl rfl (pc' := 164) ?_
      exact g_weak (show gm_Lle [some _, some _, some _, some _, some _, some _, some _, none, some _, none, some _] _ from ⟨rfl, ⟨rfl, ⟨rfl, ⟨rfl, ⟨rfl, ⟨rfl, ⟨rfl, ⟨rfl, ⟨rfl, trivial⟩⟩⟩⟩⟩⟩⟩⟩⟩) H
    · have H := H.2 hc
      refine g_iconst rfl rfl rfl (pc' := 160) ?_
      exact g_ireturn rfl (Or.inr (by decide)) H
  · have H := H.2 hc
    refine g_aload (r := some _) rfl rfl rfl (pc' := 22) ?_
    refine g_iload rfl rfl rfl (pc' := 23) ?_
    refine g_iload rfl rfl rfl (pc' := 24) ?_
    refine g_iload rfl rfl rfl (pc' := 26) ?_
    refine g_iadd rfl rfl (pc' := 27) ?_
    refine g_iload rfl rfl rfl (pc' := 29) ?_
    refine t_call hT (y := 286) (n := 4) (pc' := 32) rfl rfl (t_vt hT rfl rfl) rfl rfl ⟨(Nat.le_of_ble_eq_true rfl), (Nat.le_of_ble_eq_true rfl), (Nat.le_of_ble_eq_true rfl)⟩ rfl H (tI_elim (fun v2 h1 H hT => ?_))
    show gm_G _ 32 _ _ _ _
    refine g_istore rfl rfl rfl (pc' := 34) ?_
    refine g_iload rfl rfl rfl (pc' := 36) ?_
    refine g_iload rfl rfl rfl (pc' := 38) ?_
    refine g_if_eq rfl (pc' := 41) (pt := 45) rfl rfl ⟨fun hc => ?_, fun hc => ?_⟩
    · have H := H.1 hc
      refine g_iconst rfl rfl rfl (pc' := 46) ?_
      exact g_weak (show gm_Lle [some _, some _, some _, some _, some _, some _, some _, none, some _, some _, some _, some _] _ from ⟨rfl, ⟨rfl, ⟨rfl, ⟨rfl, ⟨rfl, ⟨rfl, ⟨rfl, ⟨rfl, ⟨rfl, ⟨rfl, ⟨rfl, trivial⟩⟩⟩⟩⟩⟩⟩⟩⟩⟩⟩) H
    · have H := H.2 hc
      refine g_iconst rfl rfl rfl (pc' := 42) ?_
      refine g_goto rfl (pc' := 46) rfl ?_
      exact g_weak (show gm_Lle [some _, some _, some _, some _, some _, some _, some _, none, some _, some _, some _, some _] _ from ⟨rfl, ⟨rfl, ⟨rfl, ⟨rfl, ⟨rfl, ⟨rfl, ⟨rfl, ⟨rfl, ⟨rfl, ⟨rfl, ⟨rfl, trivial⟩⟩⟩⟩⟩⟩⟩⟩⟩⟩⟩) H
theorem w_410_46 {m : Nat} {x1 : Int32} {x2 : Int32} {x3 : Int32} {x4 : Int32} {x5 : Int32} {x6 : Int32} {x8 : Int32} {x9 : Int32} {x10 : Int32} {x11 : Int32} {y0 : Int32} {y1 : Int32} {h : hh_T} {Q : Option Value ⊕ Nat → hh_T → Prop} (hT : tw_ok h m) (H : (¬ x10 < x3 → (gm_G 410 72 [some (.ref m), some (.int x1), some (.int x2), some (.int x3), some (.int x4), some (.int x5), some (.int x6), some (.int (y1 + y0)), some (.int x8), some (.int x9), some (.int x10), some (.int x11)] [] h Q)) ∧ (x10 < x3 → ((¬ x11 = Int32.ofNat 0 → (gm_G 410 72 [some (.ref m), some (.int x1), some (.int x2), some (.int x3), some (.int x4), some (.int x5), some (.int x6), some (.int (y1 + y0)), some (.int x8), some (.int x9), some (.int x10), some (.int x11)] [] h Q)) ∧ (x11 = Int32.ofNat 0 → (∃ n1, gm_ix x9 n1 8 ∧ (∀ h2, h2 = hh_wi h (m + 38) n1 x10 → (gm_G 410 72 [some (.ref m), some (.int x1), some (.int x2), some (.int x3), some (.int x4), some (.int x5), some (.int x6), some (.int (y1 + y0)), some (.int x8), some (.int (x9 + (Int32.ofNat 1))), some (.int x10), some (.int x11)] [] h2 Q))))))) : gm_G 410 46 [some (.ref m), some (.int x1), some (.int x2), some (.int x3), some (.int x4), some (.int x5), some (.int x6), none, some (.int x8), some (.int x9), some (.int x10), some (.int x11)] [.int y0, .int y1] h Q := by
  refine g_iadd rfl rfl (pc' := 47) ?_
  refine g_istore rfl rfl rfl (pc' := 49) ?_
  refine g_iload rfl rfl rfl (pc' := 51) ?_
  refine g_iload rfl rfl rfl (pc' := 52) ?_
  refine g_ic_ge rfl (pc' := 55) (pt := 72) rfl rfl ⟨fun hc => ?_, fun hc => ?_⟩
  · have H := H.1 hc
    exact g_weak (show gm_Lle [some _, some _, some _, some _, some _, some _, some _, some _, some _, some _, some _, some _] _ from ⟨rfl, ⟨rfl, ⟨rfl, ⟨rfl, ⟨rfl, ⟨rfl, ⟨rfl, ⟨rfl, ⟨rfl, ⟨rfl, ⟨rfl, ⟨rfl, trivial⟩⟩⟩⟩⟩⟩⟩⟩⟩⟩⟩⟩) H
  · have H := H.2 hc
    refine g_iload rfl rfl rfl (pc' := 57) ?_
    refine g_if_ne rfl (pc' := 60) (pt := 72) rfl rfl ⟨fun hc => ?_, fun hc => ?_⟩
    · have H := H.1 hc
      exact g_weak (show gm_Lle [some _, some _, some _, some _, some _, some _, some _, some _, some _, some _, some _, some _] _ from ⟨rfl, ⟨rfl, ⟨rfl, ⟨rfl, ⟨rfl, ⟨rfl, ⟨rfl, ⟨rfl, ⟨rfl, ⟨rfl, ⟨rfl, ⟨rfl, trivial⟩⟩⟩⟩⟩⟩⟩⟩⟩⟩⟩⟩) H
    · have H := H.2 hc
      refine g_aload (r := some _) rfl rfl rfl (pc' := 61) ?_
      refine t_get (o := 38) rfl hT rfl rfl rfl (pc' := 64) rfl ?_
      refine g_iload rfl rfl rfl (pc' := 66) ?_
      refine g_iinc (c := (Int32.ofNat 1)) rfl rfl rfl rfl rfl (pc' := 69) ?_
      refine g_iload rfl rfl rfl (pc' := 71) ?_
      obtain ⟨n1, hn1, H⟩ := H
      refine t_iastore hT (o := 38) (l := 8) rfl rfl rfl hn1  (pc' := 72) rfl (fun hT => ?_)
      have H := H _ rfl
      exact g_weak (show gm_Lle [some _, some _, some _, some _, some _, some _, some _, some _, some _, some _, some _, some _] _ from ⟨rfl, ⟨rfl, ⟨rfl, ⟨rfl, ⟨rfl, ⟨rfl, ⟨rfl, ⟨rfl, ⟨rfl, ⟨rfl, ⟨rfl, ⟨rfl, trivial⟩⟩⟩⟩⟩⟩⟩⟩⟩⟩⟩⟩) H
theorem w_410_72 {m : Nat} {x1 : Int32} {x2 : Int32} {x3 : Int32} {x4 : Int32} {x5 : Int32} {x6 : Int32} {x7 : Int32} {x8 : Int32} {x9 : Int32} {x10 : Int32} {x11 : Int32} {h : hh_T} {Q : Option Value ⊕ Nat → hh_T → Prop} (hT : tw_ok h m) (H : (x10 < x3 → (gm_G 410 97 [some (.ref m), some (.int x1), some (.int x2), some (.int x3), some (.int x4), some (.int x5), some (.int x6), some (.int x7), some (.int x8), some (.int x9), some (.int x10)] [] h Q)) ∧ (¬ x10 < x3 → ((x11 = Int32.ofNat 0 → (gm_G 410 97 [some (.ref m), some (.int x1), some (.int x2), some (.int x3), some (.int x4), some (.int x5), some (.int x6), some (.int x7), some (.int x8), some (.int x9), some (.int x10)] [] h Q)) ∧ (¬ x11 = Int32.ofNat 0 → (∃ n1, gm_ix x8 n1 8 ∧ (∀ h2, h2 = hh_wi h (m + 37) n1 (x10 - x3) → (gm_G 410 97 [some (.ref m), some (.int x1), some (.int x2), some (.int x3), some (.int x4), some (.int x5), some (.int x6), some (.int x7), some (.int (x8 + (Int32.ofNat 1))), some (.int x9), some (.int x10)] [] h2 Q))))))) : gm_G 410 72 [some (.ref m), some (.int x1), some (.int x2), some (.int x3), some (.int x4), some (.int x5), some (.int x6), some (.int x7), some (.int x8), some (.int x9), some (.int x10), some (.int x11)] [] h Q := by
  refine g_iload rfl rfl rfl (pc' := 74) ?_
  refine g_iload rfl rfl rfl (pc' := 75) ?_
  refine g_ic_lt rfl (pc' := 78) (pt := 97) rfl rfl ⟨fun hc => ?_, fun hc => ?_⟩
  · have H := H.1 hc
    exact g_weak (show gm_Lle [some _, some _, some _, some _, some _, some _, some _, some _, some _, some _, some _] _ from ⟨rfl, ⟨rfl, ⟨rfl, ⟨rfl, ⟨rfl, ⟨rfl, ⟨rfl, ⟨rfl, ⟨rfl, ⟨rfl, ⟨rfl, trivial⟩⟩⟩⟩⟩⟩⟩⟩⟩⟩⟩) H
  · have H := H.2 hc
    refine g_iload rfl rfl rfl (pc' := 80) ?_
    refine g_if_eq rfl (pc' := 83) (pt := 97) rfl rfl ⟨fun hc => ?_, fun hc => ?_⟩
    · have H := H.1 hc
      exact g_weak (show gm_Lle [some _, some _, some _, some _, some _, some _, some _, some _, some _, some _, some _] _ from ⟨rfl, ⟨rfl, ⟨rfl, ⟨rfl, ⟨rfl, ⟨rfl, ⟨rfl, ⟨rfl, ⟨rfl, ⟨rfl, ⟨rfl, trivial⟩⟩⟩⟩⟩⟩⟩⟩⟩⟩⟩) H
    · have H := H.2 hc
      refine g_aload (r := some _) rfl rfl rfl (pc' := 84) ?_
      refine t_get (o := 37) rfl hT rfl rfl rfl (pc' := 87) rfl ?_
      refine g_iload rfl rfl rfl (pc' := 89) ?_
      refine g_iinc (c := (Int32.ofNat 1)) rfl rfl rfl rfl rfl (pc' := 92) ?_
      refine g_iload rfl rfl rfl (pc' := 94) ?_
      refine g_iload rfl rfl rfl (pc' := 95) ?_
      refine g_isub rfl rfl (pc' := 96) ?_
      obtain ⟨n1, hn1, H⟩ := H
      refine t_iastore hT (o := 37) (l := 8) rfl rfl rfl hn1  (pc' := 97) rfl (fun hT => ?_)
      have H := H _ rfl
      exact g_weak (show gm_Lle [some _, some _, some _, some _, some _, some _, some _, some _, some _, some _, some _] _ from ⟨rfl, ⟨rfl, ⟨rfl, ⟨rfl, ⟨rfl, ⟨rfl, ⟨rfl, ⟨rfl, ⟨rfl, ⟨rfl, ⟨rfl, trivial⟩⟩⟩⟩⟩⟩⟩⟩⟩⟩⟩) H
theorem w_410_97 {m : Nat} {x1 : Int32} {x2 : Int32} {x3 : Int32} {x4 : Int32} {x5 : Int32} {x6 : Int32} {x7 : Int32} {x8 : Int32} {x9 : Int32} {x10 : Int32} {h : hh_T} {Q : Option Value ⊕ Nat → hh_T → Prop} (hT : tw_ok h m) (H : (x10 < x3 → (gm_G 410 147 [some (.ref m), some (.int x1), some (.int x2), some (.int x3), some (.int x4), some (.int x5), some (.int x6), some (.int x7), some (.int x8), some (.int x9), some (.int x10)] [] h Q)) ∧ (¬ x10 < x3 → (∃ n1, gm_ix x1 n1 3 ∧ ((hh_i h (m + 13) n1) ≠ 0 ∧ (∃ n2, gm_ix (((Int32.ofNat 6) * x1) + ((x2 + x10) - (x2 + x10) / (hh_i h (m + 13) n1) * (hh_i h (m + 13) n1))) n2 18 ∧ (∃ n3, gm_ix x1 n3 3 ∧ ((hh_i h (m + 13) n3) ≠ 0 ∧ (gm_G 122 0 [some (.ref m), some (.int (hh_i h (m + 15) n2)), some (.int ((x2 + x10) / (hh_i h (m + 13) n3)))] [] h (pI (fun v5 h4 => (v5 = Int32.ofNat 0 → (gm_G 410 147 [some (.ref m), some (.int x1), some (.int x2), some (.int x3), some (.int x4), some (.int x5), some (.int x6), some (.int x7), some (.int x8), some (.int x9), some (.int x10)] [] h4 Q)) ∧ (¬ v5 = Int32.ofNat 0 → (∀ h6, h6 = hh_wi h4 m 53 (Int32.ofNat 1) → (gm_G 410 147 [some (.ref m), some (.int x1), some (.int x2), some (.int x3), some (.int x4), some (.int x5), some (.int x6), some (.int x7), some (.int x8), some (.int x9), some (.int x10)] [] h6 Q)))) (fun _ _ => False)))))))))) : gm_G 410 97 [some (.ref m), some (.int x1), some (.int x2), some (.int x3), some (.int x4), some (.int x5), some (.int x6), some (.int x7), some (.int x8), some (.int x9), some (.int x10)] [] h Q := by
  refine g_iload rfl rfl rfl (pc' := 99) ?_
  refine g_iload rfl rfl rfl (pc' := 100) ?_
  refine g_ic_lt rfl (pc' := 103) (pt := 147) rfl rfl ⟨fun hc => ?_, fun hc => ?_⟩
  · have H := H.1 hc
    exact g_weak (show gm_Lle [some _, some _, some _, some _, some _, some _, some _, some _, some _, some _, some _] _ from ⟨rfl, ⟨rfl, ⟨rfl, ⟨rfl, ⟨rfl, ⟨rfl, ⟨rfl, ⟨rfl, ⟨rfl, ⟨rfl, ⟨rfl, trivial⟩⟩⟩⟩⟩⟩⟩⟩⟩⟩⟩) H
  · have H := H.2 hc
    refine g_aload (r := some _) rfl rfl rfl (pc' := 104) ?_
    refine g_aload (r := some _) rfl rfl rfl (pc' := 105) ?_
    refine t_get (o := 15) rfl hT rfl rfl rfl (pc' := 108) rfl ?_
    refine g_iconst rfl rfl rfl (pc' := 110) ?_
    refine g_iload rfl rfl rfl (pc' := 111) ?_
    refine g_imul rfl rfl (pc' := 112) ?_
    refine g_iload rfl rfl rfl (pc' := 113) ?_
    refine g_iload rfl rfl rfl (pc' := 115) ?_
    refine g_iadd rfl rfl (pc' := 116) ?_
    refine g_aload (r := some _) rfl rfl rfl (pc' := 117) ?_
    refine t_get (o := 13) rfl hT rfl rfl rfl (pc' := 120) rfl ?_
    refine g_iload rfl rfl rfl (pc' := 121) ?_
    obtain ⟨n1, hn1, H⟩ := H
    refine t_iaload hT (o := 13) (l := 3) rfl rfl rfl hn1 (pc' := 122) rfl ?_
    obtain ⟨Hp, H⟩ := H
    refine g_irem rfl Hp (pc' := 123) rfl ?_
    refine g_iadd rfl rfl (pc' := 124) ?_
    obtain ⟨n2, hn2, H⟩ := H
    refine t_iaload hT (o := 15) (l := 18) rfl rfl rfl hn2 (pc' := 125) rfl ?_
    refine g_iload rfl rfl rfl (pc' := 126) ?_
    refine g_iload rfl rfl rfl (pc' := 128) ?_
    refine g_iadd rfl rfl (pc' := 129) ?_
    refine g_aload (r := some _) rfl rfl rfl (pc' := 130) ?_
    refine t_get (o := 13) rfl hT rfl rfl rfl (pc' := 133) rfl ?_
    refine g_iload rfl rfl rfl (pc' := 134) ?_
    obtain ⟨n3, hn3, H⟩ := H
    refine t_iaload hT (o := 13) (l := 3) rfl rfl rfl hn3 (pc' := 135) rfl ?_
    obtain ⟨Hp, H⟩ := H
    refine g_idiv rfl Hp (pc' := 136) rfl ?_
    refine t_call hT (y := 122) (n := 3) (pc' := 139) rfl rfl (t_vt hT rfl rfl) rfl rfl ⟨(Nat.le_of_ble_eq_true rfl), (Nat.le_of_ble_eq_true rfl), (Nat.le_of_ble_eq_true rfl)⟩ rfl H (tI_elim (fun v5 h4 H hT => ?_))
    show gm_G _ 139 _ _ _ _
    refine g_if_eq rfl (pc' := 142) (pt := 147) rfl rfl ⟨fun hc => ?_, fun hc => ?_⟩
    · have H := H.1 hc
      exact g_weak (show gm_Lle [some _, some _, some _, some _, some _, some _, some _, some _, some _, some _, some _] _ from ⟨rfl, ⟨rfl, ⟨rfl, ⟨rfl, ⟨rfl, ⟨rfl, ⟨rfl, ⟨rfl, ⟨rfl, ⟨rfl, ⟨rfl, trivial⟩⟩⟩⟩⟩⟩⟩⟩⟩⟩⟩) H
    · have H := H.2 hc
      refine g_aload (r := some _) rfl rfl rfl (pc' := 143) ?_
      refine g_iconst rfl rfl rfl (pc' := 144) ?_
      refine t_putZ rfl hT rfl rfl (by decide) (pc' := 147) rfl (fun hT => ?_)
      have H := H _ rfl
      exact g_weak (show gm_Lle [some _, some _, some _, some _, some _, some _, some _, some _, some _, some _, some _] _ from ⟨rfl, ⟨rfl, ⟨rfl, ⟨rfl, ⟨rfl, ⟨rfl, ⟨rfl, ⟨rfl, ⟨rfl, ⟨rfl, ⟨rfl, trivial⟩⟩⟩⟩⟩⟩⟩⟩⟩⟩⟩) H
theorem w_410_147 {m : Nat} {x1 : Int32} {x2 : Int32} {x3 : Int32} {x4 : Int32} {x5 : Int32} {x6 : Int32} {x7 : Int32} {x8 : Int32} {x9 : Int32} {x10 : Int32} {h : hh_T} {Q : Option Value ⊕ Nat → hh_T → Prop} (hT : tw_ok h m) (H : gm_G 410 12 [some (.ref m), some (.int x1), some (.int x2), some (.int x3), some (.int x4), some (.int x5), some (.int x6), some (.int x7), some (.int x8), some (.int x9), some (.int (x10 + (Int32.ofNat 1)))] [] h Q) : gm_G 410 147 [some (.ref m), some (.int x1), some (.int x2), some (.int x3), some (.int x4), some (.int x5), some (.int x6), some (.int x7), some (.int x8), some (.int x9), some (.int x10)] [] h Q := by
  refine g_iinc (c := (Int32.ofNat 1)) rfl rfl rfl rfl rfl (pc' := 150) ?_
  refine g_goto rfl (pc' := 12) rfl ?_
  exact g_weak (show gm_Lle [some _, some _, some _, some _, some _, some _, some _, some _, some _, some _, some _] _ from ⟨rfl, ⟨rfl, ⟨rfl, ⟨rfl, ⟨rfl, ⟨rfl, ⟨rfl, ⟨rfl, ⟨rfl, ⟨rfl, ⟨rfl, trivial⟩⟩⟩⟩⟩⟩⟩⟩⟩⟩⟩) H
theorem w_410_164 {m : Nat} {x1 : Int32} {x2 : Int32} {x3 : Int32} {x4 : Int32} {x5 : Int32} {x6 : Int32} {x8 : Int32} {x10 : Int32} {h : hh_T} {Q : Option Value ⊕ Nat → hh_T → Prop} (hT : tw_ok h m) (H : (¬ x10 < (Int32.ofNat 8) → (Q (.inl (some (.int (Int32.ofNat 1)))) h)) ∧ (x10 < (Int32.ofNat 8) → (gm_G 410 174 [some (.ref m), some (.int x1), some (.int x2), some (.int x3), some (.int x4), some (.int x5), some (.int x6), none, some (.int x8), none, some (.int x10), some (.int (Int32.ofNat 0))] [] h Q))) : gm_G 410 164 [some (.ref m), some (.int x1), some (.int x2), some (.int x3), some (.int x4), some (.int x5), some (.int x6), none, some (.int x8), none, some (.int x10)] [] h Q := by
  refine g_iload rfl rfl rfl (pc' := 166) ?_
  refine g_iconst rfl rfl rfl (pc' := 168) ?_
  refine g_ic_ge rfl (pc' := 171) (pt := 451) rfl rfl ⟨fun hc => ?_, fun hc => ?_⟩
  · have H := H.1 hc
    refine g_iconst rfl rfl rfl (pc' := 452) ?_
    exact g_ireturn rfl (Or.inr (by decide)) H
  · have H := H.2 hc
    refine g_iconst rfl rfl rfl (pc' := 172) ?_
    refine g_istore rfl rfl rfl (pc' := 174) ?_
    exact g_weak (show gm_Lle [some _, some _, some _, some _, some _, some _, some _, none, some _, none, some _, some _] _ from ⟨rfl, ⟨rfl, ⟨rfl, ⟨rfl, ⟨rfl, ⟨rfl, ⟨rfl, ⟨rfl, ⟨rfl, ⟨rfl, trivial⟩⟩⟩⟩⟩⟩⟩⟩⟩⟩) H
theorem w_410_174 {m : Nat} {x1 : Int32} {x2 : Int32} {x3 : Int32} {x4 : Int32} {x5 : Int32} {x6 : Int32} {x8 : Int32} {x10 : Int32} {x11 : Int32} {h : hh_T} {Q : Option Value ⊕ Nat → hh_T → Prop} (hT : tw_ok h m) (H : (¬ x11 < x8 → (gm_G 382 0 [some (.ref m), some (.int x8)] [] h (pV (fun h1 => gm_G 410 336 [some (.ref m), some (.int x1), some (.int x2), some (.int x3), some (.int x4), some (.int x5), some (.int x6), none, some (.int x8), none, some (.int x10), some (.int (Int32.ofNat 0))] [] h1 Q) (fun _ _ => False)))) ∧ (x11 < x8 → (∃ n2, gm_ix x11 n2 8 ∧ (gm_G 91 0 [some (.ref m), some (.int x1), some (.int (x2 + (hh_i h (m + 38) n2))), some (.int x10)] [] h (pI (fun v4 h3 => gm_G 410 206 [some (.ref m), some (.int x1), some (.int x2), some (.int x3), some (.int x4), some (.int x5), some (.int x6), none, some (.int x8), none, some (.int x10), some (.int x11), some (.int (hh_i h (m + 38) n2)), some (.int v4), some (.int (Int32.ofNat 0))] [] h3 Q) (fun _ _ => False)))))) : gm_G 410 174 [some (.ref m), some (.int x1), some (.int x2), some (.int x3), some (.int x4), some (.int x5), some (.int x6), none, some (.int x8), none, some (.int x10), some (.int x11)] [] h Q := by
  refine g_iload rfl rfl rfl (pc' := 176) ?_
  refine g_iload rfl rfl rfl (pc' := 178) ?_
  refine g_ic_ge rfl (pc' := 181) (pt := 327) rfl rfl ⟨fun hc => ?_, fun hc => ?_⟩
  · have H := H.1 hc
    refine g_aload (r := some _) rfl rfl rfl (pc' := 328) ?_
    refine g_iload rfl rfl rfl (pc' := 330) ?_
    refine t_call hT (y := 382) (n := 2) (pc' := 333) rfl rfl (t_vt hT rfl rfl) rfl rfl ⟨(Nat.le_of_ble_eq_true rfl), (Nat.le_of_ble_eq_true rfl), (Nat.le_of_ble_eq_true rfl)⟩ rfl H (tV_elim (fun h1 H hT => ?_))
    show gm_G _ 333 _ _ _ _
    refine g_iconst rfl rfl rfl (pc' := 334) ?_
    refine g_istore rfl rfl rfl (pc' := 336) ?_
    exact g_weak (show gm_Lle [some _, some _, some _, some _, some _, some _, some _, none, some _, none, some _, some _] _ from ⟨rfl, ⟨rfl, ⟨rfl, ⟨rfl, ⟨rfl, ⟨rfl, ⟨rfl, ⟨rfl, ⟨rfl, ⟨rfl, trivial⟩⟩⟩⟩⟩⟩⟩⟩⟩⟩) H
  · have H := H.2 hc
    refine g_aload (r := some _) rfl rfl rfl (pc' := 182) ?_
    refine t_get (o := 38) rfl hT rfl rfl rfl (pc' := 185) rfl ?_
    refine g_iload rfl rfl rfl (pc' := 187) ?_
    obtain ⟨n2, hn2, H⟩ := H
    refine t_iaload hT (o := 38) (l := 8) rfl rfl rfl hn2 (pc' := 188) rfl ?_
    refine g_istore rfl rfl rfl (pc' := 190) ?_
    refine g_aload (r := some _) rfl rfl rfl (pc' := 191) ?_
    refine g_iload rfl rfl rfl (pc' := 192) ?_
    refine g_iload rfl rfl rfl (pc' := 193) ?_
    refine g_iload rfl rfl rfl (pc' := 195) ?_
    refine g_iadd rfl rfl (pc' := 196) ?_
    refine g_iload rfl rfl rfl (pc' := 198) ?_
    refine t_call hT (y := 91) (n := 4) (pc' := 201) rfl rfl (t_vt hT rfl rfl) rfl rfl ⟨(Nat.le_of_ble_eq_true rfl), (Nat.le_of_ble_eq_true rfl), (Nat.le_of_ble_eq_true rfl)⟩ rfl H (tI_elim (fun v4 h3 H hT => ?_))
    show gm_G _ 201 _ _ _ _
    refine g_istore rfl rfl rfl (pc' := 203) ?_
    refine g_iconst rfl rfl rfl (pc' := 204) ?_
    refine g_istore rfl rfl rfl (pc' := 206) ?_
    exact g_weak (show gm_Lle [some _, some _, some _, some _, some _, some _, some _, none, some _, none, some _, some _, some _, some _, some _] _ from ⟨rfl, ⟨rfl, ⟨rfl, ⟨rfl, ⟨rfl, ⟨rfl, ⟨rfl, ⟨rfl, ⟨rfl, ⟨rfl, ⟨rfl, ⟨rfl, ⟨rfl, trivial⟩⟩⟩⟩⟩⟩⟩⟩⟩⟩⟩⟩⟩) H
theorem w_410_206 {m : Nat} {x1 : Int32} {x2 : Int32} {x3 : Int32} {x4 : Int32} {x5 : Int32} {x6 : Int32} {x8 : Int32} {x10 : Int32} {x11 : Int32} {x12 : Int32} {x13 : Int32} {x14 : Int32} {h : hh_T} {Q : Option Value ⊕ Nat → hh_T → Prop} (hT : tw_ok h m) (H : (¬ x14 < x4 → (gm_G 410 267 [some (.ref m), some (.int x1), some (.int x2), some (.int x3), some (.int x4), some (.int x5), some (.int x6), none, some (.int x8), none, some (.int x10), some (.int x11), some (.int x12), some (.int x13), some (.int (Int32.ofNat 0))] [] h Q)) ∧ (x14 < x4 → (gm_G 286 0 [some (.ref m), some (.int x1), some (.int ((x2 + x3) + x14)), some (.int x6)] [] h (pI (fun v2 h1 => (¬ v2 = Int32.ofNat 0 → (gm_G 410 258 [some (.ref m), some (.int x1), some (.int x2), some (.int x3), some (.int x4), some (.int x5), some (.int x6), none, some (.int x8), none, some (.int x10), some (.int x11), some (.int x12), some (.int x13), some (.int x14)] [] h1 Q)) ∧ (v2 = Int32.ofNat 0 → (gm_G 296 0 [some (.int (x12 * x14))] [] h1 (pI (fun v4 h3 => gm_G 91 0 [some (.ref m), some (.int x1), some (.int ((x2 + x3) + x14)), some (.int x10)] [] h3 (pI (fun v6 h5 => gm_G 161 0 [some (.int v4), some (.int v6)] [] h5 (pI (fun v8 h7 => gm_G 410 258 [some (.ref m), some (.int x1), some (.int x2), some (.int x3), some (.int x4), some (.int x5), some (.int x6), none, some (.int x8), none, some (.int x10), some (.int x11), some (.int x12), some (.int (x13 ^^^ v8)), some (.int x14)] [] h7 Q) (fun _ _ => False))) (fun _ _ => False))) (fun _ _ => False))))) (fun _ _ => False))))) : gm_G 410 206 [some (.ref m), some (.int x1), some (.int x2), some (.int x3), some (.int x4), some (.int x5), some (.int x6), none, some (.int x8), none, some (.int x10), some (.int x11), some (.int x12), some (.int x13), some (.int x14)] [] h Q := by
  refine g_iload rfl rfl rfl (pc' := 208) ?_
  refine g_iload rfl rfl rfl (pc' := 210) ?_
  refine g_ic_ge rfl (pc' := 213) (pt := 264) rfl rfl ⟨fun hc => ?_, fun hc => ?_⟩
  · have H := H.1 hc
    refine g_iconst rfl rfl rfl (pc' := 265) ?_
    refine g_istore rfl rfl rfl (pc' := 267) ?_
    exact g_weak (show gm_Lle [some _, some _, some _, some _, some _, some _, some _, none, some _, none, some _, some _, some _, some _, some _] _ from ⟨rfl, ⟨rfl, ⟨rfl, ⟨rfl, ⟨rfl, ⟨rfl, ⟨rfl, ⟨rfl, ⟨rfl, ⟨rfl, ⟨rfl, ⟨rfl, ⟨rfl, trivial⟩⟩⟩⟩⟩⟩⟩⟩⟩⟩⟩⟩⟩) H
  · have H := H.2 hc
    refine g_aload (r := some _) rfl rfl rfl (pc' := 214) ?_
    refine g_iload rfl rfl rfl (pc' := 215) ?_
    refine g_iload rfl rfl rfl (pc' := 216) ?_
    refine g_iload rfl rfl rfl (pc' := 217) ?_
    refine g_iadd rfl rfl (pc' := 218) ?_
    refine g_iload rfl rfl rfl (pc' := 220) ?_
    refine g_iadd rfl rfl (pc' := 221) ?_
    refine g_iload rfl rfl rfl (pc' := 223) ?_
    refine t_call hT (y := 286) (n := 4) (pc' := 226) rfl rfl (t_vt hT rfl rfl) rfl rfl ⟨(Nat.le_of_ble_eq_true rfl), (Nat.le_of_ble_eq_true rfl), (Nat.le_of_ble_eq_true rfl)⟩ rfl H (tI_elim (fun v2 h1 H hT => ?_))
    show gm_G _ 226 _ _ _ _
    refine g_if_ne rfl (pc' := 229) (pt := 258) rfl rfl ⟨fun hc => ?_, fun hc => ?_⟩
    · have H := H.1 hc
      exact g_weak (show gm_Lle [some _, some _, some _, some _, some _, some _, some _, none, some _, none, some _, some _, some _, some _, some _] _ from ⟨rfl, ⟨rfl, ⟨rfl, ⟨rfl, ⟨rfl, ⟨rfl, ⟨rfl, ⟨rfl, ⟨rfl, ⟨rfl, ⟨rfl, ⟨rfl, ⟨rfl, trivial⟩⟩⟩⟩⟩⟩⟩⟩⟩⟩⟩⟩⟩) H
    · have H := H.2 hc
      refine g_iload rfl rfl rfl (pc' := 231) ?_
      refine g_iload rfl rfl rfl (pc' := 233) ?_
      refine g_iload rfl rfl rfl (pc' := 235) ?_
      refine g_imul rfl rfl (pc' := 236) ?_
      refine t_call hT (y := 296) (n := 1) (pc' := 239) rfl rfl (fun _ => rfl) rfl rfl ⟨(Nat.le_of_ble_eq_true rfl), (Nat.le_of_ble_eq_true rfl), (Nat.le_of_ble_eq_true rfl)⟩ rfl H (tI_elim (fun v4 h3 H hT => ?_))
      show gm_G _ 239 _ _ _ _
      refine g_aload (r := some _) rfl rfl rfl (pc' := 240) ?_
      refine g_iload rfl rfl rfl (pc' := 241) ?_
      refine g_iload rfl rfl rfl (pc' := 242) ?_
      refine g_iload rfl rfl rfl (pc' := 243) ?_
      refine g_iadd rfl rfl (pc' := 244) ?_
      refine g_iload rfl rfl rfl (pc' := 246) ?_
      refine g_iadd rfl rfl (pc' := 247) ?_
      refine g_iload rfl rfl rfl (pc' := 249) ?_
      refine t_call hT (y := 91) (n := 4) (pc' := 252) rfl rfl (t_vt hT rfl rfl) rfl rfl ⟨(Nat.le_of_ble_eq_true rfl), (Nat.le_of_ble_eq_true rfl), (Nat.le_of_ble_eq_true rfl)⟩ rfl H (tI_elim (fun v6 h5 H hT => ?_))
      show gm_G _ 252 _ _ _ _
      refine t_call hT (y := 161) (n := 2) (pc' := 255) rfl rfl (fun _ => rfl) rfl rfl ⟨(Nat.le_of_ble_eq_true rfl), (Nat.le_of_ble_eq_true rfl), (Nat.le_of_ble_eq_true rfl)⟩ rfl H (tI_elim (fun v8 h7 H hT => ?_))
      show gm_G _ 255 _ _ _ _
      refine g_ixor rfl rfl (pc' := 256) ?_
      refine g_istore rfl rfl rfl (pc' := 258) ?_
      exact g_weak (show gm_Lle [some _, some _, some _, some _, some _, some _, some _, none, some _, none, some _, some _, some _, some _, some _] _ from ⟨rfl, ⟨rfl, ⟨rfl, ⟨rfl, ⟨rfl, ⟨rfl, ⟨rfl, ⟨rfl, ⟨rfl, ⟨rfl, ⟨rfl, ⟨rfl, ⟨rfl, trivial⟩⟩⟩⟩⟩⟩⟩⟩⟩⟩⟩⟩⟩) H
theorem w_410_258 {m : Nat} {x1 : Int32} {x2 : Int32} {x3 : Int32} {x4 : Int32} {x5 : Int32} {x6 : Int32} {x8 : Int32} {x10 : Int32} {x11 : Int32} {x12 : Int32} {x13 : Int32} {x14 : Int32} {h : hh_T} {Q : Option Value ⊕ Nat → hh_T → Prop} (hT : tw_ok h m) (H : gm_G 410 206 [some (.ref m), some (.int x1), some (.int x2), some (.int x3), some (.int x4), some (.int x5), some (.int x6), none, some (.int x8), none, some (.int x10), some (.int x11), some (.int x12), some (.int x13), some (.int (x14 + (Int32.ofNat 1)))] [] h Q) : gm_G 410 258 [some (.ref m), some (.int x1), some (.int x2), some (.int x3), some (.int x4), some (.int x5), some (.int x6), none, some (.int x8), none, some (.int x10), some (.int x11), some (.int x12), some (.int x13), some (.int x14)] [] h Q := by
  refine g_iinc (c := (Int32.ofNat 1)) rfl rfl rfl rfl rfl (pc' := 261) ?_
  refine g_goto rfl (pc' := 206) rfl ?_
  exact g_weak (show gm_Lle [some _, some _, some _, some _, some _, some _, some _, none, some _, none, some _, some _, some _, some _, some _] _ from ⟨rfl, ⟨rfl, ⟨rfl, ⟨rfl, ⟨rfl, ⟨rfl, ⟨rfl, ⟨rfl, ⟨rfl, ⟨rfl, ⟨rfl, ⟨rfl, ⟨rfl, trivial⟩⟩⟩⟩⟩⟩⟩⟩⟩⟩⟩⟩⟩) H
theorem w_410_267 {m : Nat} {x1 : Int32} {x2 : Int32} {x3 : Int32} {x4 : Int32} {x5 : Int32} {x6 : Int32} {x8 : Int32} {x10 : Int32} {x11 : Int32} {x12 : Int32} {x13 : Int32} {x14 : Int32} {h : hh_T} {Q : Option Value ⊕ Nat → hh_T → Prop} (hT : tw_ok h m) (H : (¬ x14 < x8 → (∃ n1, gm_ix (((Int32.ofNat 8) * x11) + x8) n1 64 ∧ (∀ h2, h2 = hh_wi h (m + 39) n1 x13 → (gm_G 410 174 [some (.ref m), some (.int x1), some (.int x2), some (.int x3), some (.int x4), some (.int x5), some (.int x6), none, some (.int x8), none, some (.int x10), some (.int (x11 + (Int32.ofNat 1)))] [] h2 Q)))) ∧ (x14 < x8 → (∃ n3, gm_ix x14 n3 8 ∧ (gm_G 296 0 [some (.int (x12 * (hh_i h (m + 37) n3)))] [] h (pI (fun v5 h4 => ∃ n6, gm_ix (((Int32.ofNat 8) * x11) + x14) n6 64 ∧ (∀ h7, h7 = hh_wi h4 (m + 39) n6 v5 → (gm_G 410 267 [some (.ref m), some (.int x1), some (.int x2), some (.int x3), some (.int x4), some (.int x5), some (.int x6), none, some (.int x8), none, some (.int x10), some (.int x11), some (.int x12), some (.int x13), some (.int (x14 + (Int32.ofNat 1)))] [] h7 Q))) (fun _ _ => False)))))) : gm_G 410 267 [some (.ref m), some (.int x1), some (.int x2), some (.int x3), some (.int x4), some (.int x5), some (.int x6), none, some (.int x8), none, some (.int x10), some (.int x11), some (.int x12), some (.int x13), some (.int x14)] [] h Q := by
  refine g_iload rfl rfl rfl (pc' := 269) ?_
  refine g_iload rfl rfl rfl (pc' := 271) ?_
  refine g_ic_ge rfl (pc' := 274) (pt := 306) rfl rfl ⟨fun hc => ?_, fun hc => ?_⟩
  · have H := H.1 hc
    refine g_aload (r := some _) rfl rfl rfl (pc' := 307) ?_
    refine t_get (o := 39) rfl hT rfl rfl rfl (pc' := 310) rfl ?_
    refine g_iconst rfl rfl rfl (pc' := 312) ?_
    refine g_iload rfl rfl rfl (pc' := 314) ?_
    refine g_imul rfl rfl (pc' := 315) ?_
    refine g_iload rfl rfl rfl (pc' := 317) ?_
    refine g_iadd rfl rfl (pc' := 318) ?_
    refine g_iload rfl rfl rfl (pc' := 320) ?_
    obtain ⟨n1, hn1, H⟩ := H
    refine t_iastore hT (o := 39) (l := 64) rfl rfl rfl hn1  (pc' := 321) rfl (fun hT => ?_)
    have H := H _ rfl
    refine g_iinc (c := (Int32.ofNat 1)) rfl rfl rfl rfl rfl (pc' := 324) ?_
    refine g_goto rfl (pc' := 174) rfl ?_
    exact g_weak (show gm_Lle [some _, some _, some _, some _, some _, some _, some _, none, some _, none, some _, some _] _ from ⟨rfl, ⟨rfl, ⟨rfl, ⟨rfl, ⟨rfl, ⟨rfl, ⟨rfl, ⟨rfl, ⟨rfl, ⟨rfl, trivial⟩⟩⟩⟩⟩⟩⟩⟩⟩⟩) H
  · have H := H.2 hc
    refine g_aload (r := some _) rfl rfl rfl (pc' := 275) ?_
    refine t_get (o := 39) rfl hT rfl rfl rfl (pc' := 278) rfl ?_
    refine g_iconst rfl rfl rfl (pc' := 280) ?_
    refine g_iload rfl rfl rfl (pc' := 282) ?_
    refine g_imul rfl rfl (pc' := 283) ?_
    refine g_iload rfl rfl rfl (pc' := 285) ?_
    refine g_iadd rfl rfl (pc' := 286) ?_
    refine g_iload rfl rfl rfl (pc' := 288) ?_
    refine g_aload (r := some _) rfl rfl rfl (pc' := 289) ?_
    refine t_get (o := 37) rfl hT rfl rfl rfl (pc' := 292) rfl ?_
    refine g_iload rfl rfl rfl (pc' := 294) ?_
    obtain ⟨n3, hn3, H⟩ := H
    refine t_iaload hT (o := 37) (l := 8) rfl rfl rfl hn3 (pc' := 295) rfl ?_
    refine g_imul rfl rfl (pc' := 296) ?_
    refine t_call hT (y := 296) (n := 1) (pc' := 299) rfl rfl (fun _ => rfl) rfl rfl ⟨(Nat.le_of_ble_eq_true rfl), (Nat.le_of_ble_eq_true rfl), (Nat.le_of_ble_eq_true rfl)⟩ rfl H (tI_elim (fun v5 h4 H hT => ?_))
    show gm_G _ 299 _ _ _ _
    obtain ⟨n6, hn6, H⟩ := H
    refine t_iastore hT (o := 39) (l := 64) rfl rfl rfl hn6  (pc' := 300) rfl (fun hT => ?_)
    have H := H _ rfl
    refine g_iinc (c := (Int32.ofNat 1)) rfl rfl rfl rfl rfl (pc' := 303) ?_
    refine g_goto rfl (pc' := 267) rfl ?_
    exact g_weak (show gm_Lle [some _, some _, some _, some _, some _, some _, some _, none, some _, none, some _, some _, some _, some _, some _] _ from ⟨rfl, ⟨rfl, ⟨rfl, ⟨rfl, ⟨rfl, ⟨rfl, ⟨rfl, ⟨rfl, ⟨rfl, ⟨rfl, ⟨rfl, ⟨rfl, ⟨rfl, trivial⟩⟩⟩⟩⟩⟩⟩⟩⟩⟩⟩⟩⟩) H
theorem w_410_336 {m : Nat} {x1 : Int32} {x2 : Int32} {x3 : Int32} {x4 : Int32} {x5 : Int32} {x6 : Int32} {x8 : Int32} {x10 : Int32} {x11 : Int32} {h : hh_T} {Q : Option Value ⊕ Nat → hh_T → Prop} (hT : tw_ok h m) (H : (¬ x11 < x4 → (gm_G 410 164 [some (.ref m), some (.int x1), some (.int x2), some (.int x3), some (.int x4), some (.int x5), some (.int x6), none, some (.int x8), none, some (.int (x10 + (Int32.ofNat 1)))] [] h Q)) ∧ (x11 < x4 → (gm_G 286 0 [some (.ref m), some (.int x1), some (.int ((x2 + x3) + x11)), some (.int x6)] [] h (pI (fun v2 h1 => (¬ v2 = Int32.ofNat 0 → (gm_G 410 377 [some (.ref m), some (.int x1), some (.int x2), some (.int x3), some (.int x4), some (.int x5), some (.int x6), none, some (.int x8), none, some (.int x10), some (.int x11), some (.int (Int32.ofNat 0))] [] h1 Q)) ∧ (v2 = Int32.ofNat 0 → (gm_G 91 0 [some (.ref m), some (.int x1), some (.int ((x2 + x3) + x11)), some (.int x10)] [] h1 (pI (fun v4 h3 => gm_G 410 377 [some (.ref m), some (.int x1), some (.int x2), some (.int x3), some (.int x4), some (.int x5), some (.int x6), none, some (.int x8), none, some (.int x10), some (.int x11), some (.int v4)] [] h3 Q) (fun _ _ => False))))) (fun _ _ => False))))) : gm_G 410 336 [some (.ref m), some (.int x1), some (.int x2), some (.int x3), some (.int x4), some (.int x5), some (.int x6), none, some (.int x8), none, some (.int x10), some (.int x11)] [] h Q := by
  refine g_iload rfl rfl rfl (pc' := 338) ?_
  refine g_iload rfl rfl rfl (pc' := 340) ?_
  refine g_ic_ge rfl (pc' := 343) (pt := 445) rfl rfl ⟨fun hc => ?_, fun hc => ?_⟩
  · have H := H.1 hc
    refine g_iinc (c := (Int32.ofNat 1)) rfl rfl rfl rfl rfl (pc' := 448) ?_
    refine g_goto rfl (pc' := 164) rfl ?_
    exact g_weak (show gm_Lle [some _, some _, some _, some _, some _, some _, some _, none, some _, none, some _] _ from ⟨rfl, ⟨rfl, ⟨rfl, ⟨rfl, ⟨rfl, ⟨rfl, ⟨rfl, ⟨rfl, ⟨rfl, trivial⟩⟩⟩⟩⟩⟩⟩⟩⟩) H
  · have H := H.2 hc
    refine g_iconst rfl rfl rfl (pc' := 344) ?_
    refine g_istore rfl rfl rfl (pc' := 346) ?_
    refine g_aload (r := some _) rfl rfl rfl (pc' := 347) ?_
    refine g_iload rfl rfl rfl (pc' := 348) ?_
    refine g_iload rfl rfl rfl (pc' := 349) ?_
    refine g_iload rfl rfl rfl (pc' := 350) ?_
    refine g_iadd rfl rfl (pc' := 351) ?_
    refine g_iload rfl rfl rfl (pc' := 353) ?_
    refine g_iadd rfl rfl (pc' := 354) ?_
    refine g_iload rfl rfl rfl (pc' := 356) ?_
    refine t_call hT (y := 286) (n := 4) (pc' := 359) rfl rfl (t_vt hT rfl rfl) rfl rfl ⟨(Nat.le_of_ble_eq_true rfl), (Nat.le_of_ble_eq_true rfl), (Nat.le_of_ble_eq_true rfl)⟩ rfl H (tI_elim (fun v2 h1 H hT => ?_))
    show gm_G _ 359 _ _ _ _
    refine g_if_ne rfl (pc' := 362) (pt := 377) rfl rfl ⟨fun hc => ?_, fun hc => ?_⟩
    · have H := H.1 hc
      exact g_weak (show gm_Lle [some _, some _, some _, some _, some _, some _, some _, none, some _, none, some _, some _, some _] _ from ⟨rfl, ⟨rfl, ⟨rfl, ⟨rfl, ⟨rfl, ⟨rfl, ⟨rfl, ⟨rfl, ⟨rfl, ⟨rfl, ⟨rfl, trivial⟩⟩⟩⟩⟩⟩⟩⟩⟩⟩⟩) H
    · have H := H.2 hc
      refine g_aload (r := some _) rfl rfl rfl (pc' := 363) ?_
      refine g_iload rfl rfl rfl (pc' := 364) ?_
      refine g_iload rfl rfl rfl (pc' := 365) ?_
      refine g_iload rfl rfl rfl (pc' := 366) ?_
      refine g_iadd rfl rfl (pc' := 367) ?_
      refine g_iload rfl rfl rfl (pc' := 369) ?_
      refine g_iadd rfl rfl (pc' := 370) ?_
      refine g_iload rfl rfl rfl (pc' := 372) ?_
      refine t_call hT (y := 91) (n := 4) (pc' := 375) rfl rfl (t_vt hT rfl rfl) rfl rfl ⟨(Nat.le_of_ble_eq_true rfl), (Nat.le_of_ble_eq_true rfl), (Nat.le_of_ble_eq_true rfl)⟩ rfl H (tI_elim (fun v4 h3 H hT => ?_))
      show gm_G _ 375 _ _ _ _
      refine g_istore rfl rfl rfl (pc' := 377) ?_
      exact g_weak (show gm_Lle [some _, some _, some _, some _, some _, some _, some _, none, some _, none, some _, some _, some _] _ from ⟨rfl, ⟨rfl, ⟨rfl, ⟨rfl, ⟨rfl, ⟨rfl, ⟨rfl, ⟨rfl, ⟨rfl, ⟨rfl, ⟨rfl, trivial⟩⟩⟩⟩⟩⟩⟩⟩⟩⟩⟩) H
theorem w_410_377 {m : Nat} {x1 : Int32} {x2 : Int32} {x3 : Int32} {x4 : Int32} {x5 : Int32} {x6 : Int32} {x8 : Int32} {x10 : Int32} {x11 : Int32} {x12 : Int32} {h : hh_T} {Q : Option Value ⊕ Nat → hh_T → Prop} (hT : tw_ok h m) (H : gm_G 410 380 [some (.ref m), some (.int x1), some (.int x2), some (.int x3), some (.int x4), some (.int x5), some (.int x6), none, some (.int x8), none, some (.int x10), some (.int x11), some (.int x12), some (.int (Int32.ofNat 0))] [] h Q) : gm_G 410 377 [some (.ref m), some (.int x1), some (.int x2), some (.int x3), some (.int x4), some (.int x5), some (.int x6), none, some (.int x8), none, some (.int x10), some (.int x11), some (.int x12)] [] h Q := by
  refine g_iconst rfl rfl rfl (pc' := 378) ?_
  refine g_istore rfl rfl rfl (pc' := 380) ?_
  exact g_weak (show gm_Lle [some _, some _, some _, some _, some _, some _, some _, none, some _, none, some _, some _, some _, some _] _ from ⟨rfl, ⟨rfl, ⟨rfl, ⟨rfl, ⟨rfl, ⟨rfl, ⟨rfl, ⟨rfl, ⟨rfl, ⟨rfl, ⟨rfl, ⟨rfl, trivial⟩⟩⟩⟩⟩⟩⟩⟩⟩⟩⟩⟩) H
theorem w_410_380 {m : Nat} {x1 : Int32} {x2 : Int32} {x3 : Int32} {x4 : Int32} {x5 : Int32} {x6 : Int32} {x8 : Int32} {x10 : Int32} {x11 : Int32} {x12 : Int32} {x13 : Int32} {h : hh_T} {Q : Option Value ⊕ Nat → hh_T → Prop} (hT : tw_ok h m) (H : (¬ x13 < x8 → (∃ n1, gm_ix (((Int32.ofNat 8) * (x5 + x11)) + x10) n1 32 ∧ (∀ h2, h2 = hh_wi h (m + 35) n1 ((x12.toInt8.toInt32).toInt8.toInt32) → (gm_G 410 336 [some (.ref m), some (.int x1), some (.int x2), some (.int x3), some (.int x4), some (.int x5), some (.int x6), none, some (.int x8), none, some (.int x10), some (.int (x11 + (Int32.ofNat 1)))] [] h2 Q)))) ∧ (x13 < x8 → (∃ n3, gm_ix x13 n3 8 ∧ ((¬ (hh_i h (m + 37) n3) = x11 → (gm_G 410 414 [some (.ref m), some (.int x1), some (.int x2), some (.int x3), some (.int x4), some (.int x5), some (.int x6), none, some (.int x8), none, some (.int x10), some (.int x11), some (.int x12), some (.int x13)] [] h Q)) ∧ ((hh_i h (m + 37) n3) = x11 → (∃ n4, gm_ix (((Int32.ofNat 8) * x13) + x8) n4 64 ∧ (gm_G 410 414 [some (.ref m), some (.int x1), some (.int x2), some (.int x3), some (.int x4), some (.int x5), some (.int x6), none, some (.int x8), none, some (.int x10), some (.int x11), some (.int (hh_i h (m + 39) n4)), some (.int x13)] [] h Q))))))) : gm_G 410 380 [some (.ref m), some (.int x1), some (.int x2), some (.int x3), some (.int x4), some (.int x5), some (.int x6), none, some (.int x8), none, some (.int x10), some (.int x11), some (.int x12), some (.int x13)] [] h Q := by
  refine g_iload rfl rfl rfl (pc' := 382) ?_
  refine g_iload rfl rfl rfl (pc' := 384) ?_
  refine g_ic_ge rfl (pc' := 387) (pt := 420) rfl rfl ⟨fun hc => ?_, fun hc => ?_⟩
  · have H := H.1 hc
    refine g_aload (r := some _) rfl rfl rfl (pc' := 421) ?_
    refine t_get (o := 35) rfl hT rfl rfl rfl (pc' := 424) rfl ?_
    refine g_iconst rfl rfl rfl (pc' := 426) ?_
    refine g_iload rfl rfl rfl (pc' := 428) ?_
    refine g_iload rfl rfl rfl (pc' := 430) ?_
    refine g_iadd rfl rfl (pc' := 431) ?_
    refine g_imul rfl rfl (pc' := 432) ?_
    refine g_iload rfl rfl rfl (pc' := 434) ?_
    refine g_iadd rfl rfl (pc' := 435) ?_
    refine g_iload rfl rfl rfl (pc' := 437) ?_
    refine g_i2b rfl rfl (pc' := 438) ?_
    obtain ⟨n1, hn1, H⟩ := H
    refine t_bastore hT (o := 35) (l := 32) rfl rfl rfl hn1  (pc' := 439) rfl (fun hT => ?_)
    have H := H _ rfl
    refine g_iinc (c := (Int32.ofNat 1)) rfl rfl rfl rfl rfl (pc' := 442) ?_
    refine g_goto rfl (pc' := 336) rfl ?_
    exact g_weak (show gm_Lle [some _, some _, some _, some _, some _, some _, some _, none, some _, none, some _, some _] _ from ⟨rfl, ⟨rfl, ⟨rfl, ⟨rfl, ⟨rfl, ⟨rfl, ⟨rfl, ⟨rfl, ⟨rfl, ⟨rfl, trivial⟩⟩⟩⟩⟩⟩⟩⟩⟩⟩) H
  · have H := H.2 hc
    refine g_aload (r := some _) rfl rfl rfl (pc' := 388) ?_
    refine t_get (o := 37) rfl hT rfl rfl rfl (pc' := 391) rfl ?_
    refine g_iload rfl rfl rfl (pc' := 393) ?_
    obtain ⟨n3, hn3, H⟩ := H
    refine t_iaload hT (o := 37) (l := 8) rfl rfl rfl hn3 (pc' := 394) rfl ?_
    refine g_iload rfl rfl rfl (pc' := 396) ?_
    refine g_ic_ne rfl (pc' := 399) (pt := 414) rfl rfl ⟨fun hc => ?_, fun hc => ?_⟩
    · have H := H.1 hc
      exact g_weak (show gm_Lle [some _, some _, some _, some _, some _, some _, some _, none, some _, none, some _, some _, some _, some _] _ from ⟨rfl, ⟨rfl, ⟨rfl, ⟨rfl, ⟨rfl, ⟨rfl, ⟨rfl, ⟨rfl, ⟨rfl, ⟨rfl, ⟨rfl, ⟨rfl, trivial⟩⟩⟩⟩⟩⟩⟩⟩⟩⟩⟩⟩) H
    · have H := H.2 hc
      refine g_aload (r := some _) rfl rfl rfl (pc' := 400) ?_
      refine t_get (o := 39) rfl hT rfl rfl rfl (pc' := 403) rfl ?_
      refine g_iconst rfl rfl rfl (pc' := 405) ?_
      refine g_iload rfl rfl rfl (pc' := 407) ?_
      refine g_imul rfl rfl (pc' := 408) ?_
      refine g_iload rfl rfl rfl (pc' := 410) ?_
      refine g_iadd rfl rfl (pc' := 411) ?_
      obtain ⟨n4, hn4, H⟩ := H
      refine t_iaload hT (o := 39) (l := 64) rfl rfl rfl hn4 (pc' := 412) rfl ?_
      refine g_istore rfl rfl rfl (pc' := 414) ?_
      exact g_weak (show gm_Lle [some _, some _, some _, some _, some _, some _, some _, none, some _, none, some _, some _, some _, some _] _ from ⟨rfl, ⟨rfl, ⟨rfl, ⟨rfl, ⟨rfl, ⟨rfl, ⟨rfl, ⟨rfl, ⟨rfl, ⟨rfl, ⟨rfl, ⟨rfl, trivial⟩⟩⟩⟩⟩⟩⟩⟩⟩⟩⟩⟩) H
theorem w_410_414 {m : Nat} {x1 : Int32} {x2 : Int32} {x3 : Int32} {x4 : Int32} {x5 : Int32} {x6 : Int32} {x8 : Int32} {x10 : Int32} {x11 : Int32} {x12 : Int32} {x13 : Int32} {h : hh_T} {Q : Option Value ⊕ Nat → hh_T → Prop} (hT : tw_ok h m) (H : gm_G 410 380 [some (.ref m), some (.int x1), some (.int x2), some (.int x3), some (.int x4), some (.int x5), some (.int x6), none, some (.int x8), none, some (.int x10), some (.int x11), some (.int x12), some (.int (x13 + (Int32.ofNat 1)))] [] h Q) : gm_G 410 414 [some (.ref m), some (.int x1), some (.int x2), some (.int x3), some (.int x4), some (.int x5), some (.int x6), none, some (.int x8), none, some (.int x10), some (.int x11), some (.int x12), some (.int x13)] [] h Q := by
  refine g_iinc (c := (Int32.ofNat 1)) rfl rfl rfl rfl rfl (pc' := 417) ?_
  refine g_goto rfl (pc' := 380) rfl ?_
  exact g_weak (show gm_Lle [some _, some _, some _, some _, some _, some _, some _, none, some _, none, some _, some _, some _, some _] _ from ⟨rfl, ⟨rfl, ⟨rfl, ⟨rfl, ⟨rfl, ⟨rfl, ⟨rfl, ⟨rfl, ⟨rfl, ⟨rfl, ⟨rfl, ⟨rfl, trivial⟩⟩⟩⟩⟩⟩⟩⟩⟩⟩⟩⟩) H
theorem w_411_0 {m : Nat} {x1 : Int32} {x2 : Int32} {h : hh_T} {Q : Option Value ⊕ Nat → hh_T → Prop} (hT : tw_ok h m) (H : (¬ (hh_i h m 77) = Int32.ofNat 0 → ((x2 < (Int32.ofInt (-1)) → (Q (.inl (some (.int (Int32.ofInt (-1))))) h)) ∧ (¬ x2 < (Int32.ofInt (-1)) → ((¬ (Int32.ofNat 7) < x2 → (gm_G 307 0 [some (.ref m), some (.int x1)] [] h (pI (fun v2 h1 => (¬ v2 < Int32.ofNat 0 → (gm_G 383 0 [some (.ref m), some (.int v2), some (.int x2)] [] h1 (pI (fun v4 h3 => Q (.inl (some (.int v4))) h3) (fun _ _ => False)))) ∧ (v2 < Int32.ofNat 0 → (Q (.inl (some (.int (Int32.ofInt (-2))))) h1))) (fun _ _ => False)))) ∧ ((Int32.ofNat 7) < x2 → (Q (.inl (some (.int (Int32.ofInt (-1))))) h)))))) ∧ ((hh_i h m 77) = Int32.ofNat 0 → (Q (.inl (some (.int (Int32.ofInt (-9))))) h))) : gm_G 411 0 [some (.ref m), some (.int x1), some (.int x2)] [] h Q := by
  refine g_aload (r := some _) rfl rfl rfl (pc' := 1) ?_
  refine t_getZ rfl hT rfl rfl (pc' := 4) rfl ?_
  refine g_if_ne rfl (pc' := 7) (pt := 10) rfl rfl ⟨fun hc => ?_, fun hc => ?_⟩
  · have H := H.1 hc
    refine g_iload rfl rfl rfl (pc' := 11) ?_
    refine g_iconst rfl rfl rfl (pc' := 12) ?_
    refine g_ic_lt rfl (pc' := 15) (pt := 21) rfl rfl ⟨fun hc => ?_, fun hc => ?_⟩
    · have H := H.1 hc
      refine g_iconst rfl rfl rfl (pc' := 22) ?_
      exact g_ireturn rfl (Or.inl rfl) H
    · have H := H.2 hc
      refine g_iload rfl rfl rfl (pc' := 16) ?_
      refine g_iconst rfl rfl rfl (pc' := 18) ?_
      refine g_ic_le rfl (pc' := 21) (pt := 23) rfl rfl ⟨fun hc => ?_, fun hc => ?_⟩
      · have H := H.1 hc
        refine g_aload (r := some _) rfl rfl rfl (pc' := 24) ?_
        refine g_iload rfl rfl rfl (pc' := 25) ?_
        refine t_call hT (y := 307) (n := 2) (pc' := 28) rfl rfl (t_vt hT rfl rfl) rfl rfl ⟨(Nat.le_of_ble_eq_true rfl), (Nat.le_of_ble_eq_true rfl), (Nat.le_of_ble_eq_true rfl)⟩ rfl H (tI_elim (fun v2 h1 H hT => ?_))
        show gm_G _ 28 _ _ _ _
        refine g_istore rfl rfl rfl (pc' := 29) ?_
        refine g_iload rfl rfl rfl (pc' := 30) ?_
        refine g_if_ge rfl (pc' := 33) (pt := 38) rfl rfl ⟨fun hc => ?_, fun hc => ?_⟩
        · have H := H.1 hc
          refine g_aload (r := some _) rfl rfl rfl (pc' := 39) ?_
          refine g_iload rfl rfl rfl (pc' := 40) ?_
          refine g_iload rfl rfl rfl (pc' := 41) ?_
          refine t_call hT (y := 383) (n := 3) (pc' := 44) rfl rfl (t_vt hT rfl rfl) rfl rfl ⟨(Nat.le_of_ble_eq_true rfl), (Nat.le_of_ble_eq_true rfl), (Nat.le_of_ble_eq_true rfl)⟩ rfl H (tI_elim (fun v4 h3 H hT => ?_))
          show gm_G _ 44 _ _ _ _
          exact g_ireturn rfl (Or.inl rfl) H
        · have H := H.2 hc
          refine g_iconst rfl rfl rfl (pc' := 35) ?_
          refine g_goto rfl (pc' := 44) rfl ?_
          exact g_ireturn rfl (Or.inl rfl) H
      · have H := H.2 hc
        refine g_iconst rfl rfl rfl (pc' := 22) ?_
        exact g_ireturn rfl (Or.inl rfl) H
  · have H := H.2 hc
    refine g_iconst rfl rfl rfl (pc' := 9) ?_
    exact g_ireturn rfl (Or.inl rfl) H
theorem w_412_0 {m : Nat} {x1 : Int32} {h : hh_T} {Q : Option Value ⊕ Nat → hh_T → Prop} (hT : tw_ok h m) (H : ∀ h1, h1 = hh_wi h m 2 (Int32.ofNat 0) → ((¬ (hh_i h1 m 77) = Int32.ofNat 0 → (gm_G 370 0 [some (.ref m), some (.ref (m + 1)), some (.int (Int32.ofNat 0)), some (.int (hh_i h m 2))] [] h1 (pI (fun v3 h2 => (¬ v3 = Int32.ofNat 0 → (gm_G 152 0 [some (.ref m), some (.int x1)] [] h2 (pI (fun v5 h4 => (¬ v5 < Int32.ofNat 0 → (∃ n6, gm_ix v5 n6 32 ∧ ((¬ Int32.ofNat 0 < (hh_i h4 (m + 61) n6) → (∃ n7, gm_ix v5 n7 32 ∧ (gm_G 308 0 [some (.ref m), some (.int (hh_i h4 (m + 63) n7)), some (.ref (m + 1)), some (.int (Int32.ofNat 0)), some (.int (hh_i h m 2)), some (.int (Int32.ofNat 1))] [] h4 (pI (fun v9 h8 => (¬ v9 < Int32.ofNat 0 → (∃ n10, gm_ix (((Int32.ofNat 16) * (hh_i h4 (m + 63) n7)) + v9) n10 1536 ∧ (((hh_i h8 (m + 40) n10) = (Int32.ofNat 2) → (gm_G 115 0 [some (.ref m), some (.int (((Int32.ofNat 16) * (hh_i h4 (m + 63) n7)) + v9)), some (.int (hh_i h8 m 5)), some (.int (Int32.ofNat 4))] [] h8 (pI (fun v12 h11 => (¬ v12 = Int32.ofNat 0 → (gm_G 412 138 [some (.ref m), some (.int x1), none, none, none, some (.int v9), some (.int (Int32.ofNat 0))] [] h11 Q)) ∧ (v12 = Int32.ofNat 0 → (Q (.inl (some (.int (Int32.ofInt (-6))))) h11))) (fun _ _ => False)))) ∧ (¬ (hh_i h8 (m + 40) n10) = (Int32.ofNat 2) → (Q (.inl (some (.int (Int32.ofInt (-10))))) h8))))) ∧ (v9 < Int32.ofNat 0 → (Q (.inl (some (.int v9))) h8))) (fun _ _ => False))))) ∧ (Int32.ofNat 0 < (hh_i h4 (m + 61) n6) → (Q (.inl (some (.int (Int32.ofInt (-10))))) h4))))) ∧ (v5 < Int32.ofNat 0 → (Q (.inl (some (.int (Int32.ofInt (-2))))) h4))) (fun _ _ => False)))) ∧ (v3 = Int32.ofNat 0 → (Q (.inl (some (.int (Int32.ofInt (-11))))) h2))) (fun _ _ => False)))) ∧ ((hh_i h1 m 77) = Int32.ofNat 0 → (Q (.inl (some (.int (Int32.ofInt (-9))))) h1)))) : gm_G 412 0 [some (.ref m), some (.int x1)] [] h Q := by
  refine g_aload (r := some _) rfl rfl rfl (pc' := 1) ?_
  refine t_getI rfl hT rfl rfl (pc' := 4) rfl ?_
  refine g_istore rfl rfl rfl (pc' := 5) ?_
  refine g_aload (r := some _) rfl rfl rfl (pc' := 6) ?_
  refine g_iconst rfl rfl rfl (pc' := 7) ?_
  refine t_putI rfl hT rfl rfl  (pc' := 10) rfl (fun hT => ?_)
  have H := H _ rfl
  refine g_aload (r := some _) rfl rfl rfl (pc' := 11) ?_
  refine t_getZ rfl hT rfl rfl (pc' := 14) rfl ?_
  refine g_if_ne rfl (pc' := 17) (pt := 20) rfl rfl ⟨fun hc => ?_, fun hc => ?_⟩
  · have H := H.1 hc
    refine g_aload (r := some _) rfl rfl rfl (pc' := 21) ?_
    refine g_aload (r := some _) rfl rfl rfl (pc' := 22) ?_
    refine t_get (o := 1) rfl hT rfl rfl rfl (pc' := 25) rfl ?_
    refine g_iconst rfl rfl rfl (pc' := 26) ?_
    refine g_iload rfl rfl rfl (pc' := 27) ?_
    refine t_call hT (y := 370) (n := 4) (pc' := 30) rfl rfl (t_vt hT rfl rfl) rfl rfl ⟨(Nat.le_of_ble_eq_true rfl), (Nat.le_of_ble_eq_true rfl), (Nat.le_of_ble_eq_true rfl)⟩ rfl H (tI_elim (fun v3 h2 H hT => ?_))
    show gm_G _ 30 _ _ _ _
    refine g_if_ne rfl (pc' := 33) (pt := 36) rfl rfl ⟨fun hc => ?_, fun hc => ?_⟩
    · have H := H.1 hc
      refine g_aload (r := some _) rfl rfl rfl (pc' := 37) ?_
      refine g_iload rfl rfl rfl (pc' := 38) ?_
      refine t_call hT (y := 152) (n := 2) (pc' := 41) rfl rfl (t_vt hT rfl rfl) rfl rfl ⟨(Nat.le_of_ble_eq_true rfl), (Nat.le_of_ble_eq_true rfl), (Nat.le_of_ble_eq_true rfl)⟩ rfl H (tI_elim (fun v5 h4 H hT => ?_))
      show gm_G _ 41 _ _ _ _
      refine g_istore rfl rfl rfl (pc' := 42) ?_
      refine g_iload rfl rfl rfl (pc' := 43) ?_
      refine g_if_ge rfl (pc' := 46) (pt := 49) rfl rfl ⟨fun hc => ?_, fun hc => ?_⟩
      · have H := H.1 hc
        refine g_aload (r := some _) rfl rfl rfl (pc' := 50) ?_
        refine t_get (o := 61) rfl hT rfl rfl rfl (pc' := 53) rfl ?_
        refine g_iload rfl rfl rfl (pc' := 54) ?_
        obtain ⟨n6, hn6, H⟩ := H
        refine t_iaload hT (o := 61) (l := 32) rfl rfl rfl hn6 (pc' := 55) rfl ?_
        refine g_if_le rfl (pc' := 58) (pt := 61) rfl rfl ⟨fun hc => ?_, fun hc => ?_⟩
        · have H := H.1 hc
          refine g_aload (r := some _) rfl rfl rfl (pc' := 62) ?_
          refine t_get (o := 63) rfl hT rfl rfl rfl (pc' := 65) rfl ?_
          refine g_iload rfl rfl rfl (pc' := 66) ?_
          obtain ⟨n7, hn7, H⟩ := H
          refine t_iaload hT (o := 63) (l := 32) rfl rfl rfl hn7 (pc' := 67) rfl ?_
          refine g_istore rfl rfl rfl (pc' := 69) ?_
          refine g_aload (r := some _) rfl rfl rfl (pc' := 70) ?_
          refine g_iload rfl rfl rfl (pc' := 72) ?_
          refine g_aload (r := some _) rfl rfl rfl (pc' := 73) ?_
          refine t_get (o := 1) rfl hT rfl rfl rfl (pc' := 76) rfl ?_
          refine g_iconst rfl rfl rfl (pc' := 77) ?_
          refine g_iload rfl rfl rfl (pc' := 78) ?_
          refine g_iconst rfl rfl rfl (pc' := 79) ?_
          refine t_call hT (y := 308) (n := 6) (pc' := 82) rfl rfl (t_vt hT rfl rfl) rfl rfl ⟨(Nat.le_of_ble_eq_true rfl), (Nat.le_of_ble_eq_true rfl), (Nat.le_of_ble_eq_true rfl)⟩ rfl H (tI_elim (fun v9 h8 H hT => ?_))
          show gm_G _ 82 _ _ _ _
          refine g_istore rfl rfl rfl (pc' := 84) ?_
          refine g_iload rfl rfl rfl (pc' := 86) ?_
          refine g_if_ge rfl (pc' := 89) (pt := 92) rfl rfl ⟨fun hc => ?_, fun hc => ?_⟩
          · have H := H.1 hc
            refine g_aload (r := some _) rfl rfl rfl (pc' := 93) ?_
            refine t_get (o := 40) rfl hT rfl rfl rfl (pc' := 96) rfl ?_
            refine g_iconst rfl rfl rfl (pc' := 98) ?_
            refine g_iload rfl rfl rfl (pc' := 100) ?_
            refine g_imul rfl rfl (pc' := 101) ?_
            refine g_iload rfl rfl rfl (pc' := 103) ?_
            refine g_iadd rfl rfl (pc' := 104) ?_
            obtain ⟨n10, hn10, H⟩ := H
            refine t_iaload hT (o := 40) (l := 1536) rfl rfl rfl hn10 (pc' := 105) rfl ?_
            refine g_iconst rfl rfl rfl (pc' := 106) ?_
            refine g_ic_eq rfl (pc' := 109) (pt := 112) rfl rfl ⟨fun hc => ?_, fun hc => ?_⟩
            · have H := H.1 hc
              refine g_aload (r := some _) rfl rfl rfl (pc' := 113) ?_
              refine g_iconst rfl rfl rfl (pc' := 115) ?_
              refine g_iload rfl rfl rfl (pc' := 117) ?_
              refine g_imul rfl rfl (pc' := 118) ?_
              refine g_iload rfl rfl rfl (pc' := 120) ?_
              refine g_iadd rfl rfl (pc' := 121) ?_
              refine g_aload (r := some _) rfl rfl rfl (pc' := 122) ?_
              refine t_getI rfl hT rfl rfl (pc' := 125) rfl ?_
              refine g_iconst rfl rfl rfl (pc' := 126) ?_
              refine t_call hT (y := 115) (n := 4) (pc' := 129) rfl rfl (t_vt hT rfl rfl) rfl rfl ⟨(Nat.le_of_ble_eq_true rfl), (Nat.le_of_ble_eq_true rfl), (Nat.le_of_ble_eq_true rfl)⟩ rfl H (tI_elim (fun v12 h11 H hT => ?_))
              show gm_G _ 129 _ _ _ _
              refine g_if_ne rfl (pc' := 132) (pt := 135) rfl rfl ⟨fun hc => ?_, fun hc => ?_⟩
              · have H := H.1 hc
                refine g_iconst rfl rfl rfl (pc' := 136) ?_
                refine g_istore rfl rfl rfl (pc' := 138) ?_
                exact g_weak (show gm_Lle [some _, some _, none, none, none, some _, some _] _ from ⟨rfl, ⟨rfl, ⟨rfl, ⟨rfl, trivial⟩⟩⟩⟩) H
              · have H := H.2 hc
                refine g_iconst rfl rfl rfl (pc' := 134) ?_
                exact g_ireturn rfl (Or.inl rfl) H
            · have H := H.2 hc
              refine g_iconst rfl rfl rfl (pc' := 111) ?_
              exact g_ireturn rfl (Or.inl rfl) H
          · have H := H.2 hc
            refine g_iload rfl rfl rfl (pc' := 91) ?_
            exact g_ireturn rfl (Or.inl rfl) H
        · have H := H.2 hc
          refine g_iconst rfl rfl rfl (pc' := 60) ?_
          exact g_ireturn rfl (Or.inl rfl) H
      · have H := H.2 hc
        refine g_iconst rfl rfl rfl (pc' := 48) ?_
        exact g_ireturn rfl (Or.inl rfl) H
    · have H := H.2 hc
      refine g_iconst rfl rfl rfl (pc' := 35) ?_
      exact g_ireturn rfl (Or.inl rfl) H
  · have H := H.2 hc
    refine g_iconst rfl rfl rfl (pc' := 19) ?_
    exact g_ireturn rfl (Or.inl rfl) H
theorem w_412_138 {m : Nat} {x1 : Int32} {x5 : Int32} {x6 : Int32} {h : hh_T} {Q : Option Value ⊕ Nat → hh_T → Prop} (hT : tw_ok h m) (H : (¬ x6 < (Int32.ofNat 4) → (gm_G 412 160 [some (.ref m), some (.int x1), none, none, none, some (.int x5), some (.int x6)] [] h Q)) ∧ (x6 < (Int32.ofNat 4) → (∃ n1, gm_ix x6 n1 4 ∧ (((hh_i h (m + 97) n1) = Int32.ofNat 0 → (gm_G 412 160 [some (.ref m), some (.int x1), none, none, none, some (.int x5), some (.int x6)] [] h Q)) ∧ (¬ (hh_i h (m + 97) n1) = Int32.ofNat 0 → (gm_G 412 138 [some (.ref m), some (.int x1), none, none, none, some (.int x5), some (.int (x6 + (Int32.ofNat 1)))] [] h Q)))))) : gm_G 412 138 [some (.ref m), some (.int x1), none, none, none, some (.int x5), some (.int x6)] [] h Q := by
  refine g_iload rfl rfl rfl (pc' := 140) ?_
  refine g_iconst rfl rfl rfl (pc' := 141) ?_
  refine g_ic_ge rfl (pc' := 144) (pt := 160) rfl rfl ⟨fun hc => ?_, fun hc => ?_⟩
  · have H := H.1 hc
    exact g_weak (show gm_Lle [some _, some _, none, none, none, some _, some _] _ from ⟨rfl, ⟨rfl, ⟨rfl, ⟨rfl, trivial⟩⟩⟩⟩) H
  · have H := H.2 hc
    refine g_aload (r := some _) rfl rfl rfl (pc' := 145) ?_
    refine t_get (o := 97) rfl hT rfl rfl rfl (pc' := 148) rfl ?_
    refine g_iload rfl rfl rfl (pc' := 150) ?_
    obtain ⟨n1, hn1, H⟩ := H
    refine t_zaload hT (o := 97) (l := 4) rfl rfl rfl hn1 (pc' := 151) rfl ?_
    refine g_if_eq rfl (pc' := 154) (pt := 160) rfl rfl ⟨fun hc => ?_, fun hc => ?_⟩
    · have H := H.1 hc
      exact g_weak (show gm_Lle [some _, some _, none, none, none, some _, some _] _ from ⟨rfl, ⟨rfl, ⟨rfl, ⟨rfl, trivial⟩⟩⟩⟩) H
    · have H := H.2 hc
      refine g_iinc (c := (Int32.ofNat 1)) rfl rfl rfl rfl rfl (pc' := 157) ?_
      refine g_goto rfl (pc' := 138) rfl ?_
      exact g_weak (show gm_Lle [some _, some _, none, none, none, some _, some _] _ from ⟨rfl, ⟨rfl, ⟨rfl, ⟨rfl, trivial⟩⟩⟩⟩) H
theorem w_412_160 {m : Nat} {x1 : Int32} {x5 : Int32} {x6 : Int32} {h : hh_T} {Q : Option Value ⊕ Nat → hh_T → Prop} (hT : tw_ok h m) (H : (¬ x6 = (Int32.ofNat 4) → (∃ n1, gm_ix x6 n1 4 ∧ (∀ h2, h2 = hh_wi h (m + 97) n1 (Int32.ofNat 1) → (∃ n3, gm_ix x6 n3 4 ∧ (∀ h4, h4 = hh_wi h2 (m + 98) n3 (Int32.ofNat 0) → (∃ n5, gm_ix x6 n5 4 ∧ (∀ h6, h6 = hh_wi h4 (m + 99) n5 x1 → (∃ n7, gm_ix x6 n7 4 ∧ (∀ h8, h8 = hh_wi h6 (m + 100) n7 x5 → (∃ n9, gm_ix x6 n9 4 ∧ (∀ h10, h10 = hh_wi h8 (m + 101) n9 (Int32.ofNat 0) → (Q (.inl (some (.int x6))) h10)))))))))))) ∧ (x6 = (Int32.ofNat 4) → (Q (.inl (some (.int (Int32.ofInt (-3))))) h))) : gm_G 412 160 [some (.ref m), some (.int x1), none, none, none, some (.int x5), some (.int x6)] [] h Q := by
  refine g_iload rfl rfl rfl (pc' := 162) ?_
  refine g_iconst rfl rfl rfl (pc' := 163) ?_
  refine g_ic_ne rfl (pc' := 166) (pt := 169) rfl rfl ⟨fun hc => ?_, fun hc => ?_⟩
  · have H := H.1 hc
    refine g_aload (r := some _) rfl rfl rfl (pc' := 170) ?_
    refine t_get (o := 97) rfl hT rfl rfl rfl (pc' := 173) rfl ?_
    refine g_iload rfl rfl rfl (pc' := 175) ?_
    refine g_iconst rfl rfl rfl (pc' := 176) ?_
    obtain ⟨n1, hn1, H⟩ := H
    refine t_zastore hT (o := 97) (l := 4) rfl rfl rfl hn1 (by decide) (pc' := 177) rfl (fun hT => ?_)
    have H := H _ rfl
    refine g_aload (r := some _) rfl rfl rfl (pc' := 178) ?_
    refine t_get (o := 98) rfl hT rfl rfl rfl (pc' := 181) rfl ?_
    refine g_iload rfl rfl rfl (pc' := 183) ?_
    refine g_iconst rfl rfl rfl (pc' := 184) ?_
    obtain ⟨n3, hn3, H⟩ := H
    refine t_zastore hT (o := 98) (l := 4) rfl rfl rfl hn3 (by decide) (pc' := 185) rfl (fun hT => ?_)
    have H := H _ rfl
    refine g_aload (r := some _) rfl rfl rfl (pc' := 186) ?_
    refine t_get (o := 99) rfl hT rfl rfl rfl (pc' := 189) rfl ?_
    refine g_iload rfl rfl rfl (pc' := 191) ?_
    refine g_iload rfl rfl rfl (pc' := 192) ?_
    obtain ⟨n5, hn5, H⟩ := H
    refine t_iastore hT (o := 99) (l := 4) rfl rfl rfl hn5  (pc' := 193) rfl (fun hT => ?_)
    have H := H _ rfl
    refine g_aload (r := some _) rfl rfl rfl (pc' := 194) ?_
    refine t_get (o := 100) rfl hT rfl rfl rfl (pc' := 197) rfl ?_
    refine g_iload rfl rfl rfl (pc' := 199) ?_
    refine g_iload rfl rfl rfl (pc' := 201) ?_
    obtain ⟨n7, hn7, H⟩ := H
    refine t_iastore hT (o := 100) (l := 4) rfl rfl rfl hn7  (pc' := 202) rfl (fun hT => ?_)
    have H := H _ rfl
    refine g_aload (r := some _) rfl rfl rfl (pc' := 203) ?_
    refine t_get (o := 101) rfl hT rfl rfl rfl (pc' := 206) rfl ?_
    refine g_iload rfl rfl rfl (pc' := 208) ?_
    refine g_iconst rfl rfl rfl (pc' := 209) ?_
    obtain ⟨n9, hn9, H⟩ := H
    refine t_iastore hT (o := 101) (l := 4) rfl rfl rfl hn9  (pc' := 210) rfl (fun hT => ?_)
    have H := H _ rfl
    refine g_iload rfl rfl rfl (pc' := 212) ?_
    exact g_ireturn rfl (Or.inl rfl) H
  · have H := H.2 hc
    refine g_iconst rfl rfl rfl (pc' := 168) ?_
    exact g_ireturn rfl (Or.inl rfl) H
theorem w_413_0 {m : Nat} {x1 : Int32} {x2 : Int32} {x3 : Int32} {h : hh_T} {Q : Option Value ⊕ Nat → hh_T → Prop} (hT : tw_ok h m) (H : ∃ n1, gm_ix (((Int32.ofNat 2) * x1) + x2) n1 1280 ∧ (∃ n2, gm_ix (((Int32.ofNat 2) * x1) + x2) n2 1280 ∧ ((x3 = Int32.ofNat 0 → (gm_G 374 0 [some (.ref m), some (.int (hh_i h (m + 23) n1)), some (.int x1), some (.ref (m + 26)), some (.int ((Int32.ofNat 32) * x1))] [] h (pI (fun v4 h3 => gm_G 413 58 [some (.ref m), none, none, some (.int x3), some (.int (hh_i h (m + 23) n1)), some (.int (hh_i h (m + 24) n2))] [.int v4] h3 Q) (fun _ _ => False)))) ∧ (¬ x3 = Int32.ofNat 0 → (gm_G 374 0 [some (.ref m), some (.int (hh_i h (m + 23) n1)), some (.int x1), some (.ref (m + 35)), some (.int (Int32.ofNat 0))] [] h (pI (fun v6 h5 => gm_G 413 58 [some (.ref m), none, none, some (.int x3), some (.int (hh_i h (m + 23) n1)), some (.int (hh_i h (m + 24) n2))] [.int v6] h5 Q) (fun _ _ => False))))))) : gm_G 413 0 [some (.ref m), some (.int x1), some (.int x2), some (.int x3)] [] h Q := by
  refine g_aload (r := some _) rfl rfl rfl (pc' := 1) ?_
  refine t_get (o := 23) rfl hT rfl rfl rfl (pc' := 4) rfl ?_
  refine g_iconst rfl rfl rfl (pc' := 5) ?_
  refine g_iload rfl rfl rfl (pc' := 6) ?_
  refine g_imul rfl rfl (pc' := 7) ?_
  refine g_iload rfl rfl rfl (pc' := 8) ?_
  refine g_iadd rfl rfl (pc' := 9) ?_
  obtain ⟨n1, hn1, H⟩ := H
  refine t_iaload hT (o := 23) (l := 1280) rfl rfl rfl hn1 (pc' := 10) rfl ?_
  refine g_istore rfl rfl rfl (pc' := 12) ?_
  refine g_aload (r := some _) rfl rfl rfl (pc' := 13) ?_
  refine t_get (o := 24) rfl hT rfl rfl rfl (pc' := 16) rfl ?_
  refine g_iconst rfl rfl rfl (pc' := 17) ?_
  refine g_iload rfl rfl rfl (pc' := 18) ?_
  refine g_imul rfl rfl (pc' := 19) ?_
  refine g_iload rfl rfl rfl (pc' := 20) ?_
  refine g_iadd rfl rfl (pc' := 21) ?_
  obtain ⟨n2, hn2, H⟩ := H
  refine t_iaload hT (o := 24) (l := 1280) rfl rfl rfl hn2 (pc' := 22) rfl ?_
  refine g_istore rfl rfl rfl (pc' := 24) ?_
  refine g_iload rfl rfl rfl (pc' := 25) ?_
  refine g_if_eq rfl (pc' := 28) (pt := 43) rfl rfl ⟨fun hc => ?_, fun hc => ?_⟩
  · have H := H.1 hc
    refine g_aload (r := some _) rfl rfl rfl (pc' := 44) ?_
    refine g_iload rfl rfl rfl (pc' := 46) ?_
    refine g_iload rfl rfl rfl (pc' := 47) ?_
    refine g_aload (r := some _) rfl rfl rfl (pc' := 48) ?_
    refine t_get (o := 26) rfl hT rfl rfl rfl (pc' := 51) rfl ?_
    refine g_iconst rfl rfl rfl (pc' := 53) ?_
    refine g_iload rfl rfl rfl (pc' := 54) ?_
    refine g_imul rfl rfl (pc' := 55) ?_
    refine t_call hT (y := 374) (n := 5) (pc' := 58) rfl rfl (t_vt hT rfl rfl) rfl rfl ⟨(Nat.le_of_ble_eq_true rfl), (Nat.le_of_ble_eq_true rfl), (Nat.le_of_ble_eq_true rfl)⟩ rfl H (tI_elim (fun v4 h3 H hT => ?_))
    show gm_G _ 58 _ _ _ _
    exact g_weak (show gm_Lle [some _, none, none, some _, some _, some _] _ from ⟨rfl, ⟨rfl, ⟨rfl, ⟨rfl, trivial⟩⟩⟩⟩) H
  · have H := H.2 hc
    refine g_aload (r := some _) rfl rfl rfl (pc' := 29) ?_
    refine g_iload rfl rfl rfl (pc' := 31) ?_
    refine g_iload rfl rfl rfl (pc' := 32) ?_
    refine g_aload (r := some _) rfl rfl rfl (pc' := 33) ?_
    refine t_get (o := 35) rfl hT rfl rfl rfl (pc' := 36) rfl ?_
    refine g_iconst rfl rfl rfl (pc' := 37) ?_
    refine t_call hT (y := 374) (n := 5) (pc' := 40) rfl rfl (t_vt hT rfl rfl) rfl rfl ⟨(Nat.le_of_ble_eq_true rfl), (Nat.le_of_ble_eq_true rfl), (Nat.le_of_ble_eq_true rfl)⟩ rfl H (tI_elim (fun v6 h5 H hT => ?_))
    show gm_G _ 40 _ _ _ _
    refine g_goto rfl (pc' := 58) rfl ?_
    exact g_weak (show gm_Lle [some _, none, none, some _, some _, some _] _ from ⟨rfl, ⟨rfl, ⟨rfl, ⟨rfl, trivial⟩⟩⟩⟩) H
theorem w_413_58 {m : Nat} {x3 : Int32} {x4 : Int32} {x5 : Int32} {y0 : Int32} {h : hh_T} {Q : Option Value ⊕ Nat → hh_T → Prop} (hT : tw_ok h m) (H : ∃ n1, gm_ix x4 n1 3 ∧ ((¬ (hh_i h (m + 11) n1) = (Int32.ofNat 2) → (∃ n2, gm_ix x4 n2 3 ∧ (gm_G 413 82 [some (.ref m), none, none, some (.int x3), some (.int x4), some (.int x5), some (.int y0)] [.int (hh_i h (m + 13) n2)] h Q))) ∧ ((hh_i h (m + 11) n1) = (Int32.ofNat 2) → (gm_G 413 82 [some (.ref m), none, none, some (.int x3), some (.int x4), some (.int x5), some (.int y0)] [.int (Int32.ofNat 1)] h Q)))) : gm_G 413 58 [some (.ref m), none, none, some (.int x3), some (.int x4), some (.int x5)] [.int y0] h Q := by
  refine g_istore rfl rfl rfl (pc' := 60) ?_
  refine g_aload (r := some _) rfl rfl rfl (pc' := 61) ?_
  refine t_get (o := 11) rfl hT rfl rfl rfl (pc' := 64) rfl ?_
  refine g_iload rfl rfl rfl (pc' := 66) ?_
  obtain ⟨n1, hn1, H⟩ := H
  refine t_iaload hT (o := 11) (l := 3) rfl rfl rfl hn1 (pc' := 67) rfl ?_
  refine g_iconst rfl rfl rfl (pc' := 68) ?_
  refine g_ic_ne rfl (pc' := 71) (pt := 75) rfl rfl ⟨fun hc => ?_, fun hc => ?_⟩
  · have H := H.1 hc
    refine g_aload (r := some _) rfl rfl rfl (pc' := 76) ?_
    refine t_get (o := 13) rfl hT rfl rfl rfl (pc' := 79) rfl ?_
    refine g_iload rfl rfl rfl (pc' := 81) ?_
    obtain ⟨n2, hn2, H⟩ := H
    refine t_iaload hT (o := 13) (l := 3) rfl rfl rfl hn2 (pc' := 82) rfl ?_
    exact g_weak (show gm_Lle [some _, none, none, some _, some _, some _, some _] _ from ⟨rfl, ⟨rfl, ⟨rfl, ⟨rfl, ⟨rfl, trivial⟩⟩⟩⟩⟩) H
  · have H := H.2 hc
    refine g_iconst rfl rfl rfl (pc' := 72) ?_
    refine g_goto rfl (pc' := 82) rfl ?_
    exact g_weak (show gm_Lle [some _, none, none, some _, some _, some _, some _] _ from ⟨rfl, ⟨rfl, ⟨rfl, ⟨rfl, ⟨rfl, trivial⟩⟩⟩⟩⟩) H
theorem w_413_82 {m : Nat} {x3 : Int32} {x4 : Int32} {x5 : Int32} {x6 : Int32} {y0 : Int32} {h : hh_T} {Q : Option Value ⊕ Nat → hh_T → Prop} (hT : tw_ok h m) (H : gm_G 413 87 [some (.ref m), none, none, some (.int x3), some (.int x4), some (.int x5), some (.int x6), some (.int y0), some (.int (Int32.ofNat 0))] [] h Q) : gm_G 413 82 [some (.ref m), none, none, some (.int x3), some (.int x4), some (.int x5), some (.int x6)] [.int y0] h Q := by
  refine g_istore rfl rfl rfl (pc' := 84) ?_
  refine g_iconst rfl rfl rfl (pc' := 85) ?_
  refine g_istore rfl rfl rfl (pc' := 87) ?_
  exact g_weak (show gm_Lle [some _, none, none, some _, some _, some _, some _, some _, some _] _ from ⟨rfl, ⟨rfl, ⟨rfl, ⟨rfl, ⟨rfl, ⟨rfl, ⟨rfl, trivial⟩⟩⟩⟩⟩⟩⟩) H
theorem w_413_87 {m : Nat} {x3 : Int32} {x4 : Int32} {x5 : Int32} {x6 : Int32} {x7 : Int32} {x8 : Int32} {h : hh_T} {Q : Option Value ⊕ Nat → hh_T → Prop} (hT : tw_ok h m) (H : (¬ x8 < x7 → (Q (.inl (some (.int (Int32.ofNat 1)))) h)) ∧ (x8 < x7 → (gm_G 413 97 [some (.ref m), none, none, some (.int x3), some (.int x4), some (.int x5), some (.int x6), some (.int x7), some (.int x8), some (.int (Int32.ofNat 0))] [] h Q))) : gm_G 413 87 [some (.ref m), none, none, some (.int x3), some (.int x4), some (.int x5), some (.int x6), some (.int x7), some (.int x8)] [] h Q := by
  refine g_iload rfl rfl rfl (pc' := 89) ?_
  refine g_iload rfl rfl rfl (pc' := 91) ?_
  refine g_ic_ge rfl (pc' := 94) (pt := 364) rfl rfl ⟨fun hc => ?_, fun hc => ?_⟩
  · have H := H.1 hc
    refine g_iconst rfl rfl rfl (pc' := 365) ?_
    exact g_ireturn rfl (Or.inr (by decide)) H
  · have H := H.2 hc
    refine g_iconst rfl rfl rfl (pc' := 95) ?_
    refine g_istore rfl rfl rfl (pc' := 97) ?_
    exact g_weak (show gm_Lle [some _, none, none, some _, some _, some _, some _, some _, some _, some _] _ from ⟨rfl, ⟨rfl, ⟨rfl, ⟨rfl, ⟨rfl, ⟨rfl, ⟨rfl, ⟨rfl, trivial⟩⟩⟩⟩⟩⟩⟩⟩) H
theorem w_413_97 {m : Nat} {x3 : Int32} {x4 : Int32} {x5 : Int32} {x6 : Int32} {x7 : Int32} {x8 : Int32} {x9 : Int32} {h : hh_T} {Q : Option Value ⊕ Nat → hh_T → Prop} (hT : tw_ok h m) (H : (¬ x9 < x6 → (gm_G 413 87 [some (.ref m), none, none, some (.int x3), some (.int x4), some (.int x5), some (.int x6), some (.int x7), some (.int (x8 + (Int32.ofNat 1)))] [] h Q)) ∧ (x9 < x6 → (∃ n1, gm_ix x4 n1 3 ∧ ((¬ (hh_i h (m + 11) n1) = (Int32.ofNat 2) → (∃ n2, gm_ix (((Int32.ofNat 6) * x4) + x8) n2 18 ∧ (gm_G 413 155 [some (.ref m), none, none, some (.int x3), some (.int x4), some (.int x5), some (.int x6), some (.int x7), some (.int x8), some (.int x9)] [.int (hh_i h (m + 15) n2)] h Q))) ∧ ((hh_i h (m + 11) n1) = (Int32.ofNat 2) → (∃ n3, gm_ix x4 n3 3 ∧ ((hh_i h (m + 13) n3) ≠ 0 ∧ (∃ n4, gm_ix (((Int32.ofNat 6) * x4) + ((x5 + x9) - (x5 + x9) / (hh_i h (m + 13) n3) * (hh_i h (m + 13) n3))) n4 18 ∧ (gm_G 413 155 [some (.ref m), none, none, some (.int x3), some (.int x4), some (.int x5), some (.int x6), some (.int x7), some (.int x8), some (.int x9)] [.int (hh_i h (m + 15) n4)] h Q))))))))) : gm_G 413 97 [some (.ref m), none, none, some (.int x3), some (.int x4), some (.int x5), some (.int x6), some (.int x7), some (.int x8), some (.int x9)] [] h Q := by
  refine g_iload rfl rfl rfl (pc' := 99) ?_
  refine g_iload rfl rfl rfl (pc' := 101) ?_
  refine g_ic_ge rfl (pc' := 104) (pt := 358) rfl rfl ⟨fun hc => ?_, fun hc => ?_⟩
  · have H := H.1 hc
    refine g_iinc (c := (Int32.ofNat 1)) rfl rfl rfl rfl rfl (pc' := 361) ?_
    refine g_goto rfl (pc' := 87) rfl ?_
    exact g_weak (show gm_Lle [some _, none, none, some _, some _, some _, some _, some _, some _] _ from ⟨rfl, ⟨rfl, ⟨rfl, ⟨rfl, ⟨rfl, ⟨rfl, ⟨rfl, trivial⟩⟩⟩⟩⟩⟩⟩) H
  · have H := H.2 hc
    refine g_aload (r := some _) rfl rfl rfl (pc' := 105) ?_
    refine t_get (o := 11) rfl hT rfl rfl rfl (pc' := 108) rfl ?_
    refine g_iload rfl rfl rfl (pc' := 110) ?_
    obtain ⟨n1, hn1, H⟩ := H
    refine t_iaload hT (o := 11) (l := 3) rfl rfl rfl hn1 (pc' := 111) rfl ?_
    refine g_iconst rfl rfl rfl (pc' := 112) ?_
    refine g_ic_ne rfl (pc' := 115) (pt := 142) rfl rfl ⟨fun hc => ?_, fun hc => ?_⟩
    · have H := H.1 hc
      refine g_aload (r := some _) rfl rfl rfl (pc' := 143) ?_
      refine t_get (o := 15) rfl hT rfl rfl rfl (pc' := 146) rfl ?_
      refine g_iconst rfl rfl rfl (pc' := 148) ?_
      refine g_iload rfl rfl rfl (pc' := 150) ?_
      refine g_imul rfl rfl (pc' := 151) ?_
      refine g_iload rfl rfl rfl (pc' := 153) ?_
      refine g_iadd rfl rfl (pc' := 154) ?_
      obtain ⟨n2, hn2, H⟩ := H
      refine t_iaload hT (o := 15) (l := 18) rfl rfl rfl hn2 (pc' := 155) rfl ?_
      exact g_weak (show gm_Lle [some _, none, none, some _, some _, some _, some _, some _, some _, some _] _ from ⟨rfl, ⟨rfl, ⟨rfl, ⟨rfl, ⟨rfl, ⟨rfl, ⟨rfl, ⟨rfl, trivial⟩⟩⟩⟩⟩⟩⟩⟩) H
    · have H := H.2 hc
      refine g_aload (r := some _) rfl rfl rfl (pc' := 116) ?_
      refine t_get (o := 15) rfl hT rfl rfl rfl (pc' := 119) rfl ?_
      refine g_iconst rfl rfl rfl (pc' := 121) ?_
      refine g_iload rfl rfl rfl (pc' := 123) ?_
      refine g_imul rfl rfl (pc' := 124) ?_
      refine g_iload rfl rfl rfl (pc' := 126) ?_
      refine g_iload rfl rfl rfl (pc' := 128) ?_
      refine g_iadd rfl rfl (pc' := 129) ?_
      refine g_aload (r := some _) rfl rfl rfl (pc' := 130) ?_
      refine t_get (o := 13) rfl hT rfl rfl rfl (pc' := 133) rfl ?_
      refine g_iload rfl rfl rfl (pc' := 135) ?_
      obtain ⟨n3, hn3, H⟩ := H
      refine t_iaload hT (o := 13) (l := 3) rfl rfl rfl hn3 (pc' := 136) rfl ?_
      obtain ⟨Hp, H⟩ := H
      refine g_irem rfl Hp (pc' := 137) rfl ?_
      refine g_iadd rfl rfl (pc' := 138) ?_
      obtain ⟨n4, hn4, H⟩ := H
      refine t_iaload hT (o := 15) (l := 18) rfl rfl rfl hn4 (pc' := 139) rfl ?_
      refine g_goto rfl (pc' := 155) rfl ?_
      exact g_weak (show gm_Lle [some _, none, none, some _, some _, some _, some _, some _, some _, some _] _ from ⟨rfl, ⟨rfl, ⟨rfl, ⟨rfl, ⟨rfl, ⟨rfl, ⟨rfl, ⟨rfl, trivial⟩⟩⟩⟩⟩⟩⟩⟩) H
theorem w_413_155 {m : Nat} {x3 : Int32} {x4 : Int32} {x5 : Int32} {x6 : Int32} {x7 : Int32} {x8 : Int32} {x9 : Int32} {y0 : Int32} {h : hh_T} {Q : Option Value ⊕ Nat → hh_T → Prop} (hT : tw_ok h m) (H : ∃ n1, gm_ix x4 n1 3 ∧ ((¬ (hh_i h (m + 11) n1) = (Int32.ofNat 2) → (gm_G 413 189 [some (.ref m), none, none, some (.int x3), some (.int x4), some (.int x5), some (.int x6), some (.int x7), some (.int x8), some (.int x9), some (.int y0)] [.int (x5 + x9)] h Q)) ∧ ((hh_i h (m + 11) n1) = (Int32.ofNat 2) → (∃ n2, gm_ix x4 n2 3 ∧ ((hh_i h (m + 13) n2) ≠ 0 ∧ (gm_G 413 189 [some (.ref m), none, none, some (.int x3), some (.int x4), some (.int x5), some (.int x6), some (.int x7), some (.int x8), some (.int x9), some (.int y0)] [.int ((x5 + x9) / (hh_i h (m + 13) n2))] h Q)))))) : gm_G 413 155 [some (.ref m), none, none, some (.int x3), some (.int x4), some (.int x5), some (.int x6), some (.int x7), some (.int x8), some (.int x9)] [.int y0] h Q := by
  refine g_istore rfl rfl rfl (pc' := 157) ?_
  refine g_aload (r := some _) rfl rfl rfl (pc' := 158) ?_
  refine t_get (o := 11) rfl hT rfl rfl rfl (pc' := 161) rfl ?_
  refine g_iload rfl rfl rfl (pc' := 163) ?_
  obtain ⟨n1, hn1, H⟩ := H
  refine t_iaload hT (o := 11) (l := 3) rfl rfl rfl hn1 (pc' := 164) rfl ?_
  refine g_iconst rfl rfl rfl (pc' := 165) ?_
  refine g_ic_ne rfl (pc' := 168) (pt := 184) rfl rfl ⟨fun hc => ?_, fun hc => ?_⟩
  · have H := H.1 hc
    refine g_iload rfl rfl rfl (pc' := 186) ?_
    refine g_iload rfl rfl rfl (pc' := 188) ?_
    refine g_iadd rfl rfl (pc' := 189) ?_
    exact g_weak (show gm_Lle [some _, none, none, some _, some _, some _, some _, some _, some _, some _, some _] _ from ⟨rfl, ⟨rfl, ⟨rfl, ⟨rfl, ⟨rfl, ⟨rfl, ⟨rfl, ⟨rfl, ⟨rfl, trivial⟩⟩⟩⟩⟩⟩⟩⟩⟩) H
  · have H := H.2 hc
    refine g_iload rfl rfl rfl (pc' := 170) ?_
    refine g_iload rfl rfl rfl (pc' := 172) ?_
    refine g_iadd rfl rfl (pc' := 173) ?_
    refine g_aload (r := some _) rfl rfl rfl (pc' := 174) ?_
    refine t_get (o := 13) rfl hT rfl rfl rfl (pc' := 177) rfl ?_
    refine g_iload rfl rfl rfl (pc' := 179) ?_
    obtain ⟨n2, hn2, H⟩ := H
    refine t_iaload hT (o := 13) (l := 3) rfl rfl rfl hn2 (pc' := 180) rfl ?_
    obtain ⟨Hp, H⟩ := H
    refine g_idiv rfl Hp (pc' := 181) rfl ?_
    refine g_goto rfl (pc' := 189) rfl ?_
    exact g_weak (show gm_Lle [some _, none, none, some _, some _, some _, some _, some _, some _, some _, some _] _ from ⟨rfl, ⟨rfl, ⟨rfl, ⟨rfl, ⟨rfl, ⟨rfl, ⟨rfl, ⟨rfl, ⟨rfl, trivial⟩⟩⟩⟩⟩⟩⟩⟩⟩) H
theorem w_413_189 {m : Nat} {x3 : Int32} {x4 : Int32} {x5 : Int32} {x6 : Int32} {x7 : Int32} {x8 : Int32} {x9 : Int32} {x10 : Int32} {y0 : Int32} {h : hh_T} {Q : Option Value ⊕ Nat → hh_T → Prop} (hT : tw_ok h m) (H : (x3 = Int32.ofNat 0 → (gm_G 413 316 [some (.ref m), none, none, some (.int x3), some (.int x4), some (.int x5), some (.int x6), some (.int x7), some (.int x8), some (.int x9), some (.int x10), some (.int y0)] [] h Q)) ∧ (¬ x3 = Int32.ofNat 0 → (∃ n1, gm_ix (((Int32.ofNat 64) * x10) + y0) n1 512 ∧ ((¬ (hh_i h (m + 8) n1) = Int32.ofNat 0 → (gm_G 413 231 [some (.ref m), none, none, some (.int x3), some (.int x4), some (.int x5), some (.int x6), some (.int x7), some (.int x8), some (.int x9), some (.int x10), some (.int y0)] [] h Q)) ∧ ((hh_i h (m + 8) n1) = Int32.ofNat 0 → (∃ n2, gm_ix (((Int32.ofNat 64) * x10) + y0) n2 512 ∧ ((¬ (hh_i h (m + 9) n2) = Int32.ofNat 0 → (gm_G 413 231 [some (.ref m), none, none, some (.int x3), some (.int x4), some (.int x5), some (.int x6), some (.int x7), some (.int x8), some (.int x9), some (.int x10), some (.int y0)] [] h Q)) ∧ ((hh_i h (m + 9) n2) = Int32.ofNat 0 → (gm_G 413 232 [some (.ref m), none, none, some (.int x3), some (.int x4), some (.int x5), some (.int x6), some (.int x7), some (.int x8), some (.int x9), some (.int x10), some (.int y0)] [.int (Int32.ofNat 1)] h Q))))))))) : gm_G 413 189 [some (.ref m), none, none, some (.int x3), some (.int x4), some (.int x5), some (.int x6), some (.int x7), some (.int x8), some (.int x9), some (.int x10)] [.int y0] h Q := by
  refine g_istore rfl rfl rfl (pc' := 191) ?_
  refine g_iload rfl rfl rfl (pc' := 192) ?_
  refine g_if_eq rfl (pc' := 195) (pt := 316) rfl rfl ⟨fun hc => ?_, fun hc => ?_⟩
  · have H := H.1 hc
    exact g_weak (show gm_Lle [some _, none, none, some _, some _, some _, some _, some _, some _, some _, some _, some _] _ from ⟨rfl, ⟨rfl, ⟨rfl, ⟨rfl, ⟨rfl, ⟨rfl, ⟨rfl, ⟨rfl, ⟨rfl, ⟨rfl, trivial⟩⟩⟩⟩⟩⟩⟩⟩⟩⟩) H
  · have H := H.2 hc
    refine g_aload (r := some _) rfl rfl rfl (pc' := 196) ?_
    refine t_get (o := 8) rfl hT rfl rfl rfl (pc' := 199) rfl ?_
    refine g_iconst rfl rfl rfl (pc' := 201) ?_
    refine g_iload rfl rfl rfl (pc' := 203) ?_
    refine g_imul rfl rfl (pc' := 204) ?_
    refine g_iload rfl rfl rfl (pc' := 206) ?_
    refine g_iadd rfl rfl (pc' := 207) ?_
    obtain ⟨n1, hn1, H⟩ := H
    refine t_zaload hT (o := 8) (l := 512) rfl rfl rfl hn1 (pc' := 208) rfl ?_
    refine g_if_ne rfl (pc' := 211) (pt := 231) rfl rfl ⟨fun hc => ?_, fun hc => ?_⟩
    · have H := H.1 hc
      exact g_weak (show gm_Lle [some _, none, none, some _, some _, some _, some _, some _, some _, some _, some _, some _] _ from ⟨rfl, ⟨rfl, ⟨rfl, ⟨rfl, ⟨rfl, ⟨rfl, ⟨rfl, ⟨rfl, ⟨rfl, ⟨rfl, trivial⟩⟩⟩⟩⟩⟩⟩⟩⟩⟩) H
    · have H := H.2 hc
      refine g_aload (r := some _) rfl rfl rfl (pc' := 212) ?_
      refine t_get (o := 9) rfl hT rfl rfl rfl (pc' := 215) rfl ?_
      refine g_iconst rfl rfl rfl (pc' := 217) ?_
      refine g_iload rfl rfl rfl (pc' := 219) ?_
      refine g_imul rfl rfl (pc' := 220) ?_
      refine g_iload rfl rfl rfl (pc' := 222) ?_
      refine g_iadd rfl rfl (pc' := 223) ?_
      obtain ⟨n2, hn2, H⟩ := H
      refine t_zaload hT (o := 9) (l := 512) rfl rfl rfl hn2 (pc' := 224) rfl ?_
      refine g_if_ne rfl (pc' := 227) (pt := 231) rfl rfl ⟨fun hc => ?_, fun hc => ?_⟩
      · have H := H.1 hc
        exact g_weak (show gm_Lle [some _, none, none, some _, some _, some _, some _, some _, some _, some _, some _, some _] _ from ⟨rfl, ⟨rfl, ⟨rfl, ⟨rfl, ⟨rfl, ⟨rfl, ⟨rfl, ⟨rfl, ⟨rfl, ⟨rfl, trivial⟩⟩⟩⟩⟩⟩⟩⟩⟩⟩) H
      · have H := H.2 hc
        refine g_iconst rfl rfl rfl (pc' := 228) ?_
        refine g_goto rfl (pc' := 232) rfl ?_
        exact g_weak (show gm_Lle [some _, none, none, some _, some _, some _, some _, some _, some _, some _, some _, some _] _ from ⟨rfl, ⟨rfl, ⟨rfl, ⟨rfl, ⟨rfl, ⟨rfl, ⟨rfl, ⟨rfl, ⟨rfl, ⟨rfl, trivial⟩⟩⟩⟩⟩⟩⟩⟩⟩⟩) H
theorem w_413_231 {m : Nat} {x3 : Int32} {x4 : Int32} {x5 : Int32} {x6 : Int32} {x7 : Int32} {x8 : Int32} {x9 : Int32} {x10 : Int32} {x11 : Int32} {h : hh_T} {Q : Option Value ⊕ Nat → hh_T → Prop} (hT : tw_ok h m) (H : gm_G 413 232 [some (.ref m), none, none, some (.int x3), some (.int x4), some (.int x5), some (.int x6), some (.int x7), some (.int x8), some (.int x9), some (.int x10), some (.int x11)] [.int (Int32.ofNat 0)] h Q) : gm_G 413 231 [some (.ref m), none, none, some (.int x3), some (.int x4), some (.int x5), some (.int x6), some (.int x7), some (.int x8), some (.int x9), some (.int x10), some (.int x11)] [] h Q := by
  refine g_iconst rfl rfl rfl (pc' := 232) ?_
  exact g_weak (show gm_Lle [some _, none, none, some _, some _, some _, some _, some _, some _, some _, some _, some _] _ from ⟨rfl, ⟨rfl, ⟨rfl, ⟨rfl, ⟨rfl, ⟨rfl, ⟨rfl, ⟨rfl, ⟨rfl, ⟨rfl, trivial⟩⟩⟩⟩⟩⟩⟩⟩⟩⟩) H
theorem w_413_232 {m : Nat} {x3 : Int32} {x4 : Int32} {x5 : Int32} {x6 : Int32} {x7 : Int32} {x8 : Int32} {x9 : Int32} {x10 : Int32} {x11 : Int32} {y0 : Int32} {h : hh_T} {Q : Option Value ⊕ Nat → hh_T → Prop} (hT : tw_ok h m) (H : gm_G 413 237 [some (.ref m), none, none, some (.int x3), some (.int x4), some (.int x5), some (.int x6), some (.int x7), some (.int x8), some (.int x9), some (.int x10), some (.int x11), some (.int y0), some (.int (Int32.ofNat 0))] [] h Q) : gm_G 413 232 [some (.ref m), none, none, some (.int x3), some (.int x4), some (.int x5), some (.int x6), some (.int x7), some (.int x8), some (.int x9), some (.int x10), some (.int x11)] [.int y0] h Q := by
  refine g_istore rfl rfl rfl (pc' := 234) ?_
  refine g_iconst rfl rfl rfl (pc' := 235) ?_
  refine g_istore rfl rfl rfl (pc' := 237) ?_
  exact g_weak (show gm_Lle [some _, none, none, some _, some _, some _, some _, some _, some _, some _, some _, some _, some _, some _] _ from ⟨rfl, ⟨rfl, ⟨rfl, ⟨rfl, ⟨rfl, ⟨rfl, ⟨rfl, ⟨rfl, ⟨rfl, ⟨rfl, ⟨rfl, ⟨rfl, trivial⟩⟩⟩⟩⟩⟩⟩⟩⟩⟩⟩⟩) H
theorem w_413_237 {m : Nat} {x3 : Int32} {x4 : Int32} {x5 : Int32} {x6 : Int32} {x7 : Int32} {x8 : Int32} {x9 : Int32} {x10 : Int32} {x11 : Int32} {x12 : Int32} {x13 : Int32} {h : hh_T} {Q : Option Value ⊕ Nat → hh_T → Prop} (hT : tw_ok h m) (H : (¬ x13 < (Int32.ofNat 8) → (gm_G 413 298 [some (.ref m), none, none, some (.int x3), some (.int x4), some (.int x5), some (.int x6), some (.int x7), some (.int x8), some (.int x9), some (.int x10), some (.int x11), some (.int x12)] [] h Q)) ∧ (x13 < (Int32.ofNat 8) → ((x12 = Int32.ofNat 0 → (gm_G 413 298 [some (.ref m), none, none, some (.int x3), some (.int x4), some (.int x5), some (.int x6), some (.int x7), some (.int x8), some (.int x9), some (.int x10), some (.int x11), some (.int x12)] [] h Q)) ∧ (¬ x12 = Int32.ofNat 0 → (∃ n1, gm_ix ((((Int32.ofNat 512) * x10) + ((Int32.ofNat 8) * x11)) + x13) n1 4096 ∧ (∃ n2, gm_ix (((Int32.ofNat 8) * x9) + x13) n2 256 ∧ ((¬ (hh_i h (m + 10) n1) = (hh_i h (m + 16) n2) → (gm_G 413 290 [some (.ref m), none, none, some (.int x3), some (.int x4), some (.int x5), some (.int x6), some (.int x7), some (.int x8), some (.int x9), some (.int x10), some (.int x11), none, some (.int x13)] [.int (Int32.ofNat 0)] h Q)) ∧ ((hh_i h (m + 10) n1) = (hh_i h (m + 16) n2) → (gm_G 413 290 [some (.ref m), none, none, some (.int x3), some (.int x4), some (.int x5), some (.int x6), some (.int x7), some (.int x8), some (.int x9), some (.int x10), some (.int x11), none, some (.int x13)] [.int (Int32.ofNat 1)] h Q))))))))) : gm_G 413 237 [some (.ref m), none, none, some (.int x3), some (.int x4), some (.int x5), some (.int x6), some (.int x7), some (.int x8), some (.int x9), some (.int x10), some (.int x11), some (.int x12), some (.int x13)] [] h Q := by
  refine g_iload rfl rfl rfl (pc' := 239) ?_
  refine g_iconst rfl rfl rfl (pc' := 241) ?_
  refine g_ic_ge rfl (pc' := 244) (pt := 298) rfl rfl ⟨fun hc => ?_, fun hc => ?_⟩
  · have H := H.1 hc
    exact g_weak (show gm_Lle [some _, none, none, some _, some _, some _, some _, some _, some _, some _, some _, some _, some _] _ from ⟨rfl, ⟨rfl, ⟨rfl, ⟨rfl, ⟨rfl, ⟨rfl, ⟨rfl, ⟨rfl, ⟨rfl, ⟨rfl, ⟨rfl, trivial⟩⟩⟩⟩⟩⟩⟩⟩⟩⟩⟩) H
  · have H := H.2 hc
    refine g_iload rfl rfl rfl (pc' := 246) ?_
    refine g_if_eq rfl (pc' := 249) (pt := 298) rfl rfl ⟨fun hc => ?_, fun hc => ?_⟩
    · have H := H.1 hc
      exact g_weak (show gm_Lle [some _, none, none, some _, some _, some _, some _, some _, some _, some _, some _, some _, some _] _ from ⟨rfl, ⟨rfl, ⟨rfl, ⟨rfl, ⟨rfl, ⟨rfl, ⟨rfl, ⟨rfl, ⟨rfl, ⟨rfl, ⟨rfl, trivial⟩⟩⟩⟩⟩⟩⟩⟩⟩⟩⟩) H
    · have H := H.2 hc
      refine g_aload (r := some _) rfl rfl rfl (pc' := 250) ?_
      refine t_get (o := 10) rfl hT rfl rfl rfl (pc' := 253) rfl ?_
      refine g_iconst rfl rfl rfl (pc' := 256) ?_
      refine g_iload rfl rfl rfl (pc' := 258) ?_
      refine g_imul rfl rfl (pc' := 259) ?_
      refine g_iconst rfl rfl rfl (pc' := 261) ?_
      refine g_iload rfl rfl rfl (pc' := 263) ?_
      refine g_imul rfl rfl (pc' := 264) ?_
      refine g_iadd rfl rfl (pc' := 265) ?_
      refine g_iload rfl rfl rfl (pc' := 267) ?_
      refine g_iadd rfl rfl (pc' := 268) ?_
      obtain ⟨n1, hn1, H⟩ := H
      refine t_baload hT (o := 10) (l := 4096) rfl rfl rfl hn1 (pc' := 269) rfl ?_
      refine g_aload (r := some _) rfl rfl rfl (pc' := 270) ?_
      refine t_get (o := 16) rfl hT rfl rfl rfl (pc' := 273) rfl ?_
      refine g_iconst rfl rfl rfl (pc' := 275) ?_
      refine g_iload rfl rfl rfl (pc' := 277) ?_
      refine g_imul rfl rfl (pc' := 278) ?_
      refine g_iload rfl rfl rfl (pc' := 280) ?_
      refine g_iadd rfl rfl (pc' := 281) ?_
      obtain ⟨n2, hn2, H⟩ := H
      refine t_baload hT (o := 16) (l := 256) rfl rfl rfl hn2 (pc' := 282) rfl ?_
      refine g_ic_ne rfl (pc' := 285) (pt := 289) rfl rfl ⟨fun hc => ?_, fun hc => ?_⟩
      · have H := H.1 hc
        refine g_iconst rfl rfl rfl (pc' := 290) ?_
        exact g_weak (show gm_Lle [some _, none, none, some _, some _, some _, some _, some _, some _, some _, some _, some _, none, some _] _ from ⟨rfl, ⟨rfl, ⟨rfl, ⟨rfl, ⟨rfl, ⟨rfl, ⟨rfl, ⟨rfl, ⟨rfl, ⟨rfl, ⟨rfl, trivial⟩⟩⟩⟩⟩⟩⟩⟩⟩⟩⟩) H
      · have H := H.2 hc
        refine g_iconst rfl rfl rfl (pc' := 286) ?_
        refine g_goto rfl (pc' := 290) rfl ?_
        exact g_weak (show gm_Lle [some _, none, none, some _, some _, some _, some _, some _, some _, some _, some _, some _, none, some _] _ from ⟨rfl, ⟨rfl, ⟨rfl, ⟨rfl, ⟨rfl, ⟨rfl, ⟨rfl, ⟨rfl, ⟨rfl, ⟨rfl, ⟨rfl, trivial⟩⟩⟩⟩⟩⟩⟩⟩⟩⟩⟩) H
theorem w_413_290 {m : Nat} {x3 : Int32} {x4 : Int32} {x5 : Int32} {x6 : Int32} {x7 : Int32} {x8 : Int32} {x9 : Int32} {x10 : Int32} {x11 : Int32} {x13 : Int32} {y0 : Int32} {h : hh_T} {Q : Option Value ⊕ Nat → hh_T → Prop} (hT : tw_ok h m) (H : gm_G 413 237 [some (.ref m), none, none, some (.int x3), some (.int x4), some (.int x5), some (.int x6), some (.int x7), some (.int x8), some (.int x9), some (.int x10), some (.int x11), some (.int y0), some (.int (x13 + (Int32.ofNat 1)))] [] h Q) : gm_G 413 290 [some (.ref m), none, none, some (.int x3), some (.int x4), some (.int x5), some (.int x6), some (.int x7), some (.int x8), some (.int x9), some (.int x10), some (.int x11), none, some (.int x13)] [.int y0] h Q := by
  refine g_istore rfl rfl rfl (pc' := 292) ?_
  refine g_iinc (c := (Int32.ofNat 1)) rfl rfl rfl rfl rfl (pc' := 295) ?_
  refine g_goto rfl (pc' := 237) rfl ?_
  exact g_weak (show gm_Lle [some _, none, none, some _, some _, some _, some _, some _, some _, some _, some _, some _, some _, some _] _ from ⟨rfl, ⟨rfl, ⟨rfl, ⟨rfl, ⟨rfl, ⟨rfl, ⟨rfl, ⟨rfl, ⟨rfl, ⟨rfl, ⟨rfl, ⟨rfl, trivial⟩⟩⟩⟩⟩⟩⟩⟩⟩⟩⟩⟩) H
theorem w_413_298 {m : Nat} {x3 : Int32} {x4 : Int32} {x5 : Int32} {x6 : Int32} {x7 : Int32} {x8 : Int32} {x9 : Int32} {x10 : Int32} {x11 : Int32} {x12 : Int32} {h : hh_T} {Q : Option Value ⊕ Nat → hh_T → Prop} (hT : tw_ok h m) (H : ∃ n1, gm_ix x10 n1 8 ∧ ((¬ (hh_i h (m + 7) n1) = Int32.ofNat 0 → (gm_G 413 352 [some (.ref m), none, none, some (.int x3), some (.int x4), some (.int x5), some (.int x6), some (.int x7), some (.int x8), some (.int x9)] [] h Q)) ∧ ((hh_i h (m + 7) n1) = Int32.ofNat 0 → ((x12 = Int32.ofNat 0 → (gm_G 413 316 [some (.ref m), none, none, some (.int x3), some (.int x4), some (.int x5), some (.int x6), some (.int x7), some (.int x8), some (.int x9), some (.int x10), some (.int x11)] [] h Q)) ∧ (¬ x12 = Int32.ofNat 0 → (gm_G 413 352 [some (.ref m), none, none, some (.int x3), some (.int x4), some (.int x5), some (.int x6), some (.int x7), some (.int x8), some (.int x9)] [] h Q)))))) : gm_G 413 298 [some (.ref m), none, none, some (.int x3), some (.int x4), some (.int x5), some (.int x6), some (.int x7), some (.int x8), some (.int x9), some (.int x10), some (.int x11), some (.int x12)] [] h Q := by
  refine g_aload (r := some _) rfl rfl rfl (pc' := 299) ?_
  refine t_get (o := 7) rfl hT rfl rfl rfl (pc' := 302) rfl ?_
  refine g_iload rfl rfl rfl (pc' := 304) ?_
  obtain ⟨n1, hn1, H⟩ := H
  refine t_zaload hT (o := 7) (l := 8) rfl rfl rfl hn1 (pc' := 305) rfl ?_
  refine g_if_ne rfl (pc' := 308) (pt := 352) rfl rfl ⟨fun hc => ?_, fun hc => ?_⟩
  · have H := H.1 hc
    exact g_weak (show gm_Lle [some _, none, none, some _, some _, some _, some _, some _, some _, some _] _ from ⟨rfl, ⟨rfl, ⟨rfl, ⟨rfl, ⟨rfl, ⟨rfl, ⟨rfl, ⟨rfl, trivial⟩⟩⟩⟩⟩⟩⟩⟩) H
  · have H := H.2 hc
    refine g_iload rfl rfl rfl (pc' := 310) ?_
    refine g_if_eq rfl (pc' := 313) (pt := 316) rfl rfl ⟨fun hc => ?_, fun hc => ?_⟩
    · have H := H.1 hc
      exact g_weak (show gm_Lle [some _, none, none, some _, some _, some _, some _, some _, some _, some _, some _, some _] _ from ⟨rfl, ⟨rfl, ⟨rfl, ⟨rfl, ⟨rfl, ⟨rfl, ⟨rfl, ⟨rfl, ⟨rfl, ⟨rfl, trivial⟩⟩⟩⟩⟩⟩⟩⟩⟩⟩) H
    · have H := H.2 hc
      refine g_goto rfl (pc' := 352) rfl ?_
      exact g_weak (show gm_Lle [some _, none, none, some _, some _, some _, some _, some _, some _, some _] _ from ⟨rfl, ⟨rfl, ⟨rfl, ⟨rfl, ⟨rfl, ⟨rfl, ⟨rfl, ⟨rfl, trivial⟩⟩⟩⟩⟩⟩⟩⟩) H
theorem w_413_316 {m : Nat} {x3 : Int32} {x4 : Int32} {x5 : Int32} {x6 : Int32} {x7 : Int32} {x8 : Int32} {x9 : Int32} {x10 : Int32} {x11 : Int32} {h : hh_T} {Q : Option Value ⊕ Nat → hh_T → Prop} (hT : tw_ok h m) (H : gm_G 309 0 [some (.ref m), some (.int x10), some (.int x11), some (.ref (m + 16)), some (.int ((Int32.ofNat 8) * x9))] [] h (pI (fun v2 h1 => (¬ v2 = Int32.ofNat 0 → ((x3 = Int32.ofNat 0 → (gm_G 413 352 [some (.ref m), none, none, some (.int x3), some (.int x4), some (.int x5), some (.int x6), some (.int x7), some (.int x8), some (.int x9)] [] h1 Q)) ∧ (¬ x3 = Int32.ofNat 0 → (∀ h3, h3 = hh_wi h1 m 18 ((hh_i h1 m 18) + (Int32.ofNat 1)) → (gm_G 413 352 [some (.ref m), none, none, some (.int x3), some (.int x4), some (.int x5), some (.int x6), some (.int x7), some (.int x8), some (.int x9)] [] h3 Q))))) ∧ (v2 = Int32.ofNat 0 → (Q (.inl (some (.int (Int32.ofNat 0)))) h1))) (fun _ _ => False))) : gm_G 413 316 [some (.ref m), none, none, some (.int x3), some (.int x4), some (.int x5), some (.int x6), some (.int x7), some (.int x8), some (.int x9), some (.int x10), some (.int x11)] [] h Q := by
  refine g_aload (r := some _) rfl rfl rfl (pc' := 317) ?_
  refine g_iload rfl rfl rfl (pc' := 319) ?_
  refine g_iload rfl rfl rfl (pc' := 321) ?_
  refine g_aload (r := some _) rfl rfl rfl (pc' := 322) ?_
  refine t_get (o := 16) rfl hT rfl rfl rfl (pc' := 325) rfl ?_
  refine g_iconst rfl rfl rfl (pc' := 327) ?_
  refine g_iload rfl rfl rfl (pc' := 329) ?_
  refine g_imul rfl rfl (pc' := 330) ?_
  refine t_call hT (y := 309) (n := 5) (pc' := 333) rfl rfl (t_vt hT rfl rfl) rfl rfl ⟨(Nat.le_of_ble_eq_true rfl), (Nat.le_of_ble_eq_true rfl), (Nat.le_of_ble_eq_true rfl)⟩ rfl H (tI_elim (fun v2 h1 H hT => ?_))
  show gm_G _ 333 _ _ _ _
  refine g_if_ne rfl (pc' := 336) (pt := 338) rfl rfl ⟨fun hc => ?_, fun hc => ?_⟩
  · have H := H.1 hc
    refine g_iload rfl rfl rfl (pc' := 339) ?_
    refine g_if_eq rfl (pc' := 342) (pt := 352) rfl rfl ⟨fun hc => ?_, fun hc => ?_⟩
    · have H := H.1 hc
      exact g_weak (show gm_Lle [some _, none, none, some _, some _, some _, some _, some _, some _, some _] _ from ⟨rfl, ⟨rfl, ⟨rfl, ⟨rfl, ⟨rfl, ⟨rfl, ⟨rfl, ⟨rfl, trivial⟩⟩⟩⟩⟩⟩⟩⟩) H
    · have H := H.2 hc
      refine g_aload (r := some _) rfl rfl rfl (pc' := 343) ?_
      refine g_dup_a (r := some _) rfl rfl (pc' := 344) ?_
      refine t_getI rfl hT rfl rfl (pc' := 347) rfl ?_
      refine g_iconst rfl rfl rfl (pc' := 348) ?_
      refine g_iadd rfl rfl (pc' := 349) ?_
      refine t_putI rfl hT rfl rfl  (pc' := 352) rfl (fun hT => ?_)
      have H := H _ rfl
      exact g_weak (show gm_Lle [some _, none, none, some _, some _, some _, some _, some _, some _, some _] _ from ⟨rfl, ⟨rfl, ⟨rfl, ⟨rfl, ⟨rfl, ⟨rfl, ⟨rfl, ⟨rfl, trivial⟩⟩⟩⟩⟩⟩⟩⟩) H
  · have H := H.2 hc
    refine g_iconst rfl rfl rfl (pc' := 337) ?_
    exact g_ireturn rfl (Or.inr (by decide)) H
theorem w_413_352 {m : Nat} {x3 : Int32} {x4 : Int32} {x5 : Int32} {x6 : Int32} {x7 : Int32} {x8 : Int32} {x9 : Int32} {h : hh_T} {Q : Option Value ⊕ Nat → hh_T → Prop} (hT : tw_ok h m) (H : gm_G 413 97 [some (.ref m), none, none, some (.int x3), some (.int x4), some (.int x5), some (.int x6), some (.int x7), some (.int x8), some (.int (x9 + (Int32.ofNat 1)))] [] h Q) : gm_G 413 352 [some (.ref m), none, none, some (.int x3), some (.int x4), some (.int x5), some (.int x6), some (.int x7), some (.int x8), some (.int x9)] [] h Q := by
  refine g_iinc (c := (Int32.ofNat 1)) rfl rfl rfl rfl rfl (pc' := 355) ?_
  refine g_goto rfl (pc' := 97) rfl ?_
  exact g_weak (show gm_Lle [some _, none, none, some _, some _, some _, some _, some _, some _, some _] _ from ⟨rfl, ⟨rfl, ⟨rfl, ⟨rfl, ⟨rfl, ⟨rfl, ⟨rfl, ⟨rfl, trivial⟩⟩⟩⟩⟩⟩⟩⟩) H
theorem w_416_0 {m : Nat} {x1 : Int32} {x2 : Int32} {x3 : Int32} {h : hh_T} {Q : Option Value ⊕ Nat → hh_T → Prop} (hT : tw_ok h m) (H : (x1 < Int32.ofNat 0 → (Q (.inl (some (.int (Int32.ofInt (-1))))) h)) ∧ (¬ x1 < Int32.ofNat 0 → ((¬ (Int32.ofNat 2) < x1 → ((¬ x1 = Int32.ofNat 0 → ((¬ (hh_i h m 76) = Int32.ofNat 0 → ((¬ x1 = (Int32.ofNat 2) → (gm_G 136 0 [some (.ref m), some (.int x2)] [] h (pI (fun v2 h1 => (v2 = Int32.ofNat 0 → ((¬ (0 ≤ x3.toInt ∧ x3.toInt ≤ 6) → ((x3 < (Int32.ofNat 8) → (Q (.inl (some (.int (Int32.ofInt (-2))))) h1)) ∧ (¬ x3 < (Int32.ofNat 8) → (∃ n3, gm_ix x2 n3 3 ∧ ((¬ (x3 - (Int32.ofNat 8)) < (hh_i h1 (m + 13) n3) → (Q (.inl (some (.int (Int32.ofInt (-2))))) h1)) ∧ ((x3 - (Int32.ofNat 8)) < (hh_i h1 (m + 13) n3) → (∃ n4, gm_ix ((((Int32.ofNat 6) * x2) + x3) - (Int32.ofNat 8)) n4 18 ∧ (Q (.inl (some (.int (hh_i h1 (m + 15) n4)))) h1)))))))) ∧ (x3.toInt = 0 → (∃ n5, gm_ix x2 n5 3 ∧ (Q (.inl (some (.int (hh_i h1 (m + 11) n5)))) h1))) ∧ (x3.toInt = 1 → (∃ n6, gm_ix x2 n6 3 ∧ ((¬ (hh_i h1 (m + 11) n6) = (Int32.ofNat 2) → (Q (.inl (some (.int (Int32.ofNat 0)))) h1)) ∧ ((hh_i h1 (m + 11) n6) = (Int32.ofNat 2) → (∃ n7, gm_ix x2 n7 3 ∧ (Q (.inl (some (.int (hh_i h1 (m + 12) n7)))) h1)))))) ∧ (x3.toInt = 2 → (∃ n8, gm_ix x2 n8 3 ∧ (Q (.inl (some (.int (hh_i h1 (m + 13) n8)))) h1))) ∧ (x3.toInt = 3 → (gm_G 143 0 [some (.ref m), some (.int x2)] [] h1 (pI (fun v10 h9 => Q (.inl (some (.int v10))) h9) (fun _ _ => False)))) ∧ (x3.toInt = 4 → (∀ h11, h11 = hh_wi h1 m 41 (Int32.ofNat 0) → (gm_G 407 0 [some (.ref m)] [] h11 (pV (fun h12 => gm_G 279 0 [some (.ref m), some (.int x2)] [] h12 (pI (fun v14 h13 => Q (.inl (some (.int v14))) h13) (fun _ _ => False))) (fun _ _ => False))))) ∧ (x3.toInt = 5 → (gm_G 120 0 [some (.ref m), some (.int x2)] [] h1 (pI (fun v16 h15 => (v16 = Int32.ofNat 0 → (Q (.inl (some (.int (Int32.ofNat 0)))) h15)) ∧ (¬ v16 = Int32.ofNat 0 → (Q (.inl (some (.int (Int32.ofNat 1)))) h15))) (fun _ _ => False)))) ∧ (x3.toInt = 6 → (∃ n17, gm_ix x2 n17 3 ∧ (Q (.inl (some (.int (hh_i h1 (m + 14) n17)))) h1))))) ∧ (¬ v2 = Int32.ofNat 0 → (Q (.inl (some (.int (Int32.ofInt (-2))))) h1))) (fun _ _ => False)))) ∧ (x1 = (Int32.ofNat 2) → ((x2 < Int32.ofNat 0 → (Q (.inl (some (.int (Int32.ofInt (-2))))) h)) ∧ (¬ x2 < Int32.ofNat 0 → ((¬ x2 < (hh_i h m 99) → (Q (.inl (some (.int (Int32.ofInt (-2))))) h)) ∧ (x2 < (hh_i h m 99) → ((x3 < Int32.ofNat 0 → (Q (.inl (some (.int (Int32.ofInt (-2))))) h)) ∧ (¬ x3 < Int32.ofNat 0 → ((¬ (Int32.ofNat 2) < x3 → ((¬ x3 = Int32.ofNat 0 → (gm_G 416 243 [some (.ref m), none, some (.int x2), some (.int x3), some (.int (Int32.ofNat 0)), some (.int (Int32.ofNat 0))] [] h Q)) ∧ (x3 = Int32.ofNat 0 → (∃ n18, gm_ix x2 n18 3 ∧ (Q (.inl (some (.int (hh_i h (m + 79) n18)))) h))))) ∧ ((Int32.ofNat 2) < x3 → (Q (.inl (some (.int (Int32.ofInt (-2))))) h)))))))))))) ∧ ((hh_i h m 76) = Int32.ofNat 0 → (Q (.inl (some (.int (Int32.ofInt (-2))))) h)))) ∧ (x1 = Int32.ofNat 0 → (gm_G 135 0 [some (.ref m), some (.int x2)] [] h (pI (fun v20 h19 => (¬ v20 = Int32.ofNat 0 → (Q (.inl (some (.int (Int32.ofInt (-2))))) h19)) ∧ (v20 = Int32.ofNat 0 → ((x3 < Int32.ofNat 0 → (Q (.inl (some (.int (Int32.ofInt (-2))))) h19)) ∧ (¬ x3 < Int32.ofNat 0 → ((¬ (Int32.ofNat 5) < x3 → ((¬ x3 < (Int32.ofNat 3) → ((¬ x3 = (Int32.ofNat 5) → (gm_G 416 124 [some (.ref m), none, some (.int x2), some (.int x3), some (.int (Int32.ofNat 0)), some (.int ((Int32.ofNat 64) * x2))] [] h19 Q)) ∧ (x3 = (Int32.ofNat 5) → (∃ n21, gm_ix x2 n21 8 ∧ (Q (.inl (some (.int (hh_i h19 (m + 6) n21)))) h19))))) ∧ (x3 < (Int32.ofNat 3) → ((¬ x3 = Int32.ofNat 0 → ((¬ x3 = (Int32.ofNat 1) → (((hh_i h19 m 76) = Int32.ofNat 0 → (Q (.inl (some (.int (Int32.ofInt (-2))))) h19)) ∧ (¬ (hh_i h19 m 76) = Int32.ofNat 0 → (∃ n22, gm_ix x2 n22 8 ∧ (((hh_i h19 (m + 5) n22) < Int32.ofNat 0 → (Q (.inl (some (.int (Int32.ofInt (-2))))) h19)) ∧ (¬ (hh_i h19 (m + 5) n22) < Int32.ofNat 0 → (∃ n23, gm_ix x2 n23 8 ∧ (Q (.inl (some (.int (hh_i h19 (m + 5) n23)))) h19)))))))) ∧ (x3 = (Int32.ofNat 1) → (∃ n24, gm_ix x2 n24 8 ∧ (((hh_i h19 (m + 7) n24) = Int32.ofNat 0 → (Q (.inl (some (.int (Int32.ofNat 1)))) h19)) ∧ (¬ (hh_i h19 (m + 7) n24) = Int32.ofNat 0 → (Q (.inl (some (.int (Int32.ofNat 0)))) h19))))))) ∧ (x3 = Int32.ofNat 0 → (∃ n25, gm_ix x2 n25 8 ∧ (Q (.inl (some (.int (hh_i h19 (m + 4) n25)))) h19))))))) ∧ ((Int32.ofNat 5) < x3 → (Q (.inl (some (.int (Int32.ofInt (-2))))) h19))))))) (fun _ _ => False)))))) ∧ ((Int32.ofNat 2) < x1 → (Q (.inl (some (.int (Int32.ofInt (-1))))) h))))) : gm_G 416 0 [some (.ref m), some (.int x1), some (.int x2), some (.int x3)] [] h Q := by
  refine g_iload rfl rfl rfl (pc' := 1) ?_
  refine g_if_lt rfl (pc' := 4) (pt := 9) rfl rfl ⟨fun hc => ?_, fun hc => ?_⟩
  · have H := H.1 hc
    refine g_iconst rfl rfl rfl (pc' := 10) ?_
    exact g_ireturn rfl (Or.inl rfl) H
  · have H := H.2 hc
    refine g_iload rfl rfl rfl (pc' := 5) ?_
    refine g_iconst rfl rfl rfl (pc' := 6) ?_
    refine g_ic_le rfl (pc' := 9) (pt := 11) rfl rfl ⟨fun hc => ?_, fun hc => ?_⟩
    · have H := H.1 hc
      refine g_iload rfl rfl rfl (pc' := 12) ?_
      refine g_if_ne rfl (pc' := 15) (pt := 187) rfl rfl ⟨fun hc => ?_, fun hc => ?_⟩
      · have H := H.1 hc
        refine g_aload (r := some _) rfl rfl rfl (pc' := 188) ?_
        refine t_getZ rfl hT rfl rfl (pc' := 191) rfl ?_
        refine g_if_ne rfl (pc' := 194) (pt := 197) rfl rfl ⟨fun hc => ?_, fun hc => ?_⟩
        · have H := H.1 hc
          refine g_iload rfl rfl rfl (pc' := 198) ?_
          refine g_iconst rfl rfl rfl (pc' := 199) ?_
          refine g_ic_ne rfl (pc' := 202) (pt := 345) rfl rfl ⟨fun hc => ?_, fun hc => ?_⟩
          · have H := H.1 hc
            refine g_aload (r := some _) rfl rfl rfl (pc' := 346) ?_
            refine g_iload rfl rfl rfl (pc' := 347) ?_
            refine t_call hT (y := 136) (n := 2) (pc' := 350) rfl rfl (t_vt hT rfl rfl) rfl rfl ⟨(Nat.le_of_ble_eq_true rfl), (Nat.le_of_ble_eq_true rfl), (Nat.le_of_ble_eq_true rfl)⟩ rfl H (tI_elim (fun v2 h1 H hT => ?_))
            show gm_G _ 350 _ _ _ _
            refine g_if_eq rfl (pc' := 353) (pt := 356) rfl rfl ⟨fun hc => ?_, fun hc => ?_⟩
            · have H := H.1 hc
              refine g_iload rfl rfl rfl (pc' := 357) ?_
              refine g_switch rfl ⟨fun hc => ?_, fun hc => ?_⟩
              · have H := H.1 (fun hq => by omega)
                refine g_iload rfl rfl rfl (pc' := 478) ?_
                refine g_iconst rfl rfl rfl (pc' := 480) ?_
                refine g_ic_lt rfl (pc' := 483) (pt := 513) rfl rfl ⟨fun hc => ?_, fun hc => ?_⟩
                · have H := H.1 hc
                  refine g_iconst rfl rfl rfl (pc' := 515) ?_
                  exact g_ireturn rfl (Or.inl rfl) H
                · have H := H.2 hc
                  refine g_iload rfl rfl rfl (pc' := 484) ?_
                  refine g_iconst rfl rfl rfl (pc' := 486) ?_
                  refine g_isub rfl rfl (pc' := 487) ?_
                  refine g_aload (r := some _) rfl rfl rfl (pc' := 488) ?_
                  refine t_get (o := 13) rfl hT rfl rfl rfl (pc' := 491) rfl ?_
                  refine g_iload rfl rfl rfl (pc' := 492) ?_
                  obtain ⟨n3, hn3, H⟩ := H
                  refine t_iaload hT (o := 13) (l := 3) rfl rfl rfl hn3 (pc' := 493) rfl ?_
                  refine g_ic_ge rfl (pc' := 496) (pt := 513) rfl rfl ⟨fun hc => ?_, fun hc => ?_⟩
                  · have H := H.1 hc
                    refine g_iconst rfl rfl rfl (pc' := 515) ?_
                    exact g_ireturn rfl (Or.inl rfl) H
                  · have H := H.2 hc
                    refine g_aload (r := some _) rfl rfl rfl (pc' := 497) ?_
                    refine t_get (o := 15) rfl hT rfl rfl rfl (pc' := 500) rfl ?_
                    refine g_iconst rfl rfl rfl (pc' := 502) ?_
                    refine g_iload rfl rfl rfl (pc' := 503) ?_
                    refine g_imul rfl rfl (pc' := 504) ?_
                    refine g_iload rfl rfl rfl (pc' := 505) ?_
                    refine g_iadd rfl rfl (pc' := 506) ?_
                    refine g_iconst rfl rfl rfl (pc' := 508) ?_
                    refine g_isub rfl rfl (pc' := 509) ?_
                    obtain ⟨n4, hn4, H⟩ := H
                    refine t_iaload hT (o := 15) (l := 18) rfl rfl rfl hn4 (pc' := 510) rfl ?_
                    refine g_goto rfl (pc' := 515) rfl ?_
                    exact g_ireturn rfl (Or.inl rfl) H
              · have H := H.2
                have hq : x3.toInt = 0 ∨ x3.toInt = 1 ∨ x3.toInt = 2 ∨ x3.toInt = 3 ∨ x3.toInt = 4 ∨ x3.toInt = 5 ∨ x3.toInt = 6 := by omega
                rcases hq with hq | hq | hq | hq | hq | hq | hq
                · have H := (H.1) hq
                  refine ⟨400, by rw [hq]; rfl, ?_⟩
                  show gm_G _ 400 _ _ _ _
                  refine g_aload (r := some _) rfl rfl rfl (pc' := 401) ?_
                  refine t_get (o := 11) rfl hT rfl rfl rfl (pc' := 404) rfl ?_
                  refine g_iload rfl rfl rfl (pc' := 405) ?_
                  obtain ⟨n5, hn5, H⟩ := H
                  refine t_iaload hT (o := 11) (l := 3) rfl rfl rfl hn5 (pc' := 406) rfl ?_
                  exact g_ireturn rfl (Or.inl rfl) H
                · have H := (H.2.1) hq
                  refine ⟨407, by rw [hq]; rfl, ?_⟩
                  show gm_G _ 407 _ _ _ _
                  refine g_aload (r := some _) rfl rfl rfl (pc' := 408) ?_
                  refine t_get (o := 11) rfl hT rfl rfl rfl (pc' := 411) rfl ?_
                  refine g_iload rfl rfl rfl (pc' := 412) ?_
                  obtain ⟨n6, hn6, H⟩ := H
                  refine t_iaload hT (o := 11) (l := 3) rfl rfl rfl hn6 (pc' := 413) rfl ?_
                  refine g_iconst rfl rfl rfl (pc' := 414) ?_
                  refine g_ic_ne rfl (pc' := 417) (pt := 426) rfl rfl ⟨fun hc => ?_, fun hc => ?_⟩
                  · have H := H.1 hc
                    refine g_iconst rfl rfl rfl (pc' := 427) ?_
                    exact g_ireturn rfl (Or.inl rfl) H
                  · have H := H.2 hc
                    refine g_aload (r := some _) rfl rfl rfl (pc' := 418) ?_
                    refine t_get (o := 12) rfl hT rfl rfl rfl (pc' := 421) rfl ?_
                    refine g_iload rfl rfl rfl (pc' := 422) ?_
                    obtain ⟨n7, hn7, H⟩ := H
                    refine t_iaload hT (o := 12) (l := 3) rfl rfl rfl hn7 (pc' := 423) rfl ?_
                    refine g_goto rfl (pc' := 427) rfl ?_
                    exact g_ireturn rfl (Or.inl rfl) H
                · have H := (H.2.2.1) hq
                  refine ⟨428, by rw [hq]; rfl, ?_⟩
                  show gm_G _ 428 _ _ _ _
                  refine g_aload (r := some _) rfl rfl rfl (pc' := 429) ?_
                  refine t_get (o := 13) rfl hT rfl rfl rfl (pc' := 432) rfl ?_
                  refine g_iload rfl rfl rfl (pc' := 433) ?_
                  obtain ⟨n8, hn8, H⟩ := H
                  refine t_iaload hT (o := 13) (l := 3) rfl rfl rfl hn8 (pc' := 434) rfl ?_
                  exact g_ireturn rfl (Or.inl rfl) H
                · have H := (H.2.2.2.1) hq
                  refine ⟨435, by rw [hq]; rfl, ?_⟩
                  show gm_G _ 435 _ _ _ _
                  refine g_aload (r := some _) rfl rfl rfl (pc' := 436) ?_
                  refine g_iload rfl rfl rfl (pc' := 437) ?_
                  refine t_call hT (y := 143) (n := 2) (pc' := 440) rfl rfl (t_vt hT rfl rfl) rfl rfl ⟨(Nat.le_of_ble_eq_true rfl), (Nat.le_of_ble_eq_true rfl), (Nat.le_of_ble_eq_true rfl)⟩ rfl H (tI_elim (fun v10 h9 H hT => ?_))
                  show gm_G _ 440 _ _ _ _
                  exact g_ireturn rfl (Or.inl rfl) H
                · have H := (H.2.2.2.2.1) hq
                  refine ⟨441, by rw [hq]; rfl, ?_⟩
                  show gm_G _ 441 _ _ _ _
                  refine g_aload (r := some _) rfl rfl rfl (pc' := 442) ?_
                  refine g_iconst rfl rfl rfl (pc' := 443) ?_
                  refine t_putI rfl hT rfl rfl  (pc' := 446) rfl (fun hT => ?_)
                  have H := H _ rfl
                  refine g_aload (r := some _) rfl rfl rfl (pc' := 447) ?_
                  refine t_call hT (y := 407) (n := 1) (pc' := 450) rfl rfl (t_vt hT rfl rfl) rfl rfl ⟨(Nat.le_of_ble_eq_true rfl), (Nat.le_of_ble_eq_true rfl), (Nat.le_of_ble_eq_true rfl)⟩ rfl H (tV_elim (fun h12 H hT => ?_))
                  show gm_G _ 450 _ _ _ _
                  refine g_aload (r := some _) rfl rfl rfl (pc' := 451) ?_
                  refine g_iload rfl rfl rfl (pc' := 452) ?_
                  refine t_call hT (y := 279) (n := 2) (pc' := 455) rfl rfl (t_vt hT rfl rfl) rfl rfl ⟨(Nat.le_of_ble_eq_true rfl), (Nat.le_of_ble_eq_true rfl), (Nat.le_of_ble_eq_true rfl)⟩ rfl H (tI_elim (fun v14 h13 H hT => ?_))
                  show gm_G _ 455 _ _ _ _
                  exact g_ireturn rfl (Or.inl rfl) H
                · have H := (H.2.2.2.2.2.1) hq
                  refine ⟨456, by rw [hq]; rfl, ?_⟩
                  show gm_G _ 456 _ _ _ _
                  refine g_aload (r := some _) rfl rfl rfl (pc' := 457) ?_
                  refine g_iload rfl rfl rfl (pc' := 458) ?_
                  refine t_call hT (y := 120) (n := 2) (pc' := 461) rfl rfl (t_vt hT rfl rfl) rfl rfl ⟨(Nat.le_of_ble_eq_true rfl), (Nat.le_of_ble_eq_true rfl), (Nat.le_of_ble_eq_true rfl)⟩ rfl H (tI_elim (fun v16 h15 H hT => ?_))
                  show gm_G _ 461 _ _ _ _
                  refine g_if_eq rfl (pc' := 464) (pt := 468) rfl rfl ⟨fun hc => ?_, fun hc => ?_⟩
                  · have H := H.1 hc
                    refine g_iconst rfl rfl rfl (pc' := 469) ?_
                    exact g_ireturn rfl (Or.inl rfl) H
                  · have H := H.2 hc
                    refine g_iconst rfl rfl rfl (pc' := 465) ?_
                    refine g_goto rfl (pc' := 469) rfl ?_
                    exact g_ireturn rfl (Or.inl rfl) H
                · have H := (H.2.2.2.2.2.2) hq
                  refine ⟨470, by rw [hq]; rfl, ?_⟩
                  show gm_G _ 470 _ _ _ _
                  refine g_aload (r := some _) rfl rfl rfl (pc' := 471) ?_
                  refine t_get (o := 14) rfl hT rfl rfl rfl (pc' := 474) rfl ?_
                  refine g_iload rfl rfl rfl (pc' := 475) ?_
                  obtain ⟨n17, hn17, H⟩ := H
                  refine t_iaload hT (o := 14) (l := 3) rfl rfl rfl hn17 (pc' := 476) rfl ?_
                  exact g_ireturn rfl (Or.inl rfl) H
            · have H := H.2 hc
              refine g_iconst rfl rfl rfl (pc' := 355) ?_
              exact g_ireturn rfl (Or.inl rfl) H
          · have H := H.2 hc
            refine g_iload rfl rfl rfl (pc' := 203) ?_
            refine g_if_lt rfl (pc' := 206) (pt := 223) rfl rfl ⟨fun hc => ?_, fun hc => ?_⟩
            · have H := H.1 hc
              refine g_iconst rfl rfl rfl (pc' := 225) ?_
              exact g_ireturn rfl (Or.inl rfl) H
            · have H := H.2 hc
              refine g_iload rfl rfl rfl (pc' := 207) ?_
              refine g_aload (r := some _) rfl rfl rfl (pc' := 208) ?_
              refine t_getI rfl hT rfl rfl (pc' := 211) rfl ?_
              refine g_ic_ge rfl (pc' := 214) (pt := 223) rfl rfl ⟨fun hc => ?_, fun hc => ?_⟩
              · have H := H.1 hc
                refine g_iconst rfl rfl rfl (pc' := 225) ?_
                exact g_ireturn rfl (Or.inl rfl) H
              · have H := H.2 hc
                refine g_iload rfl rfl rfl (pc' := 215) ?_
                refine g_if_lt rfl (pc' := 218) (pt := 223) rfl rfl ⟨fun hc => ?_, fun hc => ?_⟩
                · have H := H.1 hc
                  refine g_iconst rfl rfl rfl (pc' := 225) ?_
                  exact g_ireturn rfl (Or.inl rfl) H
                · have H := H.2 hc
                  refine g_iload rfl rfl rfl (pc' := 219) ?_
                  refine g_iconst rfl rfl rfl (pc' := 220) ?_
                  refine g_ic_le rfl (pc' := 223) (pt := 226) rfl rfl ⟨fun hc => ?_, fun hc => ?_⟩
                  · have H := H.1 hc
                    refine g_iload rfl rfl rfl (pc' := 227) ?_
                    refine g_if_ne rfl (pc' := 230) (pt := 237) rfl rfl ⟨fun hc => ?_, fun hc => ?_⟩
                    · have H := H.1 hc
                      refine g_iconst rfl rfl rfl (pc' := 238) ?_
                      refine g_istore rfl rfl rfl (pc' := 240) ?_
                      refine g_iconst rfl rfl rfl (pc' := 241) ?_
                      refine g_istore rfl rfl rfl (pc' := 243) ?_
                      exact g_weak (show gm_Lle [some _, none, some _, some _, some _, some _] _ from ⟨rfl, ⟨rfl, ⟨rfl, ⟨rfl, ⟨rfl, trivial⟩⟩⟩⟩⟩) H
                    · have H := H.2 hc
                      refine g_aload (r := some _) rfl rfl rfl (pc' := 231) ?_
                      refine t_get (o := 79) rfl hT rfl rfl rfl (pc' := 234) rfl ?_
                      refine g_iload rfl rfl rfl (pc' := 235) ?_
                      obtain ⟨n18, hn18, H⟩ := H
                      refine t_iaload hT (o := 79) (l := 3) rfl rfl rfl hn18 (pc' := 236) rfl ?_
                      exact g_ireturn rfl (Or.inl rfl) H
                  · have H := H.2 hc
                    refine g_iconst rfl rfl rfl (pc' := 225) ?_
                    exact g_ireturn rfl (Or.inl rfl) H
        · have H := H.2 hc
          refine g_iconst rfl rfl rfl (pc' := 196) ?_
          exact g_ireturn rfl (Or.inl rfl) H
      · have H := H.2 hc
        refine g_aload (r := some _) rfl rfl rfl (pc' := 16) ?_
        refine g_iload rfl rfl rfl (pc' := 17) ?_
        refine t_call hT (y := 135) (n := 2) (pc' := 20) rfl rfl (t_vt hT rfl rfl) rfl rfl ⟨(Nat.le_of_ble_eq_true rfl), (Nat.le_of_ble_eq_true rfl), (Nat.le_of_ble_eq_true rfl)⟩ rfl H (tI_elim (fun v20 h19 H hT => ?_))
        show gm_G _ 20 _ _ _ _
        refine g_if_ne rfl (pc' := 23) (pt := 32) rfl rfl ⟨fun hc => ?_, fun hc => ?_⟩
        · have H := H.1 hc
          refine g_iconst rfl rfl rfl (pc' := 34) ?_
          exact g_ireturn rfl (Or.inl rfl) H
        · have H := H.2 hc
          refine g_iload rfl rfl rfl (pc' := 24) ?_
          refine g_if_lt rfl (pc' := 27) (pt := 32) rfl rfl ⟨fun hc => ?_, fun hc => ?_⟩
          · have H := H.1 hc
            refine g_iconst rfl rfl rfl (pc' := 34) ?_
            exact g_ireturn rfl (Or.inl rfl) H
          · have H := H.2 hc
            refine g_iload rfl rfl rfl (pc' := 28) ?_
            refine g_iconst rfl rfl rfl (pc' := 29) ?_
            refine g_ic_le rfl (pc' := 32) (pt := 35) rfl rfl ⟨fun hc => ?_, fun hc => ?_⟩
            · have H := H.1 hc
              refine g_iload rfl rfl rfl (pc' := 36) ?_
              refine g_iconst rfl rfl rfl (pc' := 37) ?_
              refine g_ic_ge rfl (pc' := 40) (pt := 103) rfl rfl ⟨fun hc => ?_, fun hc => ?_⟩
              · have H := H.1 hc
                refine g_iload rfl rfl rfl (pc' := 104) ?_
                refine g_iconst rfl rfl rfl (pc' := 105) ?_
                refine g_ic_ne rfl (pc' := 108) (pt := 115) rfl rfl ⟨fun hc => ?_, fun hc => ?_⟩
                · have H := H.1 hc
                  refine g_iconst rfl rfl rfl (pc' := 116) ?_
                  refine g_istore rfl rfl rfl (pc' := 118) ?_
                  refine g_iconst rfl rfl rfl (pc' := 120) ?_
                  refine g_iload rfl rfl rfl (pc' := 121) ?_
                  refine g_imul rfl rfl (pc' := 122) ?_
                  refine g_istore rfl rfl rfl (pc' := 124) ?_
                  exact g_weak (show gm_Lle [some _, none, some _, some _, some _, some _] _ from ⟨rfl, ⟨rfl, ⟨rfl, ⟨rfl, ⟨rfl, trivial⟩⟩⟩⟩⟩) H
                · have H := H.2 hc
                  refine g_aload (r := some _) rfl rfl rfl (pc' := 109) ?_
                  refine t_get (o := 6) rfl hT rfl rfl rfl (pc' := 112) rfl ?_
                  refine g_iload rfl rfl rfl (pc' := 113) ?_
                  obtain ⟨n21, hn21, H⟩ := H
                  refine t_iaload hT (o := 6) (l := 8) rfl rfl rfl hn21 (pc' := 114) rfl ?_
                  exact g_ireturn rfl (Or.inl rfl) H
              · have H := H.2 hc
                refine g_iload rfl rfl rfl (pc' := 41) ?_
                refine g_if_ne rfl (pc' := 44) (pt := 53) rfl rfl ⟨fun hc => ?_, fun hc => ?_⟩
                · have H := H.1 hc
                  refine g_iload rfl rfl rfl (pc' := 54) ?_
                  refine g_iconst rfl rfl rfl (pc' := 55) ?_
                  refine g_ic_ne rfl (pc' := 58) (pt := 75) rfl rfl ⟨fun hc => ?_, fun hc => ?_⟩
                  · have H := H.1 hc
                    refine g_aload (r := some _) rfl rfl rfl (pc' := 76) ?_
                    refine t_getZ rfl hT rfl rfl (pc' := 79) rfl ?_
                    refine g_if_eq rfl (pc' := 82) (pt := 100) rfl rfl ⟨fun hc => ?_, fun hc => ?_⟩
                    · have H := H.1 hc
                      refine g_iconst rfl rfl rfl (pc' := 102) ?_
                      exact g_ireturn rfl (Or.inl rfl) H
                    · have H := H.2 hc
                      refine g_aload (r := some _) rfl rfl rfl (pc' := 83) ?_
                      refine t_get (o := 5) rfl hT rfl rfl rfl (pc' := 86) rfl ?_
                      refine g_iload rfl rfl rfl (pc' := 87) ?_
                      obtain ⟨n22, hn22, H⟩ := H
                      refine t_iaload hT (o := 5) (l := 8) rfl rfl rfl hn22 (pc' := 88) rfl ?_
                      refine g_if_lt rfl (pc' := 91) (pt := 100) rfl rfl ⟨fun hc => ?_, fun hc => ?_⟩
                      · have H := H.1 hc
                        refine g_iconst rfl rfl rfl (pc' := 102) ?_
                        exact g_ireturn rfl (Or.inl rfl) H
                      · have H := H.2 hc
                        refine g_aload (r := some _) rfl rfl rfl (pc' := 92) ?_
                        refine t_get (o := 5) rfl hT rfl rfl rfl (pc' := 95) rfl ?_
                        refine g_iload rfl rfl rfl (pc' := 96) ?_
                        obtain ⟨n23, hn23, H⟩ := H
                        refine t_iaload hT (o := 5) (l := 8) rfl rfl rfl hn23 (pc' := 97) rfl ?_
                        refine g_goto rfl (pc' := 102) rfl ?_
                        exact g_ireturn rfl (Or.inl rfl) H
                  · have H := H.2 hc
                    refine g_aload (r := some _) rfl rfl rfl (pc' := 59) ?_
                    refine t_get (o := 7) rfl hT rfl rfl rfl (pc' := 62) rfl ?_
                    refine g_iload rfl rfl rfl (pc' := 63) ?_
                    obtain ⟨n24, hn24, H⟩ := H
                    refine t_zaload hT (o := 7) (l := 8) rfl rfl rfl hn24 (pc' := 64) rfl ?_
                    refine g_if_eq rfl (pc' := 67) (pt := 71) rfl rfl ⟨fun hc => ?_, fun hc => ?_⟩
                    · have H := H.1 hc
                      refine g_iconst rfl rfl rfl (pc' := 72) ?_
                      refine g_goto rfl (pc' := 102) rfl ?_
                      exact g_ireturn rfl (Or.inl rfl) H
                    · have H := H.2 hc
                      refine g_iconst rfl rfl rfl (pc' := 68) ?_
                      refine g_goto rfl (pc' := 102) rfl ?_
                      exact g_ireturn rfl (Or.inl rfl) H
                · have H := H.2 hc
                  refine g_aload (r := some _) rfl rfl rfl (pc' := 45) ?_
                  refine t_get (o := 4) rfl hT rfl rfl rfl (pc' := 48) rfl ?_
                  refine g_iload rfl rfl rfl (pc' := 49) ?_
                  obtain ⟨n25, hn25, H⟩ := H
                  refine t_iaload hT (o := 4) (l := 8) rfl rfl rfl hn25 (pc' := 50) rfl ?_
                  refine g_goto rfl (pc' := 102) rfl ?_
                  exact g_ireturn rfl (Or.inl rfl) H
            · have H := H.2 hc
              refine g_iconst rfl rfl rfl (pc' := 34) ?_
              exact g_ireturn rfl (Or.inl rfl) H
    · have H := H.2 hc
      refine g_iconst rfl rfl rfl (pc' := 10) ?_
      exact g_ireturn rfl (Or.inl rfl) H
