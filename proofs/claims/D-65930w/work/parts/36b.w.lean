/-! STAGE 2, 7: the component, label by label (printed) -/
set_option maxRecDepth 20000 in
theorem w_87_731 {a0 : Nat}  {h : hh_T} {Q : Option Value ⊕ Nat → hh_T → Prop} (H : ∀ a1 h2, a1 = hh_sz h → h2 = hh_al h 100 48 48 → (gm_sub (hh_tg h2 a0) 19 = true ∧ (∀ h4, h4 = hh_wr h2 a0 94 (some a1) → (∀ a5 h6, a5 = hh_sz h4 → h6 = hh_al h4 100 4 4 → (gm_sub (hh_tg h6 a0) 19 = true ∧ (∀ h8, h8 = hh_wr h6 a0 95 (some a5) → (∀ a9 h10, a9 = hh_sz h8 → h10 = hh_al h8 100 4 4 → (gm_sub (hh_tg h10 a0) 19 = true ∧ (∀ h12, h12 = hh_wr h10 a0 96 (some a9) → (gm_G 87 753 [some (.ref a0)] [] h12 Q)))))))))) : gm_G 87 731 [some (.ref a0)] [] h Q := by
  refine g_aload (r := some _) rfl rfl rfl (pc' := 732) ?_
  refine g_iconst rfl rfl rfl (pc' := 734) ?_
  refine g_newarray rfl (u := 100) (n := 48) rfl (by decide) rfl (by decide) (pc' := 736) rfl ?_
  replace H := H _ _ rfl rfl
  obtain ⟨ht3, H⟩ := H
  refine g_putR (x := some _) rfl rfl rfl rfl ht3  (pc' := 739) rfl ?_
  replace H := H _ rfl
  refine g_aload (r := some _) rfl rfl rfl (pc' := 740) ?_
  refine g_iconst rfl rfl rfl (pc' := 741) ?_
  refine g_newarray rfl (u := 100) (n := 4) rfl (by decide) rfl (by decide) (pc' := 743) rfl ?_
  replace H := H _ _ rfl rfl
  obtain ⟨ht7, H⟩ := H
  refine g_putR (x := some _) rfl rfl rfl rfl ht7  (pc' := 746) rfl ?_
  replace H := H _ rfl
  refine g_aload (r := some _) rfl rfl rfl (pc' := 747) ?_
  refine g_iconst rfl rfl rfl (pc' := 748) ?_
  refine g_newarray rfl (u := 100) (n := 4) rfl (by decide) rfl (by decide) (pc' := 750) rfl ?_
  replace H := H _ _ rfl rfl
  obtain ⟨ht11, H⟩ := H
  refine g_putR (x := some _) rfl rfl rfl rfl ht11  (pc' := 753) rfl ?_
  replace H := H _ rfl
  exact g_weak (show gm_Lle [some _] _ from ⟨rfl, trivial⟩) H
set_option maxRecDepth 20000 in
theorem w_87_753 {a0 : Nat}  {h : hh_T} {Q : Option Value ⊕ Nat → hh_T → Prop} (H : ∀ a1 h2, a1 = hh_sz h → h2 = hh_al h 100 3 3 → (gm_sub (hh_tg h2 a0) 19 = true ∧ (∀ h4, h4 = hh_wr h2 a0 97 (some a1) → (∀ a5 h6, a5 = hh_sz h4 → h6 = hh_al h4 100 3 3 → (gm_sub (hh_tg h6 a0) 19 = true ∧ (∀ h8, h8 = hh_wr h6 a0 98 (some a5) → (∀ h9, h9 = hh_wi h8 a0 99 (Int32.ofNat 0) → (gm_G 87 772 [some (.ref a0)] [] h9 Q)))))))) : gm_G 87 753 [some (.ref a0)] [] h Q := by
  refine g_aload (r := some _) rfl rfl rfl (pc' := 754) ?_
  refine g_iconst rfl rfl rfl (pc' := 755) ?_
  refine g_newarray rfl (u := 100) (n := 3) rfl (by decide) rfl (by decide) (pc' := 757) rfl ?_
  replace H := H _ _ rfl rfl
  obtain ⟨ht3, H⟩ := H
  refine g_putR (x := some _) rfl rfl rfl rfl ht3  (pc' := 760) rfl ?_
  replace H := H _ rfl
  refine g_aload (r := some _) rfl rfl rfl (pc' := 761) ?_
  refine g_iconst rfl rfl rfl (pc' := 762) ?_
  refine g_newarray rfl (u := 100) (n := 3) rfl (by decide) rfl (by decide) (pc' := 764) rfl ?_
  replace H := H _ _ rfl rfl
  obtain ⟨ht7, H⟩ := H
  refine g_putR (x := some _) rfl rfl rfl rfl ht7  (pc' := 767) rfl ?_
  replace H := H _ rfl
  refine g_aload (r := some _) rfl rfl rfl (pc' := 768) ?_
  refine g_iconst rfl rfl rfl (pc' := 769) ?_
  refine g_putI rfl rfl rfl rfl ht7  (pc' := 772) rfl ?_
  replace H := H _ rfl
  exact g_weak (show gm_Lle [some _] _ from ⟨rfl, trivial⟩) H
set_option maxRecDepth 20000 in
theorem w_87_772 {a0 : Nat}  {h : hh_T} {Q : Option Value ⊕ Nat → hh_T → Prop} (H : gm_sub (hh_tg h a0) 19 = true ∧ (∀ h2, h2 = hh_wi h a0 100 (Int32.ofNat 0) → (∀ h3, h3 = hh_wi h2 a0 101 (Int32.ofNat 0) → (∀ h4, h4 = hh_wi h3 a0 102 (Int32.ofNat 0) → (∀ a5 h6, a5 = hh_sz h4 → h6 = hh_al h4 100 8 8 → (gm_sub (hh_tg h6 a0) 19 = true ∧ (∀ h8, h8 = hh_wr h6 a0 103 (some a5) → (gm_G 87 795 [some (.ref a0)] [] h8 Q)))))))) : gm_G 87 772 [some (.ref a0)] [] h Q := by
  refine g_aload (r := some _) rfl rfl rfl (pc' := 773) ?_
  refine g_iconst rfl rfl rfl (pc' := 774) ?_
  obtain ⟨ht1, H⟩ := H
  refine g_putI rfl rfl rfl rfl ht1  (pc' := 777) rfl ?_
  replace H := H _ rfl
  refine g_aload (r := some _) rfl rfl rfl (pc' := 778) ?_
  refine g_iconst rfl rfl rfl (pc' := 779) ?_
  refine g_putI rfl rfl rfl rfl ht1  (pc' := 782) rfl ?_
  replace H := H _ rfl
  refine g_aload (r := some _) rfl rfl rfl (pc' := 783) ?_
  refine g_iconst rfl rfl rfl (pc' := 784) ?_
  refine g_putI rfl rfl rfl rfl ht1  (pc' := 787) rfl ?_
  replace H := H _ rfl
  refine g_aload (r := some _) rfl rfl rfl (pc' := 788) ?_
  refine g_iconst rfl rfl rfl (pc' := 790) ?_
  refine g_newarray rfl (u := 100) (n := 8) rfl (by decide) rfl (by decide) (pc' := 792) rfl ?_
  replace H := H _ _ rfl rfl
  obtain ⟨ht7, H⟩ := H
  refine g_putR (x := some _) rfl rfl rfl rfl ht7  (pc' := 795) rfl ?_
  replace H := H _ rfl
  exact g_weak (show gm_Lle [some _] _ from ⟨rfl, trivial⟩) H
set_option maxRecDepth 20000 in
theorem w_87_795 {a0 : Nat}  {h : hh_T} {Q : Option Value ⊕ Nat → hh_T → Prop} (H : ∀ a1 h2, a1 = hh_sz h → h2 = hh_al h 100 8 8 → (gm_sub (hh_tg h2 a0) 19 = true ∧ (∀ h4, h4 = hh_wr h2 a0 104 (some a1) → (∀ a5 h6, a5 = hh_sz h4 → h6 = hh_al h4 100 37120 37120 → (gm_sub (hh_tg h6 a0) 19 = true ∧ (∀ h8, h8 = hh_wr h6 a0 105 (some a5) → (∀ a9 h10, a9 = hh_sz h8 → h10 = hh_al h8 100 37120 37120 → (gm_sub (hh_tg h10 a0) 19 = true ∧ (∀ h12, h12 = hh_wr h10 a0 106 (some a9) → (gm_G 87 821 [some (.ref a0)] [] h12 Q)))))))))) : gm_G 87 795 [some (.ref a0)] [] h Q := by
  refine g_aload (r := some _) rfl rfl rfl (pc' := 796) ?_
  refine g_iconst rfl rfl rfl (pc' := 798) ?_
  refine g_newarray rfl (u := 100) (n := 8) rfl (by decide) rfl (by decide) (pc' := 800) rfl ?_
  replace H := H _ _ rfl rfl
  obtain ⟨ht3, H⟩ := H
  refine g_putR (x := some _) rfl rfl rfl rfl ht3  (pc' := 803) rfl ?_
  replace H := H _ rfl
  refine g_aload (r := some _) rfl rfl rfl (pc' := 804) ?_
  refine g_iconst rfl rfl rfl (pc' := 807) ?_
  refine g_newarray rfl (u := 100) (n := 37120) rfl (by decide) rfl (by decide) (pc' := 809) rfl ?_
  replace H := H _ _ rfl rfl
  obtain ⟨ht7, H⟩ := H
  refine g_putR (x := some _) rfl rfl rfl rfl ht7  (pc' := 812) rfl ?_
  replace H := H _ rfl
  refine g_aload (r := some _) rfl rfl rfl (pc' := 813) ?_
  refine g_iconst rfl rfl rfl (pc' := 816) ?_
  refine g_newarray rfl (u := 100) (n := 37120) rfl (by decide) rfl (by decide) (pc' := 818) rfl ?_
  replace H := H _ _ rfl rfl
  obtain ⟨ht11, H⟩ := H
  refine g_putR (x := some _) rfl rfl rfl rfl ht11  (pc' := 821) rfl ?_
  replace H := H _ rfl
  exact g_weak (show gm_Lle [some _] _ from ⟨rfl, trivial⟩) H
set_option maxRecDepth 20000 in
theorem w_87_821 {a0 : Nat}  {h : hh_T} {Q : Option Value ⊕ Nat → hh_T → Prop} (H : ∀ a1 h2, a1 = hh_sz h → h2 = hh_al h 100 8 8 → (gm_sub (hh_tg h2 a0) 19 = true ∧ (∀ h4, h4 = hh_wr h2 a0 107 (some a1) → (∀ h5, h5 = hh_wi h4 a0 108 (Int32.ofInt (-1)) → (∀ h6, h6 = hh_wi h5 a0 109 (Int32.ofNat 0) → (∀ h7, h7 = hh_wi h6 a0 110 (Int32.ofNat 0) → (gm_G 87 844 [some (.ref a0)] [] h7 Q))))))) : gm_G 87 821 [some (.ref a0)] [] h Q := by
  refine g_aload (r := some _) rfl rfl rfl (pc' := 822) ?_
  refine g_iconst rfl rfl rfl (pc' := 824) ?_
  refine g_newarray rfl (u := 100) (n := 8) rfl (by decide) rfl (by decide) (pc' := 826) rfl ?_
  replace H := H _ _ rfl rfl
  obtain ⟨ht3, H⟩ := H
  refine g_putR (x := some _) rfl rfl rfl rfl ht3  (pc' := 829) rfl ?_
  replace H := H _ rfl
  refine g_aload (r := some _) rfl rfl rfl (pc' := 830) ?_
  refine g_iconst rfl rfl rfl (pc' := 831) ?_
  refine g_putI rfl rfl rfl rfl ht3  (pc' := 834) rfl ?_
  replace H := H _ rfl
  refine g_aload (r := some _) rfl rfl rfl (pc' := 835) ?_
  refine g_iconst rfl rfl rfl (pc' := 836) ?_
  refine g_putI rfl rfl rfl rfl ht3  (pc' := 839) rfl ?_
  replace H := H _ rfl
  refine g_aload (r := some _) rfl rfl rfl (pc' := 840) ?_
  refine g_iconst rfl rfl rfl (pc' := 841) ?_
  refine g_putI rfl rfl rfl rfl ht3  (pc' := 844) rfl ?_
  replace H := H _ rfl
  exact g_weak (show gm_Lle [some _] _ from ⟨rfl, trivial⟩) H
set_option maxRecDepth 20000 in
theorem w_87_844 {a0 : Nat}  {h : hh_T} {Q : Option Value ⊕ Nat → hh_T → Prop} (H : gm_sub (hh_tg h a0) 19 = true ∧ (∀ h2, h2 = hh_wi h a0 111 (Int32.ofNat 0) → (∀ h3, h3 = hh_wi h2 a0 112 (Int32.ofNat 0) → (∀ a4 h5, a4 = hh_sz h3 → h5 = hh_al h3 101 1024 1024 → (gm_sub (hh_tg h5 a0) 19 = true ∧ (∀ h7, h7 = hh_wr h5 a0 113 (some a4) → (∀ a8 h9, a8 = hh_sz h7 → h9 = hh_al h7 101 1024 1024 → (gm_sub (hh_tg h9 a0) 19 = true ∧ (∀ h11, h11 = hh_wr h9 a0 114 (some a8) → (gm_G 87 872 [some (.ref a0)] [] h11 Q)))))))))) : gm_G 87 844 [some (.ref a0)] [] h Q := by
  refine g_aload (r := some _) rfl rfl rfl (pc' := 845) ?_
  refine g_iconst rfl rfl rfl (pc' := 846) ?_
  obtain ⟨ht1, H⟩ := H
  refine g_putZ rfl rfl rfl rfl ht1 (by decide) (pc' := 849) rfl ?_
  replace H := H _ rfl
  refine g_aload (r := some _) rfl rfl rfl (pc' := 850) ?_
  refine g_iconst rfl rfl rfl (pc' := 851) ?_
  refine g_putZ rfl rfl rfl rfl ht1 (by decide) (pc' := 854) rfl ?_
  replace H := H _ rfl
  refine g_aload (r := some _) rfl rfl rfl (pc' := 855) ?_
  refine g_iconst rfl rfl rfl (pc' := 858) ?_
  refine g_newarray rfl (u := 101) (n := 1024) rfl (by decide) rfl (by decide) (pc' := 860) rfl ?_
  replace H := H _ _ rfl rfl
  obtain ⟨ht6, H⟩ := H
  refine g_putR (x := some _) rfl rfl rfl rfl ht6  (pc' := 863) rfl ?_
  replace H := H _ rfl
  refine g_aload (r := some _) rfl rfl rfl (pc' := 864) ?_
  refine g_iconst rfl rfl rfl (pc' := 867) ?_
  refine g_newarray rfl (u := 101) (n := 1024) rfl (by decide) rfl (by decide) (pc' := 869) rfl ?_
  replace H := H _ _ rfl rfl
  obtain ⟨ht10, H⟩ := H
  refine g_putR (x := some _) rfl rfl rfl rfl ht10  (pc' := 872) rfl ?_
  replace H := H _ rfl
  exact g_weak (show gm_Lle [some _] _ from ⟨rfl, trivial⟩) H
set_option maxRecDepth 20000 in
theorem w_87_872 {a0 : Nat}  {h : hh_T} {Q : Option Value ⊕ Nat → hh_T → Prop} (H : ∀ a1 h2, a1 = hh_sz h → h2 = hh_al h 101 1 1 → (gm_sub (hh_tg h2 a0) 19 = true ∧ (∀ h4, h4 = hh_wr h2 a0 115 (some a1) → (∀ a5 h6, a5 = hh_sz h4 → h6 = hh_al h4 102 8 8 → (gm_sub (hh_tg h6 a0) 19 = true ∧ (∀ h8, h8 = hh_wr h6 a0 116 (some a5) → (∀ a9 h10, a9 = hh_sz h8 → h10 = hh_al h8 102 8 8 → (gm_sub (hh_tg h10 a0) 19 = true ∧ (∀ h12, h12 = hh_wr h10 a0 117 (some a9) → (gm_G 87 895 [some (.ref a0)] [] h12 Q)))))))))) : gm_G 87 872 [some (.ref a0)] [] h Q := by
  refine g_aload (r := some _) rfl rfl rfl (pc' := 873) ?_
  refine g_iconst rfl rfl rfl (pc' := 874) ?_
  refine g_newarray rfl (u := 101) (n := 1) rfl (by decide) rfl (by decide) (pc' := 876) rfl ?_
  replace H := H _ _ rfl rfl
  obtain ⟨ht3, H⟩ := H
  refine g_putR (x := some _) rfl rfl rfl rfl ht3  (pc' := 879) rfl ?_
  replace H := H _ rfl
  refine g_aload (r := some _) rfl rfl rfl (pc' := 880) ?_
  refine g_iconst rfl rfl rfl (pc' := 882) ?_
  refine g_newarray rfl (u := 102) (n := 8) rfl (by decide) rfl (by decide) (pc' := 884) rfl ?_
  replace H := H _ _ rfl rfl
  obtain ⟨ht7, H⟩ := H
  refine g_putR (x := some _) rfl rfl rfl rfl ht7  (pc' := 887) rfl ?_
  replace H := H _ rfl
  refine g_aload (r := some _) rfl rfl rfl (pc' := 888) ?_
  refine g_iconst rfl rfl rfl (pc' := 890) ?_
  refine g_newarray rfl (u := 102) (n := 8) rfl (by decide) rfl (by decide) (pc' := 892) rfl ?_
  replace H := H _ _ rfl rfl
  obtain ⟨ht11, H⟩ := H
  refine g_putR (x := some _) rfl rfl rfl rfl ht11  (pc' := 895) rfl ?_
  replace H := H _ rfl
  exact g_weak (show gm_Lle [some _] _ from ⟨rfl, trivial⟩) H
set_option maxRecDepth 20000 in
theorem w_87_895 {a0 : Nat}  {h : hh_T} {Q : Option Value ⊕ Nat → hh_T → Prop} (H : ∀ a1 h2, a1 = hh_sz h → h2 = hh_al h 100 8 8 → (gm_sub (hh_tg h2 a0) 19 = true ∧ (∀ h4, h4 = hh_wr h2 a0 118 (some a1) → (∀ a5 h6, a5 = hh_sz h4 → h6 = hh_al h4 100 8 8 → (gm_sub (hh_tg h6 a0) 19 = true ∧ (∀ h8, h8 = hh_wr h6 a0 119 (some a5) → (∀ a9 h10, a9 = hh_sz h8 → h10 = hh_al h8 100 8 8 → (gm_sub (hh_tg h10 a0) 19 = true ∧ (∀ h12, h12 = hh_wr h10 a0 120 (some a9) → (gm_G 87 919 [some (.ref a0)] [] h12 Q)))))))))) : gm_G 87 895 [some (.ref a0)] [] h Q := by
  refine g_aload (r := some _) rfl rfl rfl (pc' := 896) ?_
  refine g_iconst rfl rfl rfl (pc' := 898) ?_
  refine g_newarray rfl (u := 100) (n := 8) rfl (by decide) rfl (by decide) (pc' := 900) rfl ?_
  replace H := H _ _ rfl rfl
  obtain ⟨ht3, H⟩ := H
  refine g_putR (x := some _) rfl rfl rfl rfl ht3  (pc' := 903) rfl ?_
  replace H := H _ rfl
  refine g_aload (r := some _) rfl rfl rfl (pc' := 904) ?_
  refine g_iconst rfl rfl rfl (pc' := 906) ?_
  refine g_newarray rfl (u := 100) (n := 8) rfl (by decide) rfl (by decide) (pc' := 908) rfl ?_
  replace H := H _ _ rfl rfl
  obtain ⟨ht7, H⟩ := H
  refine g_putR (x := some _) rfl rfl rfl rfl ht7  (pc' := 911) rfl ?_
  replace H := H _ rfl
  refine g_aload (r := some _) rfl rfl rfl (pc' := 912) ?_
  refine g_iconst rfl rfl rfl (pc' := 914) ?_
  refine g_newarray rfl (u := 100) (n := 8) rfl (by decide) rfl (by decide) (pc' := 916) rfl ?_
  replace H := H _ _ rfl rfl
  obtain ⟨ht11, H⟩ := H
  refine g_putR (x := some _) rfl rfl rfl rfl ht11  (pc' := 919) rfl ?_
  replace H := H _ rfl
  exact g_weak (show gm_Lle [some _] _ from ⟨rfl, trivial⟩) H
set_option maxRecDepth 20000 in
theorem w_87_919 {a0 : Nat}  {h : hh_T} {Q : Option Value ⊕ Nat → hh_T → Prop} (H : ∀ a1 h2, a1 = hh_sz h → h2 = hh_al h 100 8 8 → (gm_sub (hh_tg h2 a0) 19 = true ∧ (∀ h4, h4 = hh_wr h2 a0 121 (some a1) → (∀ a5 h6, a5 = hh_sz h4 → h6 = hh_al h4 100 8 8 → (gm_sub (hh_tg h6 a0) 19 = true ∧ (∀ h8, h8 = hh_wr h6 a0 122 (some a5) → (∀ a9 h10, a9 = hh_sz h8 → h10 = hh_al h8 100 8 8 → (gm_sub (hh_tg h10 a0) 19 = true ∧ (∀ h12, h12 = hh_wr h10 a0 123 (some a9) → (gm_G 87 943 [some (.ref a0)] [] h12 Q)))))))))) : gm_G 87 919 [some (.ref a0)] [] h Q := by
  refine g_aload (r := some _) rfl rfl rfl (pc' := 920) ?_
  refine g_iconst rfl rfl rfl (pc' := 922) ?_
  refine g_newarray rfl (u := 100) (n := 8) rfl (by decide) rfl (by decide) (pc' := 924) rfl ?_
  replace H := H _ _ rfl rfl
  obtain ⟨ht3, H⟩ := H
  refine g_putR (x := some _) rfl rfl rfl rfl ht3  (pc' := 927) rfl ?_
  replace H := H _ rfl
  refine g_aload (r := some _) rfl rfl rfl (pc' := 928) ?_
  refine g_iconst rfl rfl rfl (pc' := 930) ?_
  refine g_newarray rfl (u := 100) (n := 8) rfl (by decide) rfl (by decide) (pc' := 932) rfl ?_
  replace H := H _ _ rfl rfl
  obtain ⟨ht7, H⟩ := H
  refine g_putR (x := some _) rfl rfl rfl rfl ht7  (pc' := 935) rfl ?_
  replace H := H _ rfl
  refine g_aload (r := some _) rfl rfl rfl (pc' := 936) ?_
  refine g_iconst rfl rfl rfl (pc' := 938) ?_
  refine g_newarray rfl (u := 100) (n := 8) rfl (by decide) rfl (by decide) (pc' := 940) rfl ?_
  replace H := H _ _ rfl rfl
  obtain ⟨ht11, H⟩ := H
  refine g_putR (x := some _) rfl rfl rfl rfl ht11  (pc' := 943) rfl ?_
  replace H := H _ rfl
  exact g_weak (show gm_Lle [some _] _ from ⟨rfl, trivial⟩) H
set_option maxRecDepth 20000 in
theorem w_87_943 {a0 : Nat}  {h : hh_T} {Q : Option Value ⊕ Nat → hh_T → Prop} (H : ∀ a1 h2, a1 = hh_sz h → h2 = hh_al h 101 8008 8008 → (gm_sub (hh_tg h2 a0) 19 = true ∧ (∀ h4, h4 = hh_wr h2 a0 124 (some a1) → (∀ a5 h6, a5 = hh_sz h4 → h6 = hh_al h4 102 4 4 → (gm_sub (hh_tg h6 a0) 19 = true ∧ (∀ h8, h8 = hh_wr h6 a0 125 (some a5) → (∀ a9 h10, a9 = hh_sz h8 → h10 = hh_al h8 102 4 4 → (gm_sub (hh_tg h10 a0) 19 = true ∧ (∀ h12, h12 = hh_wr h10 a0 126 (some a9) → (gm_G 87 966 [some (.ref a0)] [] h12 Q)))))))))) : gm_G 87 943 [some (.ref a0)] [] h Q := by
  refine g_aload (r := some _) rfl rfl rfl (pc' := 944) ?_
  refine g_iconst rfl rfl rfl (pc' := 947) ?_
  refine g_newarray rfl (u := 101) (n := 8008) rfl (by decide) rfl (by decide) (pc' := 949) rfl ?_
  replace H := H _ _ rfl rfl
  obtain ⟨ht3, H⟩ := H
  refine g_putR (x := some _) rfl rfl rfl rfl ht3  (pc' := 952) rfl ?_
  replace H := H _ rfl
  refine g_aload (r := some _) rfl rfl rfl (pc' := 953) ?_
  refine g_iconst rfl rfl rfl (pc' := 954) ?_
  refine g_newarray rfl (u := 102) (n := 4) rfl (by decide) rfl (by decide) (pc' := 956) rfl ?_
  replace H := H _ _ rfl rfl
  obtain ⟨ht7, H⟩ := H
  refine g_putR (x := some _) rfl rfl rfl rfl ht7  (pc' := 959) rfl ?_
  replace H := H _ rfl
  refine g_aload (r := some _) rfl rfl rfl (pc' := 960) ?_
  refine g_iconst rfl rfl rfl (pc' := 961) ?_
  refine g_newarray rfl (u := 102) (n := 4) rfl (by decide) rfl (by decide) (pc' := 963) rfl ?_
  replace H := H _ _ rfl rfl
  obtain ⟨ht11, H⟩ := H
  refine g_putR (x := some _) rfl rfl rfl rfl ht11  (pc' := 966) rfl ?_
  replace H := H _ rfl
  exact g_weak (show gm_Lle [some _] _ from ⟨rfl, trivial⟩) H
set_option maxRecDepth 20000 in
theorem w_87_966 {a0 : Nat}  {h : hh_T} {Q : Option Value ⊕ Nat → hh_T → Prop} (H : ∀ a1 h2, a1 = hh_sz h → h2 = hh_al h 100 4 4 → (gm_sub (hh_tg h2 a0) 19 = true ∧ (∀ h4, h4 = hh_wr h2 a0 127 (some a1) → (∀ a5 h6, a5 = hh_sz h4 → h6 = hh_al h4 100 4 4 → (gm_sub (hh_tg h6 a0) 19 = true ∧ (∀ h8, h8 = hh_wr h6 a0 128 (some a5) → (∀ a9 h10, a9 = hh_sz h8 → h10 = hh_al h8 100 4 4 → (gm_sub (hh_tg h10 a0) 19 = true ∧ (∀ h12, h12 = hh_wr h10 a0 129 (some a9) → (gm_G 87 987 [some (.ref a0)] [] h12 Q)))))))))) : gm_G 87 966 [some (.ref a0)] [] h Q := by
  refine g_aload (r := some _) rfl rfl rfl (pc' := 967) ?_
  refine g_iconst rfl rfl rfl (pc' := 968) ?_
  refine g_newarray rfl (u := 100) (n := 4) rfl (by decide) rfl (by decide) (pc' := 970) rfl ?_
  replace H := H _ _ rfl rfl
  obtain ⟨ht3, H⟩ := H
  refine g_putR (x := some _) rfl rfl rfl rfl ht3  (pc' := 973) rfl ?_
  replace H := H _ rfl
  refine g_aload (r := some _) rfl rfl rfl (pc' := 974) ?_
  refine g_iconst rfl rfl rfl (pc' := 975) ?_
  refine g_newarray rfl (u := 100) (n := 4) rfl (by decide) rfl (by decide) (pc' := 977) rfl ?_
  replace H := H _ _ rfl rfl
  obtain ⟨ht7, H⟩ := H
  refine g_putR (x := some _) rfl rfl rfl rfl ht7  (pc' := 980) rfl ?_
  replace H := H _ rfl
  refine g_aload (r := some _) rfl rfl rfl (pc' := 981) ?_
  refine g_iconst rfl rfl rfl (pc' := 982) ?_
  refine g_newarray rfl (u := 100) (n := 4) rfl (by decide) rfl (by decide) (pc' := 984) rfl ?_
  replace H := H _ _ rfl rfl
  obtain ⟨ht11, H⟩ := H
  refine g_putR (x := some _) rfl rfl rfl rfl ht11  (pc' := 987) rfl ?_
  replace H := H _ rfl
  exact g_weak (show gm_Lle [some _] _ from ⟨rfl, trivial⟩) H
set_option maxRecDepth 20000 in
theorem w_87_987 {a0 : Nat}  {h : hh_T} {Q : Option Value ⊕ Nat → hh_T → Prop} (H : ∀ a1 h2, a1 = hh_sz h → h2 = hh_al h 100 24 24 → (gm_sub (hh_tg h2 a0) 19 = true ∧ (∀ h4, h4 = hh_wr h2 a0 130 (some a1) → (∀ a5 h6, a5 = hh_sz h4 → h6 = hh_al h4 101 544 544 → (gm_sub (hh_tg h6 a0) 19 = true ∧ (∀ h8, h8 = hh_wr h6 a0 131 (some a5) → (∀ a9 h10, a9 = hh_sz h8 → h10 = hh_al h8 100 8 8 → (gm_sub (hh_tg h10 a0) 19 = true ∧ (∀ h12, h12 = hh_wr h10 a0 132 (some a9) → (gm_G 87 1012 [some (.ref a0)] [] h12 Q)))))))))) : gm_G 87 987 [some (.ref a0)] [] h Q := by
  refine g_aload (r := some _) rfl rfl rfl (pc' := 988) ?_
  refine g_iconst rfl rfl rfl (pc' := 990) ?_
  refine g_newarray rfl (u := 100) (n := 24) rfl (by decide) rfl (by decide) (pc' := 992) rfl ?_
  replace H := H _ _ rfl rfl
  obtain ⟨ht3, H⟩ := H
  refine g_putR (x := some _) rfl rfl rfl rfl ht3  (pc' := 995) rfl ?_
  replace H := H _ rfl
  refine g_aload (r := some _) rfl rfl rfl (pc' := 996) ?_
  refine g_iconst rfl rfl rfl (pc' := 999) ?_
  refine g_newarray rfl (u := 101) (n := 544) rfl (by decide) rfl (by decide) (pc' := 1001) rfl ?_
  replace H := H _ _ rfl rfl
  obtain ⟨ht7, H⟩ := H
  refine g_putR (x := some _) rfl rfl rfl rfl ht7  (pc' := 1004) rfl ?_
  replace H := H _ rfl
  refine g_aload (r := some _) rfl rfl rfl (pc' := 1005) ?_
  refine g_iconst rfl rfl rfl (pc' := 1007) ?_
  refine g_newarray rfl (u := 100) (n := 8) rfl (by decide) rfl (by decide) (pc' := 1009) rfl ?_
  replace H := H _ _ rfl rfl
  obtain ⟨ht11, H⟩ := H
  refine g_putR (x := some _) rfl rfl rfl rfl ht11  (pc' := 1012) rfl ?_
  replace H := H _ rfl
  exact g_weak (show gm_Lle [some _] _ from ⟨rfl, trivial⟩) H
set_option maxRecDepth 20000 in
theorem w_87_1012 {a0 : Nat}  {h : hh_T} {Q : Option Value ⊕ Nat → hh_T → Prop} (H : ∀ a1 h2, a1 = hh_sz h → h2 = hh_al h 100 3 3 → (gm_sub (hh_tg h2 a0) 19 = true ∧ (∀ h4, h4 = hh_wr h2 a0 133 (some a1) → (∀ a5 h6, a5 = hh_sz h4 → h6 = hh_al h4 100 3 3 → (gm_sub (hh_tg h6 a0) 19 = true ∧ (∀ h8, h8 = hh_wr h6 a0 134 (some a5) → (∀ a9 h10, a9 = hh_sz h8 → h10 = hh_al h8 100 3 3 → (gm_sub (hh_tg h10 a0) 19 = true ∧ (∀ h12, h12 = hh_wr h10 a0 135 (some a9) → (gm_G 87 1033 [some (.ref a0)] [] h12 Q)))))))))) : gm_G 87 1012 [some (.ref a0)] [] h Q := by
  refine g_aload (r := some _) rfl rfl rfl (pc' := 1013) ?_
  refine g_iconst rfl rfl rfl (pc' := 1014) ?_
  refine g_newarray rfl (u := 100) (n := 3) rfl (by decide) rfl (by decide) (pc' := 1016) rfl ?_
  replace H := H _ _ rfl rfl
  obtain ⟨ht3, H⟩ := H
  refine g_putR (x := some _) rfl rfl rfl rfl ht3  (pc' := 1019) rfl ?_
  replace H := H _ rfl
  refine g_aload (r := some _) rfl rfl rfl (pc' := 1020) ?_
  refine g_iconst rfl rfl rfl (pc' := 1021) ?_
  refine g_newarray rfl (u := 100) (n := 3) rfl (by decide) rfl (by decide) (pc' := 1023) rfl ?_
  replace H := H _ _ rfl rfl
  obtain ⟨ht7, H⟩ := H
  refine g_putR (x := some _) rfl rfl rfl rfl ht7  (pc' := 1026) rfl ?_
  replace H := H _ rfl
  refine g_aload (r := some _) rfl rfl rfl (pc' := 1027) ?_
  refine g_iconst rfl rfl rfl (pc' := 1028) ?_
  refine g_newarray rfl (u := 100) (n := 3) rfl (by decide) rfl (by decide) (pc' := 1030) rfl ?_
  replace H := H _ _ rfl rfl
  obtain ⟨ht11, H⟩ := H
  refine g_putR (x := some _) rfl rfl rfl rfl ht11  (pc' := 1033) rfl ?_
  replace H := H _ rfl
  exact g_weak (show gm_Lle [some _] _ from ⟨rfl, trivial⟩) H
set_option maxRecDepth 20000 in
theorem w_87_1033 {a0 : Nat}  {h : hh_T} {Q : Option Value ⊕ Nat → hh_T → Prop} (H : ∀ a1 h2, a1 = hh_sz h → h2 = hh_al h 100 18 18 → (gm_sub (hh_tg h2 a0) 19 = true ∧ (∀ h4, h4 = hh_wr h2 a0 136 (some a1) → (∀ a5 h6, a5 = hh_sz h4 → h6 = hh_al h4 102 8 8 → (gm_sub (hh_tg h6 a0) 19 = true ∧ (∀ h8, h8 = hh_wr h6 a0 137 (some a5) → (∀ h9, h9 = hh_wi h8 a0 138 (Int32.ofNat 0) → (gm_G 87 1054 [some (.ref a0)] [] h9 Q)))))))) : gm_G 87 1033 [some (.ref a0)] [] h Q := by
  refine g_aload (r := some _) rfl rfl rfl (pc' := 1034) ?_
  refine g_iconst rfl rfl rfl (pc' := 1036) ?_
  refine g_newarray rfl (u := 100) (n := 18) rfl (by decide) rfl (by decide) (pc' := 1038) rfl ?_
  replace H := H _ _ rfl rfl
  obtain ⟨ht3, H⟩ := H
  refine g_putR (x := some _) rfl rfl rfl rfl ht3  (pc' := 1041) rfl ?_
  replace H := H _ rfl
  refine g_aload (r := some _) rfl rfl rfl (pc' := 1042) ?_
  refine g_iconst rfl rfl rfl (pc' := 1044) ?_
  refine g_newarray rfl (u := 102) (n := 8) rfl (by decide) rfl (by decide) (pc' := 1046) rfl ?_
  replace H := H _ _ rfl rfl
  obtain ⟨ht7, H⟩ := H
  refine g_putR (x := some _) rfl rfl rfl rfl ht7  (pc' := 1049) rfl ?_
  replace H := H _ rfl
  refine g_aload (r := some _) rfl rfl rfl (pc' := 1050) ?_
  refine g_iconst rfl rfl rfl (pc' := 1051) ?_
  refine g_putI rfl rfl rfl rfl ht7  (pc' := 1054) rfl ?_
  replace H := H _ rfl
  exact g_weak (show gm_Lle [some _] _ from ⟨rfl, trivial⟩) H
set_option maxRecDepth 20000 in
theorem w_87_1054 {a0 : Nat}  {h : hh_T} {Q : Option Value ⊕ Nat → hh_T → Prop} (H : gm_sub (hh_tg h a0) 19 = true ∧ (∀ h2, h2 = hh_wi h a0 139 (Int32.ofInt (-1)) → (∀ a3 h4, a3 = hh_sz h2 → h4 = hh_al h2 101 300 300 → (gm_sub (hh_tg h4 a0) 19 = true ∧ (∀ h6, h6 = hh_wr h4 a0 140 (some a3) → (∀ a7 h8, a7 = hh_sz h6 → h8 = hh_al h6 101 64 64 → (gm_sub (hh_tg h8 a0) 19 = true ∧ (∀ h10, h10 = hh_wr h8 a0 141 (some a7) → (gm_G 87 1076 [some (.ref a0)] [] h10 Q))))))))) : gm_G 87 1054 [some (.ref a0)] [] h Q := by
  refine g_aload (r := some _) rfl rfl rfl (pc' := 1055) ?_
  refine g_iconst rfl rfl rfl (pc' := 1056) ?_
  obtain ⟨ht1, H⟩ := H
  refine g_putI rfl rfl rfl rfl ht1  (pc' := 1059) rfl ?_
  replace H := H _ rfl
  refine g_aload (r := some _) rfl rfl rfl (pc' := 1060) ?_
  refine g_iconst rfl rfl rfl (pc' := 1063) ?_
  refine g_newarray rfl (u := 101) (n := 300) rfl (by decide) rfl (by decide) (pc' := 1065) rfl ?_
  replace H := H _ _ rfl rfl
  obtain ⟨ht5, H⟩ := H
  refine g_putR (x := some _) rfl rfl rfl rfl ht5  (pc' := 1068) rfl ?_
  replace H := H _ rfl
  refine g_aload (r := some _) rfl rfl rfl (pc' := 1069) ?_
  refine g_iconst rfl rfl rfl (pc' := 1071) ?_
  refine g_newarray rfl (u := 101) (n := 64) rfl (by decide) rfl (by decide) (pc' := 1073) rfl ?_
  replace H := H _ _ rfl rfl
  obtain ⟨ht9, H⟩ := H
  refine g_putR (x := some _) rfl rfl rfl rfl ht9  (pc' := 1076) rfl ?_
  replace H := H _ rfl
  exact g_weak (show gm_Lle [some _] _ from ⟨rfl, trivial⟩) H
set_option maxRecDepth 20000 in
theorem w_87_1076 {a0 : Nat}  {h : hh_T} {Q : Option Value ⊕ Nat → hh_T → Prop} (H : ∀ a1 h2, a1 = hh_sz h → h2 = hh_al h 101 12200 12200 → (gm_sub (hh_tg h2 a0) 19 = true ∧ (∀ h4, h4 = hh_wr h2 a0 142 (some a1) → (∀ a5 h6, a5 = hh_sz h4 → h6 = hh_al h4 101 12200 12200 → (gm_sub (hh_tg h6 a0) 19 = true ∧ (∀ h8, h8 = hh_wr h6 a0 143 (some a5) → (∀ a9 h10, a9 = hh_sz h8 → h10 = hh_al h8 101 6400 6400 → (gm_sub (hh_tg h10 a0) 19 = true ∧ (∀ h12, h12 = hh_wr h10 a0 144 (some a9) → (gm_G 87 1103 [some (.ref a0)] [] h12 Q)))))))))) : gm_G 87 1076 [some (.ref a0)] [] h Q := by
  refine g_aload (r := some _) rfl rfl rfl (pc' := 1077) ?_
  refine g_iconst rfl rfl rfl (pc' := 1080) ?_
  refine g_newarray rfl (u := 101) (n := 12200) rfl (by decide) rfl (by decide) (pc' := 1082) rfl ?_
  replace H := H _ _ rfl rfl
  obtain ⟨ht3, H⟩ := H
  refine g_putR (x := some _) rfl rfl rfl rfl ht3  (pc' := 1085) rfl ?_
  replace H := H _ rfl
  refine g_aload (r := some _) rfl rfl rfl (pc' := 1086) ?_
  refine g_iconst rfl rfl rfl (pc' := 1089) ?_
  refine g_newarray rfl (u := 101) (n := 12200) rfl (by decide) rfl (by decide) (pc' := 1091) rfl ?_
  replace H := H _ _ rfl rfl
  obtain ⟨ht7, H⟩ := H
  refine g_putR (x := some _) rfl rfl rfl rfl ht7  (pc' := 1094) rfl ?_
  replace H := H _ rfl
  refine g_aload (r := some _) rfl rfl rfl (pc' := 1095) ?_
  refine g_iconst rfl rfl rfl (pc' := 1098) ?_
  refine g_newarray rfl (u := 101) (n := 6400) rfl (by decide) rfl (by decide) (pc' := 1100) rfl ?_
  replace H := H _ _ rfl rfl
  obtain ⟨ht11, H⟩ := H
  refine g_putR (x := some _) rfl rfl rfl rfl ht11  (pc' := 1103) rfl ?_
  replace H := H _ rfl
  exact g_weak (show gm_Lle [some _] _ from ⟨rfl, trivial⟩) H
set_option maxRecDepth 20000 in
theorem w_87_1103 {a0 : Nat}  {h : hh_T} {Q : Option Value ⊕ Nat → hh_T → Prop} (H : ∀ a1 h2, a1 = hh_sz h → h2 = hh_al h 100 2 2 → (gm_sub (hh_tg h2 a0) 19 = true ∧ (∀ h4, h4 = hh_wr h2 a0 145 (some a1) → (∀ h5, h5 = hh_wi h4 a0 146 (Int32.ofNat 0) → (∀ h6, h6 = hh_wi h5 a0 147 (Int32.ofNat 0) → (∀ a7 h8, a7 = hh_sz h6 → h8 = hh_al h6 102 32 32 → (gm_sub (hh_tg h8 a0) 19 = true ∧ (∀ h10, h10 = hh_wr h8 a0 148 (some a7) → (gm_G 87 1128 [some (.ref a0)] [] h10 Q))))))))) : gm_G 87 1103 [some (.ref a0)] [] h Q := by
  refine g_aload (r := some _) rfl rfl rfl (pc' := 1104) ?_
  refine g_iconst rfl rfl rfl (pc' := 1105) ?_
  refine g_newarray rfl (u := 100) (n := 2) rfl (by decide) rfl (by decide) (pc' := 1107) rfl ?_
  replace H := H _ _ rfl rfl
  obtain ⟨ht3, H⟩ := H
  refine g_putR (x := some _) rfl rfl rfl rfl ht3  (pc' := 1110) rfl ?_
  replace H := H _ rfl
  refine g_aload (r := some _) rfl rfl rfl (pc' := 1111) ?_
  refine g_iconst rfl rfl rfl (pc' := 1112) ?_
  refine g_putI rfl rfl rfl rfl ht3  (pc' := 1115) rfl ?_
  replace H := H _ rfl
  refine g_aload (r := some _) rfl rfl rfl (pc' := 1116) ?_
  refine g_iconst rfl rfl rfl (pc' := 1117) ?_
  refine g_putI rfl rfl rfl rfl ht3  (pc' := 1120) rfl ?_
  replace H := H _ rfl
  refine g_aload (r := some _) rfl rfl rfl (pc' := 1121) ?_
  refine g_iconst rfl rfl rfl (pc' := 1123) ?_
  refine g_newarray rfl (u := 102) (n := 32) rfl (by decide) rfl (by decide) (pc' := 1125) rfl ?_
  replace H := H _ _ rfl rfl
  obtain ⟨ht9, H⟩ := H
  refine g_putR (x := some _) rfl rfl rfl rfl ht9  (pc' := 1128) rfl ?_
  replace H := H _ rfl
  exact g_weak (show gm_Lle [some _] _ from ⟨rfl, trivial⟩) H
set_option maxRecDepth 20000 in
theorem w_87_1128 {a0 : Nat}  {h : hh_T} {Q : Option Value ⊕ Nat → hh_T → Prop} (H : ∀ a1 h2, a1 = hh_sz h → h2 = hh_al h 100 4 4 → (gm_sub (hh_tg h2 a0) 19 = true ∧ (∀ h4, h4 = hh_wr h2 a0 149 (some a1) → (∀ a5 h6, a5 = hh_sz h4 → h6 = hh_al h4 100 4 4 → (gm_sub (hh_tg h6 a0) 19 = true ∧ (∀ h8, h8 = hh_wr h6 a0 150 (some a5) → (∀ a9 h10, a9 = hh_sz h8 → h10 = hh_al h8 101 1280 1280 → (gm_sub (hh_tg h10 a0) 19 = true ∧ (∀ h12, h12 = hh_wr h10 a0 151 (some a9) → (gm_G 87 1151 [some (.ref a0)] [] h12 Q)))))))))) : gm_G 87 1128 [some (.ref a0)] [] h Q := by
  refine g_aload (r := some _) rfl rfl rfl (pc' := 1129) ?_
  refine g_iconst rfl rfl rfl (pc' := 1130) ?_
  refine g_newarray rfl (u := 100) (n := 4) rfl (by decide) rfl (by decide) (pc' := 1132) rfl ?_
  replace H := H _ _ rfl rfl
  obtain ⟨ht3, H⟩ := H
  refine g_putR (x := some _) rfl rfl rfl rfl ht3  (pc' := 1135) rfl ?_
  replace H := H _ rfl
  refine g_aload (r := some _) rfl rfl rfl (pc' := 1136) ?_
  refine g_iconst rfl rfl rfl (pc' := 1137) ?_
  refine g_newarray rfl (u := 100) (n := 4) rfl (by decide) rfl (by decide) (pc' := 1139) rfl ?_
  replace H := H _ _ rfl rfl
  obtain ⟨ht7, H⟩ := H
  refine g_putR (x := some _) rfl rfl rfl rfl ht7  (pc' := 1142) rfl ?_
  replace H := H _ rfl
  refine g_aload (r := some _) rfl rfl rfl (pc' := 1143) ?_
  refine g_iconst rfl rfl rfl (pc' := 1146) ?_
  refine g_newarray rfl (u := 101) (n := 1280) rfl (by decide) rfl (by decide) (pc' := 1148) rfl ?_
  replace H := H _ _ rfl rfl
  obtain ⟨ht11, H⟩ := H
  refine g_putR (x := some _) rfl rfl rfl rfl ht11  (pc' := 1151) rfl ?_
  replace H := H _ rfl
  exact g_weak (show gm_Lle [some _] _ from ⟨rfl, trivial⟩) H
set_option maxRecDepth 20000 in
theorem w_87_1151 {a0 : Nat}  {h : hh_T} {Q : Option Value ⊕ Nat → hh_T → Prop} (H : ∀ a1 h2, a1 = hh_sz h → h2 = hh_al h 101 2048 2048 → (gm_sub (hh_tg h2 a0) 19 = true ∧ (∀ h4, h4 = hh_wr h2 a0 152 (some a1) → (∀ a5 h6, a5 = hh_sz h4 → h6 = hh_al h4 101 512 512 → (gm_sub (hh_tg h6 a0) 19 = true ∧ (∀ h8, h8 = hh_wr h6 a0 153 (some a5) → (∀ h9, h9 = hh_wi h8 a0 154 (Int32.ofNat 0) → (gm_G 87 1174 [some (.ref a0)] [] h9 Q)))))))) : gm_G 87 1151 [some (.ref a0)] [] h Q := by
  refine g_aload (r := some _) rfl rfl rfl (pc' := 1152) ?_
  refine g_iconst rfl rfl rfl (pc' := 1155) ?_
  refine g_newarray rfl (u := 101) (n := 2048) rfl (by decide) rfl (by decide) (pc' := 1157) rfl ?_
  replace H := H _ _ rfl rfl
  obtain ⟨ht3, H⟩ := H
  refine g_putR (x := some _) rfl rfl rfl rfl ht3  (pc' := 1160) rfl ?_
  replace H := H _ rfl
  refine g_aload (r := some _) rfl rfl rfl (pc' := 1161) ?_
  refine g_iconst rfl rfl rfl (pc' := 1164) ?_
  refine g_newarray rfl (u := 101) (n := 512) rfl (by decide) rfl (by decide) (pc' := 1166) rfl ?_
  replace H := H _ _ rfl rfl
  obtain ⟨ht7, H⟩ := H
  refine g_putR (x := some _) rfl rfl rfl rfl ht7  (pc' := 1169) rfl ?_
  replace H := H _ rfl
  refine g_aload (r := some _) rfl rfl rfl (pc' := 1170) ?_
  refine g_iconst rfl rfl rfl (pc' := 1171) ?_
  refine g_putI rfl rfl rfl rfl ht7  (pc' := 1174) rfl ?_
  replace H := H _ rfl
  exact g_weak (show gm_Lle [some _] _ from ⟨rfl, trivial⟩) H
set_option maxRecDepth 20000 in
theorem w_87_1174 {a0 : Nat}  {h : hh_T} {Q : Option Value ⊕ Nat → hh_T → Prop} (H : gm_G 87 1176 [some (.ref a0), some (.int (Int32.ofNat 0))] [] h Q) : gm_G 87 1174 [some (.ref a0)] [] h Q := by
  refine g_iconst rfl rfl rfl (pc' := 1175) ?_
  refine g_istore rfl rfl rfl (pc' := 1176) ?_
  exact g_weak (show gm_Lle [some _, some _] _ from ⟨rfl, ⟨rfl, trivial⟩⟩) H
set_option maxRecDepth 20000 in
theorem w_87_1176 {a0 : Nat} {x1 : Int32} {h : hh_T} {Q : Option Value ⊕ Nat → hh_T → Prop} (H : (¬ x1 < (Int32.ofNat 8) → (gm_G 87 1197 [some (.ref a0), some (.int (Int32.ofNat 0))] [] h Q)) ∧ (x1 < (Int32.ofNat 8) → (gm_sub (hh_tg h a0) 19 = true ∧ (∀ r2, r2 = hh_r h a0 9 → (∃ a3, r2 = some a3 ∧ (hh_tg h a3 = 100 ∧ (∃ n4, gm_ix x1 n4 (hh_ln h a3) ∧ (∀ h5, h5 = hh_wi h a3 n4 (Int32.ofInt (-1)) → (gm_G 87 1176 [some (.ref a0), some (.int (x1 + (Int32.ofNat 1)))] [] h5 Q))))))))) : gm_G 87 1176 [some (.ref a0), some (.int x1)] [] h Q := by
  refine g_iload rfl rfl rfl (pc' := 1177) ?_
  refine g_iconst rfl rfl rfl (pc' := 1179) ?_
  refine g_ic_ge rfl (pc' := 1182) (pt := 1195) rfl rfl ⟨fun hc => ?_, fun hc => ?_⟩
  · replace H := H.1 hc
    refine g_iconst rfl rfl rfl (pc' := 1196) ?_
    refine g_istore rfl rfl rfl (pc' := 1197) ?_
    exact g_weak (show gm_Lle [some _, some _] _ from ⟨rfl, ⟨rfl, trivial⟩⟩) H
  · replace H := H.2 hc
    refine g_aload (r := some _) rfl rfl rfl (pc' := 1183) ?_
    obtain ⟨ht1, H⟩ := H
    refine g_getRv rfl rfl rfl rfl ht1 (pc' := 1186) rfl (fun r2 hr2 => ?_)
    replace H := H r2 hr2
    refine g_iload rfl rfl rfl (pc' := 1187) ?_
    refine g_iconst rfl rfl rfl (pc' := 1188) ?_
    obtain ⟨a3, rfl, H⟩ := H
    obtain ⟨ht6, H⟩ := H
    obtain ⟨n4, hn4, H⟩ := H
    refine g_iastore rfl ht6 hn4  (pc' := 1189) rfl ?_
    replace H := H _ rfl
    refine g_iinc (c := (Int32.ofNat 1)) rfl rfl rfl rfl rfl (pc' := 1192) ?_
    refine g_goto rfl (pc' := 1176) rfl ?_
    exact g_weak (show gm_Lle [some _, some _] _ from ⟨rfl, ⟨rfl, trivial⟩⟩) H
set_option maxRecDepth 20000 in
theorem w_87_1197 {a0 : Nat} {x1 : Int32} {h : hh_T} {Q : Option Value ⊕ Nat → hh_T → Prop} (H : (¬ x1 < (Int32.ofNat 4) → (Q (.inl none) h)) ∧ (x1 < (Int32.ofNat 4) → (gm_sub (hh_tg h a0) 19 = true ∧ (∀ r2, r2 = hh_r h a0 149 → (∃ a3, r2 = some a3 ∧ (hh_tg h a3 = 100 ∧ (∃ n4, gm_ix x1 n4 (hh_ln h a3) ∧ (∀ h5, h5 = hh_wi h a3 n4 (Int32.ofInt (-1)) → (gm_G 87 1197 [some (.ref a0), some (.int (x1 + (Int32.ofNat 1)))] [] h5 Q))))))))) : gm_G 87 1197 [some (.ref a0), some (.int x1)] [] h Q := by
  refine g_iload rfl rfl rfl (pc' := 1198) ?_
  refine g_iconst rfl rfl rfl (pc' := 1199) ?_
  refine g_ic_ge rfl (pc' := 1202) (pt := 1215) rfl rfl ⟨fun hc => ?_, fun hc => ?_⟩
  · replace H := H.1 hc
    exact g_return rfl H
  · replace H := H.2 hc
    refine g_aload (r := some _) rfl rfl rfl (pc' := 1203) ?_
    obtain ⟨ht1, H⟩ := H
    refine g_getRv rfl rfl rfl rfl ht1 (pc' := 1206) rfl (fun r2 hr2 => ?_)
    replace H := H r2 hr2
    refine g_iload rfl rfl rfl (pc' := 1207) ?_
    refine g_iconst rfl rfl rfl (pc' := 1208) ?_
    obtain ⟨a3, rfl, H⟩ := H
    obtain ⟨ht6, H⟩ := H
    obtain ⟨n4, hn4, H⟩ := H
    refine g_iastore rfl ht6 hn4  (pc' := 1209) rfl ?_
    replace H := H _ rfl
    refine g_iinc (c := (Int32.ofNat 1)) rfl rfl rfl rfl rfl (pc' := 1212) ?_
    refine g_goto rfl (pc' := 1197) rfl ?_
    exact g_weak (show gm_Lle [some _, some _] _ from ⟨rfl, ⟨rfl, trivial⟩⟩) H
set_option maxRecDepth 20000 in
theorem w_166_0 {a0 : Nat} {x1 : Int32} {h : hh_T} {Q : Option Value ⊕ Nat → hh_T → Prop} (H : gm_sub (hh_tg h a0) 21 = true ∧ (∀ h2, h2 = hh_wi h a0 4 (Int32.ofNat 1) → (∀ h3, h3 = hh_wi h2 a0 0 x1 → (∃ n8, ((Int32.ofNat 8) * x1).toNatClampNeg = n8 ∧ (0 ≤ ((Int32.ofNat 8) * x1) ∧ ((Int32.ofNat 8) * x1) ≤ 100000) ∧ (∀ a4 h5, a4 = hh_sz h3 → h5 = hh_al h3 101 n8 n8 → (gm_sub (hh_tg h5 a0) 21 = true ∧ (∀ h7, h7 = hh_wr h5 a0 1 (some a4) → (gm_G 166 24 [some (.ref a0), some (.int x1)] [] h7 Q)))))))) : gm_G 166 0 [some (.ref a0), some (.int x1)] [] h Q := by
  refine g_aload (r := some _) rfl rfl rfl (pc' := 1) ?_
  refine g_objinit rfl (Nat.le_of_ble_eq_true rfl) (pc' := 4) rfl ?_
  refine g_aload (r := some _) rfl rfl rfl (pc' := 5) ?_
  refine g_iconst rfl rfl rfl (pc' := 6) ?_
  obtain ⟨ht1, H⟩ := H
  refine g_putZ rfl rfl rfl rfl ht1 (by decide) (pc' := 9) rfl ?_
  replace H := H _ rfl
  refine g_aload (r := some _) rfl rfl rfl (pc' := 10) ?_
  refine g_iload rfl rfl rfl (pc' := 11) ?_
  refine g_putI rfl rfl rfl rfl ht1  (pc' := 14) rfl ?_
  replace H := H _ rfl
  refine g_aload (r := some _) rfl rfl rfl (pc' := 15) ?_
  refine g_iconst rfl rfl rfl (pc' := 17) ?_
  refine g_iload rfl rfl rfl (pc' := 18) ?_
  refine g_imul rfl rfl (pc' := 19) ?_
  obtain ⟨n8, Hn, Hr, H⟩ := H
  refine g_newarray rfl (u := 101) (n := n8) rfl (by decide) Hn Hr (pc' := 21) rfl ?_
  replace H := H _ _ rfl rfl
  obtain ⟨ht6, H⟩ := H
  refine g_putR (x := some _) rfl rfl rfl rfl ht6  (pc' := 24) rfl ?_
  replace H := H _ rfl
  exact g_weak (show gm_Lle [some _, some _] _ from ⟨rfl, ⟨rfl, trivial⟩⟩) H
set_option maxRecDepth 20000 in
theorem w_166_24 {a0 : Nat} {x1 : Int32} {h : hh_T} {Q : Option Value ⊕ Nat → hh_T → Prop} (H : ∃ n10, x1.toNatClampNeg = n10 ∧ (0 ≤ x1 ∧ x1 ≤ 100000) ∧ (∀ a1 h2, a1 = hh_sz h → h2 = hh_al h 102 n10 n10 → (gm_sub (hh_tg h2 a0) 21 = true ∧ (∀ h4, h4 = hh_wr h2 a0 2 (some a1) → (∃ n9, x1.toNatClampNeg = n9 ∧ (0 ≤ x1 ∧ x1 ≤ 100000) ∧ (∀ a5 h6, a5 = hh_sz h4 → h6 = hh_al h4 102 n9 n9 → (gm_sub (hh_tg h6 a0) 21 = true ∧ (∀ h8, h8 = hh_wr h6 a0 3 (some a5) → (Q (.inl none) h8))))))))) : gm_G 166 24 [some (.ref a0), some (.int x1)] [] h Q := by
  refine g_aload (r := some _) rfl rfl rfl (pc' := 25) ?_
  refine g_iload rfl rfl rfl (pc' := 26) ?_
  obtain ⟨n10, Hn, Hr, H⟩ := H
  refine g_newarray rfl (u := 102) (n := n10) rfl (by decide) Hn Hr (pc' := 28) rfl ?_
  replace H := H _ _ rfl rfl
  obtain ⟨ht3, H⟩ := H
  refine g_putR (x := some _) rfl rfl rfl rfl ht3  (pc' := 31) rfl ?_
  replace H := H _ rfl
  refine g_aload (r := some _) rfl rfl rfl (pc' := 32) ?_
  refine g_iload rfl rfl rfl (pc' := 33) ?_
  obtain ⟨n9, Hn, Hr, H⟩ := H
  refine g_newarray rfl (u := 102) (n := n9) rfl (by decide) Hn Hr (pc' := 35) rfl ?_
  replace H := H _ _ rfl rfl
  obtain ⟨ht7, H⟩ := H
  refine g_putR (x := some _) rfl rfl rfl rfl ht7  (pc' := 38) rfl ?_
  replace H := H _ rfl
  exact g_return rfl H
set_option maxRecDepth 20000 in
theorem w_167_0 {a0 : Nat} {x1 : Int32} {h : hh_T} {Q : Option Value ⊕ Nat → hh_T → Prop} (H : gm_sub (hh_tg h a0) 21 = true ∧ (((hh_i h a0 4) = Int32.ofNat 0 → (gm_G 167 25 [] [] h Q)) ∧ (¬ (hh_i h a0 4) = Int32.ofNat 0 → (∀ r2, r2 = hh_r h a0 2 → (∃ a3, r2 = some a3 ∧ ((hh_tg h a3 = 101 ∨ hh_tg h a3 = 102) ∧ (∃ n4, gm_ix x1 n4 (hh_ln h a3) ∧ ((¬ (hh_i h a3 n4) = Int32.ofNat 0 → (gm_G 167 25 [] [] h Q)) ∧ ((hh_i h a3 n4) = Int32.ofNat 0 → (∀ r6, r6 = hh_r h a0 3 → (∃ a7, r6 = some a7 ∧ ((hh_tg h a7 = 101 ∨ hh_tg h a7 = 102) ∧ (∃ n8, gm_ix x1 n8 (hh_ln h a7) ∧ (((hh_i h a7 n8) = Int32.ofNat 0 → (Q (.inl (some (.int (Int32.ofNat 0)))) h)) ∧ (¬ (hh_i h a7 n8) = Int32.ofNat 0 → (gm_G 167 25 [] [] h Q)))))))))))))))) : gm_G 167 0 [some (.ref a0), some (.int x1)] [] h Q := by
  refine g_aload (r := some _) rfl rfl rfl (pc' := 1) ?_
  obtain ⟨ht1, H⟩ := H
  refine g_getZ rfl rfl rfl rfl ht1 (pc' := 4) rfl ?_
  refine g_if_eq rfl (pc' := 7) (pt := 25) rfl rfl ⟨fun hc => ?_, fun hc => ?_⟩
  · replace H := H.1 hc
    exact g_weak (show gm_Lle [] _ from trivial) H
  · replace H := H.2 hc
    refine g_aload (r := some _) rfl rfl rfl (pc' := 8) ?_
    refine g_getRv rfl rfl rfl rfl ht1 (pc' := 11) rfl (fun r2 hr2 => ?_)
    replace H := H r2 hr2
    refine g_iload rfl rfl rfl (pc' := 12) ?_
    obtain ⟨a3, rfl, H⟩ := H
    obtain ⟨ht5, H⟩ := H
    obtain ⟨n4, hn4, H⟩ := H
    refine g_baload rfl ht5 hn4 (pc' := 13) rfl ?_
    refine g_if_ne rfl (pc' := 16) (pt := 25) rfl rfl ⟨fun hc => ?_, fun hc => ?_⟩
    · replace H := H.1 hc
      exact g_weak (show gm_Lle [] _ from trivial) H
    · replace H := H.2 hc
      refine g_aload (r := some _) rfl rfl rfl (pc' := 17) ?_
      refine g_getRv rfl rfl rfl rfl ht1 (pc' := 20) rfl (fun r6 hr6 => ?_)
      replace H := H r6 hr6
      refine g_iload rfl rfl rfl (pc' := 21) ?_
      obtain ⟨a7, rfl, H⟩ := H
      obtain ⟨ht9, H⟩ := H
      obtain ⟨n8, hn8, H⟩ := H
      refine g_baload rfl ht9 hn8 (pc' := 22) rfl ?_
      refine g_if_eq rfl (pc' := 25) (pt := 29) rfl rfl ⟨fun hc => ?_, fun hc => ?_⟩
      · replace H := H.1 hc
        refine g_iconst rfl rfl rfl (pc' := 30) ?_
        exact g_ireturn rfl (Or.inr (by decide)) H
      · replace H := H.2 hc
        exact g_weak (show gm_Lle [] _ from trivial) H
set_option maxRecDepth 20000 in
theorem w_167_25 {a0 : Nat}  {h : hh_T} {Q : Option Value ⊕ Nat → hh_T → Prop} (H : Q (.inl (some (.int (Int32.ofNat 1)))) h) : gm_G 167 25 [] [] h Q := by
  refine g_iconst rfl rfl rfl (pc' := 26) ?_
  refine g_goto rfl (pc' := 30) rfl ?_
  exact g_ireturn rfl (Or.inr (by decide)) H
set_option maxRecDepth 20000 in
theorem w_168_0 {a0 : Nat} {x1 : Int32} {r_2 : Option Nat} {x3 : Int32} {h : hh_T} {Q : Option Value ⊕ Nat → hh_T → Prop} (H : gm_sub (hh_tg h a0) 21 = true ∧ (∀ r2, r2 = hh_r h a0 2 → (∃ a3, r2 = some a3 ∧ ((hh_tg h a3 = 101 ∨ hh_tg h a3 = 102) ∧ (∃ n4, gm_ix x1 n4 (hh_ln h a3) ∧ ((¬ (hh_i h a3 n4) = Int32.ofNat 0 → (Q (.inl (some (.int (Int32.ofNat 0)))) h)) ∧ ((hh_i h a3 n4) = Int32.ofNat 0 → (∀ r6, r6 = hh_r h a0 3 → (∃ a7, r6 = some a7 ∧ ((hh_tg h a7 = 101 ∨ hh_tg h a7 = 102) ∧ (∃ n8, gm_ix x1 n8 (hh_ln h a7) ∧ (((hh_i h a7 n8) = Int32.ofNat 0 → (gm_G 168 23 [some (.ref a0), some (.int x1), some (va_rf r_2), some (.int x3), some (.int (Int32.ofNat 0))] [] h Q)) ∧ (¬ (hh_i h a7 n8) = Int32.ofNat 0 → (Q (.inl (some (.int (Int32.ofNat 0)))) h)))))))))))))) : gm_G 168 0 [some (.ref a0), some (.int x1), some (va_rf r_2), some (.int x3)] [] h Q := by
  refine g_aload (r := some _) rfl rfl rfl (pc' := 1) ?_
  obtain ⟨ht1, H⟩ := H
  refine g_getRv rfl rfl rfl rfl ht1 (pc' := 4) rfl (fun r2 hr2 => ?_)
  replace H := H r2 hr2
  refine g_iload rfl rfl rfl (pc' := 5) ?_
  obtain ⟨a3, rfl, H⟩ := H
  obtain ⟨ht5, H⟩ := H
  obtain ⟨n4, hn4, H⟩ := H
  refine g_baload rfl ht5 hn4 (pc' := 6) rfl ?_
  refine g_if_ne rfl (pc' := 9) (pt := 18) rfl rfl ⟨fun hc => ?_, fun hc => ?_⟩
  · replace H := H.1 hc
    refine g_iconst rfl rfl rfl (pc' := 19) ?_
    exact g_ireturn rfl (Or.inr (by decide)) H
  · replace H := H.2 hc
    refine g_aload (r := some _) rfl rfl rfl (pc' := 10) ?_
    refine g_getRv rfl rfl rfl rfl ht1 (pc' := 13) rfl (fun r6 hr6 => ?_)
    replace H := H r6 hr6
    refine g_iload rfl rfl rfl (pc' := 14) ?_
    obtain ⟨a7, rfl, H⟩ := H
    obtain ⟨ht9, H⟩ := H
    obtain ⟨n8, hn8, H⟩ := H
    refine g_baload rfl ht9 hn8 (pc' := 15) rfl ?_
    refine g_if_eq rfl (pc' := 18) (pt := 20) rfl rfl ⟨fun hc => ?_, fun hc => ?_⟩
    · replace H := H.1 hc
      refine g_iconst rfl rfl rfl (pc' := 21) ?_
      refine g_istore rfl rfl rfl (pc' := 23) ?_
      exact g_weak (show gm_Lle [some _, some _, some _, some _, some _] _ from ⟨rfl, ⟨rfl, ⟨rfl, ⟨rfl, ⟨rfl, trivial⟩⟩⟩⟩⟩) H
    · replace H := H.2 hc
      refine g_iconst rfl rfl rfl (pc' := 19) ?_
      exact g_ireturn rfl (Or.inr (by decide)) H
set_option maxRecDepth 20000 in
theorem w_168_23 {a0 : Nat} {x1 : Int32} {r_2 : Option Nat} {x3 : Int32} {x4 : Int32} {h : hh_T} {Q : Option Value ⊕ Nat → hh_T → Prop} (H : (¬ x4 < (Int32.ofNat 8) → (Q (.inl (some (.int (Int32.ofNat 1)))) h)) ∧ (x4 < (Int32.ofNat 8) → (gm_sub (hh_tg h a0) 21 = true ∧ (∀ r2, r2 = hh_r h a0 1 → (∃ a3, r2 = some a3 ∧ ((hh_tg h a3 = 101 ∨ hh_tg h a3 = 102) ∧ (∃ n4, gm_ix (((Int32.ofNat 8) * x1) + x4) n4 (hh_ln h a3) ∧ (∃ a6, r_2 = some a6 ∧ ((hh_tg h a6 = 101 ∨ hh_tg h a6 = 102) ∧ (∃ n7, gm_ix (x3 + x4) n7 (hh_ln h a6) ∧ (((hh_i h a3 n4) = (hh_i h a6 n7) → (gm_G 168 23 [some (.ref a0), some (.int x1), some (.ref a6), some (.int x3), some (.int (x4 + (Int32.ofNat 1)))] [] h Q)) ∧ (¬ (hh_i h a3 n4) = (hh_i h a6 n7) → (Q (.inl (some (.int (Int32.ofNat 0)))) h))))))))))))) : gm_G 168 23 [some (.ref a0), some (.int x1), some (va_rf r_2), some (.int x3), some (.int x4)] [] h Q := by
  refine g_iload rfl rfl rfl (pc' := 25) ?_
  refine g_iconst rfl rfl rfl (pc' := 27) ?_
  refine g_ic_ge rfl (pc' := 30) (pt := 59) rfl rfl ⟨fun hc => ?_, fun hc => ?_⟩
  · replace H := H.1 hc
    refine g_iconst rfl rfl rfl (pc' := 60) ?_
    exact g_ireturn rfl (Or.inr (by decide)) H
  · replace H := H.2 hc
    refine g_aload (r := some _) rfl rfl rfl (pc' := 31) ?_
    obtain ⟨ht1, H⟩ := H
    refine g_getRv rfl rfl rfl rfl ht1 (pc' := 34) rfl (fun r2 hr2 => ?_)
    replace H := H r2 hr2
    refine g_iconst rfl rfl rfl (pc' := 36) ?_
    refine g_iload rfl rfl rfl (pc' := 37) ?_
    refine g_imul rfl rfl (pc' := 38) ?_
    refine g_iload rfl rfl rfl (pc' := 40) ?_
    refine g_iadd rfl rfl (pc' := 41) ?_
    obtain ⟨a3, rfl, H⟩ := H
    obtain ⟨ht5, H⟩ := H
    obtain ⟨n4, hn4, H⟩ := H
    refine g_baload rfl ht5 hn4 (pc' := 42) rfl ?_
    refine g_aload (r := _) rfl rfl rfl (pc' := 43) ?_
    refine g_iload rfl rfl rfl (pc' := 44) ?_
    refine g_iload rfl rfl rfl (pc' := 46) ?_
    refine g_iadd rfl rfl (pc' := 47) ?_
    obtain ⟨a6, rfl, H⟩ := H
    obtain ⟨ht8, H⟩ := H
    obtain ⟨n7, hn7, H⟩ := H
    refine g_baload rfl ht8 hn7 (pc' := 48) rfl ?_
    refine g_ic_eq rfl (pc' := 51) (pt := 53) rfl rfl ⟨fun hc => ?_, fun hc => ?_⟩
    · replace H := H.1 hc
      refine g_iinc (c := (Int32.ofNat 1)) rfl rfl rfl rfl rfl (pc' := 56) ?_
      refine g_goto rfl (pc' := 23) rfl ?_
      exact g_weak (show gm_Lle [some _, some _, some _, some _, some _] _ from ⟨rfl, ⟨rfl, ⟨rfl, ⟨rfl, ⟨rfl, trivial⟩⟩⟩⟩⟩) H
    · replace H := H.2 hc
      refine g_iconst rfl rfl rfl (pc' := 52) ?_
      exact g_ireturn rfl (Or.inr (by decide)) H
set_option maxRecDepth 20000 in
theorem w_169_0  {r_0 : Option Nat} {h : hh_T} {Q : Option Value ⊕ Nat → hh_T → Prop} (H : gm_G 169 4 [some (va_rf r_0), some (.int (Int32.ofNat 0)), some (.int (Int32.ofNat 0))] [] h Q) : gm_G 169 0 [some (va_rf r_0)] [] h Q := by
  refine g_iconst rfl rfl rfl (pc' := 1) ?_
  refine g_istore rfl gm_sto_rf0 rfl (pc' := 2) ?_
  refine g_iconst rfl rfl rfl (pc' := 3) ?_
  refine g_istore rfl rfl rfl (pc' := 4) ?_
  exact g_weak (show gm_Lle [some _, some _, some _] _ from ⟨rfl, ⟨rfl, ⟨rfl, trivial⟩⟩⟩) H
set_option maxRecDepth 20000 in
theorem w_169_4  {r_0 : Option Nat} {x1 : Int32} {x2 : Int32} {h : hh_T} {Q : Option Value ⊕ Nat → hh_T → Prop} (H : ∃ a1, r_0 = some a1 ∧ (100 ≤ hh_tg h a1 ∧ ((¬ x2 < (Int32.ofNat (hh_ln h a1)) → (Q (.inl (some (.int x1))) h)) ∧ (x2 < (Int32.ofNat (hh_ln h a1)) → ((hh_tg h a1 = 101 ∨ hh_tg h a1 = 102) ∧ (∃ n2, gm_ix x2 n2 (hh_ln h a1) ∧ (((hh_i h a1 n2) = Int32.ofNat 0 → (gm_G 169 19 [some (.ref a1), some (.int x1), some (.int x2)] [] h Q)) ∧ (¬ (hh_i h a1 n2) = Int32.ofNat 0 → (gm_G 169 19 [some (.ref a1), some (.int (x1 + (Int32.ofNat 1))), some (.int x2)] [] h Q))))))))) : gm_G 169 4 [some (va_rf r_0), some (.int x1), some (.int x2)] [] h Q := by
  refine g_iload rfl rfl rfl (pc' := 5) ?_
  refine g_aload (r := _) rfl rfl rfl (pc' := 6) ?_
  obtain ⟨a1, rfl, H⟩ := H
  obtain ⟨Hp, H⟩ := H
  refine g_alen rfl Hp (pc' := 7) rfl ?_
  refine g_ic_ge rfl (pc' := 10) (pt := 25) rfl rfl ⟨fun hc => ?_, fun hc => ?_⟩
  · replace H := H.1 hc
    refine g_iload rfl rfl rfl (pc' := 26) ?_
    exact g_ireturn rfl (Or.inl rfl) H
  · replace H := H.2 hc
    refine g_aload (r := some _) rfl rfl rfl (pc' := 11) ?_
    refine g_iload rfl rfl rfl (pc' := 12) ?_
    obtain ⟨ht3, H⟩ := H
    obtain ⟨n2, hn2, H⟩ := H
    refine g_baload rfl ht3 hn2 (pc' := 13) rfl ?_
    refine g_if_eq rfl (pc' := 16) (pt := 19) rfl rfl ⟨fun hc => ?_, fun hc => ?_⟩
    · replace H := H.1 hc
      exact g_weak (show gm_Lle [some _, some _, some _] _ from ⟨rfl, ⟨rfl, ⟨rfl, trivial⟩⟩⟩) H
    · replace H := H.2 hc
      refine g_iinc (c := (Int32.ofNat 1)) rfl rfl rfl rfl rfl (pc' := 19) ?_
      exact g_weak (show gm_Lle [some _, some _, some _] _ from ⟨rfl, ⟨rfl, ⟨rfl, trivial⟩⟩⟩) H
set_option maxRecDepth 20000 in
theorem w_169_19  {r_0 : Option Nat} {x1 : Int32} {x2 : Int32} {h : hh_T} {Q : Option Value ⊕ Nat → hh_T → Prop} (H : gm_G 169 4 [some (va_rf r_0), some (.int x1), some (.int (x2 + (Int32.ofNat 1)))] [] h Q) : gm_G 169 19 [some (va_rf r_0), some (.int x1), some (.int x2)] [] h Q := by
  refine g_iinc (c := (Int32.ofNat 1)) rfl rfl rfl rfl rfl (pc' := 22) ?_
  refine g_goto rfl (pc' := 4) rfl ?_
  exact g_weak (show gm_Lle [some _, some _, some _] _ from ⟨rfl, ⟨rfl, ⟨rfl, trivial⟩⟩⟩) H
set_option maxRecDepth 20000 in
theorem w_170_0 {a0 : Nat} {x1 : Int32} {r_2 : Option Nat} {x3 : Int32} {h : hh_T} {Q : Option Value ⊕ Nat → hh_T → Prop} (H : gm_G 170 3 [some (.ref a0), some (.int x1), some (va_rf r_2), some (.int x3), some (.int (Int32.ofNat 0))] [] h Q) : gm_G 170 0 [some (.ref a0), some (.int x1), some (va_rf r_2), some (.int x3)] [] h Q := by
  refine g_iconst rfl rfl rfl (pc' := 1) ?_
  refine g_istore rfl rfl rfl (pc' := 3) ?_
  exact g_weak (show gm_Lle [some _, some _, some _, some _, some _] _ from ⟨rfl, ⟨rfl, ⟨rfl, ⟨rfl, ⟨rfl, trivial⟩⟩⟩⟩⟩) H
set_option maxRecDepth 20000 in
theorem w_170_3 {a0 : Nat} {x1 : Int32} {r_2 : Option Nat} {x3 : Int32} {x4 : Int32} {h : hh_T} {Q : Option Value ⊕ Nat → hh_T → Prop} (H : (¬ x4 < (Int32.ofNat 8) → (Q (.inl none) h)) ∧ (x4 < (Int32.ofNat 8) → (gm_sub (hh_tg h a0) 21 = true ∧ (∀ r2, r2 = hh_r h a0 1 → (∃ a3, r2 = some a3 ∧ ((hh_tg h a3 = 101 ∨ hh_tg h a3 = 102) ∧ (∃ n4, gm_ix (((Int32.ofNat 8) * x1) + x4) n4 (hh_ln h a3) ∧ (∃ a6, r_2 = some a6 ∧ (hh_tg h a6 = 101 ∧ (∃ n7, gm_ix (x3 + x4) n7 (hh_ln h a6) ∧ (∀ h8, h8 = hh_wi h a6 n7 ((hh_i h a3 n4).toInt8.toInt32) → (gm_G 170 3 [some (.ref a0), some (.int x1), some (.ref a6), some (.int x3), some (.int (x4 + (Int32.ofNat 1)))] [] h8 Q)))))))))))) : gm_G 170 3 [some (.ref a0), some (.int x1), some (va_rf r_2), some (.int x3), some (.int x4)] [] h Q := by
  refine g_iload rfl rfl rfl (pc' := 5) ?_
  refine g_iconst rfl rfl rfl (pc' := 7) ?_
  refine g_ic_ge rfl (pc' := 10) (pt := 34) rfl rfl ⟨fun hc => ?_, fun hc => ?_⟩
  · replace H := H.1 hc
    exact g_return rfl H
  · replace H := H.2 hc
    refine g_aload (r := _) rfl rfl rfl (pc' := 11) ?_
    refine g_iload rfl rfl rfl (pc' := 12) ?_
    refine g_iload rfl rfl rfl (pc' := 14) ?_
    refine g_iadd rfl rfl (pc' := 15) ?_
    refine g_aload (r := some _) rfl rfl rfl (pc' := 16) ?_
    obtain ⟨ht1, H⟩ := H
    refine g_getRv rfl rfl rfl rfl ht1 (pc' := 19) rfl (fun r2 hr2 => ?_)
    replace H := H r2 hr2
    refine g_iconst rfl rfl rfl (pc' := 21) ?_
    refine g_iload rfl rfl rfl (pc' := 22) ?_
    refine g_imul rfl rfl (pc' := 23) ?_
    refine g_iload rfl rfl rfl (pc' := 25) ?_
    refine g_iadd rfl rfl (pc' := 26) ?_
    obtain ⟨a3, rfl, H⟩ := H
    obtain ⟨ht5, H⟩ := H
    obtain ⟨n4, hn4, H⟩ := H
    refine g_baload rfl ht5 hn4 (pc' := 27) rfl ?_
    obtain ⟨a6, rfl, H⟩ := H
    obtain ⟨ht9, H⟩ := H
    obtain ⟨n7, hn7, H⟩ := H
    refine g_bastore rfl ht9 hn7  (pc' := 28) rfl ?_
    replace H := H _ rfl
    refine g_iinc (c := (Int32.ofNat 1)) rfl rfl rfl rfl rfl (pc' := 31) ?_
    refine g_goto rfl (pc' := 3) rfl ?_
    exact g_weak (show gm_Lle [some _, some _, some _, some _, some _] _ from ⟨rfl, ⟨rfl, ⟨rfl, ⟨rfl, ⟨rfl, trivial⟩⟩⟩⟩⟩) H
set_option maxRecDepth 20000 in
theorem w_171_0 {a0 : Nat}  {h : hh_T} {Q : Option Value ⊕ Nat → hh_T → Prop} (H : ∀ a1 h2, a1 = hh_sz h → h2 = hh_al h 223 8 8 → (gm_sub (hh_tg h2 a0) 22 = true ∧ (∀ h4, h4 = hh_wr h2 a0 0 (some a1) → (∀ a5 h6, a5 = hh_sz h4 → h6 = hh_al h4 229 12 12 → (gm_sub (hh_tg h6 a0) 22 = true ∧ (∀ h8, h8 = hh_wr h6 a0 1 (some a5) → (gm_G 171 22 [] [] h8 Q))))))) : gm_G 171 0 [some (.ref a0)] [] h Q := by
  refine g_aload (r := some _) rfl rfl rfl (pc' := 1) ?_
  refine g_objinit rfl (Nat.le_of_ble_eq_true rfl) (pc' := 4) rfl ?_
  refine g_aload (r := some _) rfl rfl rfl (pc' := 5) ?_
  refine g_iconst rfl rfl rfl (pc' := 7) ?_
  refine g_anewarray rfl (n := 8) rfl (by decide) (pc' := 10) rfl ?_
  replace H := H _ _ rfl rfl
  obtain ⟨ht3, H⟩ := H
  refine g_putR (x := some _) rfl rfl rfl rfl ht3  (pc' := 13) rfl ?_
  replace H := H _ rfl
  refine g_aload (r := some _) rfl rfl rfl (pc' := 14) ?_
  refine g_iconst rfl rfl rfl (pc' := 16) ?_
  refine g_anewarray rfl (n := 12) rfl (by decide) (pc' := 19) rfl ?_
  replace H := H _ _ rfl rfl
  obtain ⟨ht7, H⟩ := H
  refine g_putR (x := some _) rfl rfl rfl rfl ht7  (pc' := 22) rfl ?_
  replace H := H _ rfl
  exact g_weak (show gm_Lle [] _ from trivial) H
set_option maxRecDepth 20000 in
theorem w_171_22 {a0 : Nat}  {h : hh_T} {Q : Option Value ⊕ Nat → hh_T → Prop} (H : Q (.inl none) h) : gm_G 171 22 [] [] h Q := by
  exact g_return rfl H
set_option maxRecDepth 20000 in
theorem w_172_0 {a0 : Nat} {r_1 : Option Nat} {h : hh_T} {Q : Option Value ⊕ Nat → hh_T → Prop} (H : gm_sub (hh_tg h a0) 22 = true ∧ (∀ r2, r2 = hh_r h a0 0 → (∃ a3, r2 = some a3 ∧ (200 ≤ hh_tg h a3 ∧ (∀ b, r_1 = some b → gm_as (hh_tg h a3) (hh_tg h b) = true) ∧ (∃ n4, gm_ix (hh_i h a0 2) n4 (hh_ln h a3) ∧ (∀ h5, h5 = hh_wr h a3 n4 r_1 → (∀ h6, h6 = hh_wi h5 a0 2 ((hh_i h5 a0 2) + (Int32.ofNat 1)) → (Q (.inl none) h6)))))))) : gm_G 172 0 [some (.ref a0), some (va_rf r_1)] [] h Q := by
  refine g_aload (r := some _) rfl rfl rfl (pc' := 1) ?_
  obtain ⟨ht1, H⟩ := H
  refine g_getRv rfl rfl rfl rfl ht1 (pc' := 4) rfl (fun r2 hr2 => ?_)
  replace H := H r2 hr2
  refine g_aload (r := some _) rfl rfl rfl (pc' := 5) ?_
  refine g_getI rfl rfl rfl rfl ht1 (pc' := 8) rfl ?_
  refine g_aload (r := _) rfl rfl rfl (pc' := 9) ?_
  obtain ⟨a3, rfl, H⟩ := H
  obtain ⟨Ha, Hb, H⟩ := H
  obtain ⟨n4, hn4, H⟩ := H
  refine g_aastore (r := _) rfl Ha Hb hn4 (pc' := 10) rfl ?_
  replace H := H _ rfl
  refine g_aload (r := some _) rfl rfl rfl (pc' := 11) ?_
  refine g_dup_a (r := some _) rfl rfl (pc' := 12) ?_
  refine g_getI rfl rfl rfl rfl ht1 (pc' := 15) rfl ?_
  refine g_iconst rfl rfl rfl (pc' := 16) ?_
  refine g_iadd rfl rfl (pc' := 17) ?_
  refine g_putI rfl rfl rfl rfl ht1  (pc' := 20) rfl ?_
  replace H := H _ rfl
  exact g_return rfl H
set_option maxRecDepth 20000 in
theorem w_173_0 {a0 : Nat} {r_1 : Option Nat} {h : hh_T} {Q : Option Value ⊕ Nat → hh_T → Prop} (H : gm_sub (hh_tg h a0) 22 = true ∧ (∀ r2, r2 = hh_r h a0 1 → (∃ a3, r2 = some a3 ∧ (200 ≤ hh_tg h a3 ∧ (∀ b, r_1 = some b → gm_as (hh_tg h a3) (hh_tg h b) = true) ∧ (∃ n4, gm_ix (hh_i h a0 3) n4 (hh_ln h a3) ∧ (∀ h5, h5 = hh_wr h a3 n4 r_1 → (∀ h6, h6 = hh_wi h5 a0 3 ((hh_i h5 a0 3) + (Int32.ofNat 1)) → (Q (.inl none) h6)))))))) : gm_G 173 0 [some (.ref a0), some (va_rf r_1)] [] h Q := by
  refine g_aload (r := some _) rfl rfl rfl (pc' := 1) ?_
  obtain ⟨ht1, H⟩ := H
  refine g_getRv rfl rfl rfl rfl ht1 (pc' := 4) rfl (fun r2 hr2 => ?_)
  replace H := H r2 hr2
  refine g_aload (r := some _) rfl rfl rfl (pc' := 5) ?_
  refine g_getI rfl rfl rfl rfl ht1 (pc' := 8) rfl ?_
  refine g_aload (r := _) rfl rfl rfl (pc' := 9) ?_
  obtain ⟨a3, rfl, H⟩ := H
  obtain ⟨Ha, Hb, H⟩ := H
  obtain ⟨n4, hn4, H⟩ := H
  refine g_aastore (r := _) rfl Ha Hb hn4 (pc' := 10) rfl ?_
  replace H := H _ rfl
  refine g_aload (r := some _) rfl rfl rfl (pc' := 11) ?_
  refine g_dup_a (r := some _) rfl rfl (pc' := 12) ?_
  refine g_getI rfl rfl rfl rfl ht1 (pc' := 15) rfl ?_
  refine g_iconst rfl rfl rfl (pc' := 16) ?_
  refine g_iadd rfl rfl (pc' := 17) ?_
  refine g_putI rfl rfl rfl rfl ht1  (pc' := 20) rfl ?_
  replace H := H _ rfl
  exact g_return rfl H
set_option maxRecDepth 20000 in
theorem w_174_0 {a0 : Nat} {x1 : Int32} {j2 : Int64} {h : hh_T} {Q : Option Value ⊕ Nat → hh_T → Prop} (H : gm_G 174 3 [some (.ref a0), some (.int x1), some (.long j2), none, some (.int (Int32.ofNat 0))] [] h Q) : gm_G 174 0 [some (.ref a0), some (.int x1), some (.long j2), none] [] h Q := by
  refine g_iconst rfl rfl rfl (pc' := 1) ?_
  refine g_istore rfl rfl rfl (pc' := 3) ?_
  exact g_weak (show gm_Lle [some _, some _, some _, none, some _] _ from ⟨rfl, ⟨rfl, ⟨rfl, ⟨rfl, trivial⟩⟩⟩⟩) H
set_option maxRecDepth 20000 in
theorem w_174_3 {a0 : Nat} {x1 : Int32} {j2 : Int64} {x4 : Int32} {h : hh_T} {Q : Option Value ⊕ Nat → hh_T → Prop} (H : gm_sub (hh_tg h a0) 22 = true ∧ ((¬ x4 < (hh_i h a0 2) → (Q (.inl (some (va_rf none))) h)) ∧ (x4 < (hh_i h a0 2) → (∀ r2, r2 = hh_r h a0 0 → (∃ a3, r2 = some a3 ∧ ((hh_tg h a3 = 104 ∨ 200 ≤ hh_tg h a3) ∧ (∃ n4, gm_ix x4 n4 (hh_ln h a3) ∧ (∀ r6, r6 = hh_r h a3 n4 → (∃ a7, r6 = some a7 ∧ (gm_sub (hh_tg h a7) 23 = true ∧ ((¬ Int32.ofNat 0 < (hh_i h a7 0) → (gm_G 174 62 [some (.ref a0), some (.int x1), some (.long j2), none, some (.int x4)] [] h Q)) ∧ (Int32.ofNat 0 < (hh_i h a7 0) → (∀ r9, r9 = hh_r h a0 0 → (∃ a10, r9 = some a10 ∧ ((hh_tg h a10 = 104 ∨ 200 ≤ hh_tg h a10) ∧ (∃ n11, gm_ix x4 n11 (hh_ln h a10) ∧ (∀ r13, r13 = hh_r h a10 n11 → (∃ a14, r13 = some a14 ∧ (gm_sub (hh_tg h a14) 23 = true ∧ ((¬ (hh_i h a14 1) = x1 → (gm_G 174 62 [some (.ref a0), some (.int x1), some (.long j2), none, some (.int x4)] [] h Q)) ∧ ((hh_i h a14 1) = x1 → (∀ r16, r16 = hh_r h a0 0 → (∃ a17, r16 = some a17 ∧ ((hh_tg h a17 = 104 ∨ 200 ≤ hh_tg h a17) ∧ (∃ n18, gm_ix x4 n18 (hh_ln h a17) ∧ (∀ r20, r20 = hh_r h a17 n18 → (∃ a21, r20 = some a21 ∧ (gm_sub (hh_tg h a21) 23 = true ∧ ((¬ (lg_cmp (hh_j h a21 4) j2) = Int32.ofNat 0 → (gm_G 174 62 [some (.ref a0), some (.int x1), some (.long j2), none, some (.int x4)] [] h Q)) ∧ ((lg_cmp (hh_j h a21 4) j2) = Int32.ofNat 0 → (∀ r23, r23 = hh_r h a0 0 → (∃ a24, r23 = some a24 ∧ ((hh_tg h a24 = 104 ∨ 200 ≤ hh_tg h a24) ∧ (∃ n25, gm_ix x4 n25 (hh_ln h a24) ∧ (∀ r27, r27 = hh_r h a24 n25 → (Q (.inl (some (va_rf r27))) h)))))))))))))))))))))))))))))))))))) : gm_G 174 3 [some (.ref a0), some (.int x1), some (.long j2), none, some (.int x4)] [] h Q := by
  refine g_iload rfl rfl rfl (pc' := 5) ?_
  refine g_aload (r := some _) rfl rfl rfl (pc' := 6) ?_
  obtain ⟨ht1, H⟩ := H
  refine g_getI rfl rfl rfl rfl ht1 (pc' := 9) rfl ?_
  refine g_ic_ge rfl (pc' := 12) (pt := 68) rfl rfl ⟨fun hc => ?_, fun hc => ?_⟩
  · replace H := H.1 hc
    refine g_null rfl rfl (pc' := 69) ?_
    exact g_areturn (r := _) rfl H
  · replace H := H.2 hc
    refine g_aload (r := some _) rfl rfl rfl (pc' := 13) ?_
    refine g_getRv rfl rfl rfl rfl ht1 (pc' := 16) rfl (fun r2 hr2 => ?_)
    replace H := H r2 hr2
    refine g_iload rfl rfl rfl (pc' := 18) ?_
    obtain ⟨a3, rfl, H⟩ := H
    obtain ⟨ht5, H⟩ := H
    obtain ⟨n4, hn4, H⟩ := H
    refine g_aaloadv rfl ht5 hn4 (pc' := 19) rfl (fun r6 hr6 => ?_)
    replace H := H r6 hr6
    obtain ⟨a7, rfl, H⟩ := H
    obtain ⟨ht8, H⟩ := H
    refine g_getI rfl rfl rfl rfl ht8 (pc' := 22) rfl ?_
    refine g_if_le rfl (pc' := 25) (pt := 62) rfl rfl ⟨fun hc => ?_, fun hc => ?_⟩
    · replace H := H.1 hc
      exact g_weak (show gm_Lle [some _, some _, some _, none, some _] _ from ⟨rfl, ⟨rfl, ⟨rfl, ⟨rfl, trivial⟩⟩⟩⟩) H
    · replace H := H.2 hc
      refine g_aload (r := some _) rfl rfl rfl (pc' := 26) ?_
      refine g_getRv rfl rfl rfl rfl ht1 (pc' := 29) rfl (fun r9 hr9 => ?_)
      replace H := H r9 hr9
      refine g_iload rfl rfl rfl (pc' := 31) ?_
      obtain ⟨a10, rfl, H⟩ := H
      obtain ⟨ht12, H⟩ := H
      obtain ⟨n11, hn11, H⟩ := H
      refine g_aaloadv rfl ht12 hn11 (pc' := 32) rfl (fun r13 hr13 => ?_)
      replace H := H r13 hr13
      obtain ⟨a14, rfl, H⟩ := H
      obtain ⟨ht15, H⟩ := H
      refine g_getI rfl rfl rfl rfl ht15 (pc' := 35) rfl ?_
      refine g_iload rfl rfl rfl (pc' := 36) ?_
      refine g_ic_ne rfl (pc' := 39) (pt := 62) rfl rfl ⟨fun hc => ?_, fun hc => ?_⟩
      · replace H := H.1 hc
        exact g_weak (show gm_Lle [some _, some _, some _, none, some _] _ from ⟨rfl, ⟨rfl, ⟨rfl, ⟨rfl, trivial⟩⟩⟩⟩) H
      · replace H := H.2 hc
        refine g_aload (r := some _) rfl rfl rfl (pc' := 40) ?_
        refine g_getRv rfl rfl rfl rfl ht1 (pc' := 43) rfl (fun r16 hr16 => ?_)
        replace H := H r16 hr16
        refine g_iload rfl rfl rfl (pc' := 45) ?_
        obtain ⟨a17, rfl, H⟩ := H
        obtain ⟨ht19, H⟩ := H
        obtain ⟨n18, hn18, H⟩ := H
        refine g_aaloadv rfl ht19 hn18 (pc' := 46) rfl (fun r20 hr20 => ?_)
        replace H := H r20 hr20
        obtain ⟨a21, rfl, H⟩ := H
        obtain ⟨ht22, H⟩ := H
        refine g_getJ rfl rfl rfl rfl ht22 (pc' := 49) rfl ?_
        refine g_lload rfl rfl rfl (pc' := 50) ?_
        refine g_lcmp rfl rfl (pc' := 51) ?_
        refine g_if_ne rfl (pc' := 54) (pt := 62) rfl rfl ⟨fun hc => ?_, fun hc => ?_⟩
        · replace H := H.1 hc
          exact g_weak (show gm_Lle [some _, some _, some _, none, some _] _ from ⟨rfl, ⟨rfl, ⟨rfl, ⟨rfl, trivial⟩⟩⟩⟩) H
        · replace H := H.2 hc
          refine g_aload (r := some _) rfl rfl rfl (pc' := 55) ?_
          refine g_getRv rfl rfl rfl rfl ht1 (pc' := 58) rfl (fun r23 hr23 => ?_)
          replace H := H r23 hr23
          refine g_iload rfl rfl rfl (pc' := 60) ?_
          obtain ⟨a24, rfl, H⟩ := H
          obtain ⟨ht26, H⟩ := H
          obtain ⟨n25, hn25, H⟩ := H
          refine g_aaloadv rfl ht26 hn25 (pc' := 61) rfl (fun r27 hr27 => ?_)
          replace H := H r27 hr27
          exact g_areturn (r := _) rfl H
set_option maxRecDepth 20000 in
theorem w_174_62 {a0 : Nat} {x1 : Int32} {j2 : Int64} {x4 : Int32} {h : hh_T} {Q : Option Value ⊕ Nat → hh_T → Prop} (H : gm_G 174 3 [some (.ref a0), some (.int x1), some (.long j2), none, some (.int (x4 + (Int32.ofNat 1)))] [] h Q) : gm_G 174 62 [some (.ref a0), some (.int x1), some (.long j2), none, some (.int x4)] [] h Q := by
  refine g_iinc (c := (Int32.ofNat 1)) rfl rfl rfl rfl rfl (pc' := 65) ?_
  refine g_goto rfl (pc' := 3) rfl ?_
  exact g_weak (show gm_Lle [some _, some _, some _, none, some _] _ from ⟨rfl, ⟨rfl, ⟨rfl, ⟨rfl, trivial⟩⟩⟩⟩) H
set_option maxRecDepth 20000 in
theorem w_175_0 {a0 : Nat} {x1 : Int32} {h : hh_T} {Q : Option Value ⊕ Nat → hh_T → Prop} (H : gm_G 175 4 [some (.ref a0), some (.int x1), some (.int (Int32.ofNat 0)), some (.int (Int32.ofNat 0))] [] h Q) : gm_G 175 0 [some (.ref a0), some (.int x1)] [] h Q := by
  refine g_iconst rfl rfl rfl (pc' := 1) ?_
  refine g_istore rfl rfl rfl (pc' := 2) ?_
  refine g_iconst rfl rfl rfl (pc' := 3) ?_
  refine g_istore rfl rfl rfl (pc' := 4) ?_
  exact g_weak (show gm_Lle [some _, some _, some _, some _] _ from ⟨rfl, ⟨rfl, ⟨rfl, ⟨rfl, trivial⟩⟩⟩⟩) H
set_option maxRecDepth 20000 in
theorem w_175_4 {a0 : Nat} {x1 : Int32} {x2 : Int32} {x3 : Int32} {h : hh_T} {Q : Option Value ⊕ Nat → hh_T → Prop} (H : gm_sub (hh_tg h a0) 22 = true ∧ ((¬ x3 < (hh_i h a0 2) → (Q (.inl (some (.int x2))) h)) ∧ (x3 < (hh_i h a0 2) → (∀ r2, r2 = hh_r h a0 0 → (∃ a3, r2 = some a3 ∧ ((hh_tg h a3 = 104 ∨ 200 ≤ hh_tg h a3) ∧ (∃ n4, gm_ix x3 n4 (hh_ln h a3) ∧ (∀ r6, r6 = hh_r h a3 n4 → (∃ a7, r6 = some a7 ∧ (gm_sub (hh_tg h a7) 23 = true ∧ ((¬ (hh_i h a7 3) = x1 → (gm_G 175 28 [some (.ref a0), some (.int x1), some (.int x2), some (.int x3)] [] h Q)) ∧ ((hh_i h a7 3) = x1 → (gm_G 175 28 [some (.ref a0), some (.int x1), some (.int (x2 + (Int32.ofNat 1))), some (.int x3)] [] h Q))))))))))))) : gm_G 175 4 [some (.ref a0), some (.int x1), some (.int x2), some (.int x3)] [] h Q := by
  refine g_iload rfl rfl rfl (pc' := 5) ?_
  refine g_aload (r := some _) rfl rfl rfl (pc' := 6) ?_
  obtain ⟨ht1, H⟩ := H
  refine g_getI rfl rfl rfl rfl ht1 (pc' := 9) rfl ?_
  refine g_ic_ge rfl (pc' := 12) (pt := 34) rfl rfl ⟨fun hc => ?_, fun hc => ?_⟩
  · replace H := H.1 hc
    refine g_iload rfl rfl rfl (pc' := 35) ?_
    exact g_ireturn rfl (Or.inl rfl) H
  · replace H := H.2 hc
    refine g_aload (r := some _) rfl rfl rfl (pc' := 13) ?_
    refine g_getRv rfl rfl rfl rfl ht1 (pc' := 16) rfl (fun r2 hr2 => ?_)
    replace H := H r2 hr2
    refine g_iload rfl rfl rfl (pc' := 17) ?_
    obtain ⟨a3, rfl, H⟩ := H
    obtain ⟨ht5, H⟩ := H
    obtain ⟨n4, hn4, H⟩ := H
    refine g_aaloadv rfl ht5 hn4 (pc' := 18) rfl (fun r6 hr6 => ?_)
    replace H := H r6 hr6
    obtain ⟨a7, rfl, H⟩ := H
    obtain ⟨ht8, H⟩ := H
    refine g_getI rfl rfl rfl rfl ht8 (pc' := 21) rfl ?_
    refine g_iload rfl rfl rfl (pc' := 22) ?_
    refine g_ic_ne rfl (pc' := 25) (pt := 28) rfl rfl ⟨fun hc => ?_, fun hc => ?_⟩
    · replace H := H.1 hc
      exact g_weak (show gm_Lle [some _, some _, some _, some _] _ from ⟨rfl, ⟨rfl, ⟨rfl, ⟨rfl, trivial⟩⟩⟩⟩) H
    · replace H := H.2 hc
      refine g_iinc (c := (Int32.ofNat 1)) rfl rfl rfl rfl rfl (pc' := 28) ?_
      exact g_weak (show gm_Lle [some _, some _, some _, some _] _ from ⟨rfl, ⟨rfl, ⟨rfl, ⟨rfl, trivial⟩⟩⟩⟩) H
set_option maxRecDepth 20000 in
theorem w_175_28 {a0 : Nat} {x1 : Int32} {x2 : Int32} {x3 : Int32} {h : hh_T} {Q : Option Value ⊕ Nat → hh_T → Prop} (H : gm_G 175 4 [some (.ref a0), some (.int x1), some (.int x2), some (.int (x3 + (Int32.ofNat 1)))] [] h Q) : gm_G 175 28 [some (.ref a0), some (.int x1), some (.int x2), some (.int x3)] [] h Q := by
  refine g_iinc (c := (Int32.ofNat 1)) rfl rfl rfl rfl rfl (pc' := 31) ?_
  refine g_goto rfl (pc' := 4) rfl ?_
  exact g_weak (show gm_Lle [some _, some _, some _, some _] _ from ⟨rfl, ⟨rfl, ⟨rfl, ⟨rfl, trivial⟩⟩⟩⟩) H
set_option maxRecDepth 20000 in
theorem w_176_0 {a0 : Nat} {r_1 : Option Nat} {h : hh_T} {Q : Option Value ⊕ Nat → hh_T → Prop} (H : gm_G 176 2 [some (.ref a0), some (va_rf r_1), some (.int (Int32.ofNat 0))] [] h Q) : gm_G 176 0 [some (.ref a0), some (va_rf r_1)] [] h Q := by
  refine g_iconst rfl rfl rfl (pc' := 1) ?_
  refine g_istore rfl gm_sto_rf1 rfl (pc' := 2) ?_
  exact g_weak (show gm_Lle [some _, some _, some _] _ from ⟨rfl, ⟨rfl, ⟨rfl, trivial⟩⟩⟩) H
set_option maxRecDepth 20000 in
theorem w_176_2 {a0 : Nat} {r_1 : Option Nat} {x2 : Int32} {h : hh_T} {Q : Option Value ⊕ Nat → hh_T → Prop} (H : gm_sub (hh_tg h a0) 22 = true ∧ (∀ r2, r2 = hh_r h a0 0 → (∃ a3, r2 = some a3 ∧ ((hh_tg h a3 = 104 ∨ 200 ≤ hh_tg h a3) ∧ (∃ n4, gm_ix x2 n4 (hh_ln h a3) ∧ (∀ r6, r6 = hh_r h a3 n4 → ((r6 = r_1 → (∀ h7, h7 = hh_wi h a0 2 ((hh_i h a0 2) - (Int32.ofNat 1)) → (gm_G 176 28 [some (.ref a0), none, some (.int x2)] [] h7 Q))) ∧ (¬ r6 = r_1 → (gm_G 176 2 [some (.ref a0), some (va_rf r_1), some (.int (x2 + (Int32.ofNat 1)))] [] h Q))))))))) : gm_G 176 2 [some (.ref a0), some (va_rf r_1), some (.int x2)] [] h Q := by
  refine g_aload (r := some _) rfl rfl rfl (pc' := 3) ?_
  obtain ⟨ht1, H⟩ := H
  refine g_getRv rfl rfl rfl rfl ht1 (pc' := 6) rfl (fun r2 hr2 => ?_)
  replace H := H r2 hr2
  refine g_iload rfl rfl rfl (pc' := 7) ?_
  obtain ⟨a3, rfl, H⟩ := H
  obtain ⟨ht5, H⟩ := H
  obtain ⟨n4, hn4, H⟩ := H
  refine g_aaloadv rfl ht5 hn4 (pc' := 8) rfl (fun r6 hr6 => ?_)
  replace H := H r6 hr6
  refine g_aload (r := _) rfl rfl rfl (pc' := 9) ?_
  refine g_ac_eq (r1 := _) (r2 := _) rfl (pc' := 12) (pt := 18) rfl rfl ⟨fun hc => ?_, fun hc => ?_⟩
  · replace H := H.1 hc
    refine g_aload (r := some _) rfl rfl rfl (pc' := 19) ?_
    refine g_dup_a (r := some _) rfl rfl (pc' := 20) ?_
    refine g_getI rfl rfl rfl rfl ht1 (pc' := 23) rfl ?_
    refine g_iconst rfl rfl rfl (pc' := 24) ?_
    refine g_isub rfl rfl (pc' := 25) ?_
    refine g_putI rfl rfl rfl rfl ht1  (pc' := 28) rfl ?_
    replace H := H _ rfl
    exact g_weak (show gm_Lle [some _, none, some _] _ from ⟨rfl, ⟨rfl, trivial⟩⟩) H
  · replace H := H.2 hc
    refine g_iinc (c := (Int32.ofNat 1)) rfl rfl rfl gm_sto_rf1 rfl (pc' := 15) ?_
    refine g_goto rfl (pc' := 2) rfl ?_
    exact g_weak (show gm_Lle [some _, some _, some _] _ from ⟨rfl, ⟨rfl, ⟨rfl, trivial⟩⟩⟩) H
set_option maxRecDepth 20000 in
theorem w_176_28 {a0 : Nat} {x2 : Int32} {h : hh_T} {Q : Option Value ⊕ Nat → hh_T → Prop} (H : gm_sub (hh_tg h a0) 22 = true ∧ ((¬ x2 < (hh_i h a0 2) → (∀ r2, r2 = hh_r h a0 0 → (∃ a3, r2 = some a3 ∧ (200 ≤ hh_tg h a3 ∧ (True) ∧ (∃ n4, gm_ix (hh_i h a0 2) n4 (hh_ln h a3) ∧ (∀ h5, h5 = hh_wr h a3 n4 none → (Q (.inl none) h5))))))) ∧ (x2 < (hh_i h a0 2) → (∀ r6, r6 = hh_r h a0 0 → (∀ r7, r7 = hh_r h a0 0 → (∃ a8, r7 = some a8 ∧ ((hh_tg h a8 = 104 ∨ 200 ≤ hh_tg h a8) ∧ (∃ n9, gm_ix (x2 + (Int32.ofNat 1)) n9 (hh_ln h a8) ∧ (∀ r11, r11 = hh_r h a8 n9 → (∃ a12, r6 = some a12 ∧ (200 ≤ hh_tg h a12 ∧ (∀ b, r11 = some b → gm_as (hh_tg h a12) (hh_tg h b) = true) ∧ (∃ n13, gm_ix x2 n13 (hh_ln h a12) ∧ (∀ h14, h14 = hh_wr h a12 n13 r11 → (gm_G 176 28 [some (.ref a0), none, some (.int (x2 + (Int32.ofNat 1)))] [] h14 Q)))))))))))))) : gm_G 176 28 [some (.ref a0), none, some (.int x2)] [] h Q := by
  refine g_iload rfl rfl rfl (pc' := 29) ?_
  refine g_aload (r := some _) rfl rfl rfl (pc' := 30) ?_
  obtain ⟨ht1, H⟩ := H
  refine g_getI rfl rfl rfl rfl ht1 (pc' := 33) rfl ?_
  refine g_ic_ge rfl (pc' := 36) (pt := 56) rfl rfl ⟨fun hc => ?_, fun hc => ?_⟩
  · replace H := H.1 hc
    refine g_aload (r := some _) rfl rfl rfl (pc' := 57) ?_
    refine g_getRv rfl rfl rfl rfl ht1 (pc' := 60) rfl (fun r2 hr2 => ?_)
    replace H := H r2 hr2
    refine g_aload (r := some _) rfl rfl rfl (pc' := 61) ?_
    refine g_getI rfl rfl rfl rfl ht1 (pc' := 64) rfl ?_
    refine g_null rfl rfl (pc' := 65) ?_
    obtain ⟨a3, rfl, H⟩ := H
    obtain ⟨Ha, Hb, H⟩ := H
    obtain ⟨n4, hn4, H⟩ := H
    refine g_aastore (r := _) rfl Ha (fun b hb => by cases hb) hn4 (pc' := 66) rfl ?_
    replace H := H _ rfl
    exact g_return rfl H
  · replace H := H.2 hc
    refine g_aload (r := some _) rfl rfl rfl (pc' := 37) ?_
    refine g_getRv rfl rfl rfl rfl ht1 (pc' := 40) rfl (fun r6 hr6 => ?_)
    replace H := H r6 hr6
    refine g_iload rfl rfl rfl (pc' := 41) ?_
    refine g_aload (r := some _) rfl rfl rfl (pc' := 42) ?_
    refine g_getRv rfl rfl rfl rfl ht1 (pc' := 45) rfl (fun r7 hr7 => ?_)
    replace H := H r7 hr7
    refine g_iload rfl rfl rfl (pc' := 46) ?_
    refine g_iconst rfl rfl rfl (pc' := 47) ?_
    refine g_iadd rfl rfl (pc' := 48) ?_
    obtain ⟨a8, rfl, H⟩ := H
    obtain ⟨ht10, H⟩ := H
    obtain ⟨n9, hn9, H⟩ := H
    refine g_aaloadv rfl ht10 hn9 (pc' := 49) rfl (fun r11 hr11 => ?_)
    replace H := H r11 hr11
    obtain ⟨a12, rfl, H⟩ := H
    obtain ⟨Ha, Hb, H⟩ := H
    obtain ⟨n13, hn13, H⟩ := H
    refine g_aastore (r := _) rfl Ha Hb hn13 (pc' := 50) rfl ?_
    replace H := H _ rfl
    refine g_iinc (c := (Int32.ofNat 1)) rfl rfl rfl rfl rfl (pc' := 53) ?_
    refine g_goto rfl (pc' := 28) rfl ?_
    exact g_weak (show gm_Lle [some _, none, some _] _ from ⟨rfl, ⟨rfl, trivial⟩⟩) H
set_option maxRecDepth 20000 in
theorem w_177_0 {a0 : Nat} {r_1 : Option Nat} {h : hh_T} {Q : Option Value ⊕ Nat → hh_T → Prop} (H : gm_G 177 2 [some (.ref a0), some (va_rf r_1), some (.int (Int32.ofNat 0))] [] h Q) : gm_G 177 0 [some (.ref a0), some (va_rf r_1)] [] h Q := by
  refine g_iconst rfl rfl rfl (pc' := 1) ?_
  refine g_istore rfl gm_sto_rf1 rfl (pc' := 2) ?_
  exact g_weak (show gm_Lle [some _, some _, some _] _ from ⟨rfl, ⟨rfl, ⟨rfl, trivial⟩⟩⟩) H
set_option maxRecDepth 20000 in
theorem w_177_2 {a0 : Nat} {r_1 : Option Nat} {x2 : Int32} {h : hh_T} {Q : Option Value ⊕ Nat → hh_T → Prop} (H : gm_sub (hh_tg h a0) 22 = true ∧ (∀ r2, r2 = hh_r h a0 1 → (∃ a3, r2 = some a3 ∧ ((hh_tg h a3 = 104 ∨ 200 ≤ hh_tg h a3) ∧ (∃ n4, gm_ix x2 n4 (hh_ln h a3) ∧ (∀ r6, r6 = hh_r h a3 n4 → ((r6 = r_1 → (∀ h7, h7 = hh_wi h a0 3 ((hh_i h a0 3) - (Int32.ofNat 1)) → (gm_G 177 28 [some (.ref a0), none, some (.int x2)] [] h7 Q))) ∧ (¬ r6 = r_1 → (gm_G 177 2 [some (.ref a0), some (va_rf r_1), some (.int (x2 + (Int32.ofNat 1)))] [] h Q))))))))) : gm_G 177 2 [some (.ref a0), some (va_rf r_1), some (.int x2)] [] h Q := by
  refine g_aload (r := some _) rfl rfl rfl (pc' := 3) ?_
  obtain ⟨ht1, H⟩ := H
  refine g_getRv rfl rfl rfl rfl ht1 (pc' := 6) rfl (fun r2 hr2 => ?_)
  replace H := H r2 hr2
  refine g_iload rfl rfl rfl (pc' := 7) ?_
  obtain ⟨a3, rfl, H⟩ := H
  obtain ⟨ht5, H⟩ := H
  obtain ⟨n4, hn4, H⟩ := H
  refine g_aaloadv rfl ht5 hn4 (pc' := 8) rfl (fun r6 hr6 => ?_)
  replace H := H r6 hr6
  refine g_aload (r := _) rfl rfl rfl (pc' := 9) ?_
  refine g_ac_eq (r1 := _) (r2 := _) rfl (pc' := 12) (pt := 18) rfl rfl ⟨fun hc => ?_, fun hc => ?_⟩
  · replace H := H.1 hc
    refine g_aload (r := some _) rfl rfl rfl (pc' := 19) ?_
    refine g_dup_a (r := some _) rfl rfl (pc' := 20) ?_
    refine g_getI rfl rfl rfl rfl ht1 (pc' := 23) rfl ?_
    refine g_iconst rfl rfl rfl (pc' := 24) ?_
    refine g_isub rfl rfl (pc' := 25) ?_
    refine g_putI rfl rfl rfl rfl ht1  (pc' := 28) rfl ?_
    replace H := H _ rfl
    exact g_weak (show gm_Lle [some _, none, some _] _ from ⟨rfl, ⟨rfl, trivial⟩⟩) H
  · replace H := H.2 hc
    refine g_iinc (c := (Int32.ofNat 1)) rfl rfl rfl gm_sto_rf1 rfl (pc' := 15) ?_
    refine g_goto rfl (pc' := 2) rfl ?_
    exact g_weak (show gm_Lle [some _, some _, some _] _ from ⟨rfl, ⟨rfl, ⟨rfl, trivial⟩⟩⟩) H
set_option maxRecDepth 20000 in
theorem w_177_28 {a0 : Nat} {x2 : Int32} {h : hh_T} {Q : Option Value ⊕ Nat → hh_T → Prop} (H : gm_sub (hh_tg h a0) 22 = true ∧ ((¬ x2 < (hh_i h a0 3) → (∀ r2, r2 = hh_r h a0 1 → (∃ a3, r2 = some a3 ∧ (200 ≤ hh_tg h a3 ∧ (True) ∧ (∃ n4, gm_ix (hh_i h a0 3) n4 (hh_ln h a3) ∧ (∀ h5, h5 = hh_wr h a3 n4 none → (Q (.inl none) h5))))))) ∧ (x2 < (hh_i h a0 3) → (∀ r6, r6 = hh_r h a0 1 → (∀ r7, r7 = hh_r h a0 1 → (∃ a8, r7 = some a8 ∧ ((hh_tg h a8 = 104 ∨ 200 ≤ hh_tg h a8) ∧ (∃ n9, gm_ix (x2 + (Int32.ofNat 1)) n9 (hh_ln h a8) ∧ (∀ r11, r11 = hh_r h a8 n9 → (∃ a12, r6 = some a12 ∧ (200 ≤ hh_tg h a12 ∧ (∀ b, r11 = some b → gm_as (hh_tg h a12) (hh_tg h b) = true) ∧ (∃ n13, gm_ix x2 n13 (hh_ln h a12) ∧ (∀ h14, h14 = hh_wr h a12 n13 r11 → (gm_G 177 28 [some (.ref a0), none, some (.int (x2 + (Int32.ofNat 1)))] [] h14 Q)))))))))))))) : gm_G 177 28 [some (.ref a0), none, some (.int x2)] [] h Q := by
  refine g_iload rfl rfl rfl (pc' := 29) ?_
  refine g_aload (r := some _) rfl rfl rfl (pc' := 30) ?_
  obtain ⟨ht1, H⟩ := H
  refine g_getI rfl rfl rfl rfl ht1 (pc' := 33) rfl ?_
  refine g_ic_ge rfl (pc' := 36) (pt := 56) rfl rfl ⟨fun hc => ?_, fun hc => ?_⟩
  · replace H := H.1 hc
    refine g_aload (r := some _) rfl rfl rfl (pc' := 57) ?_
    refine g_getRv rfl rfl rfl rfl ht1 (pc' := 60) rfl (fun r2 hr2 => ?_)
    replace H := H r2 hr2
    refine g_aload (r := some _) rfl rfl rfl (pc' := 61) ?_
    refine g_getI rfl rfl rfl rfl ht1 (pc' := 64) rfl ?_
    refine g_null rfl rfl (pc' := 65) ?_
    obtain ⟨a3, rfl, H⟩ := H
    obtain ⟨Ha, Hb, H⟩ := H
    obtain ⟨n4, hn4, H⟩ := H
    refine g_aastore (r := _) rfl Ha (fun b hb => by cases hb) hn4 (pc' := 66) rfl ?_
    replace H := H _ rfl
    exact g_return rfl H
  · replace H := H.2 hc
    refine g_aload (r := some _) rfl rfl rfl (pc' := 37) ?_
    refine g_getRv rfl rfl rfl rfl ht1 (pc' := 40) rfl (fun r6 hr6 => ?_)
    replace H := H r6 hr6
    refine g_iload rfl rfl rfl (pc' := 41) ?_
    refine g_aload (r := some _) rfl rfl rfl (pc' := 42) ?_
    refine g_getRv rfl rfl rfl rfl ht1 (pc' := 45) rfl (fun r7 hr7 => ?_)
    replace H := H r7 hr7
    refine g_iload rfl rfl rfl (pc' := 46) ?_
    refine g_iconst rfl rfl rfl (pc' := 47) ?_
    refine g_iadd rfl rfl (pc' := 48) ?_
    obtain ⟨a8, rfl, H⟩ := H
    obtain ⟨ht10, H⟩ := H
    obtain ⟨n9, hn9, H⟩ := H
    refine g_aaloadv rfl ht10 hn9 (pc' := 49) rfl (fun r11 hr11 => ?_)
    replace H := H r11 hr11
    obtain ⟨a12, rfl, H⟩ := H
    obtain ⟨Ha, Hb, H⟩ := H
    obtain ⟨n13, hn13, H⟩ := H
    refine g_aastore (r := _) rfl Ha Hb hn13 (pc' := 50) rfl ?_
    replace H := H _ rfl
    refine g_iinc (c := (Int32.ofNat 1)) rfl rfl rfl rfl rfl (pc' := 53) ?_
    refine g_goto rfl (pc' := 28) rfl ?_
    exact g_weak (show gm_Lle [some _, none, some _] _ from ⟨rfl, ⟨rfl, trivial⟩⟩) H
set_option maxRecDepth 20000 in
theorem w_178_0 {a0 : Nat} {x1 : Int32} {h : hh_T} {Q : Option Value ⊕ Nat → hh_T → Prop} (H : gm_G 178 2 [some (.ref a0), some (.int x1), some (.int (Int32.ofNat 0))] [] h Q) : gm_G 178 0 [some (.ref a0), some (.int x1)] [] h Q := by
  refine g_iconst rfl rfl rfl (pc' := 1) ?_
  refine g_istore rfl rfl rfl (pc' := 2) ?_
  exact g_weak (show gm_Lle [some _, some _, some _] _ from ⟨rfl, ⟨rfl, ⟨rfl, trivial⟩⟩⟩) H
set_option maxRecDepth 20000 in
theorem w_178_2 {a0 : Nat} {x1 : Int32} {x2 : Int32} {h : hh_T} {Q : Option Value ⊕ Nat → hh_T → Prop} (H : gm_sub (hh_tg h a0) 22 = true ∧ ((¬ x2 < (hh_i h a0 2) → (Q (.inl (some (va_rf none))) h)) ∧ (x2 < (hh_i h a0 2) → (∀ r2, r2 = hh_r h a0 0 → (∃ a3, r2 = some a3 ∧ ((hh_tg h a3 = 104 ∨ 200 ≤ hh_tg h a3) ∧ (∃ n4, gm_ix x2 n4 (hh_ln h a3) ∧ (∀ r6, r6 = hh_r h a3 n4 → (∃ a7, r6 = some a7 ∧ (gm_sub (hh_tg h a7) 23 = true ∧ ((¬ (hh_i h a7 0) = x1 → (gm_G 178 2 [some (.ref a0), some (.int x1), some (.int (x2 + (Int32.ofNat 1)))] [] h Q)) ∧ ((hh_i h a7 0) = x1 → (∀ r9, r9 = hh_r h a0 0 → (∃ a10, r9 = some a10 ∧ ((hh_tg h a10 = 104 ∨ 200 ≤ hh_tg h a10) ∧ (∃ n11, gm_ix x2 n11 (hh_ln h a10) ∧ (∀ r13, r13 = hh_r h a10 n11 → (Q (.inl (some (va_rf r13))) h)))))))))))))))))) : gm_G 178 2 [some (.ref a0), some (.int x1), some (.int x2)] [] h Q := by
  refine g_iload rfl rfl rfl (pc' := 3) ?_
  refine g_aload (r := some _) rfl rfl rfl (pc' := 4) ?_
  obtain ⟨ht1, H⟩ := H
  refine g_getI rfl rfl rfl rfl ht1 (pc' := 7) rfl ?_
  refine g_ic_ge rfl (pc' := 10) (pt := 36) rfl rfl ⟨fun hc => ?_, fun hc => ?_⟩
  · replace H := H.1 hc
    refine g_null rfl rfl (pc' := 37) ?_
    exact g_areturn (r := _) rfl H
  · replace H := H.2 hc
    refine g_aload (r := some _) rfl rfl rfl (pc' := 11) ?_
    refine g_getRv rfl rfl rfl rfl ht1 (pc' := 14) rfl (fun r2 hr2 => ?_)
    replace H := H r2 hr2
    refine g_iload rfl rfl rfl (pc' := 15) ?_
    obtain ⟨a3, rfl, H⟩ := H
    obtain ⟨ht5, H⟩ := H
    obtain ⟨n4, hn4, H⟩ := H
    refine g_aaloadv rfl ht5 hn4 (pc' := 16) rfl (fun r6 hr6 => ?_)
    replace H := H r6 hr6
    obtain ⟨a7, rfl, H⟩ := H
    obtain ⟨ht8, H⟩ := H
    refine g_getI rfl rfl rfl rfl ht8 (pc' := 19) rfl ?_
    refine g_iload rfl rfl rfl (pc' := 20) ?_
    refine g_ic_ne rfl (pc' := 23) (pt := 30) rfl rfl ⟨fun hc => ?_, fun hc => ?_⟩
    · replace H := H.1 hc
      refine g_iinc (c := (Int32.ofNat 1)) rfl rfl rfl rfl rfl (pc' := 33) ?_
      refine g_goto rfl (pc' := 2) rfl ?_
      exact g_weak (show gm_Lle [some _, some _, some _] _ from ⟨rfl, ⟨rfl, ⟨rfl, trivial⟩⟩⟩) H
    · replace H := H.2 hc
      refine g_aload (r := some _) rfl rfl rfl (pc' := 24) ?_
      refine g_getRv rfl rfl rfl rfl ht1 (pc' := 27) rfl (fun r9 hr9 => ?_)
      replace H := H r9 hr9
      refine g_iload rfl rfl rfl (pc' := 28) ?_
      obtain ⟨a10, rfl, H⟩ := H
      obtain ⟨ht12, H⟩ := H
      obtain ⟨n11, hn11, H⟩ := H
      refine g_aaloadv rfl ht12 hn11 (pc' := 29) rfl (fun r13 hr13 => ?_)
      replace H := H r13 hr13
      exact g_areturn (r := _) rfl H
set_option maxRecDepth 20000 in
theorem w_179_0 {a0 : Nat} {x1 : Int32} {h : hh_T} {Q : Option Value ⊕ Nat → hh_T → Prop} (H : gm_G 179 2 [some (.ref a0), some (.int x1), some (.int (Int32.ofNat 0))] [] h Q) : gm_G 179 0 [some (.ref a0), some (.int x1)] [] h Q := by
  refine g_iconst rfl rfl rfl (pc' := 1) ?_
  refine g_istore rfl rfl rfl (pc' := 2) ?_
  exact g_weak (show gm_Lle [some _, some _, some _] _ from ⟨rfl, ⟨rfl, ⟨rfl, trivial⟩⟩⟩) H
set_option maxRecDepth 20000 in
theorem w_179_2 {a0 : Nat} {x1 : Int32} {x2 : Int32} {h : hh_T} {Q : Option Value ⊕ Nat → hh_T → Prop} (H : gm_sub (hh_tg h a0) 22 = true ∧ ((¬ x2 < (hh_i h a0 3) → (Q (.inl (some (va_rf none))) h)) ∧ (x2 < (hh_i h a0 3) → (∀ r2, r2 = hh_r h a0 1 → (∃ a3, r2 = some a3 ∧ ((hh_tg h a3 = 104 ∨ 200 ≤ hh_tg h a3) ∧ (∃ n4, gm_ix x2 n4 (hh_ln h a3) ∧ (∀ r6, r6 = hh_r h a3 n4 → (∃ a7, r6 = some a7 ∧ (gm_sub (hh_tg h a7) 29 = true ∧ ((¬ (hh_i h a7 0) = x1 → (gm_G 179 2 [some (.ref a0), some (.int x1), some (.int (x2 + (Int32.ofNat 1)))] [] h Q)) ∧ ((hh_i h a7 0) = x1 → (∀ r9, r9 = hh_r h a0 1 → (∃ a10, r9 = some a10 ∧ ((hh_tg h a10 = 104 ∨ 200 ≤ hh_tg h a10) ∧ (∃ n11, gm_ix x2 n11 (hh_ln h a10) ∧ (∀ r13, r13 = hh_r h a10 n11 → (Q (.inl (some (va_rf r13))) h)))))))))))))))))) : gm_G 179 2 [some (.ref a0), some (.int x1), some (.int x2)] [] h Q := by
  refine g_iload rfl rfl rfl (pc' := 3) ?_
  refine g_aload (r := some _) rfl rfl rfl (pc' := 4) ?_
  obtain ⟨ht1, H⟩ := H
  refine g_getI rfl rfl rfl rfl ht1 (pc' := 7) rfl ?_
  refine g_ic_ge rfl (pc' := 10) (pt := 36) rfl rfl ⟨fun hc => ?_, fun hc => ?_⟩
  · replace H := H.1 hc
    refine g_null rfl rfl (pc' := 37) ?_
    exact g_areturn (r := _) rfl H
  · replace H := H.2 hc
    refine g_aload (r := some _) rfl rfl rfl (pc' := 11) ?_
    refine g_getRv rfl rfl rfl rfl ht1 (pc' := 14) rfl (fun r2 hr2 => ?_)
    replace H := H r2 hr2
    refine g_iload rfl rfl rfl (pc' := 15) ?_
    obtain ⟨a3, rfl, H⟩ := H
    obtain ⟨ht5, H⟩ := H
    obtain ⟨n4, hn4, H⟩ := H
    refine g_aaloadv rfl ht5 hn4 (pc' := 16) rfl (fun r6 hr6 => ?_)
    replace H := H r6 hr6
    obtain ⟨a7, rfl, H⟩ := H
    obtain ⟨ht8, H⟩ := H
    refine g_getI rfl rfl rfl rfl ht8 (pc' := 19) rfl ?_
    refine g_iload rfl rfl rfl (pc' := 20) ?_
    refine g_ic_ne rfl (pc' := 23) (pt := 30) rfl rfl ⟨fun hc => ?_, fun hc => ?_⟩
    · replace H := H.1 hc
      refine g_iinc (c := (Int32.ofNat 1)) rfl rfl rfl rfl rfl (pc' := 33) ?_
      refine g_goto rfl (pc' := 2) rfl ?_
      exact g_weak (show gm_Lle [some _, some _, some _] _ from ⟨rfl, ⟨rfl, ⟨rfl, trivial⟩⟩⟩) H
    · replace H := H.2 hc
      refine g_aload (r := some _) rfl rfl rfl (pc' := 24) ?_
      refine g_getRv rfl rfl rfl rfl ht1 (pc' := 27) rfl (fun r9 hr9 => ?_)
      replace H := H r9 hr9
      refine g_iload rfl rfl rfl (pc' := 28) ?_
      obtain ⟨a10, rfl, H⟩ := H
      obtain ⟨ht12, H⟩ := H
      obtain ⟨n11, hn11, H⟩ := H
      refine g_aaloadv rfl ht12 hn11 (pc' := 29) rfl (fun r13 hr13 => ?_)
      replace H := H r13 hr13
      exact g_areturn (r := _) rfl H
set_option maxRecDepth 20000 in
theorem w_180_0 {a0 : Nat}  {h : hh_T} {Q : Option Value ⊕ Nat → hh_T → Prop} (H : gm_sub (hh_tg h a0) 23 = true ∧ (∀ h2, h2 = hh_wi h a0 3 (Int32.ofInt (-2)) → (∀ a3 h4, a3 = hh_sz h2 → h4 = hh_al h2 100 5 5 → (gm_sub (hh_tg h4 a0) 23 = true ∧ (∀ h6, h6 = hh_wr h4 a0 5 (some a3) → (∀ a7 h8, a7 = hh_sz h6 → h8 = hh_al h6 100 9 9 → (gm_sub (hh_tg h8 a0) 23 = true ∧ (∀ h10, h10 = hh_wr h8 a0 6 (some a7) → (gm_G 180 25 [some (.ref a0)] [] h10 Q))))))))) : gm_G 180 0 [some (.ref a0)] [] h Q := by
  refine g_aload (r := some _) rfl rfl rfl (pc' := 1) ?_
  refine g_objinit rfl (Nat.le_of_ble_eq_true rfl) (pc' := 4) rfl ?_
  refine g_aload (r := some _) rfl rfl rfl (pc' := 5) ?_
  refine g_iconst rfl rfl rfl (pc' := 7) ?_
  obtain ⟨ht1, H⟩ := H
  refine g_putI rfl rfl rfl rfl ht1  (pc' := 10) rfl ?_
  replace H := H _ rfl
  refine g_aload (r := some _) rfl rfl rfl (pc' := 11) ?_
  refine g_iconst rfl rfl rfl (pc' := 12) ?_
  refine g_newarray rfl (u := 100) (n := 5) rfl (by decide) rfl (by decide) (pc' := 14) rfl ?_
  replace H := H _ _ rfl rfl
  obtain ⟨ht5, H⟩ := H
  refine g_putR (x := some _) rfl rfl rfl rfl ht5  (pc' := 17) rfl ?_
  replace H := H _ rfl
  refine g_aload (r := some _) rfl rfl rfl (pc' := 18) ?_
  refine g_iconst rfl rfl rfl (pc' := 20) ?_
  refine g_newarray rfl (u := 100) (n := 9) rfl (by decide) rfl (by decide) (pc' := 22) rfl ?_
  replace H := H _ _ rfl rfl
  obtain ⟨ht9, H⟩ := H
  refine g_putR (x := some _) rfl rfl rfl rfl ht9  (pc' := 25) rfl ?_
  replace H := H _ rfl
  exact g_weak (show gm_Lle [some _] _ from ⟨rfl, trivial⟩) H
set_option maxRecDepth 20000 in
theorem w_180_25 {a0 : Nat}  {h : hh_T} {Q : Option Value ⊕ Nat → hh_T → Prop} (H : ∀ a1 h2, a1 = hh_sz h → h2 = hh_al h 100 12 12 → (gm_sub (hh_tg h2 a0) 23 = true ∧ (∀ h4, h4 = hh_wr h2 a0 7 (some a1) → (Q (.inl none) h4)))) : gm_G 180 25 [some (.ref a0)] [] h Q := by
  refine g_aload (r := some _) rfl rfl rfl (pc' := 26) ?_
  refine g_iconst rfl rfl rfl (pc' := 28) ?_
  refine g_newarray rfl (u := 100) (n := 12) rfl (by decide) rfl (by decide) (pc' := 30) rfl ?_
  replace H := H _ _ rfl rfl
  obtain ⟨ht3, H⟩ := H
  refine g_putR (x := some _) rfl rfl rfl rfl ht3  (pc' := 33) rfl ?_
  replace H := H _ rfl
  exact g_return rfl H
set_option maxRecDepth 20000 in
theorem w_181_0 {a0 : Nat}  {h : hh_T} {Q : Option Value ⊕ Nat → hh_T → Prop} (H : gm_sub (hh_tg h a0) 23 = true ∧ (∀ h2, h2 = hh_wi h a0 3 (Int32.ofInt (-2)) → (∀ h3, h3 = hh_wi h2 a0 8 (Int32.ofNat 0) → (gm_G 181 13 [some (.ref a0), some (.int (Int32.ofNat 0))] [] h3 Q)))) : gm_G 181 0 [some (.ref a0)] [] h Q := by
  refine g_aload (r := some _) rfl rfl rfl (pc' := 1) ?_
  refine g_iconst rfl rfl rfl (pc' := 3) ?_
  obtain ⟨ht1, H⟩ := H
  refine g_putI rfl rfl rfl rfl ht1  (pc' := 6) rfl ?_
  replace H := H _ rfl
  refine g_aload (r := some _) rfl rfl rfl (pc' := 7) ?_
  refine g_iconst rfl rfl rfl (pc' := 8) ?_
  refine g_putI rfl rfl rfl rfl ht1  (pc' := 11) rfl ?_
  replace H := H _ rfl
  refine g_iconst rfl rfl rfl (pc' := 12) ?_
  refine g_istore rfl rfl rfl (pc' := 13) ?_
  exact g_weak (show gm_Lle [some _, some _] _ from ⟨rfl, ⟨rfl, trivial⟩⟩) H
set_option maxRecDepth 20000 in
theorem w_181_13 {a0 : Nat} {x1 : Int32} {h : hh_T} {Q : Option Value ⊕ Nat → hh_T → Prop} (H : (¬ x1 < (Int32.ofNat 5) → (gm_G 181 34 [some (.ref a0), some (.int (Int32.ofNat 0))] [] h Q)) ∧ (x1 < (Int32.ofNat 5) → (gm_sub (hh_tg h a0) 23 = true ∧ (∀ r2, r2 = hh_r h a0 5 → (∃ a3, r2 = some a3 ∧ (hh_tg h a3 = 100 ∧ (∃ n4, gm_ix x1 n4 (hh_ln h a3) ∧ (∀ h5, h5 = hh_wi h a3 n4 (Int32.ofInt (-2)) → (gm_G 181 13 [some (.ref a0), some (.int (x1 + (Int32.ofNat 1)))] [] h5 Q))))))))) : gm_G 181 13 [some (.ref a0), some (.int x1)] [] h Q := by
  refine g_iload rfl rfl rfl (pc' := 14) ?_
  refine g_iconst rfl rfl rfl (pc' := 15) ?_
  refine g_ic_ge rfl (pc' := 18) (pt := 32) rfl rfl ⟨fun hc => ?_, fun hc => ?_⟩
  · replace H := H.1 hc
    refine g_iconst rfl rfl rfl (pc' := 33) ?_
    refine g_istore rfl rfl rfl (pc' := 34) ?_
    exact g_weak (show gm_Lle [some _, some _] _ from ⟨rfl, ⟨rfl, trivial⟩⟩) H
  · replace H := H.2 hc
    refine g_aload (r := some _) rfl rfl rfl (pc' := 19) ?_
    obtain ⟨ht1, H⟩ := H
    refine g_getRv rfl rfl rfl rfl ht1 (pc' := 22) rfl (fun r2 hr2 => ?_)
    replace H := H r2 hr2
    refine g_iload rfl rfl rfl (pc' := 23) ?_
    refine g_iconst rfl rfl rfl (pc' := 25) ?_
    obtain ⟨a3, rfl, H⟩ := H
    obtain ⟨ht6, H⟩ := H
    obtain ⟨n4, hn4, H⟩ := H
    refine g_iastore rfl ht6 hn4  (pc' := 26) rfl ?_
    replace H := H _ rfl
    refine g_iinc (c := (Int32.ofNat 1)) rfl rfl rfl rfl rfl (pc' := 29) ?_
    refine g_goto rfl (pc' := 13) rfl ?_
    exact g_weak (show gm_Lle [some _, some _] _ from ⟨rfl, ⟨rfl, trivial⟩⟩) H
set_option maxRecDepth 20000 in
theorem w_181_34 {a0 : Nat} {x1 : Int32} {h : hh_T} {Q : Option Value ⊕ Nat → hh_T → Prop} (H : (¬ x1 < (Int32.ofNat 9) → (Q (.inl none) h)) ∧ (x1 < (Int32.ofNat 9) → (gm_sub (hh_tg h a0) 23 = true ∧ (∀ r2, r2 = hh_r h a0 6 → (∃ a3, r2 = some a3 ∧ (hh_tg h a3 = 100 ∧ (∃ n4, gm_ix x1 n4 (hh_ln h a3) ∧ (∀ h5, h5 = hh_wi h a3 n4 (Int32.ofInt (-1)) → (gm_G 181 34 [some (.ref a0), some (.int (x1 + (Int32.ofNat 1)))] [] h5 Q))))))))) : gm_G 181 34 [some (.ref a0), some (.int x1)] [] h Q := by
  refine g_iload rfl rfl rfl (pc' := 35) ?_
  refine g_iconst rfl rfl rfl (pc' := 37) ?_
  refine g_ic_ge rfl (pc' := 40) (pt := 53) rfl rfl ⟨fun hc => ?_, fun hc => ?_⟩
  · replace H := H.1 hc
    exact g_return rfl H
  · replace H := H.2 hc
    refine g_aload (r := some _) rfl rfl rfl (pc' := 41) ?_
    obtain ⟨ht1, H⟩ := H
    refine g_getRv rfl rfl rfl rfl ht1 (pc' := 44) rfl (fun r2 hr2 => ?_)
    replace H := H r2 hr2
    refine g_iload rfl rfl rfl (pc' := 45) ?_
    refine g_iconst rfl rfl rfl (pc' := 46) ?_
    obtain ⟨a3, rfl, H⟩ := H
    obtain ⟨ht6, H⟩ := H
    obtain ⟨n4, hn4, H⟩ := H
    refine g_iastore rfl ht6 hn4  (pc' := 47) rfl ?_
    replace H := H _ rfl
    refine g_iinc (c := (Int32.ofNat 1)) rfl rfl rfl rfl rfl (pc' := 50) ?_
    refine g_goto rfl (pc' := 34) rfl ?_
    exact g_weak (show gm_Lle [some _, some _] _ from ⟨rfl, ⟨rfl, trivial⟩⟩) H
set_option maxRecDepth 20000 in
theorem w_182_0 {a0 : Nat} {r_1 : Option Nat} {h : hh_T} {Q : Option Value ⊕ Nat → hh_T → Prop} (H : ∃ a1, r_1 = some a1 ∧ (gm_sub (hh_tg h a1) 23 = true ∧ (gm_sub (hh_tg h a0) 23 = true ∧ (∀ h4, h4 = hh_wi h a0 0 (hh_i h a1 0) → (∀ h5, h5 = hh_wi h4 a0 1 (hh_i h4 a1 1) → (∀ h6, h6 = hh_wi h5 a0 2 (hh_i h5 a1 2) → (∀ h7, h7 = hh_wi h6 a0 3 (hh_i h6 a1 3) → (∀ h8, h8 = hh_wj h7 a0 4 (hh_j h7 a1 4) → (gm_G 182 40 [some (.ref a0), some (.ref a1)] [] h8 Q))))))))) : gm_G 182 0 [some (.ref a0), some (va_rf r_1)] [] h Q := by
  refine g_aload (r := some _) rfl rfl rfl (pc' := 1) ?_
  refine g_aload (r := _) rfl rfl rfl (pc' := 2) ?_
  obtain ⟨a1, rfl, H⟩ := H
  obtain ⟨ht2, H⟩ := H
  refine g_getI rfl rfl rfl rfl ht2 (pc' := 5) rfl ?_
  obtain ⟨ht3, H⟩ := H
  refine g_putI rfl rfl rfl rfl ht3  (pc' := 8) rfl ?_
  replace H := H _ rfl
  refine g_aload (r := some _) rfl rfl rfl (pc' := 9) ?_
  refine g_aload (r := some _) rfl rfl rfl (pc' := 10) ?_
  refine g_getI rfl rfl rfl rfl ht2 (pc' := 13) rfl ?_
  refine g_putI rfl rfl rfl rfl ht3  (pc' := 16) rfl ?_
  replace H := H _ rfl
  refine g_aload (r := some _) rfl rfl rfl (pc' := 17) ?_
  refine g_aload (r := some _) rfl rfl rfl (pc' := 18) ?_
  refine g_getI rfl rfl rfl rfl ht2 (pc' := 21) rfl ?_
  refine g_putI rfl rfl rfl rfl ht3  (pc' := 24) rfl ?_
  replace H := H _ rfl
  refine g_aload (r := some _) rfl rfl rfl (pc' := 25) ?_
  refine g_aload (r := some _) rfl rfl rfl (pc' := 26) ?_
  refine g_getI rfl rfl rfl rfl ht2 (pc' := 29) rfl ?_
  refine g_putI rfl rfl rfl rfl ht3  (pc' := 32) rfl ?_
  replace H := H _ rfl
  refine g_aload (r := some _) rfl rfl rfl (pc' := 33) ?_
  refine g_aload (r := some _) rfl rfl rfl (pc' := 34) ?_
  refine g_getJ rfl rfl rfl rfl ht2 (pc' := 37) rfl ?_
  refine g_putJ rfl rfl rfl rfl ht3  (pc' := 40) rfl ?_
  replace H := H _ rfl
  exact g_weak (show gm_Lle [some _, some _] _ from ⟨rfl, ⟨rfl, trivial⟩⟩) H
set_option maxRecDepth 20000 in
theorem w_182_40 {a0 : Nat} {r_1 : Option Nat} {h : hh_T} {Q : Option Value ⊕ Nat → hh_T → Prop} (H : gm_G 182 42 [some (.ref a0), some (va_rf r_1), some (.int (Int32.ofNat 0))] [] h Q) : gm_G 182 40 [some (.ref a0), some (va_rf r_1)] [] h Q := by
  refine g_iconst rfl rfl rfl (pc' := 41) ?_
  refine g_istore rfl gm_sto_rf1 rfl (pc' := 42) ?_
  exact g_weak (show gm_Lle [some _, some _, some _] _ from ⟨rfl, ⟨rfl, ⟨rfl, trivial⟩⟩⟩) H
set_option maxRecDepth 20000 in
theorem w_182_42 {a0 : Nat} {r_1 : Option Nat} {x2 : Int32} {h : hh_T} {Q : Option Value ⊕ Nat → hh_T → Prop} (H : (¬ x2 < (Int32.ofNat 5) → (gm_G 182 67 [some (.ref a0), some (va_rf r_1), some (.int (Int32.ofNat 0))] [] h Q)) ∧ (x2 < (Int32.ofNat 5) → (gm_sub (hh_tg h a0) 23 = true ∧ (∀ r2, r2 = hh_r h a0 5 → (∃ a3, r_1 = some a3 ∧ (gm_sub (hh_tg h a3) 23 = true ∧ (∀ r5, r5 = hh_r h a3 5 → (∃ a6, r5 = some a6 ∧ ((hh_tg h a6 = 100 ∨ hh_tg h a6 = 105) ∧ (∃ n7, gm_ix x2 n7 (hh_ln h a6) ∧ (∃ a9, r2 = some a9 ∧ (hh_tg h a9 = 100 ∧ (∃ n10, gm_ix x2 n10 (hh_ln h a9) ∧ (∀ h11, h11 = hh_wi h a9 n10 (hh_i h a6 n7) → (gm_G 182 42 [some (.ref a0), some (.ref a3), some (.int (x2 + (Int32.ofNat 1)))] [] h11 Q))))))))))))))) : gm_G 182 42 [some (.ref a0), some (va_rf r_1), some (.int x2)] [] h Q := by
  refine g_iload rfl rfl rfl (pc' := 43) ?_
  refine g_iconst rfl rfl rfl (pc' := 44) ?_
  refine g_ic_ge rfl (pc' := 47) (pt := 65) rfl rfl ⟨fun hc => ?_, fun hc => ?_⟩
  · replace H := H.1 hc
    refine g_iconst rfl rfl rfl (pc' := 66) ?_
    refine g_istore rfl gm_sto_rf1 rfl (pc' := 67) ?_
    exact g_weak (show gm_Lle [some _, some _, some _] _ from ⟨rfl, ⟨rfl, ⟨rfl, trivial⟩⟩⟩) H
  · replace H := H.2 hc
    refine g_aload (r := some _) rfl rfl rfl (pc' := 48) ?_
    obtain ⟨ht1, H⟩ := H
    refine g_getRv rfl rfl rfl rfl ht1 (pc' := 51) rfl (fun r2 hr2 => ?_)
    replace H := H r2 hr2
    refine g_iload rfl rfl rfl (pc' := 52) ?_
    refine g_aload (r := _) rfl rfl rfl (pc' := 53) ?_
    obtain ⟨a3, rfl, H⟩ := H
    obtain ⟨ht4, H⟩ := H
    refine g_getRv rfl rfl rfl rfl ht4 (pc' := 56) rfl (fun r5 hr5 => ?_)
    replace H := H r5 hr5
    refine g_iload rfl rfl rfl (pc' := 57) ?_
    obtain ⟨a6, rfl, H⟩ := H
    obtain ⟨ht8, H⟩ := H
    obtain ⟨n7, hn7, H⟩ := H
    refine g_iaload rfl ht8 hn7 (pc' := 58) rfl ?_
    obtain ⟨a9, rfl, H⟩ := H
    obtain ⟨ht12, H⟩ := H
    obtain ⟨n10, hn10, H⟩ := H
    refine g_iastore rfl ht12 hn10  (pc' := 59) rfl ?_
    replace H := H _ rfl
    refine g_iinc (c := (Int32.ofNat 1)) rfl rfl rfl rfl rfl (pc' := 62) ?_
    refine g_goto rfl (pc' := 42) rfl ?_
    exact g_weak (show gm_Lle [some _, some _, some _] _ from ⟨rfl, ⟨rfl, ⟨rfl, trivial⟩⟩⟩) H
set_option maxRecDepth 20000 in
theorem w_182_67 {a0 : Nat} {r_1 : Option Nat} {x2 : Int32} {h : hh_T} {Q : Option Value ⊕ Nat → hh_T → Prop} (H : (¬ x2 < (Int32.ofNat 9) → (gm_G 182 93 [some (.ref a0), some (va_rf r_1), some (.int (Int32.ofNat 0))] [] h Q)) ∧ (x2 < (Int32.ofNat 9) → (gm_sub (hh_tg h a0) 23 = true ∧ (∀ r2, r2 = hh_r h a0 6 → (∃ a3, r_1 = some a3 ∧ (gm_sub (hh_tg h a3) 23 = true ∧ (∀ r5, r5 = hh_r h a3 6 → (∃ a6, r5 = some a6 ∧ ((hh_tg h a6 = 100 ∨ hh_tg h a6 = 105) ∧ (∃ n7, gm_ix x2 n7 (hh_ln h a6) ∧ (∃ a9, r2 = some a9 ∧ (hh_tg h a9 = 100 ∧ (∃ n10, gm_ix x2 n10 (hh_ln h a9) ∧ (∀ h11, h11 = hh_wi h a9 n10 (hh_i h a6 n7) → (gm_G 182 67 [some (.ref a0), some (.ref a3), some (.int (x2 + (Int32.ofNat 1)))] [] h11 Q))))))))))))))) : gm_G 182 67 [some (.ref a0), some (va_rf r_1), some (.int x2)] [] h Q := by
  refine g_iload rfl rfl rfl (pc' := 68) ?_
  refine g_iconst rfl rfl rfl (pc' := 70) ?_
  refine g_ic_ge rfl (pc' := 73) (pt := 91) rfl rfl ⟨fun hc => ?_, fun hc => ?_⟩
  · replace H := H.1 hc
    refine g_iconst rfl rfl rfl (pc' := 92) ?_
    refine g_istore rfl gm_sto_rf1 rfl (pc' := 93) ?_
    exact g_weak (show gm_Lle [some _, some _, some _] _ from ⟨rfl, ⟨rfl, ⟨rfl, trivial⟩⟩⟩) H
  · replace H := H.2 hc
    refine g_aload (r := some _) rfl rfl rfl (pc' := 74) ?_
    obtain ⟨ht1, H⟩ := H
    refine g_getRv rfl rfl rfl rfl ht1 (pc' := 77) rfl (fun r2 hr2 => ?_)
    replace H := H r2 hr2
    refine g_iload rfl rfl rfl (pc' := 78) ?_
    refine g_aload (r := _) rfl rfl rfl (pc' := 79) ?_
    obtain ⟨a3, rfl, H⟩ := H
    obtain ⟨ht4, H⟩ := H
    refine g_getRv rfl rfl rfl rfl ht4 (pc' := 82) rfl (fun r5 hr5 => ?_)
    replace H := H r5 hr5
    refine g_iload rfl rfl rfl (pc' := 83) ?_
    obtain ⟨a6, rfl, H⟩ := H
    obtain ⟨ht8, H⟩ := H
    obtain ⟨n7, hn7, H⟩ := H
    refine g_iaload rfl ht8 hn7 (pc' := 84) rfl ?_
    obtain ⟨a9, rfl, H⟩ := H
    obtain ⟨ht12, H⟩ := H
    obtain ⟨n10, hn10, H⟩ := H
    refine g_iastore rfl ht12 hn10  (pc' := 85) rfl ?_
    replace H := H _ rfl
    refine g_iinc (c := (Int32.ofNat 1)) rfl rfl rfl rfl rfl (pc' := 88) ?_
    refine g_goto rfl (pc' := 67) rfl ?_
    exact g_weak (show gm_Lle [some _, some _, some _] _ from ⟨rfl, ⟨rfl, ⟨rfl, trivial⟩⟩⟩) H
set_option maxRecDepth 20000 in
theorem w_182_93 {a0 : Nat} {r_1 : Option Nat} {x2 : Int32} {h : hh_T} {Q : Option Value ⊕ Nat → hh_T → Prop} (H : ∃ a1, r_1 = some a1 ∧ (gm_sub (hh_tg h a1) 23 = true ∧ ((¬ x2 < (hh_i h a1 8) → (gm_sub (hh_tg h a0) 23 = true ∧ (∀ h4, h4 = hh_wi h a0 8 (hh_i h a1 8) → (∀ r5, r5 = hh_r h4 a1 9 → (∀ h6, h6 = hh_wr h4 a0 9 r5 → (∀ r7, r7 = hh_r h6 a0 9 → (∃ a8, r7 = some a8 ∧ (gm_sub (hh_tg h6 a8) 24 = true ∧ (∀ h10, h10 = hh_wi h6 a8 0 ((hh_i h6 a8 0) + (Int32.ofNat 1)) → (Q (.inl none) h10)))))))))) ∧ (x2 < (hh_i h a1 8) → (gm_sub (hh_tg h a0) 23 = true ∧ (∀ r12, r12 = hh_r h a0 7 → (∀ r13, r13 = hh_r h a1 7 → (∃ a14, r13 = some a14 ∧ ((hh_tg h a14 = 100 ∨ hh_tg h a14 = 105) ∧ (∃ n15, gm_ix x2 n15 (hh_ln h a14) ∧ (∃ a17, r12 = some a17 ∧ (hh_tg h a17 = 100 ∧ (∃ n18, gm_ix x2 n18 (hh_ln h a17) ∧ (∀ h19, h19 = hh_wi h a17 n18 (hh_i h a14 n15) → (gm_G 182 93 [some (.ref a0), some (.ref a1), some (.int (x2 + (Int32.ofNat 1)))] [] h19 Q))))))))))))))) : gm_G 182 93 [some (.ref a0), some (va_rf r_1), some (.int x2)] [] h Q := by
  refine g_iload rfl rfl rfl (pc' := 94) ?_
  refine g_aload (r := _) rfl rfl rfl (pc' := 95) ?_
  obtain ⟨a1, rfl, H⟩ := H
  obtain ⟨ht2, H⟩ := H
  refine g_getI rfl rfl rfl rfl ht2 (pc' := 98) rfl ?_
  refine g_ic_ge rfl (pc' := 101) (pt := 119) rfl rfl ⟨fun hc => ?_, fun hc => ?_⟩
  · replace H := H.1 hc
    refine g_aload (r := some _) rfl rfl rfl (pc' := 120) ?_
    refine g_aload (r := some _) rfl rfl rfl (pc' := 121) ?_
    refine g_getI rfl rfl rfl rfl ht2 (pc' := 124) rfl ?_
    obtain ⟨ht3, H⟩ := H
    refine g_putI rfl rfl rfl rfl ht3  (pc' := 127) rfl ?_
    replace H := H _ rfl
    refine g_aload (r := some _) rfl rfl rfl (pc' := 128) ?_
    refine g_aload (r := some _) rfl rfl rfl (pc' := 129) ?_
    refine g_getRv rfl rfl rfl rfl ht2 (pc' := 132) rfl (fun r5 hr5 => ?_)
    replace H := H r5 hr5
    refine g_putR rfl rfl rfl rfl ht3  (pc' := 135) rfl ?_
    replace H := H _ rfl
    refine g_aload (r := some _) rfl rfl rfl (pc' := 136) ?_
    refine g_getRv rfl rfl rfl rfl ht3 (pc' := 139) rfl (fun r7 hr7 => ?_)
    replace H := H r7 hr7
    refine g_dup_a (r := _) rfl rfl (pc' := 140) ?_
    obtain ⟨a8, rfl, H⟩ := H
    obtain ⟨ht9, H⟩ := H
    refine g_getI rfl rfl rfl rfl ht9 (pc' := 143) rfl ?_
    refine g_iconst rfl rfl rfl (pc' := 144) ?_
    refine g_iadd rfl rfl (pc' := 145) ?_
    refine g_putI rfl rfl rfl rfl ht9  (pc' := 148) rfl ?_
    replace H := H _ rfl
    exact g_return rfl H
  · replace H := H.2 hc
    refine g_aload (r := some _) rfl rfl rfl (pc' := 102) ?_
    obtain ⟨ht11, H⟩ := H
    refine g_getRv rfl rfl rfl rfl ht11 (pc' := 105) rfl (fun r12 hr12 => ?_)
    replace H := H r12 hr12
    refine g_iload rfl rfl rfl (pc' := 106) ?_
    refine g_aload (r := some _) rfl rfl rfl (pc' := 107) ?_
    refine g_getRv rfl rfl rfl rfl ht2 (pc' := 110) rfl (fun r13 hr13 => ?_)
    replace H := H r13 hr13
    refine g_iload rfl rfl rfl (pc' := 111) ?_
    obtain ⟨a14, rfl, H⟩ := H
    obtain ⟨ht16, H⟩ := H
    obtain ⟨n15, hn15, H⟩ := H
    refine g_iaload rfl ht16 hn15 (pc' := 112) rfl ?_
    obtain ⟨a17, rfl, H⟩ := H
    obtain ⟨ht20, H⟩ := H
    obtain ⟨n18, hn18, H⟩ := H
    refine g_iastore rfl ht20 hn18  (pc' := 113) rfl ?_
    replace H := H _ rfl
    refine g_iinc (c := (Int32.ofNat 1)) rfl rfl rfl rfl rfl (pc' := 116) ?_
    refine g_goto rfl (pc' := 93) rfl ?_
    exact g_weak (show gm_Lle [some _, some _, some _] _ from ⟨rfl, ⟨rfl, ⟨rfl, trivial⟩⟩⟩) H
set_option maxRecDepth 20000 in
theorem w_183_0 {a0 : Nat} {x1 : Int32} {h : hh_T} {Q : Option Value ⊕ Nat → hh_T → Prop} (H : gm_sub (hh_tg h a0) 23 = true ∧ (∀ h2, h2 = hh_wi h a0 8 ((hh_i h a0 8) - (Int32.ofNat 1)) → (gm_G 183 12 [some (.ref a0), none, some (.int x1)] [] h2 Q))) : gm_G 183 0 [some (.ref a0), some (.int x1)] [] h Q := by
  refine g_aload (r := some _) rfl rfl rfl (pc' := 1) ?_
  refine g_dup_a (r := some _) rfl rfl (pc' := 2) ?_
  obtain ⟨ht1, H⟩ := H
  refine g_getI rfl rfl rfl rfl ht1 (pc' := 5) rfl ?_
  refine g_iconst rfl rfl rfl (pc' := 6) ?_
  refine g_isub rfl rfl (pc' := 7) ?_
  refine g_putI rfl rfl rfl rfl ht1  (pc' := 10) rfl ?_
  replace H := H _ rfl
  refine g_iload rfl rfl rfl (pc' := 11) ?_
  refine g_istore rfl rfl rfl (pc' := 12) ?_
  exact g_weak (show gm_Lle [some _, none, some _] _ from ⟨rfl, ⟨rfl, trivial⟩⟩) H
set_option maxRecDepth 20000 in
theorem w_183_12 {a0 : Nat} {x2 : Int32} {h : hh_T} {Q : Option Value ⊕ Nat → hh_T → Prop} (H : gm_sub (hh_tg h a0) 23 = true ∧ ((¬ x2 < (hh_i h a0 8) → (Q (.inl none) h)) ∧ (x2 < (hh_i h a0 8) → (∀ r2, r2 = hh_r h a0 7 → (∀ r3, r3 = hh_r h a0 7 → (∃ a4, r3 = some a4 ∧ ((hh_tg h a4 = 100 ∨ hh_tg h a4 = 105) ∧ (∃ n5, gm_ix (x2 + (Int32.ofNat 1)) n5 (hh_ln h a4) ∧ (∃ a7, r2 = some a7 ∧ (hh_tg h a7 = 100 ∧ (∃ n8, gm_ix x2 n8 (hh_ln h a7) ∧ (∀ h9, h9 = hh_wi h a7 n8 (hh_i h a4 n5) → (gm_G 183 12 [some (.ref a0), none, some (.int (x2 + (Int32.ofNat 1)))] [] h9 Q))))))))))))) : gm_G 183 12 [some (.ref a0), none, some (.int x2)] [] h Q := by
  refine g_iload rfl rfl rfl (pc' := 13) ?_
  refine g_aload (r := some _) rfl rfl rfl (pc' := 14) ?_
  obtain ⟨ht1, H⟩ := H
  refine g_getI rfl rfl rfl rfl ht1 (pc' := 17) rfl ?_
  refine g_ic_ge rfl (pc' := 20) (pt := 40) rfl rfl ⟨fun hc => ?_, fun hc => ?_⟩
  · replace H := H.1 hc
    exact g_return rfl H
  · replace H := H.2 hc
    refine g_aload (r := some _) rfl rfl rfl (pc' := 21) ?_
    refine g_getRv rfl rfl rfl rfl ht1 (pc' := 24) rfl (fun r2 hr2 => ?_)
    replace H := H r2 hr2
    refine g_iload rfl rfl rfl (pc' := 25) ?_
    refine g_aload (r := some _) rfl rfl rfl (pc' := 26) ?_
    refine g_getRv rfl rfl rfl rfl ht1 (pc' := 29) rfl (fun r3 hr3 => ?_)
    replace H := H r3 hr3
    refine g_iload rfl rfl rfl (pc' := 30) ?_
    refine g_iconst rfl rfl rfl (pc' := 31) ?_
    refine g_iadd rfl rfl (pc' := 32) ?_
    obtain ⟨a4, rfl, H⟩ := H
    obtain ⟨ht6, H⟩ := H
    obtain ⟨n5, hn5, H⟩ := H
    refine g_iaload rfl ht6 hn5 (pc' := 33) rfl ?_
    obtain ⟨a7, rfl, H⟩ := H
    obtain ⟨ht10, H⟩ := H
    obtain ⟨n8, hn8, H⟩ := H
    refine g_iastore rfl ht10 hn8  (pc' := 34) rfl ?_
    replace H := H _ rfl
    refine g_iinc (c := (Int32.ofNat 1)) rfl rfl rfl rfl rfl (pc' := 37) ?_
    refine g_goto rfl (pc' := 12) rfl ?_
    exact g_weak (show gm_Lle [some _, none, some _] _ from ⟨rfl, ⟨rfl, trivial⟩⟩) H
set_option maxRecDepth 20000 in
theorem w_184_0 {a0 : Nat}  {h : hh_T} {Q : Option Value ⊕ Nat → hh_T → Prop} (H : gm_sub (hh_tg h a0) 23 = true ∧ ((¬ (hh_i h a0 8) = Int32.ofNat 0 → (∀ r2, r2 = hh_r h a0 7 → (∃ a3, r2 = some a3 ∧ ((hh_tg h a3 = 100 ∨ hh_tg h a3 = 105) ∧ (∃ n4, gm_ix ((hh_i h a0 8) - (Int32.ofNat 1)) n4 (hh_ln h a3) ∧ (Q (.inl (some (.int (hh_i h a3 n4)))) h)))))) ∧ ((hh_i h a0 8) = Int32.ofNat 0 → (Q (.inl (some (.int (Int32.ofInt (-2))))) h)))) : gm_G 184 0 [some (.ref a0)] [] h Q := by
  refine g_aload (r := some _) rfl rfl rfl (pc' := 1) ?_
  obtain ⟨ht1, H⟩ := H
  refine g_getI rfl rfl rfl rfl ht1 (pc' := 4) rfl ?_
  refine g_if_ne rfl (pc' := 7) (pt := 12) rfl rfl ⟨fun hc => ?_, fun hc => ?_⟩
  · replace H := H.1 hc
    refine g_aload (r := some _) rfl rfl rfl (pc' := 13) ?_
    refine g_getRv rfl rfl rfl rfl ht1 (pc' := 16) rfl (fun r2 hr2 => ?_)
    replace H := H r2 hr2
    refine g_aload (r := some _) rfl rfl rfl (pc' := 17) ?_
    refine g_getI rfl rfl rfl rfl ht1 (pc' := 20) rfl ?_
    refine g_iconst rfl rfl rfl (pc' := 21) ?_
    refine g_isub rfl rfl (pc' := 22) ?_
    obtain ⟨a3, rfl, H⟩ := H
    obtain ⟨ht5, H⟩ := H
    obtain ⟨n4, hn4, H⟩ := H
    refine g_iaload rfl ht5 hn4 (pc' := 23) rfl ?_
    exact g_ireturn rfl (Or.inl rfl) H
  · replace H := H.2 hc
    refine g_iconst rfl rfl rfl (pc' := 9) ?_
    refine g_goto rfl (pc' := 23) rfl ?_
    exact g_ireturn rfl (Or.inl rfl) H
set_option maxRecDepth 20000 in
theorem w_185_0 {a0 : Nat} {x1 : Int32} {h : hh_T} {Q : Option Value ⊕ Nat → hh_T → Prop} (H : gm_G 185 2 [some (.ref a0), some (.int x1), some (.int (Int32.ofNat 0))] [] h Q) : gm_G 185 0 [some (.ref a0), some (.int x1)] [] h Q := by
  refine g_iconst rfl rfl rfl (pc' := 1) ?_
  refine g_istore rfl rfl rfl (pc' := 2) ?_
  exact g_weak (show gm_Lle [some _, some _, some _] _ from ⟨rfl, ⟨rfl, ⟨rfl, trivial⟩⟩⟩) H
set_option maxRecDepth 20000 in
theorem w_185_2 {a0 : Nat} {x1 : Int32} {x2 : Int32} {h : hh_T} {Q : Option Value ⊕ Nat → hh_T → Prop} (H : gm_sub (hh_tg h a0) 23 = true ∧ ((¬ x2 < (hh_i h a0 8) → (Q (.inl (some (.int (Int32.ofInt (-1))))) h)) ∧ (x2 < (hh_i h a0 8) → (∀ r2, r2 = hh_r h a0 7 → (∃ a3, r2 = some a3 ∧ ((hh_tg h a3 = 100 ∨ hh_tg h a3 = 105) ∧ (∃ n4, gm_ix x2 n4 (hh_ln h a3) ∧ ((¬ (hh_i h a3 n4) = x1 → (gm_G 185 2 [some (.ref a0), some (.int x1), some (.int (x2 + (Int32.ofNat 1)))] [] h Q)) ∧ ((hh_i h a3 n4) = x1 → (Q (.inl (some (.int x2))) h)))))))))) : gm_G 185 2 [some (.ref a0), some (.int x1), some (.int x2)] [] h Q := by
  refine g_iload rfl rfl rfl (pc' := 3) ?_
  refine g_aload (r := some _) rfl rfl rfl (pc' := 4) ?_
  obtain ⟨ht1, H⟩ := H
  refine g_getI rfl rfl rfl rfl ht1 (pc' := 7) rfl ?_
  refine g_ic_ge rfl (pc' := 10) (pt := 28) rfl rfl ⟨fun hc => ?_, fun hc => ?_⟩
  · replace H := H.1 hc
    refine g_iconst rfl rfl rfl (pc' := 29) ?_
    exact g_ireturn rfl (Or.inl rfl) H
  · replace H := H.2 hc
    refine g_aload (r := some _) rfl rfl rfl (pc' := 11) ?_
    refine g_getRv rfl rfl rfl rfl ht1 (pc' := 14) rfl (fun r2 hr2 => ?_)
    replace H := H r2 hr2
    refine g_iload rfl rfl rfl (pc' := 15) ?_
    obtain ⟨a3, rfl, H⟩ := H
    obtain ⟨ht5, H⟩ := H
    obtain ⟨n4, hn4, H⟩ := H
    refine g_iaload rfl ht5 hn4 (pc' := 16) rfl ?_
    refine g_iload rfl rfl rfl (pc' := 17) ?_
    refine g_ic_ne rfl (pc' := 20) (pt := 22) rfl rfl ⟨fun hc => ?_, fun hc => ?_⟩
    · replace H := H.1 hc
      refine g_iinc (c := (Int32.ofNat 1)) rfl rfl rfl rfl rfl (pc' := 25) ?_
      refine g_goto rfl (pc' := 2) rfl ?_
      exact g_weak (show gm_Lle [some _, some _, some _] _ from ⟨rfl, ⟨rfl, ⟨rfl, trivial⟩⟩⟩) H
    · replace H := H.2 hc
      refine g_iload rfl rfl rfl (pc' := 21) ?_
      exact g_ireturn rfl (Or.inl rfl) H
set_option maxRecDepth 20000 in
theorem w_186_0 {a0 : Nat} {x1 : Int32} {x2 : Int32} {h : hh_T} {Q : Option Value ⊕ Nat → hh_T → Prop} (H : gm_sub (hh_tg h a0) 23 = true ∧ (gm_G 186 5 [some (.ref a0), some (.int x1), some (.int x2), some (.int (hh_i h a0 8))] [] h Q)) : gm_G 186 0 [some (.ref a0), some (.int x1), some (.int x2)] [] h Q := by
  refine g_aload (r := some _) rfl rfl rfl (pc' := 1) ?_
  obtain ⟨ht1, H⟩ := H
  refine g_getI rfl rfl rfl rfl ht1 (pc' := 4) rfl ?_
  refine g_istore rfl rfl rfl (pc' := 5) ?_
  exact g_weak (show gm_Lle [some _, some _, some _, some _] _ from ⟨rfl, ⟨rfl, ⟨rfl, ⟨rfl, trivial⟩⟩⟩⟩) H
set_option maxRecDepth 20000 in
theorem w_186_5 {a0 : Nat} {x1 : Int32} {x2 : Int32} {x3 : Int32} {h : hh_T} {Q : Option Value ⊕ Nat → hh_T → Prop} (H : (¬ x1 < x3 → (gm_sub (hh_tg h a0) 23 = true ∧ (∀ r2, r2 = hh_r h a0 7 → (∃ a3, r2 = some a3 ∧ (hh_tg h a3 = 100 ∧ (∃ n4, gm_ix x1 n4 (hh_ln h a3) ∧ (∀ h5, h5 = hh_wi h a3 n4 x2 → (∀ h6, h6 = hh_wi h5 a0 8 ((hh_i h5 a0 8) + (Int32.ofNat 1)) → (Q (.inl none) h6))))))))) ∧ (x1 < x3 → (gm_sub (hh_tg h a0) 23 = true ∧ (∀ r9, r9 = hh_r h a0 7 → (∀ r10, r10 = hh_r h a0 7 → (∃ a11, r10 = some a11 ∧ ((hh_tg h a11 = 100 ∨ hh_tg h a11 = 105) ∧ (∃ n12, gm_ix (x3 - (Int32.ofNat 1)) n12 (hh_ln h a11) ∧ (∃ a14, r9 = some a14 ∧ (hh_tg h a14 = 100 ∧ (∃ n15, gm_ix x3 n15 (hh_ln h a14) ∧ (∀ h16, h16 = hh_wi h a14 n15 (hh_i h a11 n12) → (gm_G 186 5 [some (.ref a0), some (.int x1), some (.int x2), some (.int (x3 + (Int32.ofInt (-1))))] [] h16 Q))))))))))))) : gm_G 186 5 [some (.ref a0), some (.int x1), some (.int x2), some (.int x3)] [] h Q := by
  refine g_iload rfl rfl rfl (pc' := 6) ?_
  refine g_iload rfl rfl rfl (pc' := 7) ?_
  refine g_ic_le rfl (pc' := 10) (pt := 30) rfl rfl ⟨fun hc => ?_, fun hc => ?_⟩
  · replace H := H.1 hc
    refine g_aload (r := some _) rfl rfl rfl (pc' := 31) ?_
    obtain ⟨ht1, H⟩ := H
    refine g_getRv rfl rfl rfl rfl ht1 (pc' := 34) rfl (fun r2 hr2 => ?_)
    replace H := H r2 hr2
    refine g_iload rfl rfl rfl (pc' := 35) ?_
    refine g_iload rfl rfl rfl (pc' := 36) ?_
    obtain ⟨a3, rfl, H⟩ := H
    obtain ⟨ht7, H⟩ := H
    obtain ⟨n4, hn4, H⟩ := H
    refine g_iastore rfl ht7 hn4  (pc' := 37) rfl ?_
    replace H := H _ rfl
    refine g_aload (r := some _) rfl rfl rfl (pc' := 38) ?_
    refine g_dup_a (r := some _) rfl rfl (pc' := 39) ?_
    refine g_getI rfl rfl rfl rfl ht1 (pc' := 42) rfl ?_
    refine g_iconst rfl rfl rfl (pc' := 43) ?_
    refine g_iadd rfl rfl (pc' := 44) ?_
    refine g_putI rfl rfl rfl rfl ht1  (pc' := 47) rfl ?_
    replace H := H _ rfl
    exact g_return rfl H
  · replace H := H.2 hc
    refine g_aload (r := some _) rfl rfl rfl (pc' := 11) ?_
    obtain ⟨ht8, H⟩ := H
    refine g_getRv rfl rfl rfl rfl ht8 (pc' := 14) rfl (fun r9 hr9 => ?_)
    replace H := H r9 hr9
    refine g_iload rfl rfl rfl (pc' := 15) ?_
    refine g_aload (r := some _) rfl rfl rfl (pc' := 16) ?_
    refine g_getRv rfl rfl rfl rfl ht8 (pc' := 19) rfl (fun r10 hr10 => ?_)
    replace H := H r10 hr10
    refine g_iload rfl rfl rfl (pc' := 20) ?_
    refine g_iconst rfl rfl rfl (pc' := 21) ?_
    refine g_isub rfl rfl (pc' := 22) ?_
    obtain ⟨a11, rfl, H⟩ := H
    obtain ⟨ht13, H⟩ := H
    obtain ⟨n12, hn12, H⟩ := H
    refine g_iaload rfl ht13 hn12 (pc' := 23) rfl ?_
    obtain ⟨a14, rfl, H⟩ := H
    obtain ⟨ht17, H⟩ := H
    obtain ⟨n15, hn15, H⟩ := H
    refine g_iastore rfl ht17 hn15  (pc' := 24) rfl ?_
    replace H := H _ rfl
    refine g_iinc (c := (Int32.ofInt (-1))) rfl rfl rfl rfl rfl (pc' := 27) ?_
    refine g_goto rfl (pc' := 5) rfl ?_
    exact g_weak (show gm_Lle [some _, some _, some _, some _] _ from ⟨rfl, ⟨rfl, ⟨rfl, ⟨rfl, trivial⟩⟩⟩⟩) H
set_option maxRecDepth 20000 in
theorem w_187_0 {a0 : Nat}  {h : hh_T} {Q : Option Value ⊕ Nat → hh_T → Prop} (H : gm_sub (hh_tg h a0) 24 = true ∧ (∀ h2, h2 = hh_wi h a0 0 (Int32.ofNat 1) → (∀ a3 h4, a3 = hh_sz h2 → h4 = hh_al h2 225 16 16 → (gm_sub (hh_tg h4 a0) 24 = true ∧ (∀ h6, h6 = hh_wr h4 a0 2 (some a3) → (Q (.inl none) h6)))))) : gm_G 187 0 [some (.ref a0)] [] h Q := by
  refine g_aload (r := some _) rfl rfl rfl (pc' := 1) ?_
  refine g_objinit rfl (Nat.le_of_ble_eq_true rfl) (pc' := 4) rfl ?_
  refine g_aload (r := some _) rfl rfl rfl (pc' := 5) ?_
  refine g_iconst rfl rfl rfl (pc' := 6) ?_
  obtain ⟨ht1, H⟩ := H
  refine g_putI rfl rfl rfl rfl ht1  (pc' := 9) rfl ?_
  replace H := H _ rfl
  refine g_aload (r := some _) rfl rfl rfl (pc' := 10) ?_
  refine g_iconst rfl rfl rfl (pc' := 12) ?_
  refine g_anewarray rfl (n := 16) rfl (by decide) (pc' := 15) rfl ?_
  replace H := H _ _ rfl rfl
  obtain ⟨ht5, H⟩ := H
  refine g_putR (x := some _) rfl rfl rfl rfl ht5  (pc' := 18) rfl ?_
  replace H := H _ rfl
  exact g_return rfl H
set_option maxRecDepth 20000 in
theorem w_188_0 {a0 : Nat}  {h : hh_T} {Q : Option Value ⊕ Nat → hh_T → Prop} (H : gm_G 188 2 [some (.ref a0), some (.int (Int32.ofNat 0))] [] h Q) : gm_G 188 0 [some (.ref a0)] [] h Q := by
  refine g_iconst rfl rfl rfl (pc' := 1) ?_
  refine g_istore rfl rfl rfl (pc' := 2) ?_
  exact g_weak (show gm_Lle [some _, some _] _ from ⟨rfl, ⟨rfl, trivial⟩⟩) H
set_option maxRecDepth 20000 in
theorem w_188_2 {a0 : Nat} {x1 : Int32} {h : hh_T} {Q : Option Value ⊕ Nat → hh_T → Prop} (H : (¬ x1 < (Int32.ofNat 16) → (Q (.inl (some (.int (Int32.ofInt (-1))))) h)) ∧ (x1 < (Int32.ofNat 16) → (gm_sub (hh_tg h a0) 24 = true ∧ (∀ r2, r2 = hh_r h a0 2 → (∃ a3, r2 = some a3 ∧ ((hh_tg h a3 = 104 ∨ 200 ≤ hh_tg h a3) ∧ (∃ n4, gm_ix x1 n4 (hh_ln h a3) ∧ (∀ r6, r6 = hh_r h a3 n4 → ((∀ a7, r6 = some a7 → (gm_G 188 2 [some (.ref a0), some (.int (x1 + (Int32.ofNat 1)))] [] h Q)) ∧ (r6 = none → (Q (.inl (some (.int x1))) h))))))))))) : gm_G 188 2 [some (.ref a0), some (.int x1)] [] h Q := by
  refine g_iload rfl rfl rfl (pc' := 3) ?_
  refine g_iconst rfl rfl rfl (pc' := 5) ?_
  refine g_ic_ge rfl (pc' := 8) (pt := 25) rfl rfl ⟨fun hc => ?_, fun hc => ?_⟩
  · replace H := H.1 hc
    refine g_iconst rfl rfl rfl (pc' := 26) ?_
    exact g_ireturn rfl (Or.inl rfl) H
  · replace H := H.2 hc
    refine g_aload (r := some _) rfl rfl rfl (pc' := 9) ?_
    obtain ⟨ht1, H⟩ := H
    refine g_getRv rfl rfl rfl rfl ht1 (pc' := 12) rfl (fun r2 hr2 => ?_)
    replace H := H r2 hr2
    refine g_iload rfl rfl rfl (pc' := 13) ?_
    obtain ⟨a3, rfl, H⟩ := H
    obtain ⟨ht5, H⟩ := H
    obtain ⟨n4, hn4, H⟩ := H
    refine g_aaloadv rfl ht5 hn4 (pc' := 14) rfl (fun r6 hr6 => ?_)
    replace H := H r6 hr6
    refine g_ifnonnull rfl (pc' := 17) (pt := 19) rfl rfl ⟨fun a7 hc => ?_, fun hc => ?_⟩
    · replace H := H.1 a7 hc
      subst hc
      refine g_iinc (c := (Int32.ofNat 1)) rfl rfl rfl rfl rfl (pc' := 22) ?_
      refine g_goto rfl (pc' := 2) rfl ?_
      exact g_weak (show gm_Lle [some _, some _] _ from ⟨rfl, ⟨rfl, trivial⟩⟩) H
    · replace H := H.2 hc
      subst hc
      refine g_iload rfl rfl rfl (pc' := 18) ?_
      exact g_ireturn rfl (Or.inl rfl) H
set_option maxRecDepth 20000 in
theorem w_189_0 {a0 : Nat} {x1 : Int32} {h : hh_T} {Q : Option Value ⊕ Nat → hh_T → Prop} (H : (x1 < Int32.ofNat 0 → (gm_G 189 10 [] [] h Q)) ∧ (¬ x1 < Int32.ofNat 0 → ((x1 < (Int32.ofNat 16) → (gm_sub (hh_tg h a0) 24 = true ∧ (∀ r2, r2 = hh_r h a0 2 → (∃ a3, r2 = some a3 ∧ ((hh_tg h a3 = 104 ∨ 200 ≤ hh_tg h a3) ∧ (∃ n4, gm_ix x1 n4 (hh_ln h a3) ∧ (∀ r6, r6 = hh_r h a3 n4 → (Q (.inl (some (va_rf r6))) h)))))))) ∧ (¬ x1 < (Int32.ofNat 16) → (gm_G 189 10 [] [] h Q))))) : gm_G 189 0 [some (.ref a0), some (.int x1)] [] h Q := by
  refine g_iload rfl rfl rfl (pc' := 1) ?_
  refine g_if_lt rfl (pc' := 4) (pt := 10) rfl rfl ⟨fun hc => ?_, fun hc => ?_⟩
  · replace H := H.1 hc
    exact g_weak (show gm_Lle [] _ from trivial) H
  · replace H := H.2 hc
    refine g_iload rfl rfl rfl (pc' := 5) ?_
    refine g_iconst rfl rfl rfl (pc' := 7) ?_
    refine g_ic_lt rfl (pc' := 10) (pt := 14) rfl rfl ⟨fun hc => ?_, fun hc => ?_⟩
    · replace H := H.1 hc
      refine g_aload (r := some _) rfl rfl rfl (pc' := 15) ?_
      obtain ⟨ht1, H⟩ := H
      refine g_getRv rfl rfl rfl rfl ht1 (pc' := 18) rfl (fun r2 hr2 => ?_)
      replace H := H r2 hr2
      refine g_iload rfl rfl rfl (pc' := 19) ?_
      obtain ⟨a3, rfl, H⟩ := H
      obtain ⟨ht5, H⟩ := H
      obtain ⟨n4, hn4, H⟩ := H
      refine g_aaloadv rfl ht5 hn4 (pc' := 20) rfl (fun r6 hr6 => ?_)
      replace H := H r6 hr6
      exact g_areturn (r := _) rfl H
    · replace H := H.2 hc
      exact g_weak (show gm_Lle [] _ from trivial) H
set_option maxRecDepth 20000 in
theorem w_189_10 {a0 : Nat}  {h : hh_T} {Q : Option Value ⊕ Nat → hh_T → Prop} (H : Q (.inl (some (va_rf none))) h) : gm_G 189 10 [] [] h Q := by
  refine g_null rfl rfl (pc' := 11) ?_
  refine g_goto rfl (pc' := 20) rfl ?_
  exact g_areturn (r := _) rfl H
set_option maxRecDepth 20000 in
theorem w_190_0 {a0 : Nat}  {h : hh_T} {Q : Option Value ⊕ Nat → hh_T → Prop} (H : gm_sub (hh_tg h a0) 25 = true ∧ (∀ h2, h2 = hh_wi h a0 0 (Int32.ofNat 1) → (∀ a3 h4, a3 = hh_sz h2 → h4 = hh_al h2 100 4 4 → (gm_sub (hh_tg h4 a0) 25 = true ∧ (∀ h6, h6 = hh_wr h4 a0 10 (some a3) → (Q (.inl none) h6)))))) : gm_G 190 0 [some (.ref a0)] [] h Q := by
  refine g_aload (r := some _) rfl rfl rfl (pc' := 1) ?_
  refine g_objinit rfl (Nat.le_of_ble_eq_true rfl) (pc' := 4) rfl ?_
  refine g_aload (r := some _) rfl rfl rfl (pc' := 5) ?_
  refine g_iconst rfl rfl rfl (pc' := 6) ?_
  obtain ⟨ht1, H⟩ := H
  refine g_putI rfl rfl rfl rfl ht1  (pc' := 9) rfl ?_
  replace H := H _ rfl
  refine g_aload (r := some _) rfl rfl rfl (pc' := 10) ?_
  refine g_iconst rfl rfl rfl (pc' := 11) ?_
  refine g_newarray rfl (u := 100) (n := 4) rfl (by decide) rfl (by decide) (pc' := 13) rfl ?_
  replace H := H _ _ rfl rfl
  obtain ⟨ht5, H⟩ := H
  refine g_putR (x := some _) rfl rfl rfl rfl ht5  (pc' := 16) rfl ?_
  replace H := H _ rfl
  exact g_return rfl H
set_option maxRecDepth 20000 in
theorem w_191_0 {a0 : Nat}  {h : hh_T} {Q : Option Value ⊕ Nat → hh_T → Prop} (H : Q (.inl (some (va_rf none))) h) : gm_G 191 0 [some (.ref a0)] [] h Q := by
  refine g_null rfl rfl (pc' := 1) ?_
  exact g_areturn (r := _) rfl H
set_option maxRecDepth 20000 in
theorem w_192_0 {a0 : Nat} {r_1 : Option Nat} {h : hh_T} {Q : Option Value ⊕ Nat → hh_T → Prop} (H : ∃ a1, r_1 = some a1 ∧ (gm_sub (hh_tg h a1) 25 = true ∧ (gm_sub (hh_tg h a0) 25 = true ∧ (∀ h4, h4 = hh_wi h a0 1 (hh_i h a1 1) → (∀ h5, h5 = hh_wi h4 a0 2 (hh_i h4 a1 2) → (∀ h6, h6 = hh_wi h5 a0 3 (hh_i h5 a1 3) → (∀ h7, h7 = hh_wi h6 a0 4 (hh_i h6 a1 4) → (∀ h8, h8 = hh_wi h7 a0 5 (hh_i h7 a1 5) → (gm_G 192 40 [some (.ref a0), some (.ref a1)] [] h8 Q))))))))) : gm_G 192 0 [some (.ref a0), some (va_rf r_1)] [] h Q := by
  refine g_aload (r := some _) rfl rfl rfl (pc' := 1) ?_
  refine g_aload (r := _) rfl rfl rfl (pc' := 2) ?_
  obtain ⟨a1, rfl, H⟩ := H
  obtain ⟨ht2, H⟩ := H
  refine g_getI rfl rfl rfl rfl ht2 (pc' := 5) rfl ?_
  obtain ⟨ht3, H⟩ := H
  refine g_putI rfl rfl rfl rfl ht3  (pc' := 8) rfl ?_
  replace H := H _ rfl
  refine g_aload (r := some _) rfl rfl rfl (pc' := 9) ?_
  refine g_aload (r := some _) rfl rfl rfl (pc' := 10) ?_
  refine g_getI rfl rfl rfl rfl ht2 (pc' := 13) rfl ?_
  refine g_putI rfl rfl rfl rfl ht3  (pc' := 16) rfl ?_
  replace H := H _ rfl
  refine g_aload (r := some _) rfl rfl rfl (pc' := 17) ?_
  refine g_aload (r := some _) rfl rfl rfl (pc' := 18) ?_
  refine g_getI rfl rfl rfl rfl ht2 (pc' := 21) rfl ?_
  refine g_putI rfl rfl rfl rfl ht3  (pc' := 24) rfl ?_
  replace H := H _ rfl
  refine g_aload (r := some _) rfl rfl rfl (pc' := 25) ?_
  refine g_aload (r := some _) rfl rfl rfl (pc' := 26) ?_
  refine g_getI rfl rfl rfl rfl ht2 (pc' := 29) rfl ?_
  refine g_putI rfl rfl rfl rfl ht3  (pc' := 32) rfl ?_
  replace H := H _ rfl
  refine g_aload (r := some _) rfl rfl rfl (pc' := 33) ?_
  refine g_aload (r := some _) rfl rfl rfl (pc' := 34) ?_
  refine g_getI rfl rfl rfl rfl ht2 (pc' := 37) rfl ?_
  refine g_putI rfl rfl rfl rfl ht3  (pc' := 40) rfl ?_
  replace H := H _ rfl
  exact g_weak (show gm_Lle [some _, some _] _ from ⟨rfl, ⟨rfl, trivial⟩⟩) H
set_option maxRecDepth 20000 in
theorem w_192_40 {a0 : Nat} {r_1 : Option Nat} {h : hh_T} {Q : Option Value ⊕ Nat → hh_T → Prop} (H : ∃ a1, r_1 = some a1 ∧ (gm_sub (hh_tg h a1) 25 = true ∧ (gm_sub (hh_tg h a0) 25 = true ∧ (∀ h4, h4 = hh_wi h a0 6 (hh_i h a1 6) → (∀ h5, h5 = hh_wi h4 a0 7 (hh_i h4 a1 7) → (∀ h6, h6 = hh_wi h5 a0 8 (hh_i h5 a1 8) → (∀ h7, h7 = hh_wi h6 a0 9 (hh_i h6 a1 9) → (gm_G 192 74 [some (.ref a0), some (.ref a1), some (.int (Int32.ofNat 0))] [] h7 Q)))))))) : gm_G 192 40 [some (.ref a0), some (va_rf r_1)] [] h Q := by
  refine g_aload (r := some _) rfl rfl rfl (pc' := 41) ?_
  refine g_aload (r := _) rfl rfl rfl (pc' := 42) ?_
  obtain ⟨a1, rfl, H⟩ := H
  obtain ⟨ht2, H⟩ := H
  refine g_getI rfl rfl rfl rfl ht2 (pc' := 45) rfl ?_
  obtain ⟨ht3, H⟩ := H
  refine g_putI rfl rfl rfl rfl ht3  (pc' := 48) rfl ?_
  replace H := H _ rfl
  refine g_aload (r := some _) rfl rfl rfl (pc' := 49) ?_
  refine g_aload (r := some _) rfl rfl rfl (pc' := 50) ?_
  refine g_getI rfl rfl rfl rfl ht2 (pc' := 53) rfl ?_
  refine g_putI rfl rfl rfl rfl ht3  (pc' := 56) rfl ?_
  replace H := H _ rfl
  refine g_aload (r := some _) rfl rfl rfl (pc' := 57) ?_
  refine g_aload (r := some _) rfl rfl rfl (pc' := 58) ?_
  refine g_getI rfl rfl rfl rfl ht2 (pc' := 61) rfl ?_
  refine g_putI rfl rfl rfl rfl ht3  (pc' := 64) rfl ?_
  replace H := H _ rfl
  refine g_aload (r := some _) rfl rfl rfl (pc' := 65) ?_
  refine g_aload (r := some _) rfl rfl rfl (pc' := 66) ?_
  refine g_getI rfl rfl rfl rfl ht2 (pc' := 69) rfl ?_
  refine g_putI rfl rfl rfl rfl ht3  (pc' := 72) rfl ?_
  replace H := H _ rfl
  refine g_iconst rfl rfl rfl (pc' := 73) ?_
  refine g_istore rfl rfl rfl (pc' := 74) ?_
  exact g_weak (show gm_Lle [some _, some _, some _] _ from ⟨rfl, ⟨rfl, ⟨rfl, trivial⟩⟩⟩) H
set_option maxRecDepth 20000 in
theorem w_192_74 {a0 : Nat} {r_1 : Option Nat} {x2 : Int32} {h : hh_T} {Q : Option Value ⊕ Nat → hh_T → Prop} (H : gm_sub (hh_tg h a0) 25 = true ∧ ((¬ x2 < (hh_i h a0 9) → (Q (.inl none) h)) ∧ (x2 < (hh_i h a0 9) → (∀ r2, r2 = hh_r h a0 10 → (∃ a3, r_1 = some a3 ∧ (gm_sub (hh_tg h a3) 25 = true ∧ (∀ r5, r5 = hh_r h a3 10 → (∃ a6, r5 = some a6 ∧ ((hh_tg h a6 = 100 ∨ hh_tg h a6 = 105) ∧ (∃ n7, gm_ix x2 n7 (hh_ln h a6) ∧ (∃ a9, r2 = some a9 ∧ (hh_tg h a9 = 100 ∧ (∃ n10, gm_ix x2 n10 (hh_ln h a9) ∧ (∀ h11, h11 = hh_wi h a9 n10 (hh_i h a6 n7) → (gm_G 192 74 [some (.ref a0), some (.ref a3), some (.int (x2 + (Int32.ofNat 1)))] [] h11 Q))))))))))))))) : gm_G 192 74 [some (.ref a0), some (va_rf r_1), some (.int x2)] [] h Q := by
  refine g_iload rfl rfl rfl (pc' := 75) ?_
  refine g_aload (r := some _) rfl rfl rfl (pc' := 76) ?_
  obtain ⟨ht1, H⟩ := H
  refine g_getI rfl rfl rfl rfl ht1 (pc' := 79) rfl ?_
  refine g_ic_ge rfl (pc' := 82) (pt := 100) rfl rfl ⟨fun hc => ?_, fun hc => ?_⟩
  · replace H := H.1 hc
    exact g_return rfl H
  · replace H := H.2 hc
    refine g_aload (r := some _) rfl rfl rfl (pc' := 83) ?_
    refine g_getRv rfl rfl rfl rfl ht1 (pc' := 86) rfl (fun r2 hr2 => ?_)
    replace H := H r2 hr2
    refine g_iload rfl rfl rfl (pc' := 87) ?_
    refine g_aload (r := _) rfl rfl rfl (pc' := 88) ?_
    obtain ⟨a3, rfl, H⟩ := H
    obtain ⟨ht4, H⟩ := H
    refine g_getRv rfl rfl rfl rfl ht4 (pc' := 91) rfl (fun r5 hr5 => ?_)
    replace H := H r5 hr5
    refine g_iload rfl rfl rfl (pc' := 92) ?_
    obtain ⟨a6, rfl, H⟩ := H
    obtain ⟨ht8, H⟩ := H
    obtain ⟨n7, hn7, H⟩ := H
    refine g_iaload rfl ht8 hn7 (pc' := 93) rfl ?_
    obtain ⟨a9, rfl, H⟩ := H
    obtain ⟨ht12, H⟩ := H
    obtain ⟨n10, hn10, H⟩ := H
    refine g_iastore rfl ht12 hn10  (pc' := 94) rfl ?_
    replace H := H _ rfl
    refine g_iinc (c := (Int32.ofNat 1)) rfl rfl rfl rfl rfl (pc' := 97) ?_
    refine g_goto rfl (pc' := 74) rfl ?_
    exact g_weak (show gm_Lle [some _, some _, some _] _ from ⟨rfl, ⟨rfl, ⟨rfl, trivial⟩⟩⟩) H
set_option maxRecDepth 20000 in
theorem w_193_0 {a0 : Nat} {r_1 : Option Nat} {h : hh_T} {Q : Option Value ⊕ Nat → hh_T → Prop} (H : gm_sub (hh_tg h a0) 25 = true ∧ (∃ a2, r_1 = some a2 ∧ (gm_sub (hh_tg h a2) 25 = true ∧ ((¬ (hh_i h a0 1) = (hh_i h a2 1) → (Q (.inl (some (.int (Int32.ofNat 0)))) h)) ∧ ((hh_i h a0 1) = (hh_i h a2 1) → ((¬ (hh_i h a0 2) = (hh_i h a2 2) → (Q (.inl (some (.int (Int32.ofNat 0)))) h)) ∧ ((hh_i h a0 2) = (hh_i h a2 2) → ((¬ (hh_i h a0 3) = (hh_i h a2 3) → (Q (.inl (some (.int (Int32.ofNat 0)))) h)) ∧ ((hh_i h a0 3) = (hh_i h a2 3) → ((¬ (hh_i h a0 4) = (hh_i h a2 4) → (Q (.inl (some (.int (Int32.ofNat 0)))) h)) ∧ ((hh_i h a0 4) = (hh_i h a2 4) → ((¬ (hh_i h a0 5) = (hh_i h a2 5) → (Q (.inl (some (.int (Int32.ofNat 0)))) h)) ∧ ((hh_i h a0 5) = (hh_i h a2 5) → ((¬ (hh_i h a0 6) = (hh_i h a2 6) → (Q (.inl (some (.int (Int32.ofNat 0)))) h)) ∧ ((hh_i h a0 6) = (hh_i h a2 6) → ((¬ (hh_i h a0 7) = (hh_i h a2 7) → (Q (.inl (some (.int (Int32.ofNat 0)))) h)) ∧ ((hh_i h a0 7) = (hh_i h a2 7) → (((hh_i h a0 9) = (hh_i h a2 9) → (gm_G 193 92 [some (.ref a0), some (.ref a2), some (.int (Int32.ofNat 0))] [] h Q)) ∧ (¬ (hh_i h a0 9) = (hh_i h a2 9) → (Q (.inl (some (.int (Int32.ofNat 0)))) h)))))))))))))))))))) : gm_G 193 0 [some (.ref a0), some (va_rf r_1)] [] h Q := by
  refine g_aload (r := some _) rfl rfl rfl (pc' := 1) ?_
  obtain ⟨ht1, H⟩ := H
  refine g_getI rfl rfl rfl rfl ht1 (pc' := 4) rfl ?_
  refine g_aload (r := _) rfl rfl rfl (pc' := 5) ?_
  obtain ⟨a2, rfl, H⟩ := H
  obtain ⟨ht3, H⟩ := H
  refine g_getI rfl rfl rfl rfl ht3 (pc' := 8) rfl ?_
  refine g_ic_ne rfl (pc' := 11) (pt := 88) rfl rfl ⟨fun hc => ?_, fun hc => ?_⟩
  · replace H := H.1 hc
    refine g_iconst rfl rfl rfl (pc' := 89) ?_
    exact g_ireturn rfl (Or.inr (by decide)) H
  · replace H := H.2 hc
    refine g_aload (r := some _) rfl rfl rfl (pc' := 12) ?_
    refine g_getI rfl rfl rfl rfl ht1 (pc' := 15) rfl ?_
    refine g_aload (r := some _) rfl rfl rfl (pc' := 16) ?_
    refine g_getI rfl rfl rfl rfl ht3 (pc' := 19) rfl ?_
    refine g_ic_ne rfl (pc' := 22) (pt := 88) rfl rfl ⟨fun hc => ?_, fun hc => ?_⟩
    · replace H := H.1 hc
      refine g_iconst rfl rfl rfl (pc' := 89) ?_
      exact g_ireturn rfl (Or.inr (by decide)) H
    · replace H := H.2 hc
      refine g_aload (r := some _) rfl rfl rfl (pc' := 23) ?_
      refine g_getI rfl rfl rfl rfl ht1 (pc' := 26) rfl ?_
      refine g_aload (r := some _) rfl rfl rfl (pc' := 27) ?_
      refine g_getI rfl rfl rfl rfl ht3 (pc' := 30) rfl ?_
      refine g_ic_ne rfl (pc' := 33) (pt := 88) rfl rfl ⟨fun hc => ?_, fun hc => ?_⟩
      · replace H := H.1 hc
        refine g_iconst rfl rfl rfl (pc' := 89) ?_
        exact g_ireturn rfl (Or.inr (by decide)) H
      · replace H := H.2 hc
        refine g_aload (r := some _) rfl rfl rfl (pc' := 34) ?_
        refine g_getI rfl rfl rfl rfl ht1 (pc' := 37) rfl ?_
        refine g_aload (r := some _) rfl rfl rfl (pc' := 38) ?_
        refine g_getI rfl rfl rfl rfl ht3 (pc' := 41) rfl ?_
        refine g_ic_ne rfl (pc' := 44) (pt := 88) rfl rfl ⟨fun hc => ?_, fun hc => ?_⟩
        · replace H := H.1 hc
          refine g_iconst rfl rfl rfl (pc' := 89) ?_
          exact g_ireturn rfl (Or.inr (by decide)) H
        · replace H := H.2 hc
          refine g_aload (r := some _) rfl rfl rfl (pc' := 45) ?_
          refine g_getI rfl rfl rfl rfl ht1 (pc' := 48) rfl ?_
          refine g_aload (r := some _) rfl rfl rfl (pc' := 49) ?_
          refine g_getI rfl rfl rfl rfl ht3 (pc' := 52) rfl ?_
          refine g_ic_ne rfl (pc' := 55) (pt := 88) rfl rfl ⟨fun hc => ?_, fun hc => ?_⟩
          · replace H := H.1 hc
            refine g_iconst rfl rfl rfl (pc' := 89) ?_
            exact g_ireturn rfl (Or.inr (by decide)) H
          · replace H := H.2 hc
            refine g_aload (r := some _) rfl rfl rfl (pc' := 56) ?_
            refine g_getI rfl rfl rfl rfl ht1 (pc' := 59) rfl ?_
            refine g_aload (r := some _) rfl rfl rfl (pc' := 60) ?_
            refine g_getI rfl rfl rfl rfl ht3 (pc' := 63) rfl ?_
            refine g_ic_ne rfl (pc' := 66) (pt := 88) rfl rfl ⟨fun hc => ?_, fun hc => ?_⟩
            · replace H := H.1 hc
              refine g_iconst rfl rfl rfl (pc' := 89) ?_
              exact g_ireturn rfl (Or.inr (by decide)) H
            · replace H := H.2 hc
              refine g_aload (r := some _) rfl rfl rfl (pc' := 67) ?_
              refine g_getI rfl rfl rfl rfl ht1 (pc' := 70) rfl ?_
              refine g_aload (r := some _) rfl rfl rfl (pc' := 71) ?_
              refine g_getI rfl rfl rfl rfl ht3 (pc' := 74) rfl ?_
              refine g_ic_ne rfl (pc' := 77) (pt := 88) rfl rfl ⟨fun hc => ?_, fun hc => ?_⟩
              · replace H := H.1 hc
                refine g_iconst rfl rfl rfl (pc' := 89) ?_
                exact g_ireturn rfl (Or.inr (by decide)) H
              · replace H := H.2 hc
                refine g_aload (r := some _) rfl rfl rfl (pc' := 78) ?_
                refine g_getI rfl rfl rfl rfl ht1 (pc' := 81) rfl ?_
                refine g_aload (r := some _) rfl rfl rfl (pc' := 82) ?_
                refine g_getI rfl rfl rfl rfl ht3 (pc' := 85) rfl ?_
                refine g_ic_eq rfl (pc' := 88) (pt := 90) rfl rfl ⟨fun hc => ?_, fun hc => ?_⟩
                · replace H := H.1 hc
                  refine g_iconst rfl rfl rfl (pc' := 91) ?_
                  refine g_istore rfl rfl rfl (pc' := 92) ?_
                  exact g_weak (show gm_Lle [some _, some _, some _] _ from ⟨rfl, ⟨rfl, ⟨rfl, trivial⟩⟩⟩) H
                · replace H := H.2 hc
                  refine g_iconst rfl rfl rfl (pc' := 89) ?_
                  exact g_ireturn rfl (Or.inr (by decide)) H
set_option maxRecDepth 20000 in
theorem w_193_92 {a0 : Nat} {r_1 : Option Nat} {x2 : Int32} {h : hh_T} {Q : Option Value ⊕ Nat → hh_T → Prop} (H : gm_sub (hh_tg h a0) 25 = true ∧ ((¬ x2 < (hh_i h a0 9) → (Q (.inl (some (.int (Int32.ofNat 1)))) h)) ∧ (x2 < (hh_i h a0 9) → (∀ r2, r2 = hh_r h a0 10 → (∃ a3, r2 = some a3 ∧ ((hh_tg h a3 = 100 ∨ hh_tg h a3 = 105) ∧ (∃ n4, gm_ix x2 n4 (hh_ln h a3) ∧ (∃ a6, r_1 = some a6 ∧ (gm_sub (hh_tg h a6) 25 = true ∧ (∀ r8, r8 = hh_r h a6 10 → (∃ a9, r8 = some a9 ∧ ((hh_tg h a9 = 100 ∨ hh_tg h a9 = 105) ∧ (∃ n10, gm_ix x2 n10 (hh_ln h a9) ∧ (((hh_i h a3 n4) = (hh_i h a9 n10) → (gm_G 193 92 [some (.ref a0), some (.ref a6), some (.int (x2 + (Int32.ofNat 1)))] [] h Q)) ∧ (¬ (hh_i h a3 n4) = (hh_i h a9 n10) → (Q (.inl (some (.int (Int32.ofNat 0)))) h)))))))))))))))) : gm_G 193 92 [some (.ref a0), some (va_rf r_1), some (.int x2)] [] h Q := by
  refine g_iload rfl rfl rfl (pc' := 93) ?_
  refine g_aload (r := some _) rfl rfl rfl (pc' := 94) ?_
  obtain ⟨ht1, H⟩ := H
  refine g_getI rfl rfl rfl rfl ht1 (pc' := 97) rfl ?_
  refine g_ic_ge rfl (pc' := 100) (pt := 123) rfl rfl ⟨fun hc => ?_, fun hc => ?_⟩
  · replace H := H.1 hc
    refine g_iconst rfl rfl rfl (pc' := 124) ?_
    exact g_ireturn rfl (Or.inr (by decide)) H
  · replace H := H.2 hc
    refine g_aload (r := some _) rfl rfl rfl (pc' := 101) ?_
    refine g_getRv rfl rfl rfl rfl ht1 (pc' := 104) rfl (fun r2 hr2 => ?_)
    replace H := H r2 hr2
    refine g_iload rfl rfl rfl (pc' := 105) ?_
    obtain ⟨a3, rfl, H⟩ := H
    obtain ⟨ht5, H⟩ := H
    obtain ⟨n4, hn4, H⟩ := H
    refine g_iaload rfl ht5 hn4 (pc' := 106) rfl ?_
    refine g_aload (r := _) rfl rfl rfl (pc' := 107) ?_
    obtain ⟨a6, rfl, H⟩ := H
    obtain ⟨ht7, H⟩ := H
    refine g_getRv rfl rfl rfl rfl ht7 (pc' := 110) rfl (fun r8 hr8 => ?_)
    replace H := H r8 hr8
    refine g_iload rfl rfl rfl (pc' := 111) ?_
    obtain ⟨a9, rfl, H⟩ := H
    obtain ⟨ht11, H⟩ := H
    obtain ⟨n10, hn10, H⟩ := H
    refine g_iaload rfl ht11 hn10 (pc' := 112) rfl ?_
    refine g_ic_eq rfl (pc' := 115) (pt := 117) rfl rfl ⟨fun hc => ?_, fun hc => ?_⟩
    · replace H := H.1 hc
      refine g_iinc (c := (Int32.ofNat 1)) rfl rfl rfl rfl rfl (pc' := 120) ?_
      refine g_goto rfl (pc' := 92) rfl ?_
      exact g_weak (show gm_Lle [some _, some _, some _] _ from ⟨rfl, ⟨rfl, ⟨rfl, trivial⟩⟩⟩) H
    · replace H := H.2 hc
      refine g_iconst rfl rfl rfl (pc' := 116) ?_
      exact g_ireturn rfl (Or.inr (by decide)) H
set_option maxRecDepth 20000 in
theorem w_194_0 {a0 : Nat}  {h : hh_T} {Q : Option Value ⊕ Nat → hh_T → Prop} (H : gm_sub (hh_tg h a0) 26 = true ∧ (∀ r2, r2 = hh_r h a0 12 → (Q (.inl (some (va_rf r2))) h))) : gm_G 194 0 [some (.ref a0)] [] h Q := by
  refine g_aload (r := some _) rfl rfl rfl (pc' := 1) ?_
  obtain ⟨ht1, H⟩ := H
  refine g_getRv rfl rfl rfl rfl ht1 (pc' := 4) rfl (fun r2 hr2 => ?_)
  replace H := H r2 hr2
  exact g_areturn (r := _) rfl H
set_option maxRecDepth 20000 in
theorem w_195_0 {a0 : Nat} {j1 : Int64} {x3 : Int32} {h : hh_T} {Q : Option Value ⊕ Nat → hh_T → Prop} (H : gm_sub (hh_tg h a0) 25 = true ∧ (gm_G 195 6 [some (.ref a0), some (.long j1), none, some (.int x3), some (.int (hh_i h a0 6))] [] h Q)) : gm_G 195 0 [some (.ref a0), some (.long j1), none, some (.int x3)] [] h Q := by
  refine g_aload (r := some _) rfl rfl rfl (pc' := 1) ?_
  obtain ⟨ht1, H⟩ := H
  refine g_getI rfl rfl rfl rfl ht1 (pc' := 4) rfl ?_
  refine g_istore rfl rfl rfl (pc' := 6) ?_
  exact g_weak (show gm_Lle [some _, some _, none, some _, some _] _ from ⟨rfl, ⟨rfl, ⟨rfl, ⟨rfl, trivial⟩⟩⟩⟩) H
set_option maxRecDepth 20000 in
theorem w_195_6 {a0 : Nat} {j1 : Int64} {x3 : Int32} {x4 : Int32} {h : hh_T} {Q : Option Value ⊕ Nat → hh_T → Prop} (H : (¬ Int32.ofNat 0 < x4 → (gm_G 195 63 [some (.ref a0), some (.long j1), none, some (.int x3), some (.int x4)] [] h Q)) ∧ (Int32.ofNat 0 < x4 → (gm_sub (hh_tg h a0) 27 = true ∧ (∀ r2, r2 = hh_r h a0 12 → (∃ a3, r2 = some a3 ∧ ((hh_tg h a3 = 103) ∧ (∃ n4, gm_ix (x4 - (Int32.ofNat 1)) n4 (hh_ln h a3) ∧ ((¬ Int32.ofNat 0 < (lg_cmp (hh_j h a3 n4) j1) → (gm_G 195 63 [some (.ref a0), some (.long j1), none, some (.int x3), some (.int x4)] [] h Q)) ∧ (Int32.ofNat 0 < (lg_cmp (hh_j h a3 n4) j1) → (∀ r6, r6 = hh_r h a0 12 → (∀ r7, r7 = hh_r h a0 12 → (∃ a8, r7 = some a8 ∧ ((hh_tg h a8 = 103) ∧ (∃ n9, gm_ix (x4 - (Int32.ofNat 1)) n9 (hh_ln h a8) ∧ (∃ a11, r6 = some a11 ∧ (hh_tg h a11 = 103 ∧ (∃ n12, gm_ix x4 n12 (hh_ln h a11) ∧ (∀ h13, h13 = hh_wj h a11 n12 (hh_j h a8 n9) → (∀ r14, r14 = hh_r h13 a0 13 → (∀ r15, r15 = hh_r h13 a0 13 → (∃ a16, r15 = some a16 ∧ ((hh_tg h13 a16 = 100 ∨ hh_tg h13 a16 = 105) ∧ (∃ n17, gm_ix (x4 - (Int32.ofNat 1)) n17 (hh_ln h13 a16) ∧ (∃ a19, r14 = some a19 ∧ (hh_tg h13 a19 = 100 ∧ (∃ n20, gm_ix x4 n20 (hh_ln h13 a19) ∧ (∀ h21, h21 = hh_wi h13 a19 n20 (hh_i h13 a16 n17) → (gm_G 195 6 [some (.ref a0), some (.long j1), none, some (.int x3), some (.int (x4 + (Int32.ofInt (-1))))] [] h21 Q)))))))))))))))))))))))))))) : gm_G 195 6 [some (.ref a0), some (.long j1), none, some (.int x3), some (.int x4)] [] h Q := by
  refine g_iload rfl rfl rfl (pc' := 8) ?_
  refine g_if_le rfl (pc' := 11) (pt := 63) rfl rfl ⟨fun hc => ?_, fun hc => ?_⟩
  · replace H := H.1 hc
    exact g_weak (show gm_Lle [some _, some _, none, some _, some _] _ from ⟨rfl, ⟨rfl, ⟨rfl, ⟨rfl, trivial⟩⟩⟩⟩) H
  · replace H := H.2 hc
    refine g_aload (r := some _) rfl rfl rfl (pc' := 12) ?_
    obtain ⟨ht1, H⟩ := H
    refine g_getRv rfl rfl rfl rfl ht1 (pc' := 15) rfl (fun r2 hr2 => ?_)
    replace H := H r2 hr2
    refine g_iload rfl rfl rfl (pc' := 17) ?_
    refine g_iconst rfl rfl rfl (pc' := 18) ?_
    refine g_isub rfl rfl (pc' := 19) ?_
    obtain ⟨a3, rfl, H⟩ := H
    obtain ⟨ht5, H⟩ := H
    obtain ⟨n4, hn4, H⟩ := H
    refine g_laload rfl ht5 hn4 (pc' := 20) rfl ?_
    refine g_lload rfl rfl rfl (pc' := 21) ?_
    refine g_lcmp rfl rfl (pc' := 22) ?_
    refine g_if_le rfl (pc' := 25) (pt := 63) rfl rfl ⟨fun hc => ?_, fun hc => ?_⟩
    · replace H := H.1 hc
      exact g_weak (show gm_Lle [some _, some _, none, some _, some _] _ from ⟨rfl, ⟨rfl, ⟨rfl, ⟨rfl, trivial⟩⟩⟩⟩) H
    · replace H := H.2 hc
      refine g_aload (r := some _) rfl rfl rfl (pc' := 26) ?_
      refine g_getRv rfl rfl rfl rfl ht1 (pc' := 29) rfl (fun r6 hr6 => ?_)
      replace H := H r6 hr6
      refine g_iload rfl rfl rfl (pc' := 31) ?_
      refine g_aload (r := some _) rfl rfl rfl (pc' := 32) ?_
      refine g_getRv rfl rfl rfl rfl ht1 (pc' := 35) rfl (fun r7 hr7 => ?_)
      replace H := H r7 hr7
      refine g_iload rfl rfl rfl (pc' := 37) ?_
      refine g_iconst rfl rfl rfl (pc' := 38) ?_
      refine g_isub rfl rfl (pc' := 39) ?_
      obtain ⟨a8, rfl, H⟩ := H
      obtain ⟨ht10, H⟩ := H
      obtain ⟨n9, hn9, H⟩ := H
      refine g_laload rfl ht10 hn9 (pc' := 40) rfl ?_
      obtain ⟨a11, rfl, H⟩ := H
      obtain ⟨ht23, H⟩ := H
      obtain ⟨n12, hn12, H⟩ := H
      refine g_lastore rfl ht23 hn12  (pc' := 41) rfl ?_
      replace H := H _ rfl
      refine g_aload (r := some _) rfl rfl rfl (pc' := 42) ?_
      refine g_getRv rfl rfl rfl rfl ht1 (pc' := 45) rfl (fun r14 hr14 => ?_)
      replace H := H r14 hr14
      refine g_iload rfl rfl rfl (pc' := 47) ?_
      refine g_aload (r := some _) rfl rfl rfl (pc' := 48) ?_
      refine g_getRv rfl rfl rfl rfl ht1 (pc' := 51) rfl (fun r15 hr15 => ?_)
      replace H := H r15 hr15
      refine g_iload rfl rfl rfl (pc' := 53) ?_
      refine g_iconst rfl rfl rfl (pc' := 54) ?_
      refine g_isub rfl rfl (pc' := 55) ?_
      obtain ⟨a16, rfl, H⟩ := H
      obtain ⟨ht18, H⟩ := H
      obtain ⟨n17, hn17, H⟩ := H
      refine g_iaload rfl ht18 hn17 (pc' := 56) rfl ?_
      obtain ⟨a19, rfl, H⟩ := H
      obtain ⟨ht22, H⟩ := H
      obtain ⟨n20, hn20, H⟩ := H
      refine g_iastore rfl ht22 hn20  (pc' := 57) rfl ?_
      replace H := H _ rfl
      refine g_iinc (c := (Int32.ofInt (-1))) rfl rfl rfl rfl rfl (pc' := 60) ?_
      refine g_goto rfl (pc' := 6) rfl ?_
      exact g_weak (show gm_Lle [some _, some _, none, some _, some _] _ from ⟨rfl, ⟨rfl, ⟨rfl, ⟨rfl, trivial⟩⟩⟩⟩) H
set_option maxRecDepth 20000 in
theorem w_195_63 {a0 : Nat} {j1 : Int64} {x3 : Int32} {x4 : Int32} {h : hh_T} {Q : Option Value ⊕ Nat → hh_T → Prop} (H : gm_sub (hh_tg h a0) 27 = true ∧ (∀ r2, r2 = hh_r h a0 12 → (∃ a3, r2 = some a3 ∧ (hh_tg h a3 = 103 ∧ (∃ n4, gm_ix x4 n4 (hh_ln h a3) ∧ (∀ h5, h5 = hh_wj h a3 n4 j1 → (∀ r6, r6 = hh_r h5 a0 13 → (∃ a7, r6 = some a7 ∧ (hh_tg h5 a7 = 100 ∧ (∃ n8, gm_ix x4 n8 (hh_ln h5 a7) ∧ (∀ h9, h9 = hh_wi h5 a7 n8 x3 → (gm_sub (hh_tg h9 a0) 25 = true ∧ (∀ h11, h11 = hh_wi h9 a0 6 ((hh_i h9 a0 6) + (Int32.ofNat 1)) → (Q (.inl none) h11)))))))))))))) : gm_G 195 63 [some (.ref a0), some (.long j1), none, some (.int x3), some (.int x4)] [] h Q := by
  refine g_aload (r := some _) rfl rfl rfl (pc' := 64) ?_
  obtain ⟨ht1, H⟩ := H
  refine g_getRv rfl rfl rfl rfl ht1 (pc' := 67) rfl (fun r2 hr2 => ?_)
  replace H := H r2 hr2
  refine g_iload rfl rfl rfl (pc' := 69) ?_
  refine g_lload rfl rfl rfl (pc' := 70) ?_
  obtain ⟨a3, rfl, H⟩ := H
  obtain ⟨ht13, H⟩ := H
  obtain ⟨n4, hn4, H⟩ := H
  refine g_lastore rfl ht13 hn4  (pc' := 71) rfl ?_
  replace H := H _ rfl
  refine g_aload (r := some _) rfl rfl rfl (pc' := 72) ?_
  refine g_getRv rfl rfl rfl rfl ht1 (pc' := 75) rfl (fun r6 hr6 => ?_)
  replace H := H r6 hr6
  refine g_iload rfl rfl rfl (pc' := 77) ?_
  refine g_iload rfl rfl rfl (pc' := 78) ?_
  obtain ⟨a7, rfl, H⟩ := H
  obtain ⟨ht12, H⟩ := H
  obtain ⟨n8, hn8, H⟩ := H
  refine g_iastore rfl ht12 hn8  (pc' := 79) rfl ?_
  replace H := H _ rfl
  refine g_aload (r := some _) rfl rfl rfl (pc' := 80) ?_
  refine g_dup_a (r := some _) rfl rfl (pc' := 81) ?_
  obtain ⟨ht10, H⟩ := H
  refine g_getI rfl rfl rfl rfl ht10 (pc' := 84) rfl ?_
  refine g_iconst rfl rfl rfl (pc' := 85) ?_
  refine g_iadd rfl rfl (pc' := 86) ?_
  refine g_putI rfl rfl rfl rfl ht10  (pc' := 89) rfl ?_
  replace H := H _ rfl
  exact g_return rfl H
set_option maxRecDepth 20000 in
theorem w_196_0 {a0 : Nat} {j1 : Int64} {h : hh_T} {Q : Option Value ⊕ Nat → hh_T → Prop} (H : gm_G 196 2 [some (.ref a0), some (.long j1), none, some (.int (Int32.ofNat 0))] [] h Q) : gm_G 196 0 [some (.ref a0), some (.long j1), none] [] h Q := by
  refine g_iconst rfl rfl rfl (pc' := 1) ?_
  refine g_istore rfl rfl rfl (pc' := 2) ?_
  exact g_weak (show gm_Lle [some _, some _, none, some _] _ from ⟨rfl, ⟨rfl, ⟨rfl, trivial⟩⟩⟩) H
set_option maxRecDepth 20000 in
theorem w_196_2 {a0 : Nat} {j1 : Int64} {x3 : Int32} {h : hh_T} {Q : Option Value ⊕ Nat → hh_T → Prop} (H : gm_sub (hh_tg h a0) 25 = true ∧ ((¬ x3 < (hh_i h a0 6) → (Q (.inl (some (.int (Int32.ofInt (-1))))) h)) ∧ (x3 < (hh_i h a0 6) → (gm_sub (hh_tg h a0) 27 = true ∧ (∀ r3, r3 = hh_r h a0 12 → (∃ a4, r3 = some a4 ∧ ((hh_tg h a4 = 103) ∧ (∃ n5, gm_ix x3 n5 (hh_ln h a4) ∧ ((¬ (lg_cmp (hh_j h a4 n5) j1) = Int32.ofNat 0 → (gm_G 196 2 [some (.ref a0), some (.long j1), none, some (.int (x3 + (Int32.ofNat 1)))] [] h Q)) ∧ ((lg_cmp (hh_j h a4 n5) j1) = Int32.ofNat 0 → (Q (.inl (some (.int x3))) h))))))))))) : gm_G 196 2 [some (.ref a0), some (.long j1), none, some (.int x3)] [] h Q := by
  refine g_iload rfl rfl rfl (pc' := 3) ?_
  refine g_aload (r := some _) rfl rfl rfl (pc' := 4) ?_
  obtain ⟨ht1, H⟩ := H
  refine g_getI rfl rfl rfl rfl ht1 (pc' := 7) rfl ?_
  refine g_ic_ge rfl (pc' := 10) (pt := 29) rfl rfl ⟨fun hc => ?_, fun hc => ?_⟩
  · replace H := H.1 hc
    refine g_iconst rfl rfl rfl (pc' := 30) ?_
    exact g_ireturn rfl (Or.inl rfl) H
  · replace H := H.2 hc
    refine g_aload (r := some _) rfl rfl rfl (pc' := 11) ?_
    obtain ⟨ht2, H⟩ := H
    refine g_getRv rfl rfl rfl rfl ht2 (pc' := 14) rfl (fun r3 hr3 => ?_)
    replace H := H r3 hr3
    refine g_iload rfl rfl rfl (pc' := 15) ?_
    obtain ⟨a4, rfl, H⟩ := H
    obtain ⟨ht6, H⟩ := H
    obtain ⟨n5, hn5, H⟩ := H
    refine g_laload rfl ht6 hn5 (pc' := 16) rfl ?_
    refine g_lload rfl rfl rfl (pc' := 17) ?_
    refine g_lcmp rfl rfl (pc' := 18) ?_
    refine g_if_ne rfl (pc' := 21) (pt := 23) rfl rfl ⟨fun hc => ?_, fun hc => ?_⟩
    · replace H := H.1 hc
      refine g_iinc (c := (Int32.ofNat 1)) rfl rfl rfl rfl rfl (pc' := 26) ?_
      refine g_goto rfl (pc' := 2) rfl ?_
      exact g_weak (show gm_Lle [some _, some _, none, some _] _ from ⟨rfl, ⟨rfl, ⟨rfl, trivial⟩⟩⟩) H
    · replace H := H.2 hc
      refine g_iload rfl rfl rfl (pc' := 22) ?_
      exact g_ireturn rfl (Or.inl rfl) H
set_option maxRecDepth 20000 in
theorem w_197_0 {a0 : Nat} {j1 : Int64} {x3 : Int32} {h : hh_T} {Q : Option Value ⊕ Nat → hh_T → Prop} (H : gm_G 197 3 [some (.ref a0), some (.long j1), none, some (.int x3), some (.int (Int32.ofNat 0))] [] h Q) : gm_G 197 0 [some (.ref a0), some (.long j1), none, some (.int x3)] [] h Q := by
  refine g_iconst rfl rfl rfl (pc' := 1) ?_
  refine g_istore rfl rfl rfl (pc' := 3) ?_
  exact g_weak (show gm_Lle [some _, some _, none, some _, some _] _ from ⟨rfl, ⟨rfl, ⟨rfl, ⟨rfl, trivial⟩⟩⟩⟩) H
set_option maxRecDepth 20000 in
theorem w_197_3 {a0 : Nat} {j1 : Int64} {x3 : Int32} {x4 : Int32} {h : hh_T} {Q : Option Value ⊕ Nat → hh_T → Prop} (H : (¬ x4 < x3 → (gm_G 197 27 [none, none, none, none, some (.int x4)] [] h Q)) ∧ (x4 < x3 → (gm_sub (hh_tg h a0) 27 = true ∧ (∀ r2, r2 = hh_r h a0 12 → (∃ a3, r2 = some a3 ∧ ((hh_tg h a3 = 103) ∧ (∃ n4, gm_ix x4 n4 (hh_ln h a3) ∧ (((lg_cmp (hh_j h a3 n4) j1) = Int32.ofNat 0 → (gm_G 197 27 [none, none, none, none, some (.int x4)] [] h Q)) ∧ (¬ (lg_cmp (hh_j h a3 n4) j1) = Int32.ofNat 0 → (gm_G 197 3 [some (.ref a0), some (.long j1), none, some (.int x3), some (.int (x4 + (Int32.ofNat 1)))] [] h Q)))))))))) : gm_G 197 3 [some (.ref a0), some (.long j1), none, some (.int x3), some (.int x4)] [] h Q := by
  refine g_iload rfl rfl rfl (pc' := 5) ?_
  refine g_iload rfl rfl rfl (pc' := 6) ?_
  refine g_ic_ge rfl (pc' := 9) (pt := 27) rfl rfl ⟨fun hc => ?_, fun hc => ?_⟩
  · replace H := H.1 hc
    exact g_weak (show gm_Lle [none, none, none, none, some _] _ from ⟨rfl, trivial⟩) H
  · replace H := H.2 hc
    refine g_aload (r := some _) rfl rfl rfl (pc' := 10) ?_
    obtain ⟨ht1, H⟩ := H
    refine g_getRv rfl rfl rfl rfl ht1 (pc' := 13) rfl (fun r2 hr2 => ?_)
    replace H := H r2 hr2
    refine g_iload rfl rfl rfl (pc' := 15) ?_
    obtain ⟨a3, rfl, H⟩ := H
    obtain ⟨ht5, H⟩ := H
    obtain ⟨n4, hn4, H⟩ := H
    refine g_laload rfl ht5 hn4 (pc' := 16) rfl ?_
    refine g_lload rfl rfl rfl (pc' := 17) ?_
    refine g_lcmp rfl rfl (pc' := 18) ?_
    refine g_if_eq rfl (pc' := 21) (pt := 27) rfl rfl ⟨fun hc => ?_, fun hc => ?_⟩
    · replace H := H.1 hc
      exact g_weak (show gm_Lle [none, none, none, none, some _] _ from ⟨rfl, trivial⟩) H
    · replace H := H.2 hc
      refine g_iinc (c := (Int32.ofNat 1)) rfl rfl rfl rfl rfl (pc' := 24) ?_
      refine g_goto rfl (pc' := 3) rfl ?_
      exact g_weak (show gm_Lle [some _, some _, none, some _, some _] _ from ⟨rfl, ⟨rfl, ⟨rfl, ⟨rfl, trivial⟩⟩⟩⟩) H
set_option maxRecDepth 20000 in
theorem w_197_27 {a0 : Nat} {x4 : Int32} {h : hh_T} {Q : Option Value ⊕ Nat → hh_T → Prop} (H : Q (.inl (some (.int x4))) h) : gm_G 197 27 [none, none, none, none, some (.int x4)] [] h Q := by
  refine g_iload rfl rfl rfl (pc' := 29) ?_
  exact g_ireturn rfl (Or.inl rfl) H
set_option maxRecDepth 20000 in
theorem w_198_0 {a0 : Nat} {x1 : Int32} {h : hh_T} {Q : Option Value ⊕ Nat → hh_T → Prop} (H : gm_G 198 2 [some (.ref a0), some (.int x1), some (.int (Int32.ofNat 0))] [] h Q) : gm_G 198 0 [some (.ref a0), some (.int x1)] [] h Q := by
  refine g_iconst rfl rfl rfl (pc' := 1) ?_
  refine g_istore rfl rfl rfl (pc' := 2) ?_
  exact g_weak (show gm_Lle [some _, some _, some _] _ from ⟨rfl, ⟨rfl, ⟨rfl, trivial⟩⟩⟩) H
set_option maxRecDepth 20000 in
theorem w_198_2 {a0 : Nat} {x1 : Int32} {x2 : Int32} {h : hh_T} {Q : Option Value ⊕ Nat → hh_T → Prop} (H : gm_sub (hh_tg h a0) 25 = true ∧ ((¬ x2 < (hh_i h a0 6) → (Q (.inl (some (.int (Int32.ofNat 0)))) h)) ∧ (x2 < (hh_i h a0 6) → (gm_sub (hh_tg h a0) 27 = true ∧ (∀ r3, r3 = hh_r h a0 13 → (∃ a4, r3 = some a4 ∧ ((hh_tg h a4 = 100 ∨ hh_tg h a4 = 105) ∧ (∃ n5, gm_ix x2 n5 (hh_ln h a4) ∧ ((¬ (hh_i h a4 n5) = x1 → (gm_G 198 2 [some (.ref a0), some (.int x1), some (.int (x2 + (Int32.ofNat 1)))] [] h Q)) ∧ ((hh_i h a4 n5) = x1 → (Q (.inl (some (.int (Int32.ofNat 1)))) h))))))))))) : gm_G 198 2 [some (.ref a0), some (.int x1), some (.int x2)] [] h Q := by
  refine g_iload rfl rfl rfl (pc' := 3) ?_
  refine g_aload (r := some _) rfl rfl rfl (pc' := 4) ?_
  obtain ⟨ht1, H⟩ := H
  refine g_getI rfl rfl rfl rfl ht1 (pc' := 7) rfl ?_
  refine g_ic_ge rfl (pc' := 10) (pt := 28) rfl rfl ⟨fun hc => ?_, fun hc => ?_⟩
  · replace H := H.1 hc
    refine g_iconst rfl rfl rfl (pc' := 29) ?_
    exact g_ireturn rfl (Or.inr (by decide)) H
  · replace H := H.2 hc
    refine g_aload (r := some _) rfl rfl rfl (pc' := 11) ?_
    obtain ⟨ht2, H⟩ := H
    refine g_getRv rfl rfl rfl rfl ht2 (pc' := 14) rfl (fun r3 hr3 => ?_)
    replace H := H r3 hr3
    refine g_iload rfl rfl rfl (pc' := 15) ?_
    obtain ⟨a4, rfl, H⟩ := H
    obtain ⟨ht6, H⟩ := H
    obtain ⟨n5, hn5, H⟩ := H
    refine g_iaload rfl ht6 hn5 (pc' := 16) rfl ?_
    refine g_iload rfl rfl rfl (pc' := 17) ?_
    refine g_ic_ne rfl (pc' := 20) (pt := 22) rfl rfl ⟨fun hc => ?_, fun hc => ?_⟩
    · replace H := H.1 hc
      refine g_iinc (c := (Int32.ofNat 1)) rfl rfl rfl rfl rfl (pc' := 25) ?_
      refine g_goto rfl (pc' := 2) rfl ?_
      exact g_weak (show gm_Lle [some _, some _, some _] _ from ⟨rfl, ⟨rfl, ⟨rfl, trivial⟩⟩⟩) H
    · replace H := H.2 hc
      refine g_iconst rfl rfl rfl (pc' := 21) ?_
      exact g_ireturn rfl (Or.inr (by decide)) H
set_option maxRecDepth 20000 in
theorem w_199_0 {a0 : Nat}  {h : hh_T} {Q : Option Value ⊕ Nat → hh_T → Prop} (H : Q (.inl none) h) : gm_G 199 0 [some (.ref a0)] [] h Q := by
  refine g_aload (r := some _) rfl rfl rfl (pc' := 1) ?_
  refine g_objinit rfl (Nat.le_of_ble_eq_true rfl) (pc' := 4) rfl ?_
  exact g_return rfl H
set_option maxRecDepth 20000 in
theorem w_200_0 {a0 : Nat} {r_1 : Option Nat} {h : hh_T} {Q : Option Value ⊕ Nat → hh_T → Prop} (H : ∃ a1, r_1 = some a1 ∧ (gm_sub (hh_tg h a1) 29 = true ∧ (gm_sub (hh_tg h a0) 29 = true ∧ (∀ h4, h4 = hh_wi h a0 0 (hh_i h a1 0) → (∀ h5, h5 = hh_wi h4 a0 1 (hh_i h4 a1 1) → (∀ h6, h6 = hh_wi h5 a0 2 (hh_i h5 a1 2) → (∀ h7, h7 = hh_wi h6 a0 3 (hh_i h6 a1 3) → (∀ h8, h8 = hh_wj h7 a0 4 (hh_j h7 a1 4) → (gm_G 200 40 [some (.ref a0), some (.ref a1)] [] h8 Q))))))))) : gm_G 200 0 [some (.ref a0), some (va_rf r_1)] [] h Q := by
  refine g_aload (r := some _) rfl rfl rfl (pc' := 1) ?_
  refine g_aload (r := _) rfl rfl rfl (pc' := 2) ?_
  obtain ⟨a1, rfl, H⟩ := H
  obtain ⟨ht2, H⟩ := H
  refine g_getI rfl rfl rfl rfl ht2 (pc' := 5) rfl ?_
  obtain ⟨ht3, H⟩ := H
  refine g_putI rfl rfl rfl rfl ht3  (pc' := 8) rfl ?_
  replace H := H _ rfl
  refine g_aload (r := some _) rfl rfl rfl (pc' := 9) ?_
  refine g_aload (r := some _) rfl rfl rfl (pc' := 10) ?_
  refine g_getI rfl rfl rfl rfl ht2 (pc' := 13) rfl ?_
  refine g_putI rfl rfl rfl rfl ht3  (pc' := 16) rfl ?_
  replace H := H _ rfl
  refine g_aload (r := some _) rfl rfl rfl (pc' := 17) ?_
  refine g_aload (r := some _) rfl rfl rfl (pc' := 18) ?_
  refine g_getI rfl rfl rfl rfl ht2 (pc' := 21) rfl ?_
  refine g_putI rfl rfl rfl rfl ht3  (pc' := 24) rfl ?_
  replace H := H _ rfl
  refine g_aload (r := some _) rfl rfl rfl (pc' := 25) ?_
  refine g_aload (r := some _) rfl rfl rfl (pc' := 26) ?_
  refine g_getI rfl rfl rfl rfl ht2 (pc' := 29) rfl ?_
  refine g_putI rfl rfl rfl rfl ht3  (pc' := 32) rfl ?_
  replace H := H _ rfl
  refine g_aload (r := some _) rfl rfl rfl (pc' := 33) ?_
  refine g_aload (r := some _) rfl rfl rfl (pc' := 34) ?_
  refine g_getJ rfl rfl rfl rfl ht2 (pc' := 37) rfl ?_
  refine g_putJ rfl rfl rfl rfl ht3  (pc' := 40) rfl ?_
  replace H := H _ rfl
  exact g_weak (show gm_Lle [some _, some _] _ from ⟨rfl, ⟨rfl, trivial⟩⟩) H
set_option maxRecDepth 20000 in
theorem w_200_40 {a0 : Nat} {r_1 : Option Nat} {h : hh_T} {Q : Option Value ⊕ Nat → hh_T → Prop} (H : ∃ a1, r_1 = some a1 ∧ (gm_sub (hh_tg h a1) 29 = true ∧ (∀ r3, r3 = hh_r h a1 5 → (gm_sub (hh_tg h a0) 29 = true ∧ (∀ h5, h5 = hh_wr h a0 5 r3 → (∀ r6, r6 = hh_r h5 a0 5 → (∃ a7, r6 = some a7 ∧ (gm_sub (hh_tg h5 a7) 24 = true ∧ (∀ h9, h9 = hh_wi h5 a7 0 ((hh_i h5 a7 0) + (Int32.ofNat 1)) → (Q (.inl none) h9)))))))))) : gm_G 200 40 [some (.ref a0), some (va_rf r_1)] [] h Q := by
  refine g_aload (r := some _) rfl rfl rfl (pc' := 41) ?_
  refine g_aload (r := _) rfl rfl rfl (pc' := 42) ?_
  obtain ⟨a1, rfl, H⟩ := H
  obtain ⟨ht2, H⟩ := H
  refine g_getRv rfl rfl rfl rfl ht2 (pc' := 45) rfl (fun r3 hr3 => ?_)
  replace H := H r3 hr3
  obtain ⟨ht4, H⟩ := H
  refine g_putR rfl rfl rfl rfl ht4  (pc' := 48) rfl ?_
  replace H := H _ rfl
  refine g_aload (r := some _) rfl rfl rfl (pc' := 49) ?_
  refine g_getRv rfl rfl rfl rfl ht4 (pc' := 52) rfl (fun r6 hr6 => ?_)
  replace H := H r6 hr6
  refine g_dup_a (r := _) rfl rfl (pc' := 53) ?_
  obtain ⟨a7, rfl, H⟩ := H
  obtain ⟨ht8, H⟩ := H
  refine g_getI rfl rfl rfl rfl ht8 (pc' := 56) rfl ?_
  refine g_iconst rfl rfl rfl (pc' := 57) ?_
  refine g_iadd rfl rfl (pc' := 58) ?_
  refine g_putI rfl rfl rfl rfl ht8  (pc' := 61) rfl ?_
  replace H := H _ rfl
  exact g_return rfl H
set_option maxRecDepth 20000 in
theorem w_201_0 {a0 : Nat}  {h : hh_T} {Q : Option Value ⊕ Nat → hh_T → Prop} (H : ∀ a1 h2, a1 = hh_sz h → h2 = hh_al h 233 8 8 → (gm_sub (hh_tg h2 a0) 30 = true ∧ (∀ h4, h4 = hh_wr h2 a0 3 (some a1) → (Q (.inl none) h4)))) : gm_G 201 0 [some (.ref a0)] [] h Q := by
  refine g_aload (r := some _) rfl rfl rfl (pc' := 1) ?_
  refine g_objinit rfl (Nat.le_of_ble_eq_true rfl) (pc' := 4) rfl ?_
  refine g_aload (r := some _) rfl rfl rfl (pc' := 5) ?_
  refine g_iconst rfl rfl rfl (pc' := 7) ?_
  refine g_anewarray rfl (n := 8) rfl (by decide) (pc' := 10) rfl ?_
  replace H := H _ _ rfl rfl
  obtain ⟨ht3, H⟩ := H
  refine g_putR (x := some _) rfl rfl rfl rfl ht3  (pc' := 13) rfl ?_
  replace H := H _ rfl
  exact g_return rfl H
set_option maxRecDepth 20000 in
theorem w_202_0 {a0 : Nat} {r_1 : Option Nat} {h : hh_T} {Q : Option Value ⊕ Nat → hh_T → Prop} (H : gm_sub (hh_tg h a0) 30 = true ∧ (∀ r2, r2 = hh_r h a0 3 → (∃ a3, r2 = some a3 ∧ (100 ≤ hh_tg h a3 ∧ ((¬ (hh_i h a0 1) = (Int32.ofNat (hh_ln h a3)) → (gm_G 202 52 [some (.ref a0), some (va_rf r_1)] [] h Q)) ∧ ((hh_i h a0 1) = (Int32.ofNat (hh_ln h a3)) → (∃ n6, ((Int32.ofNat 2) * (hh_i h a0 1)).toNatClampNeg = n6 ∧ (0 ≤ ((Int32.ofNat 2) * (hh_i h a0 1)) ∧ ((Int32.ofNat 2) * (hh_i h a0 1)) ≤ 100000) ∧ (∀ a4 h5, a4 = hh_sz h → h5 = hh_al h 233 n6 n6 → (gm_G 202 24 [some (.ref a0), some (va_rf r_1), some (.ref a4), some (.int (Int32.ofNat 0))] [] h5 Q))))))))) : gm_G 202 0 [some (.ref a0), some (va_rf r_1)] [] h Q := by
  refine g_aload (r := some _) rfl rfl rfl (pc' := 1) ?_
  obtain ⟨ht1, H⟩ := H
  refine g_getI rfl rfl rfl rfl ht1 (pc' := 4) rfl ?_
  refine g_aload (r := some _) rfl rfl rfl (pc' := 5) ?_
  refine g_getRv rfl rfl rfl rfl ht1 (pc' := 8) rfl (fun r2 hr2 => ?_)
  replace H := H r2 hr2
  obtain ⟨a3, rfl, H⟩ := H
  obtain ⟨Hp, H⟩ := H
  refine g_alen rfl Hp (pc' := 9) rfl ?_
  refine g_ic_ne rfl (pc' := 12) (pt := 52) rfl rfl ⟨fun hc => ?_, fun hc => ?_⟩
  · replace H := H.1 hc
    exact g_weak (show gm_Lle [some _, some _] _ from ⟨rfl, ⟨rfl, trivial⟩⟩) H
  · replace H := H.2 hc
    refine g_iconst rfl rfl rfl (pc' := 13) ?_
    refine g_aload (r := some _) rfl rfl rfl (pc' := 14) ?_
    refine g_getI rfl rfl rfl rfl ht1 (pc' := 17) rfl ?_
    refine g_imul rfl rfl (pc' := 18) ?_
    obtain ⟨n6, Hn, Hr, H⟩ := H
    refine g_anewarray rfl (n := n6) Hn Hr (pc' := 21) rfl ?_
    replace H := H _ _ rfl rfl
    refine g_astore (r := some _) rfl gm_sto_rf1 rfl (pc' := 22) ?_
    refine g_iconst rfl rfl rfl (pc' := 23) ?_
    refine g_istore rfl rfl rfl (pc' := 24) ?_
    exact g_weak (show gm_Lle [some _, some _, some _, some _] _ from ⟨rfl, ⟨rfl, ⟨rfl, ⟨rfl, trivial⟩⟩⟩⟩) H
set_option maxRecDepth 20000 in
theorem w_202_24 {a0 : Nat} {r_1 : Option Nat} {r_2 : Option Nat} {x3 : Int32} {h : hh_T} {Q : Option Value ⊕ Nat → hh_T → Prop} (H : gm_sub (hh_tg h a0) 30 = true ∧ ((¬ x3 < (hh_i h a0 1) → (∀ h2, h2 = hh_wr h a0 3 r_2 → (gm_G 202 52 [some (.ref a0), some (va_rf r_1)] [] h2 Q))) ∧ (x3 < (hh_i h a0 1) → (∀ r3, r3 = hh_r h a0 3 → (∃ a4, r3 = some a4 ∧ ((hh_tg h a4 = 104 ∨ 200 ≤ hh_tg h a4) ∧ (∃ n5, gm_ix x3 n5 (hh_ln h a4) ∧ (∀ r7, r7 = hh_r h a4 n5 → (∃ a8, r_2 = some a8 ∧ (200 ≤ hh_tg h a8 ∧ (∀ b, r7 = some b → gm_as (hh_tg h a8) (hh_tg h b) = true) ∧ (∃ n9, gm_ix x3 n9 (hh_ln h a8) ∧ (∀ h10, h10 = hh_wr h a8 n9 r7 → (gm_G 202 24 [some (.ref a0), some (va_rf r_1), some (.ref a8), some (.int (x3 + (Int32.ofNat 1)))] [] h10 Q))))))))))))) : gm_G 202 24 [some (.ref a0), some (va_rf r_1), some (va_rf r_2), some (.int x3)] [] h Q := by
  refine g_iload rfl rfl rfl (pc' := 25) ?_
  refine g_aload (r := some _) rfl rfl rfl (pc' := 26) ?_
  obtain ⟨ht1, H⟩ := H
  refine g_getI rfl rfl rfl rfl ht1 (pc' := 29) rfl ?_
  refine g_ic_ge rfl (pc' := 32) (pt := 47) rfl rfl ⟨fun hc => ?_, fun hc => ?_⟩
  · replace H := H.1 hc
    refine g_aload (r := some _) rfl rfl rfl (pc' := 48) ?_
    refine g_aload (r := _) rfl rfl rfl (pc' := 49) ?_
    refine g_putR rfl rfl rfl rfl ht1  (pc' := 52) rfl ?_
    replace H := H _ rfl
    exact g_weak (show gm_Lle [some _, some _] _ from ⟨rfl, ⟨rfl, trivial⟩⟩) H
  · replace H := H.2 hc
    refine g_aload (r := _) rfl rfl rfl (pc' := 33) ?_
    refine g_iload rfl rfl rfl (pc' := 34) ?_
    refine g_aload (r := some _) rfl rfl rfl (pc' := 35) ?_
    refine g_getRv rfl rfl rfl rfl ht1 (pc' := 38) rfl (fun r3 hr3 => ?_)
    replace H := H r3 hr3
    refine g_iload rfl rfl rfl (pc' := 39) ?_
    obtain ⟨a4, rfl, H⟩ := H
    obtain ⟨ht6, H⟩ := H
    obtain ⟨n5, hn5, H⟩ := H
    refine g_aaloadv rfl ht6 hn5 (pc' := 40) rfl (fun r7 hr7 => ?_)
    replace H := H r7 hr7
    obtain ⟨a8, rfl, H⟩ := H
    obtain ⟨Ha, Hb, H⟩ := H
    obtain ⟨n9, hn9, H⟩ := H
    refine g_aastore (r := _) rfl Ha Hb hn9 (pc' := 41) rfl ?_
    replace H := H _ rfl
    refine g_iinc (c := (Int32.ofNat 1)) rfl rfl rfl rfl rfl (pc' := 44) ?_
    refine g_goto rfl (pc' := 24) rfl ?_
    exact g_weak (show gm_Lle [some _, some _, some _, some _] _ from ⟨rfl, ⟨rfl, ⟨rfl, ⟨rfl, trivial⟩⟩⟩⟩) H
set_option maxRecDepth 20000 in
theorem w_202_52 {a0 : Nat} {r_1 : Option Nat} {h : hh_T} {Q : Option Value ⊕ Nat → hh_T → Prop} (H : gm_sub (hh_tg h a0) 30 = true ∧ (∀ r2, r2 = hh_r h a0 3 → (∃ a3, r2 = some a3 ∧ (200 ≤ hh_tg h a3 ∧ (∀ b, r_1 = some b → gm_as (hh_tg h a3) (hh_tg h b) = true) ∧ (∃ n4, gm_ix (hh_i h a0 1) n4 (hh_ln h a3) ∧ (∀ h5, h5 = hh_wr h a3 n4 r_1 → (∀ h6, h6 = hh_wi h5 a0 1 ((hh_i h5 a0 1) + (Int32.ofNat 1)) → (Q (.inl none) h6)))))))) : gm_G 202 52 [some (.ref a0), some (va_rf r_1)] [] h Q := by
  refine g_aload (r := some _) rfl rfl rfl (pc' := 53) ?_
  obtain ⟨ht1, H⟩ := H
  refine g_getRv rfl rfl rfl rfl ht1 (pc' := 56) rfl (fun r2 hr2 => ?_)
  replace H := H r2 hr2
  refine g_aload (r := some _) rfl rfl rfl (pc' := 57) ?_
  refine g_getI rfl rfl rfl rfl ht1 (pc' := 60) rfl ?_
  refine g_aload (r := _) rfl rfl rfl (pc' := 61) ?_
  obtain ⟨a3, rfl, H⟩ := H
  obtain ⟨Ha, Hb, H⟩ := H
  obtain ⟨n4, hn4, H⟩ := H
  refine g_aastore (r := _) rfl Ha Hb hn4 (pc' := 62) rfl ?_
  replace H := H _ rfl
  refine g_aload (r := some _) rfl rfl rfl (pc' := 63) ?_
  refine g_dup_a (r := some _) rfl rfl (pc' := 64) ?_
  refine g_getI rfl rfl rfl rfl ht1 (pc' := 67) rfl ?_
  refine g_iconst rfl rfl rfl (pc' := 68) ?_
  refine g_iadd rfl rfl (pc' := 69) ?_
  refine g_putI rfl rfl rfl rfl ht1  (pc' := 72) rfl ?_
  replace H := H _ rfl
  exact g_return rfl H
set_option maxRecDepth 20000 in
theorem w_203_0 {a0 : Nat}  {h : hh_T} {Q : Option Value ⊕ Nat → hh_T → Prop} (H : ∀ a1 h2, a1 = hh_sz h → h2 = hh_al h 100 2 2 → (gm_sub (hh_tg h2 a0) 31 = true ∧ (∀ h4, h4 = hh_wr h2 a0 4 (some a1) → (∀ a5 h6, a5 = hh_sz h4 → h6 = hh_al h4 100 2 2 → (gm_sub (hh_tg h6 a0) 31 = true ∧ (∀ h8, h8 = hh_wr h6 a0 5 (some a5) → (gm_G 203 18 [] [] h8 Q))))))) : gm_G 203 0 [some (.ref a0)] [] h Q := by
  refine g_aload (r := some _) rfl rfl rfl (pc' := 1) ?_
  refine g_objinit rfl (Nat.le_of_ble_eq_true rfl) (pc' := 4) rfl ?_
  refine g_aload (r := some _) rfl rfl rfl (pc' := 5) ?_
  refine g_iconst rfl rfl rfl (pc' := 6) ?_
  refine g_newarray rfl (u := 100) (n := 2) rfl (by decide) rfl (by decide) (pc' := 8) rfl ?_
  replace H := H _ _ rfl rfl
  obtain ⟨ht3, H⟩ := H
  refine g_putR (x := some _) rfl rfl rfl rfl ht3  (pc' := 11) rfl ?_
  replace H := H _ rfl
  refine g_aload (r := some _) rfl rfl rfl (pc' := 12) ?_
  refine g_iconst rfl rfl rfl (pc' := 13) ?_
  refine g_newarray rfl (u := 100) (n := 2) rfl (by decide) rfl (by decide) (pc' := 15) rfl ?_
  replace H := H _ _ rfl rfl
  obtain ⟨ht7, H⟩ := H
  refine g_putR (x := some _) rfl rfl rfl rfl ht7  (pc' := 18) rfl ?_
  replace H := H _ rfl
  exact g_weak (show gm_Lle [] _ from trivial) H
set_option maxRecDepth 20000 in
theorem w_203_18 {a0 : Nat}  {h : hh_T} {Q : Option Value ⊕ Nat → hh_T → Prop} (H : Q (.inl none) h) : gm_G 203 18 [] [] h Q := by
  exact g_return rfl H
set_option maxRecDepth 20000 in
theorem w_204_0 {a0 : Nat} {r_1 : Option Nat} {r_2 : Option Nat} {h : hh_T} {Q : Option Value ⊕ Nat → hh_T → Prop} (H : gm_sub (hh_tg h a0) 32 = true ∧ (∀ h2, h2 = hh_wr h a0 2 r_1 → (∃ a3, r_2 = some a3 ∧ (gm_sub (hh_tg h2 a3) 16 = true ∧ (∀ r5, r5 = hh_r h2 a3 0 → (∀ h6, h6 = hh_wr h2 a0 0 r5 → (Q (.inl none) h6))))))) : gm_G 204 0 [some (.ref a0), some (va_rf r_1), some (va_rf r_2)] [] h Q := by
  refine g_aload (r := some _) rfl rfl rfl (pc' := 1) ?_
  refine g_aload (r := _) rfl rfl rfl (pc' := 2) ?_
  obtain ⟨ht1, H⟩ := H
  refine g_putR rfl rfl rfl rfl ht1  (pc' := 5) rfl ?_
  replace H := H _ rfl
  refine g_aload (r := some _) rfl rfl rfl (pc' := 6) ?_
  refine g_objinit rfl (Nat.le_of_ble_eq_true rfl) (pc' := 9) rfl ?_
  refine g_aload (r := some _) rfl rfl rfl (pc' := 10) ?_
  refine g_aload (r := _) rfl rfl rfl (pc' := 11) ?_
  obtain ⟨a3, rfl, H⟩ := H
  obtain ⟨ht4, H⟩ := H
  refine g_getRv rfl rfl rfl rfl ht4 (pc' := 14) rfl (fun r5 hr5 => ?_)
  replace H := H r5 hr5
  refine g_putR rfl rfl rfl rfl ht1  (pc' := 17) rfl ?_
  replace H := H _ rfl
  exact g_return rfl H
set_option maxRecDepth 20000 in
theorem w_205_0 {a0 : Nat} {r_1 : Option Nat} {x2 : Int32} {h : hh_T} {Q : Option Value ⊕ Nat → hh_T → Prop} (H : gm_sub (hh_tg h a0) 33 = true ∧ (∀ h2, h2 = hh_wr h a0 2 r_1 → (∀ r3, r3 = hh_r h2 a0 2 → (∃ a4, r3 = some a4 ∧ (gm_sub (hh_tg h2 a4) 0 = true ∧ (∀ h6, h6 = hh_wi h2 a0 0 (hh_i h2 a4 42) → (∀ h7, h7 = hh_wi h6 a0 1 x2 → (Q (.inl none) h7)))))))) : gm_G 205 0 [some (.ref a0), some (va_rf r_1), some (.int x2)] [] h Q := by
  refine g_aload (r := some _) rfl rfl rfl (pc' := 1) ?_
  refine g_aload (r := _) rfl rfl rfl (pc' := 2) ?_
  obtain ⟨ht1, H⟩ := H
  refine g_putR rfl rfl rfl rfl ht1  (pc' := 5) rfl ?_
  replace H := H _ rfl
  refine g_aload (r := some _) rfl rfl rfl (pc' := 6) ?_
  refine g_objinit rfl (Nat.le_of_ble_eq_true rfl) (pc' := 9) rfl ?_
  refine g_aload (r := some _) rfl rfl rfl (pc' := 10) ?_
  refine g_aload (r := some _) rfl rfl rfl (pc' := 11) ?_
  refine g_getRv rfl rfl rfl rfl ht1 (pc' := 14) rfl (fun r3 hr3 => ?_)
  replace H := H r3 hr3
  obtain ⟨a4, rfl, H⟩ := H
  obtain ⟨ht5, H⟩ := H
  refine g_getI rfl rfl rfl rfl ht5 (pc' := 17) rfl ?_
  refine g_putI rfl rfl rfl rfl ht1  (pc' := 20) rfl ?_
  replace H := H _ rfl
  refine g_aload (r := some _) rfl rfl rfl (pc' := 21) ?_
  refine g_iload rfl rfl rfl (pc' := 22) ?_
  refine g_putI rfl rfl rfl rfl ht1  (pc' := 25) rfl ?_
  replace H := H _ rfl
  exact g_return rfl H
set_option maxRecDepth 20000 in
theorem w_206_0 {a0 : Nat} {r_1 : Option Nat} {h : hh_T} {Q : Option Value ⊕ Nat → hh_T → Prop} (H : gm_sub (hh_tg h a0) 33 = true ∧ (∃ a2, r_1 = some a2 ∧ (gm_sub (hh_tg h a2) 25 = true ∧ (∀ h4, h4 = hh_wi h a2 7 (hh_i h a0 0) → (Q (.inl none) h4))))) : gm_G 206 0 [some (.ref a0), some (va_rf r_1)] [] h Q := by
  refine g_aload (r := _) rfl rfl rfl (pc' := 1) ?_
  refine g_aload (r := some _) rfl rfl rfl (pc' := 2) ?_
  obtain ⟨ht1, H⟩ := H
  refine g_getI rfl rfl rfl rfl ht1 (pc' := 5) rfl ?_
  obtain ⟨a2, rfl, H⟩ := H
  obtain ⟨ht3, H⟩ := H
  refine g_putI rfl rfl rfl rfl ht3  (pc' := 8) rfl ?_
  replace H := H _ rfl
  exact g_return rfl H
set_option maxRecDepth 20000 in
theorem w_207_0 {a0 : Nat} {r_1 : Option Nat} {h : hh_T} {Q : Option Value ⊕ Nat → hh_T → Prop} (H : ∃ a1, r_1 = some a1 ∧ (gm_sub (hh_tg h a1) 23 = true ∧ (∀ r3, r3 = hh_r h a1 9 → (∃ a4, r3 = some a4 ∧ (gm_sub (hh_tg h a4) 24 = true ∧ (∀ r6, r6 = hh_r h a4 2 → (gm_sub (hh_tg h a0) 40 = true ∧ (∃ a8, r6 = some a8 ∧ ((hh_tg h a8 = 104 ∨ 200 ≤ hh_tg h a8) ∧ (∃ n9, gm_ix (hh_i h a0 3) n9 (hh_ln h a8) ∧ (∀ r11, r11 = hh_r h a8 n9 → ((∀ b, r11 = some b → gm_sub (hh_tg h b) 26 = true) ∧ (Q (.inl (some (va_rf r11))) h))))))))))))) : gm_G 207 0 [some (.ref a0), some (va_rf r_1)] [] h Q := by
  refine g_aload (r := _) rfl rfl rfl (pc' := 1) ?_
  obtain ⟨a1, rfl, H⟩ := H
  obtain ⟨ht2, H⟩ := H
  refine g_getRv rfl rfl rfl rfl ht2 (pc' := 4) rfl (fun r3 hr3 => ?_)
  replace H := H r3 hr3
  obtain ⟨a4, rfl, H⟩ := H
  obtain ⟨ht5, H⟩ := H
  refine g_getRv rfl rfl rfl rfl ht5 (pc' := 7) rfl (fun r6 hr6 => ?_)
  replace H := H r6 hr6
  refine g_aload (r := some _) rfl rfl rfl (pc' := 8) ?_
  obtain ⟨ht7, H⟩ := H
  refine g_getI rfl rfl rfl rfl ht7 (pc' := 11) rfl ?_
  obtain ⟨a8, rfl, H⟩ := H
  obtain ⟨ht10, H⟩ := H
  obtain ⟨n9, hn9, H⟩ := H
  refine g_aaloadv rfl ht10 hn9 (pc' := 12) rfl (fun r11 hr11 => ?_)
  replace H := H r11 hr11
  obtain ⟨Hc, H⟩ := H
  refine g_cast rfl Hc (pc' := 15) rfl ?_
  exact g_areturn (r := _) rfl H
set_option maxRecDepth 20000 in
theorem w_208_0 {a0 : Nat}  {h : hh_T} {Q : Option Value ⊕ Nat → hh_T → Prop} (H : gm_sub (hh_tg h a0) 42 = true ∧ ((((hh_i h a0 2) &&& (Int32.ofNat 1)) = Int32.ofNat 0 → (Q (.inl (some (.int (Int32.ofNat 0)))) h)) ∧ (¬ ((hh_i h a0 2) &&& (Int32.ofNat 1)) = Int32.ofNat 0 → (Q (.inl (some (.int (Int32.ofNat 1)))) h)))) : gm_G 208 0 [some (.ref a0)] [] h Q := by
  refine g_aload (r := some _) rfl rfl rfl (pc' := 1) ?_
  obtain ⟨ht1, H⟩ := H
  refine g_getI rfl rfl rfl rfl ht1 (pc' := 4) rfl ?_
  refine g_iconst rfl rfl rfl (pc' := 5) ?_
  refine g_iand rfl rfl (pc' := 6) ?_
  refine g_if_eq rfl (pc' := 9) (pt := 13) rfl rfl ⟨fun hc => ?_, fun hc => ?_⟩
  · replace H := H.1 hc
    refine g_iconst rfl rfl rfl (pc' := 14) ?_
    exact g_ireturn rfl (Or.inr (by decide)) H
  · replace H := H.2 hc
    refine g_iconst rfl rfl rfl (pc' := 10) ?_
    refine g_goto rfl (pc' := 14) rfl ?_
    exact g_ireturn rfl (Or.inr (by decide)) H
set_option maxRecDepth 20000 in
theorem w_209_0 {a0 : Nat}  {h : hh_T} {Q : Option Value ⊕ Nat → hh_T → Prop} (H : gm_sub (hh_tg h a0) 42 = true ∧ ((((hh_i h a0 2) &&& (Int32.ofNat 2)) = Int32.ofNat 0 → (Q (.inl (some (.int (Int32.ofNat 0)))) h)) ∧ (¬ ((hh_i h a0 2) &&& (Int32.ofNat 2)) = Int32.ofNat 0 → (Q (.inl (some (.int (Int32.ofNat 1)))) h)))) : gm_G 209 0 [some (.ref a0)] [] h Q := by
  refine g_aload (r := some _) rfl rfl rfl (pc' := 1) ?_
  obtain ⟨ht1, H⟩ := H
  refine g_getI rfl rfl rfl rfl ht1 (pc' := 4) rfl ?_
  refine g_iconst rfl rfl rfl (pc' := 5) ?_
  refine g_iand rfl rfl (pc' := 6) ?_
  refine g_if_eq rfl (pc' := 9) (pt := 13) rfl rfl ⟨fun hc => ?_, fun hc => ?_⟩
  · replace H := H.1 hc
    refine g_iconst rfl rfl rfl (pc' := 14) ?_
    exact g_ireturn rfl (Or.inr (by decide)) H
  · replace H := H.2 hc
    refine g_iconst rfl rfl rfl (pc' := 10) ?_
    refine g_goto rfl (pc' := 14) rfl ?_
    exact g_ireturn rfl (Or.inr (by decide)) H
set_option maxRecDepth 20000 in
theorem w_210_0 {a0 : Nat}  {h : hh_T} {Q : Option Value ⊕ Nat → hh_T → Prop} (H : ∀ a1 h2, a1 = hh_sz h → h2 = hh_al h 100 8 8 → (gm_sub (hh_tg h2 a0) 43 = true ∧ (∀ h4, h4 = hh_wr h2 a0 0 (some a1) → (∀ a5 h6, a5 = hh_sz h4 → h6 = hh_al h4 100 8 8 → (gm_sub (hh_tg h6 a0) 43 = true ∧ (∀ h8, h8 = hh_wr h6 a0 1 (some a5) → (gm_G 210 20 [some (.ref a0)] [] h8 Q))))))) : gm_G 210 0 [some (.ref a0)] [] h Q := by
  refine g_aload (r := some _) rfl rfl rfl (pc' := 1) ?_
  refine g_objinit rfl (Nat.le_of_ble_eq_true rfl) (pc' := 4) rfl ?_
  refine g_aload (r := some _) rfl rfl rfl (pc' := 5) ?_
  refine g_iconst rfl rfl rfl (pc' := 7) ?_
  refine g_newarray rfl (u := 100) (n := 8) rfl (by decide) rfl (by decide) (pc' := 9) rfl ?_
  replace H := H _ _ rfl rfl
  obtain ⟨ht3, H⟩ := H
  refine g_putR (x := some _) rfl rfl rfl rfl ht3  (pc' := 12) rfl ?_
  replace H := H _ rfl
  refine g_aload (r := some _) rfl rfl rfl (pc' := 13) ?_
  refine g_iconst rfl rfl rfl (pc' := 15) ?_
  refine g_newarray rfl (u := 100) (n := 8) rfl (by decide) rfl (by decide) (pc' := 17) rfl ?_
  replace H := H _ _ rfl rfl
  obtain ⟨ht7, H⟩ := H
  refine g_putR (x := some _) rfl rfl rfl rfl ht7  (pc' := 20) rfl ?_
  replace H := H _ rfl
  exact g_weak (show gm_Lle [some _] _ from ⟨rfl, trivial⟩) H
set_option maxRecDepth 20000 in
theorem w_210_20 {a0 : Nat}  {h : hh_T} {Q : Option Value ⊕ Nat → hh_T → Prop} (H : ∀ a1 h2, a1 = hh_sz h → h2 = hh_al h 100 8 8 → (gm_sub (hh_tg h2 a0) 43 = true ∧ (∀ h4, h4 = hh_wr h2 a0 2 (some a1) → (∀ a5 h6, a5 = hh_sz h4 → h6 = hh_al h4 100 8 8 → (gm_sub (hh_tg h6 a0) 43 = true ∧ (∀ h8, h8 = hh_wr h6 a0 3 (some a5) → (∀ a9 h10, a9 = hh_sz h8 → h10 = hh_al h8 100 8 8 → (gm_sub (hh_tg h10 a0) 43 = true ∧ (∀ h12, h12 = hh_wr h10 a0 4 (some a9) → (gm_G 210 44 [some (.ref a0)] [] h12 Q)))))))))) : gm_G 210 20 [some (.ref a0)] [] h Q := by
  refine g_aload (r := some _) rfl rfl rfl (pc' := 21) ?_
  refine g_iconst rfl rfl rfl (pc' := 23) ?_
  refine g_newarray rfl (u := 100) (n := 8) rfl (by decide) rfl (by decide) (pc' := 25) rfl ?_
  replace H := H _ _ rfl rfl
  obtain ⟨ht3, H⟩ := H
  refine g_putR (x := some _) rfl rfl rfl rfl ht3  (pc' := 28) rfl ?_
  replace H := H _ rfl
  refine g_aload (r := some _) rfl rfl rfl (pc' := 29) ?_
  refine g_iconst rfl rfl rfl (pc' := 31) ?_
  refine g_newarray rfl (u := 100) (n := 8) rfl (by decide) rfl (by decide) (pc' := 33) rfl ?_
  replace H := H _ _ rfl rfl
  obtain ⟨ht7, H⟩ := H
  refine g_putR (x := some _) rfl rfl rfl rfl ht7  (pc' := 36) rfl ?_
  replace H := H _ rfl
  refine g_aload (r := some _) rfl rfl rfl (pc' := 37) ?_
  refine g_iconst rfl rfl rfl (pc' := 39) ?_
  refine g_newarray rfl (u := 100) (n := 8) rfl (by decide) rfl (by decide) (pc' := 41) rfl ?_
  replace H := H _ _ rfl rfl
  obtain ⟨ht11, H⟩ := H
  refine g_putR (x := some _) rfl rfl rfl rfl ht11  (pc' := 44) rfl ?_
  replace H := H _ rfl
  exact g_weak (show gm_Lle [some _] _ from ⟨rfl, trivial⟩) H
set_option maxRecDepth 20000 in
theorem w_210_44 {a0 : Nat}  {h : hh_T} {Q : Option Value ⊕ Nat → hh_T → Prop} (H : ∀ a1 h2, a1 = hh_sz h → h2 = hh_al h 100 8 8 → (gm_sub (hh_tg h2 a0) 43 = true ∧ (∀ h4, h4 = hh_wr h2 a0 5 (some a1) → (Q (.inl none) h4)))) : gm_G 210 44 [some (.ref a0)] [] h Q := by
  refine g_aload (r := some _) rfl rfl rfl (pc' := 45) ?_
  refine g_iconst rfl rfl rfl (pc' := 47) ?_
  refine g_newarray rfl (u := 100) (n := 8) rfl (by decide) rfl (by decide) (pc' := 49) rfl ?_
  replace H := H _ _ rfl rfl
  obtain ⟨ht3, H⟩ := H
  refine g_putR (x := some _) rfl rfl rfl rfl ht3  (pc' := 52) rfl ?_
  replace H := H _ rfl
  exact g_return rfl H
set_option maxRecDepth 20000 in
theorem w_211_0 {a0 : Nat} {x1 : Int32} {h : hh_T} {Q : Option Value ⊕ Nat → hh_T → Prop} (H : gm_G 211 2 [some (.ref a0), some (.int x1), some (.int (Int32.ofNat 0))] [] h Q) : gm_G 211 0 [some (.ref a0), some (.int x1)] [] h Q := by
  refine g_iconst rfl rfl rfl (pc' := 1) ?_
  refine g_istore rfl rfl rfl (pc' := 2) ?_
  exact g_weak (show gm_Lle [some _, some _, some _] _ from ⟨rfl, ⟨rfl, ⟨rfl, trivial⟩⟩⟩) H
set_option maxRecDepth 20000 in
theorem w_211_2 {a0 : Nat} {x1 : Int32} {x2 : Int32} {h : hh_T} {Q : Option Value ⊕ Nat → hh_T → Prop} (H : gm_sub (hh_tg h a0) 43 = true ∧ ((¬ x2 < (hh_i h a0 6) → (Q (.inl (some (.int (Int32.ofNat 0)))) h)) ∧ (x2 < (hh_i h a0 6) → (∀ r2, r2 = hh_r h a0 0 → (∃ a3, r2 = some a3 ∧ ((hh_tg h a3 = 100 ∨ hh_tg h a3 = 105) ∧ (∃ n4, gm_ix x2 n4 (hh_ln h a3) ∧ ((x1 < (hh_i h a3 n4) → (gm_G 211 37 [some (.ref a0), some (.int x1), some (.int x2)] [] h Q)) ∧ (¬ x1 < (hh_i h a3 n4) → (∀ r6, r6 = hh_r h a0 1 → (∃ a7, r6 = some a7 ∧ ((hh_tg h a7 = 100 ∨ hh_tg h a7 = 105) ∧ (∃ n8, gm_ix x2 n8 (hh_ln h a7) ∧ ((¬ x1 < (hh_i h a7 n8) → (gm_G 211 37 [some (.ref a0), some (.int x1), some (.int x2)] [] h Q)) ∧ (x1 < (hh_i h a7 n8) → (∀ r10, r10 = hh_r h a0 2 → (∃ a11, r10 = some a11 ∧ ((hh_tg h a11 = 100 ∨ hh_tg h a11 = 105) ∧ (∃ n12, gm_ix x2 n12 (hh_ln h a11) ∧ (Q (.inl (some (.int (hh_i h a11 n12)))) h)))))))))))))))))))) : gm_G 211 2 [some (.ref a0), some (.int x1), some (.int x2)] [] h Q := by
  refine g_iload rfl rfl rfl (pc' := 3) ?_
  refine g_aload (r := some _) rfl rfl rfl (pc' := 4) ?_
  obtain ⟨ht1, H⟩ := H
  refine g_getI rfl rfl rfl rfl ht1 (pc' := 7) rfl ?_
  refine g_ic_ge rfl (pc' := 10) (pt := 43) rfl rfl ⟨fun hc => ?_, fun hc => ?_⟩
  · replace H := H.1 hc
    refine g_iconst rfl rfl rfl (pc' := 44) ?_
    exact g_ireturn rfl (Or.inl rfl) H
  · replace H := H.2 hc
    refine g_aload (r := some _) rfl rfl rfl (pc' := 11) ?_
    refine g_getRv rfl rfl rfl rfl ht1 (pc' := 14) rfl (fun r2 hr2 => ?_)
    replace H := H r2 hr2
    refine g_iload rfl rfl rfl (pc' := 15) ?_
    obtain ⟨a3, rfl, H⟩ := H
    obtain ⟨ht5, H⟩ := H
    obtain ⟨n4, hn4, H⟩ := H
    refine g_iaload rfl ht5 hn4 (pc' := 16) rfl ?_
    refine g_iload rfl rfl rfl (pc' := 17) ?_
    refine g_ic_gt rfl (pc' := 20) (pt := 37) rfl rfl ⟨fun hc => ?_, fun hc => ?_⟩
    · replace H := H.1 hc
      exact g_weak (show gm_Lle [some _, some _, some _] _ from ⟨rfl, ⟨rfl, ⟨rfl, trivial⟩⟩⟩) H
    · replace H := H.2 hc
      refine g_aload (r := some _) rfl rfl rfl (pc' := 21) ?_
      refine g_getRv rfl rfl rfl rfl ht1 (pc' := 24) rfl (fun r6 hr6 => ?_)
      replace H := H r6 hr6
      refine g_iload rfl rfl rfl (pc' := 25) ?_
      obtain ⟨a7, rfl, H⟩ := H
      obtain ⟨ht9, H⟩ := H
      obtain ⟨n8, hn8, H⟩ := H
      refine g_iaload rfl ht9 hn8 (pc' := 26) rfl ?_
      refine g_iload rfl rfl rfl (pc' := 27) ?_
      refine g_ic_le rfl (pc' := 30) (pt := 37) rfl rfl ⟨fun hc => ?_, fun hc => ?_⟩
      · replace H := H.1 hc
        exact g_weak (show gm_Lle [some _, some _, some _] _ from ⟨rfl, ⟨rfl, ⟨rfl, trivial⟩⟩⟩) H
      · replace H := H.2 hc
        refine g_aload (r := some _) rfl rfl rfl (pc' := 31) ?_
        refine g_getRv rfl rfl rfl rfl ht1 (pc' := 34) rfl (fun r10 hr10 => ?_)
        replace H := H r10 hr10
        refine g_iload rfl rfl rfl (pc' := 35) ?_
        obtain ⟨a11, rfl, H⟩ := H
        obtain ⟨ht13, H⟩ := H
        obtain ⟨n12, hn12, H⟩ := H
        refine g_iaload rfl ht13 hn12 (pc' := 36) rfl ?_
        exact g_ireturn rfl (Or.inl rfl) H
set_option maxRecDepth 20000 in
theorem w_211_37 {a0 : Nat} {x1 : Int32} {x2 : Int32} {h : hh_T} {Q : Option Value ⊕ Nat → hh_T → Prop} (H : gm_G 211 2 [some (.ref a0), some (.int x1), some (.int (x2 + (Int32.ofNat 1)))] [] h Q) : gm_G 211 37 [some (.ref a0), some (.int x1), some (.int x2)] [] h Q := by
  refine g_iinc (c := (Int32.ofNat 1)) rfl rfl rfl rfl rfl (pc' := 40) ?_
  refine g_goto rfl (pc' := 2) rfl ?_
  exact g_weak (show gm_Lle [some _, some _, some _] _ from ⟨rfl, ⟨rfl, ⟨rfl, trivial⟩⟩⟩) H
set_option maxRecDepth 20000 in
theorem w_212_0 {a0 : Nat} {x1 : Int32} {x2 : Int32} {x3 : Int32} {h : hh_T} {Q : Option Value ⊕ Nat → hh_T → Prop} (H : gm_G 212 3 [some (.ref a0), some (.int x1), some (.int x2), some (.int x3), some (.int (Int32.ofNat 0))] [] h Q) : gm_G 212 0 [some (.ref a0), some (.int x1), some (.int x2), some (.int x3)] [] h Q := by
  refine g_iconst rfl rfl rfl (pc' := 1) ?_
  refine g_istore rfl rfl rfl (pc' := 3) ?_
  exact g_weak (show gm_Lle [some _, some _, some _, some _, some _] _ from ⟨rfl, ⟨rfl, ⟨rfl, ⟨rfl, ⟨rfl, trivial⟩⟩⟩⟩⟩) H
set_option maxRecDepth 20000 in
theorem w_212_3 {a0 : Nat} {x1 : Int32} {x2 : Int32} {x3 : Int32} {x4 : Int32} {h : hh_T} {Q : Option Value ⊕ Nat → hh_T → Prop} (H : gm_sub (hh_tg h a0) 43 = true ∧ ((¬ x4 < (hh_i h a0 6) → (Q (.inl (some (.int (Int32.ofNat 0)))) h)) ∧ (x4 < (hh_i h a0 6) → (∀ r2, r2 = hh_r h a0 0 → (∃ a3, r2 = some a3 ∧ ((hh_tg h a3 = 100 ∨ hh_tg h a3 = 105) ∧ (∃ n4, gm_ix x4 n4 (hh_ln h a3) ∧ ((¬ (hh_i h a3 n4) < x2 → (gm_G 212 47 [some (.ref a0), some (.int x1), some (.int x2), some (.int x3), some (.int x4)] [] h Q)) ∧ ((hh_i h a3 n4) < x2 → (∀ r6, r6 = hh_r h a0 1 → (∃ a7, r6 = some a7 ∧ ((hh_tg h a7 = 100 ∨ hh_tg h a7 = 105) ∧ (∃ n8, gm_ix x4 n8 (hh_ln h a7) ∧ ((¬ x1 < (hh_i h a7 n8) → (gm_G 212 47 [some (.ref a0), some (.int x1), some (.int x2), some (.int x3), some (.int x4)] [] h Q)) ∧ (x1 < (hh_i h a7 n8) → (∀ r10, r10 = hh_r h a0 2 → (∃ a11, r10 = some a11 ∧ ((hh_tg h a11 = 100 ∨ hh_tg h a11 = 105) ∧ (∃ n12, gm_ix x4 n12 (hh_ln h a11) ∧ (((hh_i h a11 n12) < x3 → (gm_G 212 47 [some (.ref a0), some (.int x1), some (.int x2), some (.int x3), some (.int x4)] [] h Q)) ∧ (¬ (hh_i h a11 n12) < x3 → (Q (.inl (some (.int (Int32.ofNat 1)))) h)))))))))))))))))))))) : gm_G 212 3 [some (.ref a0), some (.int x1), some (.int x2), some (.int x3), some (.int x4)] [] h Q := by
  refine g_iload rfl rfl rfl (pc' := 5) ?_
  refine g_aload (r := some _) rfl rfl rfl (pc' := 6) ?_
  obtain ⟨ht1, H⟩ := H
  refine g_getI rfl rfl rfl rfl ht1 (pc' := 9) rfl ?_
  refine g_ic_ge rfl (pc' := 12) (pt := 53) rfl rfl ⟨fun hc => ?_, fun hc => ?_⟩
  · replace H := H.1 hc
    refine g_iconst rfl rfl rfl (pc' := 54) ?_
    exact g_ireturn rfl (Or.inr (by decide)) H
  · replace H := H.2 hc
    refine g_aload (r := some _) rfl rfl rfl (pc' := 13) ?_
    refine g_getRv rfl rfl rfl rfl ht1 (pc' := 16) rfl (fun r2 hr2 => ?_)
    replace H := H r2 hr2
    refine g_iload rfl rfl rfl (pc' := 18) ?_
    obtain ⟨a3, rfl, H⟩ := H
    obtain ⟨ht5, H⟩ := H
    obtain ⟨n4, hn4, H⟩ := H
    refine g_iaload rfl ht5 hn4 (pc' := 19) rfl ?_
    refine g_iload rfl rfl rfl (pc' := 20) ?_
    refine g_ic_ge rfl (pc' := 23) (pt := 47) rfl rfl ⟨fun hc => ?_, fun hc => ?_⟩
    · replace H := H.1 hc
      exact g_weak (show gm_Lle [some _, some _, some _, some _, some _] _ from ⟨rfl, ⟨rfl, ⟨rfl, ⟨rfl, ⟨rfl, trivial⟩⟩⟩⟩⟩) H
    · replace H := H.2 hc
      refine g_aload (r := some _) rfl rfl rfl (pc' := 24) ?_
      refine g_getRv rfl rfl rfl rfl ht1 (pc' := 27) rfl (fun r6 hr6 => ?_)
      replace H := H r6 hr6
      refine g_iload rfl rfl rfl (pc' := 29) ?_
      obtain ⟨a7, rfl, H⟩ := H
      obtain ⟨ht9, H⟩ := H
      obtain ⟨n8, hn8, H⟩ := H
      refine g_iaload rfl ht9 hn8 (pc' := 30) rfl ?_
      refine g_iload rfl rfl rfl (pc' := 31) ?_
      refine g_ic_le rfl (pc' := 34) (pt := 47) rfl rfl ⟨fun hc => ?_, fun hc => ?_⟩
      · replace H := H.1 hc
        exact g_weak (show gm_Lle [some _, some _, some _, some _, some _] _ from ⟨rfl, ⟨rfl, ⟨rfl, ⟨rfl, ⟨rfl, trivial⟩⟩⟩⟩⟩) H
      · replace H := H.2 hc
        refine g_aload (r := some _) rfl rfl rfl (pc' := 35) ?_
        refine g_getRv rfl rfl rfl rfl ht1 (pc' := 38) rfl (fun r10 hr10 => ?_)
        replace H := H r10 hr10
        refine g_iload rfl rfl rfl (pc' := 40) ?_
        obtain ⟨a11, rfl, H⟩ := H
        obtain ⟨ht13, H⟩ := H
        obtain ⟨n12, hn12, H⟩ := H
        refine g_iaload rfl ht13 hn12 (pc' := 41) rfl ?_
        refine g_iload rfl rfl rfl (pc' := 42) ?_
        refine g_ic_lt rfl (pc' := 45) (pt := 47) rfl rfl ⟨fun hc => ?_, fun hc => ?_⟩
        · replace H := H.1 hc
          exact g_weak (show gm_Lle [some _, some _, some _, some _, some _] _ from ⟨rfl, ⟨rfl, ⟨rfl, ⟨rfl, ⟨rfl, trivial⟩⟩⟩⟩⟩) H
        · replace H := H.2 hc
          refine g_iconst rfl rfl rfl (pc' := 46) ?_
          exact g_ireturn rfl (Or.inr (by decide)) H
set_option maxRecDepth 20000 in
theorem w_212_47 {a0 : Nat} {x1 : Int32} {x2 : Int32} {x3 : Int32} {x4 : Int32} {h : hh_T} {Q : Option Value ⊕ Nat → hh_T → Prop} (H : gm_G 212 3 [some (.ref a0), some (.int x1), some (.int x2), some (.int x3), some (.int (x4 + (Int32.ofNat 1)))] [] h Q) : gm_G 212 47 [some (.ref a0), some (.int x1), some (.int x2), some (.int x3), some (.int x4)] [] h Q := by
  refine g_iinc (c := (Int32.ofNat 1)) rfl rfl rfl rfl rfl (pc' := 50) ?_
  refine g_goto rfl (pc' := 3) rfl ?_
  exact g_weak (show gm_Lle [some _, some _, some _, some _, some _] _ from ⟨rfl, ⟨rfl, ⟨rfl, ⟨rfl, ⟨rfl, trivial⟩⟩⟩⟩⟩) H
set_option maxRecDepth 20000 in
theorem w_213_0 {a0 : Nat} {x1 : Int32} {x2 : Int32} {x3 : Int32} {h : hh_T} {Q : Option Value ⊕ Nat → hh_T → Prop} (H : gm_sub (hh_tg h a0) 43 = true ∧ (∀ r2, r2 = hh_r h a0 3 → (∃ a3, r2 = some a3 ∧ (100 ≤ hh_tg h a3 ∧ ((¬ (Int32.ofNat (hh_ln h a3)) < ((hh_i h a0 6) + (Int32.ofNat 2)) → (gm_G 213 56 [some (.ref a0), some (.int x1), some (.int x2), some (.int x3)] [] h Q)) ∧ ((Int32.ofNat (hh_ln h a3)) < ((hh_i h a0 6) + (Int32.ofNat 2)) → (∃ n18, (((Int32.ofNat 2) * (hh_i h a0 6)) + (Int32.ofNat 4)).toNatClampNeg = n18 ∧ (0 ≤ (((Int32.ofNat 2) * (hh_i h a0 6)) + (Int32.ofNat 4)) ∧ (((Int32.ofNat 2) * (hh_i h a0 6)) + (Int32.ofNat 4)) ≤ 100000) ∧ (∀ a4 h5, a4 = hh_sz h → h5 = hh_al h 100 n18 n18 → (gm_sub (hh_tg h5 a0) 43 = true ∧ (∀ h7, h7 = hh_wr h5 a0 3 (some a4) → (∃ n17, (((Int32.ofNat 2) * (hh_i h7 a0 6)) + (Int32.ofNat 4)).toNatClampNeg = n17 ∧ (0 ≤ (((Int32.ofNat 2) * (hh_i h7 a0 6)) + (Int32.ofNat 4)) ∧ (((Int32.ofNat 2) * (hh_i h7 a0 6)) + (Int32.ofNat 4)) ≤ 100000) ∧ (∀ a8 h9, a8 = hh_sz h7 → h9 = hh_al h7 100 n17 n17 → (gm_sub (hh_tg h9 a0) 43 = true ∧ (∀ h11, h11 = hh_wr h9 a0 4 (some a8) → (∃ n16, (((Int32.ofNat 2) * (hh_i h11 a0 6)) + (Int32.ofNat 4)).toNatClampNeg = n16 ∧ (0 ≤ (((Int32.ofNat 2) * (hh_i h11 a0 6)) + (Int32.ofNat 4)) ∧ (((Int32.ofNat 2) * (hh_i h11 a0 6)) + (Int32.ofNat 4)) ≤ 100000) ∧ (∀ a12 h13, a12 = hh_sz h11 → h13 = hh_al h11 100 n16 n16 → (gm_sub (hh_tg h13 a0) 43 = true ∧ (∀ h15, h15 = hh_wr h13 a0 5 (some a12) → (gm_G 213 56 [some (.ref a0), some (.int x1), some (.int x2), some (.int x3)] [] h15 Q))))))))))))))))))) : gm_G 213 0 [some (.ref a0), some (.int x1), some (.int x2), some (.int x3)] [] h Q := by
  refine g_aload (r := some _) rfl rfl rfl (pc' := 1) ?_
  obtain ⟨ht1, H⟩ := H
  refine g_getI rfl rfl rfl rfl ht1 (pc' := 4) rfl ?_
  refine g_iconst rfl rfl rfl (pc' := 5) ?_
  refine g_iadd rfl rfl (pc' := 6) ?_
  refine g_aload (r := some _) rfl rfl rfl (pc' := 7) ?_
  refine g_getRv rfl rfl rfl rfl ht1 (pc' := 10) rfl (fun r2 hr2 => ?_)
  replace H := H r2 hr2
  obtain ⟨a3, rfl, H⟩ := H
  obtain ⟨Hp, H⟩ := H
  refine g_alen rfl Hp (pc' := 11) rfl ?_
  refine g_ic_le rfl (pc' := 14) (pt := 56) rfl rfl ⟨fun hc => ?_, fun hc => ?_⟩
  · replace H := H.1 hc
    exact g_weak (show gm_Lle [some _, some _, some _, some _] _ from ⟨rfl, ⟨rfl, ⟨rfl, ⟨rfl, trivial⟩⟩⟩⟩) H
  · replace H := H.2 hc
    refine g_aload (r := some _) rfl rfl rfl (pc' := 15) ?_
    refine g_iconst rfl rfl rfl (pc' := 16) ?_
    refine g_aload (r := some _) rfl rfl rfl (pc' := 17) ?_
    refine g_getI rfl rfl rfl rfl ht1 (pc' := 20) rfl ?_
    refine g_imul rfl rfl (pc' := 21) ?_
    refine g_iconst rfl rfl rfl (pc' := 22) ?_
    refine g_iadd rfl rfl (pc' := 23) ?_
    obtain ⟨n18, Hn, Hr, H⟩ := H
    refine g_newarray rfl (u := 100) (n := n18) rfl (by decide) Hn Hr (pc' := 25) rfl ?_
    replace H := H _ _ rfl rfl
    obtain ⟨ht6, H⟩ := H
    refine g_putR (x := some _) rfl rfl rfl rfl ht6  (pc' := 28) rfl ?_
    replace H := H _ rfl
    refine g_aload (r := some _) rfl rfl rfl (pc' := 29) ?_
    refine g_iconst rfl rfl rfl (pc' := 30) ?_
    refine g_aload (r := some _) rfl rfl rfl (pc' := 31) ?_
    refine g_getI rfl rfl rfl rfl ht6 (pc' := 34) rfl ?_
    refine g_imul rfl rfl (pc' := 35) ?_
    refine g_iconst rfl rfl rfl (pc' := 36) ?_
    refine g_iadd rfl rfl (pc' := 37) ?_
    obtain ⟨n17, Hn, Hr, H⟩ := H
    refine g_newarray rfl (u := 100) (n := n17) rfl (by decide) Hn Hr (pc' := 39) rfl ?_
    replace H := H _ _ rfl rfl
    obtain ⟨ht10, H⟩ := H
    refine g_putR (x := some _) rfl rfl rfl rfl ht10  (pc' := 42) rfl ?_
    replace H := H _ rfl
    refine g_aload (r := some _) rfl rfl rfl (pc' := 43) ?_
    refine g_iconst rfl rfl rfl (pc' := 44) ?_
    refine g_aload (r := some _) rfl rfl rfl (pc' := 45) ?_
    refine g_getI rfl rfl rfl rfl ht10 (pc' := 48) rfl ?_
    refine g_imul rfl rfl (pc' := 49) ?_
    refine g_iconst rfl rfl rfl (pc' := 50) ?_
    refine g_iadd rfl rfl (pc' := 51) ?_
    obtain ⟨n16, Hn, Hr, H⟩ := H
    refine g_newarray rfl (u := 100) (n := n16) rfl (by decide) Hn Hr (pc' := 53) rfl ?_
    replace H := H _ _ rfl rfl
    obtain ⟨ht14, H⟩ := H
    refine g_putR (x := some _) rfl rfl rfl rfl ht14  (pc' := 56) rfl ?_
    replace H := H _ rfl
    exact g_weak (show gm_Lle [some _, some _, some _, some _] _ from ⟨rfl, ⟨rfl, ⟨rfl, ⟨rfl, trivial⟩⟩⟩⟩) H
set_option maxRecDepth 20000 in
theorem w_213_56 {a0 : Nat} {x1 : Int32} {x2 : Int32} {x3 : Int32} {h : hh_T} {Q : Option Value ⊕ Nat → hh_T → Prop} (H : gm_sub (hh_tg h a0) 43 = true ∧ (∀ r2, r2 = hh_r h a0 3 → (∀ r3, r3 = hh_r h a0 4 → (∀ r4, r4 = hh_r h a0 5 → ((¬ x3 = Int32.ofNat 0 → (gm_G 213 86 [some (.ref a0), some (.int x1), some (.int x2), some (.int x3), some (va_rf r2), some (va_rf r3), some (va_rf r4), some (.int (Int32.ofNat 0))] [.int (Int32.ofNat 0)] h Q)) ∧ (x3 = Int32.ofNat 0 → (gm_G 213 86 [some (.ref a0), some (.int x1), some (.int x2), some (.int x3), some (va_rf r2), some (va_rf r3), some (va_rf r4), some (.int (Int32.ofNat 0))] [.int (Int32.ofNat 1)] h Q))))))) : gm_G 213 56 [some (.ref a0), some (.int x1), some (.int x2), some (.int x3)] [] h Q := by
  refine g_aload (r := some _) rfl rfl rfl (pc' := 57) ?_
  obtain ⟨ht1, H⟩ := H
  refine g_getRv rfl rfl rfl rfl ht1 (pc' := 60) rfl (fun r2 hr2 => ?_)
  replace H := H r2 hr2
  refine g_astore (r := _) rfl rfl rfl (pc' := 62) ?_
  refine g_aload (r := some _) rfl rfl rfl (pc' := 63) ?_
  refine g_getRv rfl rfl rfl rfl ht1 (pc' := 66) rfl (fun r3 hr3 => ?_)
  replace H := H r3 hr3
  refine g_astore (r := _) rfl gm_sto_rf4 rfl (pc' := 68) ?_
  refine g_aload (r := some _) rfl rfl rfl (pc' := 69) ?_
  refine g_getRv rfl rfl rfl rfl ht1 (pc' := 72) rfl (fun r4 hr4 => ?_)
  replace H := H r4 hr4
  refine g_astore (r := _) rfl gm_sto_rf5 rfl (pc' := 74) ?_
  refine g_iconst rfl rfl rfl (pc' := 75) ?_
  refine g_istore rfl gm_sto_rf6 rfl (pc' := 77) ?_
  refine g_iload rfl rfl rfl (pc' := 78) ?_
  refine g_if_ne rfl (pc' := 81) (pt := 85) rfl rfl ⟨fun hc => ?_, fun hc => ?_⟩
  · replace H := H.1 hc
    refine g_iconst rfl rfl rfl (pc' := 86) ?_
    exact g_weak (show gm_Lle [some _, some _, some _, some _, some _, some _, some _, some _] _ from ⟨rfl, ⟨rfl, ⟨rfl, ⟨rfl, ⟨rfl, ⟨rfl, ⟨rfl, ⟨rfl, trivial⟩⟩⟩⟩⟩⟩⟩⟩) H
  · replace H := H.2 hc
    refine g_iconst rfl rfl rfl (pc' := 82) ?_
    refine g_goto rfl (pc' := 86) rfl ?_
    exact g_weak (show gm_Lle [some _, some _, some _, some _, some _, some _, some _, some _] _ from ⟨rfl, ⟨rfl, ⟨rfl, ⟨rfl, ⟨rfl, ⟨rfl, ⟨rfl, ⟨rfl, trivial⟩⟩⟩⟩⟩⟩⟩⟩) H
set_option maxRecDepth 20000 in
theorem w_213_86 {a0 : Nat} {x1 : Int32} {x2 : Int32} {x3 : Int32} {r_4 : Option Nat} {r_5 : Option Nat} {r_6 : Option Nat} {x7 : Int32} {y0 : Int32} {h : hh_T} {Q : Option Value ⊕ Nat → hh_T → Prop} (H : gm_G 213 91 [some (.ref a0), some (.int x1), some (.int x2), some (.int x3), some (va_rf r_4), some (va_rf r_5), some (va_rf r_6), some (.int x7), some (.int y0), some (.int (Int32.ofNat 0))] [] h Q) : gm_G 213 86 [some (.ref a0), some (.int x1), some (.int x2), some (.int x3), some (va_rf r_4), some (va_rf r_5), some (va_rf r_6), some (.int x7)] [.int y0] h Q := by
  refine g_istore rfl rfl rfl (pc' := 88) ?_
  refine g_iconst rfl rfl rfl (pc' := 89) ?_
  refine g_istore rfl rfl rfl (pc' := 91) ?_
  exact g_weak (show gm_Lle [some _, some _, some _, some _, some _, some _, some _, some _, some _, some _] _ from ⟨rfl, ⟨rfl, ⟨rfl, ⟨rfl, ⟨rfl, ⟨rfl, ⟨rfl, ⟨rfl, ⟨rfl, ⟨rfl, trivial⟩⟩⟩⟩⟩⟩⟩⟩⟩⟩) H
set_option maxRecDepth 20000 in
theorem w_213_91 {a0 : Nat} {x1 : Int32} {x2 : Int32} {x3 : Int32} {r_4 : Option Nat} {r_5 : Option Nat} {r_6 : Option Nat} {x7 : Int32} {x8 : Int32} {x9 : Int32} {h : hh_T} {Q : Option Value ⊕ Nat → hh_T → Prop} (H : gm_sub (hh_tg h a0) 43 = true ∧ ((¬ x9 < (hh_i h a0 6) → ((¬ x8 = Int32.ofNat 0 → (gm_G 213 353 [some (.ref a0), none, none, none, some (va_rf r_4), some (va_rf r_5), some (va_rf r_6), some (.int x7)] [] h Q)) ∧ (x8 = Int32.ofNat 0 → (∃ a2, r_4 = some a2 ∧ (hh_tg h a2 = 100 ∧ (∃ n3, gm_ix x7 n3 (hh_ln h a2) ∧ (∀ h4, h4 = hh_wi h a2 n3 x1 → (∃ a5, r_5 = some a5 ∧ (hh_tg h4 a5 = 100 ∧ (∃ n6, gm_ix x7 n6 (hh_ln h4 a5) ∧ (∀ h7, h7 = hh_wi h4 a5 n6 x2 → (∃ a8, r_6 = some a8 ∧ (hh_tg h7 a8 = 100 ∧ (∃ n9, gm_ix x7 n9 (hh_ln h7 a8) ∧ (∀ h10, h10 = hh_wi h7 a8 n9 x3 → (gm_G 213 353 [some (.ref a0), none, none, none, some (.ref a2), some (.ref a5), some (.ref a8), some (.int (x7 + (Int32.ofNat 1)))] [] h10 Q)))))))))))))))) ∧ (x9 < (hh_i h a0 6) → ((¬ x8 = Int32.ofNat 0 → (gm_G 213 140 [some (.ref a0), some (.int x1), some (.int x2), some (.int x3), some (va_rf r_4), some (va_rf r_5), some (va_rf r_6), some (.int x7), some (.int x8), some (.int x9)] [] h Q)) ∧ (x8 = Int32.ofNat 0 → (∀ r14, r14 = hh_r h a0 0 → (∃ a15, r14 = some a15 ∧ ((hh_tg h a15 = 100 ∨ hh_tg h a15 = 105) ∧ (∃ n16, gm_ix x9 n16 (hh_ln h a15) ∧ (((hh_i h a15 n16) < x1 → (gm_G 213 140 [some (.ref a0), some (.int x1), some (.int x2), some (.int x3), some (va_rf r_4), some (va_rf r_5), some (va_rf r_6), some (.int x7), some (.int x8), some (.int x9)] [] h Q)) ∧ (¬ (hh_i h a15 n16) < x1 → (∃ a18, r_4 = some a18 ∧ (hh_tg h a18 = 100 ∧ (∃ n19, gm_ix x7 n19 (hh_ln h a18) ∧ (∀ h20, h20 = hh_wi h a18 n19 x1 → (∃ a21, r_5 = some a21 ∧ (hh_tg h20 a21 = 100 ∧ (∃ n22, gm_ix x7 n22 (hh_ln h20 a21) ∧ (∀ h23, h23 = hh_wi h20 a21 n22 x2 → (∃ a24, r_6 = some a24 ∧ (hh_tg h23 a24 = 100 ∧ (∃ n25, gm_ix x7 n25 (hh_ln h23 a24) ∧ (∀ h26, h26 = hh_wi h23 a24 n25 x3 → (gm_G 213 140 [some (.ref a0), some (.int x1), some (.int x2), some (.int x3), some (.ref a18), some (.ref a21), some (.ref a24), some (.int (x7 + (Int32.ofNat 1))), some (.int (Int32.ofNat 1)), some (.int x9)] [] h26 Q)))))))))))))))))))))))) : gm_G 213 91 [some (.ref a0), some (.int x1), some (.int x2), some (.int x3), some (va_rf r_4), some (va_rf r_5), some (va_rf r_6), some (.int x7), some (.int x8), some (.int x9)] [] h Q := by
  refine g_iload rfl rfl rfl (pc' := 93) ?_
  refine g_aload (r := some _) rfl rfl rfl (pc' := 94) ?_
  obtain ⟨ht1, H⟩ := H
  refine g_getI rfl rfl rfl rfl ht1 (pc' := 97) rfl ?_
  refine g_ic_ge rfl (pc' := 100) (pt := 327) rfl rfl ⟨fun hc => ?_, fun hc => ?_⟩
  · replace H := H.1 hc
    refine g_iload rfl rfl rfl (pc' := 329) ?_
    refine g_if_ne rfl (pc' := 332) (pt := 353) rfl rfl ⟨fun hc => ?_, fun hc => ?_⟩
    · replace H := H.1 hc
      exact g_weak (show gm_Lle [some _, none, none, none, some _, some _, some _, some _] _ from ⟨rfl, ⟨rfl, ⟨rfl, ⟨rfl, ⟨rfl, trivial⟩⟩⟩⟩⟩) H
    · replace H := H.2 hc
      refine g_aload (r := _) rfl rfl rfl (pc' := 334) ?_
      refine g_iload rfl rfl rfl (pc' := 336) ?_
      refine g_iload rfl rfl rfl (pc' := 337) ?_
      obtain ⟨a2, rfl, H⟩ := H
      obtain ⟨ht13, H⟩ := H
      obtain ⟨n3, hn3, H⟩ := H
      refine g_iastore rfl ht13 hn3  (pc' := 338) rfl ?_
      replace H := H _ rfl
      refine g_aload (r := _) rfl rfl rfl (pc' := 340) ?_
      refine g_iload rfl rfl rfl (pc' := 342) ?_
      refine g_iload rfl rfl rfl (pc' := 343) ?_
      obtain ⟨a5, rfl, H⟩ := H
      obtain ⟨ht12, H⟩ := H
      obtain ⟨n6, hn6, H⟩ := H
      refine g_iastore rfl ht12 hn6  (pc' := 344) rfl ?_
      replace H := H _ rfl
      refine g_aload (r := _) rfl rfl rfl (pc' := 346) ?_
      refine g_iload rfl rfl rfl (pc' := 348) ?_
      refine g_iload rfl rfl rfl (pc' := 349) ?_
      obtain ⟨a8, rfl, H⟩ := H
      obtain ⟨ht11, H⟩ := H
      obtain ⟨n9, hn9, H⟩ := H
      refine g_iastore rfl ht11 hn9  (pc' := 350) rfl ?_
      replace H := H _ rfl
      refine g_iinc (c := (Int32.ofNat 1)) rfl rfl rfl rfl rfl (pc' := 353) ?_
      exact g_weak (show gm_Lle [some _, none, none, none, some _, some _, some _, some _] _ from ⟨rfl, ⟨rfl, ⟨rfl, ⟨rfl, ⟨rfl, trivial⟩⟩⟩⟩⟩) H
  · replace H := H.2 hc
    refine g_iload rfl rfl rfl (pc' := 102) ?_
    refine g_if_ne rfl (pc' := 105) (pt := 140) rfl rfl ⟨fun hc => ?_, fun hc => ?_⟩
    · replace H := H.1 hc
      exact g_weak (show gm_Lle [some _, some _, some _, some _, some _, some _, some _, some _, some _, some _] _ from ⟨rfl, ⟨rfl, ⟨rfl, ⟨rfl, ⟨rfl, ⟨rfl, ⟨rfl, ⟨rfl, ⟨rfl, ⟨rfl, trivial⟩⟩⟩⟩⟩⟩⟩⟩⟩⟩) H
    · replace H := H.2 hc
      refine g_aload (r := some _) rfl rfl rfl (pc' := 106) ?_
      refine g_getRv rfl rfl rfl rfl ht1 (pc' := 109) rfl (fun r14 hr14 => ?_)
      replace H := H r14 hr14
      refine g_iload rfl rfl rfl (pc' := 111) ?_
      obtain ⟨a15, rfl, H⟩ := H
      obtain ⟨ht17, H⟩ := H
      obtain ⟨n16, hn16, H⟩ := H
      refine g_iaload rfl ht17 hn16 (pc' := 112) rfl ?_
      refine g_iload rfl rfl rfl (pc' := 113) ?_
      refine g_ic_lt rfl (pc' := 116) (pt := 140) rfl rfl ⟨fun hc => ?_, fun hc => ?_⟩
      · replace H := H.1 hc
        exact g_weak (show gm_Lle [some _, some _, some _, some _, some _, some _, some _, some _, some _, some _] _ from ⟨rfl, ⟨rfl, ⟨rfl, ⟨rfl, ⟨rfl, ⟨rfl, ⟨rfl, ⟨rfl, ⟨rfl, ⟨rfl, trivial⟩⟩⟩⟩⟩⟩⟩⟩⟩⟩) H
      · replace H := H.2 hc
        refine g_aload (r := _) rfl rfl rfl (pc' := 118) ?_
        refine g_iload rfl rfl rfl (pc' := 120) ?_
        refine g_iload rfl rfl rfl (pc' := 121) ?_
        obtain ⟨a18, rfl, H⟩ := H
        obtain ⟨ht29, H⟩ := H
        obtain ⟨n19, hn19, H⟩ := H
        refine g_iastore rfl ht29 hn19  (pc' := 122) rfl ?_
        replace H := H _ rfl
        refine g_aload (r := _) rfl rfl rfl (pc' := 124) ?_
        refine g_iload rfl rfl rfl (pc' := 126) ?_
        refine g_iload rfl rfl rfl (pc' := 127) ?_
        obtain ⟨a21, rfl, H⟩ := H
        obtain ⟨ht28, H⟩ := H
        obtain ⟨n22, hn22, H⟩ := H
        refine g_iastore rfl ht28 hn22  (pc' := 128) rfl ?_
        replace H := H _ rfl
        refine g_aload (r := _) rfl rfl rfl (pc' := 130) ?_
        refine g_iload rfl rfl rfl (pc' := 132) ?_
        refine g_iload rfl rfl rfl (pc' := 133) ?_
        obtain ⟨a24, rfl, H⟩ := H
        obtain ⟨ht27, H⟩ := H
        obtain ⟨n25, hn25, H⟩ := H
        refine g_iastore rfl ht27 hn25  (pc' := 134) rfl ?_
        replace H := H _ rfl
        refine g_iinc (c := (Int32.ofNat 1)) rfl rfl rfl rfl rfl (pc' := 137) ?_
        refine g_iconst rfl rfl rfl (pc' := 138) ?_
        refine g_istore rfl rfl rfl (pc' := 140) ?_
        exact g_weak (show gm_Lle [some _, some _, some _, some _, some _, some _, some _, some _, some _, some _] _ from ⟨rfl, ⟨rfl, ⟨rfl, ⟨rfl, ⟨rfl, ⟨rfl, ⟨rfl, ⟨rfl, ⟨rfl, ⟨rfl, trivial⟩⟩⟩⟩⟩⟩⟩⟩⟩⟩) H
set_option maxRecDepth 20000 in
theorem w_213_140 {a0 : Nat} {x1 : Int32} {x2 : Int32} {x3 : Int32} {r_4 : Option Nat} {r_5 : Option Nat} {r_6 : Option Nat} {x7 : Int32} {x8 : Int32} {x9 : Int32} {h : hh_T} {Q : Option Value ⊕ Nat → hh_T → Prop} (H : gm_sub (hh_tg h a0) 43 = true ∧ (∀ r2, r2 = hh_r h a0 1 → (∃ a3, r2 = some a3 ∧ ((hh_tg h a3 = 100 ∨ hh_tg h a3 = 105) ∧ (∃ n4, gm_ix x9 n4 (hh_ln h a3) ∧ ((¬ x1 < (hh_i h a3 n4) → (gm_G 213 162 [some (.ref a0), some (.int x1), some (.int x2), some (.int x3), some (va_rf r_4), some (va_rf r_5), some (va_rf r_6), some (.int x7), some (.int x8), some (.int x9)] [] h Q)) ∧ (x1 < (hh_i h a3 n4) → (∀ r6, r6 = hh_r h a0 0 → (∃ a7, r6 = some a7 ∧ ((hh_tg h a7 = 100 ∨ hh_tg h a7 = 105) ∧ (∃ n8, gm_ix x9 n8 (hh_ln h a7) ∧ (((hh_i h a7 n8) < x2 → (∀ r10, r10 = hh_r h a0 0 → (∃ a11, r10 = some a11 ∧ ((hh_tg h a11 = 100 ∨ hh_tg h a11 = 105) ∧ (∃ n12, gm_ix x9 n12 (hh_ln h a11) ∧ ((¬ (hh_i h a11 n12) < x1 → (gm_G 213 248 [some (.ref a0), some (.int x1), some (.int x2), some (.int x3), some (va_rf r_4), some (va_rf r_5), some (va_rf r_6), some (.int x7), some (.int x8), some (.int x9)] [] h Q)) ∧ ((hh_i h a11 n12) < x1 → (∀ r14, r14 = hh_r h a0 0 → (∃ a15, r14 = some a15 ∧ ((hh_tg h a15 = 100 ∨ hh_tg h a15 = 105) ∧ (∃ n16, gm_ix x9 n16 (hh_ln h a15) ∧ (∃ a18, r_4 = some a18 ∧ (hh_tg h a18 = 100 ∧ (∃ n19, gm_ix x7 n19 (hh_ln h a18) ∧ (∀ h20, h20 = hh_wi h a18 n19 (hh_i h a15 n16) → (∃ a21, r_5 = some a21 ∧ (hh_tg h20 a21 = 100 ∧ (∃ n22, gm_ix x7 n22 (hh_ln h20 a21) ∧ (∀ h23, h23 = hh_wi h20 a21 n22 x1 → (gm_G 213 233 [some (.ref a0), some (.int x1), some (.int x2), some (.int x3), some (.ref a18), some (.ref a21), some (va_rf r_6), some (.int x7), some (.int x8), some (.int x9)] [] h23 Q)))))))))))))))))))) ∧ (¬ (hh_i h a7 n8) < x2 → (gm_G 213 162 [some (.ref a0), some (.int x1), some (.int x2), some (.int x3), some (va_rf r_4), some (va_rf r_5), some (va_rf r_6), some (.int x7), some (.int x8), some (.int x9)] [] h Q)))))))))))))) : gm_G 213 140 [some (.ref a0), some (.int x1), some (.int x2), some (.int x3), some (va_rf r_4), some (va_rf r_5), some (va_rf r_6), some (.int x7), some (.int x8), some (.int x9)] [] h Q := by
  refine g_aload (r := some _) rfl rfl rfl (pc' := 141) ?_
  obtain ⟨ht1, H⟩ := H
  refine g_getRv rfl rfl rfl rfl ht1 (pc' := 144) rfl (fun r2 hr2 => ?_)
  replace H := H r2 hr2
  refine g_iload rfl rfl rfl (pc' := 146) ?_
  obtain ⟨a3, rfl, H⟩ := H
  obtain ⟨ht5, H⟩ := H
  obtain ⟨n4, hn4, H⟩ := H
  refine g_iaload rfl ht5 hn4 (pc' := 147) rfl ?_
  refine g_iload rfl rfl rfl (pc' := 148) ?_
  refine g_ic_le rfl (pc' := 151) (pt := 162) rfl rfl ⟨fun hc => ?_, fun hc => ?_⟩
  · replace H := H.1 hc
    exact g_weak (show gm_Lle [some _, some _, some _, some _, some _, some _, some _, some _, some _, some _] _ from ⟨rfl, ⟨rfl, ⟨rfl, ⟨rfl, ⟨rfl, ⟨rfl, ⟨rfl, ⟨rfl, ⟨rfl, ⟨rfl, trivial⟩⟩⟩⟩⟩⟩⟩⟩⟩⟩) H
  · replace H := H.2 hc
    refine g_aload (r := some _) rfl rfl rfl (pc' := 152) ?_
    refine g_getRv rfl rfl rfl rfl ht1 (pc' := 155) rfl (fun r6 hr6 => ?_)
    replace H := H r6 hr6
    refine g_iload rfl rfl rfl (pc' := 157) ?_
    obtain ⟨a7, rfl, H⟩ := H
    obtain ⟨ht9, H⟩ := H
    obtain ⟨n8, hn8, H⟩ := H
    refine g_iaload rfl ht9 hn8 (pc' := 158) rfl ?_
    refine g_iload rfl rfl rfl (pc' := 159) ?_
    refine g_ic_lt rfl (pc' := 162) (pt := 204) rfl rfl ⟨fun hc => ?_, fun hc => ?_⟩
    · replace H := H.1 hc
      refine g_aload (r := some _) rfl rfl rfl (pc' := 205) ?_
      refine g_getRv rfl rfl rfl rfl ht1 (pc' := 208) rfl (fun r10 hr10 => ?_)
      replace H := H r10 hr10
      refine g_iload rfl rfl rfl (pc' := 210) ?_
      obtain ⟨a11, rfl, H⟩ := H
      obtain ⟨ht13, H⟩ := H
      obtain ⟨n12, hn12, H⟩ := H
      refine g_iaload rfl ht13 hn12 (pc' := 211) rfl ?_
      refine g_iload rfl rfl rfl (pc' := 212) ?_
      refine g_ic_ge rfl (pc' := 215) (pt := 248) rfl rfl ⟨fun hc => ?_, fun hc => ?_⟩
      · replace H := H.1 hc
        exact g_weak (show gm_Lle [some _, some _, some _, some _, some _, some _, some _, some _, some _, some _] _ from ⟨rfl, ⟨rfl, ⟨rfl, ⟨rfl, ⟨rfl, ⟨rfl, ⟨rfl, ⟨rfl, ⟨rfl, ⟨rfl, trivial⟩⟩⟩⟩⟩⟩⟩⟩⟩⟩) H
      · replace H := H.2 hc
        refine g_aload (r := _) rfl rfl rfl (pc' := 217) ?_
        refine g_iload rfl rfl rfl (pc' := 219) ?_
        refine g_aload (r := some _) rfl rfl rfl (pc' := 220) ?_
        refine g_getRv rfl rfl rfl rfl ht1 (pc' := 223) rfl (fun r14 hr14 => ?_)
        replace H := H r14 hr14
        refine g_iload rfl rfl rfl (pc' := 225) ?_
        obtain ⟨a15, rfl, H⟩ := H
        obtain ⟨ht17, H⟩ := H
        obtain ⟨n16, hn16, H⟩ := H
        refine g_iaload rfl ht17 hn16 (pc' := 226) rfl ?_
        obtain ⟨a18, rfl, H⟩ := H
        obtain ⟨ht25, H⟩ := H
        obtain ⟨n19, hn19, H⟩ := H
        refine g_iastore rfl ht25 hn19  (pc' := 227) rfl ?_
        replace H := H _ rfl
        refine g_aload (r := _) rfl rfl rfl (pc' := 229) ?_
        refine g_iload rfl rfl rfl (pc' := 231) ?_
        refine g_iload rfl rfl rfl (pc' := 232) ?_
        obtain ⟨a21, rfl, H⟩ := H
        obtain ⟨ht24, H⟩ := H
        obtain ⟨n22, hn22, H⟩ := H
        refine g_iastore rfl ht24 hn22  (pc' := 233) rfl ?_
        replace H := H _ rfl
        exact g_weak (show gm_Lle [some _, some _, some _, some _, some _, some _, some _, some _, some _, some _] _ from ⟨rfl, ⟨rfl, ⟨rfl, ⟨rfl, ⟨rfl, ⟨rfl, ⟨rfl, ⟨rfl, ⟨rfl, ⟨rfl, trivial⟩⟩⟩⟩⟩⟩⟩⟩⟩⟩) H
    · replace H := H.2 hc
      exact g_weak (show gm_Lle [some _, some _, some _, some _, some _, some _, some _, some _, some _, some _] _ from ⟨rfl, ⟨rfl, ⟨rfl, ⟨rfl, ⟨rfl, ⟨rfl, ⟨rfl, ⟨rfl, ⟨rfl, ⟨rfl, trivial⟩⟩⟩⟩⟩⟩⟩⟩⟩⟩) H
set_option maxRecDepth 20000 in
theorem w_213_162 {a0 : Nat} {x1 : Int32} {x2 : Int32} {x3 : Int32} {r_4 : Option Nat} {r_5 : Option Nat} {r_6 : Option Nat} {x7 : Int32} {x8 : Int32} {x9 : Int32} {h : hh_T} {Q : Option Value ⊕ Nat → hh_T → Prop} (H : gm_sub (hh_tg h a0) 43 = true ∧ (∀ r2, r2 = hh_r h a0 0 → (∃ a3, r2 = some a3 ∧ ((hh_tg h a3 = 100 ∨ hh_tg h a3 = 105) ∧ (∃ n4, gm_ix x9 n4 (hh_ln h a3) ∧ (∃ a6, r_4 = some a6 ∧ (hh_tg h a6 = 100 ∧ (∃ n7, gm_ix x7 n7 (hh_ln h a6) ∧ (∀ h8, h8 = hh_wi h a6 n7 (hh_i h a3 n4) → (∀ r9, r9 = hh_r h8 a0 1 → (∃ a10, r9 = some a10 ∧ ((hh_tg h8 a10 = 100 ∨ hh_tg h8 a10 = 105) ∧ (∃ n11, gm_ix x9 n11 (hh_ln h8 a10) ∧ (∃ a13, r_5 = some a13 ∧ (hh_tg h8 a13 = 100 ∧ (∃ n14, gm_ix x7 n14 (hh_ln h8 a13) ∧ (∀ h15, h15 = hh_wi h8 a13 n14 (hh_i h8 a10 n11) → (∀ r16, r16 = hh_r h15 a0 2 → (∃ a17, r16 = some a17 ∧ ((hh_tg h15 a17 = 100 ∨ hh_tg h15 a17 = 105) ∧ (∃ n18, gm_ix x9 n18 (hh_ln h15 a17) ∧ (∃ a20, r_6 = some a20 ∧ (hh_tg h15 a20 = 100 ∧ (∃ n21, gm_ix x7 n21 (hh_ln h15 a20) ∧ (∀ h22, h22 = hh_wi h15 a20 n21 (hh_i h15 a17 n18) → (gm_G 213 321 [some (.ref a0), some (.int x1), some (.int x2), some (.int x3), some (.ref a6), some (.ref a13), some (.ref a20), some (.int (x7 + (Int32.ofNat 1))), some (.int x8), some (.int x9)] [] h22 Q)))))))))))))))))))))))))) : gm_G 213 162 [some (.ref a0), some (.int x1), some (.int x2), some (.int x3), some (va_rf r_4), some (va_rf r_5), some (va_rf r_6), some (.int x7), some (.int x8), some (.int x9)] [] h Q := by
  refine g_aload (r := _) rfl rfl rfl (pc' := 164) ?_
  refine g_iload rfl rfl rfl (pc' := 166) ?_
  refine g_aload (r := some _) rfl rfl rfl (pc' := 167) ?_
  obtain ⟨ht1, H⟩ := H
  refine g_getRv rfl rfl rfl rfl ht1 (pc' := 170) rfl (fun r2 hr2 => ?_)
  replace H := H r2 hr2
  refine g_iload rfl rfl rfl (pc' := 172) ?_
  obtain ⟨a3, rfl, H⟩ := H
  obtain ⟨ht5, H⟩ := H
  obtain ⟨n4, hn4, H⟩ := H
  refine g_iaload rfl ht5 hn4 (pc' := 173) rfl ?_
  obtain ⟨a6, rfl, H⟩ := H
  obtain ⟨ht25, H⟩ := H
  obtain ⟨n7, hn7, H⟩ := H
  refine g_iastore rfl ht25 hn7  (pc' := 174) rfl ?_
  replace H := H _ rfl
  refine g_aload (r := _) rfl rfl rfl (pc' := 176) ?_
  refine g_iload rfl rfl rfl (pc' := 178) ?_
  refine g_aload (r := some _) rfl rfl rfl (pc' := 179) ?_
  refine g_getRv rfl rfl rfl rfl ht1 (pc' := 182) rfl (fun r9 hr9 => ?_)
  replace H := H r9 hr9
  refine g_iload rfl rfl rfl (pc' := 184) ?_
  obtain ⟨a10, rfl, H⟩ := H
  obtain ⟨ht12, H⟩ := H
  obtain ⟨n11, hn11, H⟩ := H
  refine g_iaload rfl ht12 hn11 (pc' := 185) rfl ?_
  obtain ⟨a13, rfl, H⟩ := H
  obtain ⟨ht24, H⟩ := H
  obtain ⟨n14, hn14, H⟩ := H
  refine g_iastore rfl ht24 hn14  (pc' := 186) rfl ?_
  replace H := H _ rfl
  refine g_aload (r := _) rfl rfl rfl (pc' := 188) ?_
  refine g_iload rfl rfl rfl (pc' := 190) ?_
  refine g_aload (r := some _) rfl rfl rfl (pc' := 191) ?_
  refine g_getRv rfl rfl rfl rfl ht1 (pc' := 194) rfl (fun r16 hr16 => ?_)
  replace H := H r16 hr16
  refine g_iload rfl rfl rfl (pc' := 196) ?_
  obtain ⟨a17, rfl, H⟩ := H
  obtain ⟨ht19, H⟩ := H
  obtain ⟨n18, hn18, H⟩ := H
  refine g_iaload rfl ht19 hn18 (pc' := 197) rfl ?_
  obtain ⟨a20, rfl, H⟩ := H
  obtain ⟨ht23, H⟩ := H
  obtain ⟨n21, hn21, H⟩ := H
  refine g_iastore rfl ht23 hn21  (pc' := 198) rfl ?_
  replace H := H _ rfl
  refine g_iinc (c := (Int32.ofNat 1)) rfl rfl rfl rfl rfl (pc' := 201) ?_
  refine g_goto rfl (pc' := 321) rfl ?_
  exact g_weak (show gm_Lle [some _, some _, some _, some _, some _, some _, some _, some _, some _, some _] _ from ⟨rfl, ⟨rfl, ⟨rfl, ⟨rfl, ⟨rfl, ⟨rfl, ⟨rfl, ⟨rfl, ⟨rfl, ⟨rfl, trivial⟩⟩⟩⟩⟩⟩⟩⟩⟩⟩) H
set_option maxRecDepth 20000 in
theorem w_213_233 {a0 : Nat} {x1 : Int32} {x2 : Int32} {x3 : Int32} {r_4 : Option Nat} {r_5 : Option Nat} {r_6 : Option Nat} {x7 : Int32} {x8 : Int32} {x9 : Int32} {h : hh_T} {Q : Option Value ⊕ Nat → hh_T → Prop} (H : gm_sub (hh_tg h a0) 43 = true ∧ (∀ r2, r2 = hh_r h a0 2 → (∃ a3, r2 = some a3 ∧ ((hh_tg h a3 = 100 ∨ hh_tg h a3 = 105) ∧ (∃ n4, gm_ix x9 n4 (hh_ln h a3) ∧ (∃ a6, r_6 = some a6 ∧ (hh_tg h a6 = 100 ∧ (∃ n7, gm_ix x7 n7 (hh_ln h a6) ∧ (∀ h8, h8 = hh_wi h a6 n7 (hh_i h a3 n4) → (gm_G 213 248 [some (.ref a0), some (.int x1), some (.int x2), some (.int x3), some (va_rf r_4), some (va_rf r_5), some (.ref a6), some (.int (x7 + (Int32.ofNat 1))), some (.int x8), some (.int x9)] [] h8 Q)))))))))) : gm_G 213 233 [some (.ref a0), some (.int x1), some (.int x2), some (.int x3), some (va_rf r_4), some (va_rf r_5), some (va_rf r_6), some (.int x7), some (.int x8), some (.int x9)] [] h Q := by
  refine g_aload (r := _) rfl rfl rfl (pc' := 235) ?_
  refine g_iload rfl rfl rfl (pc' := 237) ?_
  refine g_aload (r := some _) rfl rfl rfl (pc' := 238) ?_
  obtain ⟨ht1, H⟩ := H
  refine g_getRv rfl rfl rfl rfl ht1 (pc' := 241) rfl (fun r2 hr2 => ?_)
  replace H := H r2 hr2
  refine g_iload rfl rfl rfl (pc' := 243) ?_
  obtain ⟨a3, rfl, H⟩ := H
  obtain ⟨ht5, H⟩ := H
  obtain ⟨n4, hn4, H⟩ := H
  refine g_iaload rfl ht5 hn4 (pc' := 244) rfl ?_
  obtain ⟨a6, rfl, H⟩ := H
  obtain ⟨ht9, H⟩ := H
  obtain ⟨n7, hn7, H⟩ := H
  refine g_iastore rfl ht9 hn7  (pc' := 245) rfl ?_
  replace H := H _ rfl
  refine g_iinc (c := (Int32.ofNat 1)) rfl rfl rfl rfl rfl (pc' := 248) ?_
  exact g_weak (show gm_Lle [some _, some _, some _, some _, some _, some _, some _, some _, some _, some _] _ from ⟨rfl, ⟨rfl, ⟨rfl, ⟨rfl, ⟨rfl, ⟨rfl, ⟨rfl, ⟨rfl, ⟨rfl, ⟨rfl, trivial⟩⟩⟩⟩⟩⟩⟩⟩⟩⟩) H
set_option maxRecDepth 20000 in
theorem w_213_248 {a0 : Nat} {x1 : Int32} {x2 : Int32} {x3 : Int32} {r_4 : Option Nat} {r_5 : Option Nat} {r_6 : Option Nat} {x7 : Int32} {x8 : Int32} {x9 : Int32} {h : hh_T} {Q : Option Value ⊕ Nat → hh_T → Prop} (H : (¬ x8 = Int32.ofNat 0 → (gm_G 213 277 [some (.ref a0), some (.int x1), some (.int x2), some (.int x3), some (va_rf r_4), some (va_rf r_5), some (va_rf r_6), some (.int x7), some (.int x8), some (.int x9)] [] h Q)) ∧ (x8 = Int32.ofNat 0 → (∃ a1, r_4 = some a1 ∧ (hh_tg h a1 = 100 ∧ (∃ n2, gm_ix x7 n2 (hh_ln h a1) ∧ (∀ h3, h3 = hh_wi h a1 n2 x1 → (∃ a4, r_5 = some a4 ∧ (hh_tg h3 a4 = 100 ∧ (∃ n5, gm_ix x7 n5 (hh_ln h3 a4) ∧ (∀ h6, h6 = hh_wi h3 a4 n5 x2 → (∃ a7, r_6 = some a7 ∧ (hh_tg h6 a7 = 100 ∧ (∃ n8, gm_ix x7 n8 (hh_ln h6 a7) ∧ (∀ h9, h9 = hh_wi h6 a7 n8 x3 → (gm_G 213 277 [some (.ref a0), some (.int x1), some (.int x2), some (.int x3), some (.ref a1), some (.ref a4), some (.ref a7), some (.int (x7 + (Int32.ofNat 1))), some (.int (Int32.ofNat 1)), some (.int x9)] [] h9 Q))))))))))))))) : gm_G 213 248 [some (.ref a0), some (.int x1), some (.int x2), some (.int x3), some (va_rf r_4), some (va_rf r_5), some (va_rf r_6), some (.int x7), some (.int x8), some (.int x9)] [] h Q := by
  refine g_iload rfl rfl rfl (pc' := 250) ?_
  refine g_if_ne rfl (pc' := 253) (pt := 277) rfl rfl ⟨fun hc => ?_, fun hc => ?_⟩
  · replace H := H.1 hc
    exact g_weak (show gm_Lle [some _, some _, some _, some _, some _, some _, some _, some _, some _, some _] _ from ⟨rfl, ⟨rfl, ⟨rfl, ⟨rfl, ⟨rfl, ⟨rfl, ⟨rfl, ⟨rfl, ⟨rfl, ⟨rfl, trivial⟩⟩⟩⟩⟩⟩⟩⟩⟩⟩) H
  · replace H := H.2 hc
    refine g_aload (r := _) rfl rfl rfl (pc' := 255) ?_
    refine g_iload rfl rfl rfl (pc' := 257) ?_
    refine g_iload rfl rfl rfl (pc' := 258) ?_
    obtain ⟨a1, rfl, H⟩ := H
    obtain ⟨ht12, H⟩ := H
    obtain ⟨n2, hn2, H⟩ := H
    refine g_iastore rfl ht12 hn2  (pc' := 259) rfl ?_
    replace H := H _ rfl
    refine g_aload (r := _) rfl rfl rfl (pc' := 261) ?_
    refine g_iload rfl rfl rfl (pc' := 263) ?_
    refine g_iload rfl rfl rfl (pc' := 264) ?_
    obtain ⟨a4, rfl, H⟩ := H
    obtain ⟨ht11, H⟩ := H
    obtain ⟨n5, hn5, H⟩ := H
    refine g_iastore rfl ht11 hn5  (pc' := 265) rfl ?_
    replace H := H _ rfl
    refine g_aload (r := _) rfl rfl rfl (pc' := 267) ?_
    refine g_iload rfl rfl rfl (pc' := 269) ?_
    refine g_iload rfl rfl rfl (pc' := 270) ?_
    obtain ⟨a7, rfl, H⟩ := H
    obtain ⟨ht10, H⟩ := H
    obtain ⟨n8, hn8, H⟩ := H
    refine g_iastore rfl ht10 hn8  (pc' := 271) rfl ?_
    replace H := H _ rfl
    refine g_iinc (c := (Int32.ofNat 1)) rfl rfl rfl rfl rfl (pc' := 274) ?_
    refine g_iconst rfl rfl rfl (pc' := 275) ?_
    refine g_istore rfl rfl rfl (pc' := 277) ?_
    exact g_weak (show gm_Lle [some _, some _, some _, some _, some _, some _, some _, some _, some _, some _] _ from ⟨rfl, ⟨rfl, ⟨rfl, ⟨rfl, ⟨rfl, ⟨rfl, ⟨rfl, ⟨rfl, ⟨rfl, ⟨rfl, trivial⟩⟩⟩⟩⟩⟩⟩⟩⟩⟩) H
set_option maxRecDepth 20000 in
theorem w_213_277 {a0 : Nat} {x1 : Int32} {x2 : Int32} {x3 : Int32} {r_4 : Option Nat} {r_5 : Option Nat} {r_6 : Option Nat} {x7 : Int32} {x8 : Int32} {x9 : Int32} {h : hh_T} {Q : Option Value ⊕ Nat → hh_T → Prop} (H : gm_sub (hh_tg h a0) 43 = true ∧ (∀ r2, r2 = hh_r h a0 1 → (∃ a3, r2 = some a3 ∧ ((hh_tg h a3 = 100 ∨ hh_tg h a3 = 105) ∧ (∃ n4, gm_ix x9 n4 (hh_ln h a3) ∧ ((¬ x2 < (hh_i h a3 n4) → (gm_G 213 321 [some (.ref a0), some (.int x1), some (.int x2), some (.int x3), some (va_rf r_4), some (va_rf r_5), some (va_rf r_6), some (.int x7), some (.int x8), some (.int x9)] [] h Q)) ∧ (x2 < (hh_i h a3 n4) → (∃ a6, r_4 = some a6 ∧ (hh_tg h a6 = 100 ∧ (∃ n7, gm_ix x7 n7 (hh_ln h a6) ∧ (∀ h8, h8 = hh_wi h a6 n7 x2 → (∀ r9, r9 = hh_r h8 a0 1 → (∃ a10, r9 = some a10 ∧ ((hh_tg h8 a10 = 100 ∨ hh_tg h8 a10 = 105) ∧ (∃ n11, gm_ix x9 n11 (hh_ln h8 a10) ∧ (∃ a13, r_5 = some a13 ∧ (hh_tg h8 a13 = 100 ∧ (∃ n14, gm_ix x7 n14 (hh_ln h8 a13) ∧ (∀ h15, h15 = hh_wi h8 a13 n14 (hh_i h8 a10 n11) → (∀ r16, r16 = hh_r h15 a0 2 → (∃ a17, r16 = some a17 ∧ ((hh_tg h15 a17 = 100 ∨ hh_tg h15 a17 = 105) ∧ (∃ n18, gm_ix x9 n18 (hh_ln h15 a17) ∧ (∃ a20, r_6 = some a20 ∧ (hh_tg h15 a20 = 100 ∧ (∃ n21, gm_ix x7 n21 (hh_ln h15 a20) ∧ (∀ h22, h22 = hh_wi h15 a20 n21 (hh_i h15 a17 n18) → (gm_G 213 321 [some (.ref a0), some (.int x1), some (.int x2), some (.int x3), some (.ref a6), some (.ref a13), some (.ref a20), some (.int (x7 + (Int32.ofNat 1))), some (.int x8), some (.int x9)] [] h22 Q)))))))))))))))))))))))))))) : gm_G 213 277 [some (.ref a0), some (.int x1), some (.int x2), some (.int x3), some (va_rf r_4), some (va_rf r_5), some (va_rf r_6), some (.int x7), some (.int x8), some (.int x9)] [] h Q := by
  refine g_aload (r := some _) rfl rfl rfl (pc' := 278) ?_
  obtain ⟨ht1, H⟩ := H
  refine g_getRv rfl rfl rfl rfl ht1 (pc' := 281) rfl (fun r2 hr2 => ?_)
  replace H := H r2 hr2
  refine g_iload rfl rfl rfl (pc' := 283) ?_
  obtain ⟨a3, rfl, H⟩ := H
  obtain ⟨ht5, H⟩ := H
  obtain ⟨n4, hn4, H⟩ := H
  refine g_iaload rfl ht5 hn4 (pc' := 284) rfl ?_
  refine g_iload rfl rfl rfl (pc' := 285) ?_
  refine g_ic_le rfl (pc' := 288) (pt := 321) rfl rfl ⟨fun hc => ?_, fun hc => ?_⟩
  · replace H := H.1 hc
    exact g_weak (show gm_Lle [some _, some _, some _, some _, some _, some _, some _, some _, some _, some _] _ from ⟨rfl, ⟨rfl, ⟨rfl, ⟨rfl, ⟨rfl, ⟨rfl, ⟨rfl, ⟨rfl, ⟨rfl, ⟨rfl, trivial⟩⟩⟩⟩⟩⟩⟩⟩⟩⟩) H
  · replace H := H.2 hc
    refine g_aload (r := _) rfl rfl rfl (pc' := 290) ?_
    refine g_iload rfl rfl rfl (pc' := 292) ?_
    refine g_iload rfl rfl rfl (pc' := 293) ?_
    obtain ⟨a6, rfl, H⟩ := H
    obtain ⟨ht25, H⟩ := H
    obtain ⟨n7, hn7, H⟩ := H
    refine g_iastore rfl ht25 hn7  (pc' := 294) rfl ?_
    replace H := H _ rfl
    refine g_aload (r := _) rfl rfl rfl (pc' := 296) ?_
    refine g_iload rfl rfl rfl (pc' := 298) ?_
    refine g_aload (r := some _) rfl rfl rfl (pc' := 299) ?_
    refine g_getRv rfl rfl rfl rfl ht1 (pc' := 302) rfl (fun r9 hr9 => ?_)
    replace H := H r9 hr9
    refine g_iload rfl rfl rfl (pc' := 304) ?_
    obtain ⟨a10, rfl, H⟩ := H
    obtain ⟨ht12, H⟩ := H
    obtain ⟨n11, hn11, H⟩ := H
    refine g_iaload rfl ht12 hn11 (pc' := 305) rfl ?_
    obtain ⟨a13, rfl, H⟩ := H
    obtain ⟨ht24, H⟩ := H
    obtain ⟨n14, hn14, H⟩ := H
    refine g_iastore rfl ht24 hn14  (pc' := 306) rfl ?_
    replace H := H _ rfl
    refine g_aload (r := _) rfl rfl rfl (pc' := 308) ?_
    refine g_iload rfl rfl rfl (pc' := 310) ?_
    refine g_aload (r := some _) rfl rfl rfl (pc' := 311) ?_
    refine g_getRv rfl rfl rfl rfl ht1 (pc' := 314) rfl (fun r16 hr16 => ?_)
    replace H := H r16 hr16
    refine g_iload rfl rfl rfl (pc' := 316) ?_
    obtain ⟨a17, rfl, H⟩ := H
    obtain ⟨ht19, H⟩ := H
    obtain ⟨n18, hn18, H⟩ := H
    refine g_iaload rfl ht19 hn18 (pc' := 317) rfl ?_
    obtain ⟨a20, rfl, H⟩ := H
    obtain ⟨ht23, H⟩ := H
    obtain ⟨n21, hn21, H⟩ := H
    refine g_iastore rfl ht23 hn21  (pc' := 318) rfl ?_
    replace H := H _ rfl
    refine g_iinc (c := (Int32.ofNat 1)) rfl rfl rfl rfl rfl (pc' := 321) ?_
    exact g_weak (show gm_Lle [some _, some _, some _, some _, some _, some _, some _, some _, some _, some _] _ from ⟨rfl, ⟨rfl, ⟨rfl, ⟨rfl, ⟨rfl, ⟨rfl, ⟨rfl, ⟨rfl, ⟨rfl, ⟨rfl, trivial⟩⟩⟩⟩⟩⟩⟩⟩⟩⟩) H
set_option maxRecDepth 20000 in
theorem w_213_321 {a0 : Nat} {x1 : Int32} {x2 : Int32} {x3 : Int32} {r_4 : Option Nat} {r_5 : Option Nat} {r_6 : Option Nat} {x7 : Int32} {x8 : Int32} {x9 : Int32} {h : hh_T} {Q : Option Value ⊕ Nat → hh_T → Prop} (H : gm_G 213 91 [some (.ref a0), some (.int x1), some (.int x2), some (.int x3), some (va_rf r_4), some (va_rf r_5), some (va_rf r_6), some (.int x7), some (.int x8), some (.int (x9 + (Int32.ofNat 1)))] [] h Q) : gm_G 213 321 [some (.ref a0), some (.int x1), some (.int x2), some (.int x3), some (va_rf r_4), some (va_rf r_5), some (va_rf r_6), some (.int x7), some (.int x8), some (.int x9)] [] h Q := by
  refine g_iinc (c := (Int32.ofNat 1)) rfl rfl rfl rfl rfl (pc' := 324) ?_
  refine g_goto rfl (pc' := 91) rfl ?_
  exact g_weak (show gm_Lle [some _, some _, some _, some _, some _, some _, some _, some _, some _, some _] _ from ⟨rfl, ⟨rfl, ⟨rfl, ⟨rfl, ⟨rfl, ⟨rfl, ⟨rfl, ⟨rfl, ⟨rfl, ⟨rfl, trivial⟩⟩⟩⟩⟩⟩⟩⟩⟩⟩) H
set_option maxRecDepth 20000 in
theorem w_213_353 {a0 : Nat} {r_4 : Option Nat} {r_5 : Option Nat} {r_6 : Option Nat} {x7 : Int32} {h : hh_T} {Q : Option Value ⊕ Nat → hh_T → Prop} (H : gm_sub (hh_tg h a0) 43 = true ∧ (∀ r2, r2 = hh_r h a0 0 → (∀ h3, h3 = hh_wr h a0 3 r2 → (∀ r4, r4 = hh_r h3 a0 1 → (∀ h5, h5 = hh_wr h3 a0 4 r4 → (∀ r6, r6 = hh_r h5 a0 2 → (∀ h7, h7 = hh_wr h5 a0 5 r6 → (∀ h8, h8 = hh_wr h7 a0 0 r_4 → (∀ h9, h9 = hh_wr h8 a0 1 r_5 → (gm_G 213 389 [some (.ref a0), none, none, none, none, none, some (va_rf r_6), some (.int x7)] [] h9 Q)))))))))) : gm_G 213 353 [some (.ref a0), none, none, none, some (va_rf r_4), some (va_rf r_5), some (va_rf r_6), some (.int x7)] [] h Q := by
  refine g_aload (r := some _) rfl rfl rfl (pc' := 354) ?_
  refine g_aload (r := some _) rfl rfl rfl (pc' := 355) ?_
  obtain ⟨ht1, H⟩ := H
  refine g_getRv rfl rfl rfl rfl ht1 (pc' := 358) rfl (fun r2 hr2 => ?_)
  replace H := H r2 hr2
  refine g_putR rfl rfl rfl rfl ht1  (pc' := 361) rfl ?_
  replace H := H _ rfl
  refine g_aload (r := some _) rfl rfl rfl (pc' := 362) ?_
  refine g_aload (r := some _) rfl rfl rfl (pc' := 363) ?_
  refine g_getRv rfl rfl rfl rfl ht1 (pc' := 366) rfl (fun r4 hr4 => ?_)
  replace H := H r4 hr4
  refine g_putR rfl rfl rfl rfl ht1  (pc' := 369) rfl ?_
  replace H := H _ rfl
  refine g_aload (r := some _) rfl rfl rfl (pc' := 370) ?_
  refine g_aload (r := some _) rfl rfl rfl (pc' := 371) ?_
  refine g_getRv rfl rfl rfl rfl ht1 (pc' := 374) rfl (fun r6 hr6 => ?_)
  replace H := H r6 hr6
  refine g_putR rfl rfl rfl rfl ht1  (pc' := 377) rfl ?_
  replace H := H _ rfl
  refine g_aload (r := some _) rfl rfl rfl (pc' := 378) ?_
  refine g_aload (r := _) rfl rfl rfl (pc' := 380) ?_
  refine g_putR rfl rfl rfl rfl ht1  (pc' := 383) rfl ?_
  replace H := H _ rfl
  refine g_aload (r := some _) rfl rfl rfl (pc' := 384) ?_
  refine g_aload (r := _) rfl rfl rfl (pc' := 386) ?_
  refine g_putR rfl rfl rfl rfl ht1  (pc' := 389) rfl ?_
  replace H := H _ rfl
  exact g_weak (show gm_Lle [some _, none, none, none, none, none, some _, some _] _ from ⟨rfl, ⟨rfl, ⟨rfl, trivial⟩⟩⟩) H
set_option maxRecDepth 20000 in
theorem w_213_389 {a0 : Nat} {r_6 : Option Nat} {x7 : Int32} {h : hh_T} {Q : Option Value ⊕ Nat → hh_T → Prop} (H : gm_sub (hh_tg h a0) 43 = true ∧ (∀ h2, h2 = hh_wr h a0 2 r_6 → (∀ h3, h3 = hh_wi h2 a0 6 x7 → (Q (.inl none) h3)))) : gm_G 213 389 [some (.ref a0), none, none, none, none, none, some (va_rf r_6), some (.int x7)] [] h Q := by
  refine g_aload (r := some _) rfl rfl rfl (pc' := 390) ?_
  refine g_aload (r := _) rfl rfl rfl (pc' := 392) ?_
  obtain ⟨ht1, H⟩ := H
  refine g_putR rfl rfl rfl rfl ht1  (pc' := 395) rfl ?_
  replace H := H _ rfl
  refine g_aload (r := some _) rfl rfl rfl (pc' := 396) ?_
  refine g_iload rfl rfl rfl (pc' := 398) ?_
  refine g_putI rfl rfl rfl rfl ht1  (pc' := 401) rfl ?_
  replace H := H _ rfl
  exact g_return rfl H
set_option maxRecDepth 20000 in
theorem w_214_0 {a0 : Nat} {x1 : Int32} {x2 : Int32} {h : hh_T} {Q : Option Value ⊕ Nat → hh_T → Prop} (H : ∀ a1 h2, a1 = hh_sz h → h2 = hh_al h 100 6 6 → (gm_sub (hh_tg h2 a0) 47 = true ∧ (∀ h4, h4 = hh_wr h2 a0 2 (some a1) → (∀ h5, h5 = hh_wi h4 a0 0 x1 → (∀ h6, h6 = hh_wi h5 a0 1 x2 → (gm_G 214 22 [] [] h6 Q)))))) : gm_G 214 0 [some (.ref a0), some (.int x1), some (.int x2)] [] h Q := by
  refine g_aload (r := some _) rfl rfl rfl (pc' := 1) ?_
  refine g_objinit rfl (Nat.le_of_ble_eq_true rfl) (pc' := 4) rfl ?_
  refine g_aload (r := some _) rfl rfl rfl (pc' := 5) ?_
  refine g_iconst rfl rfl rfl (pc' := 7) ?_
  refine g_newarray rfl (u := 100) (n := 6) rfl (by decide) rfl (by decide) (pc' := 9) rfl ?_
  replace H := H _ _ rfl rfl
  obtain ⟨ht3, H⟩ := H
  refine g_putR (x := some _) rfl rfl rfl rfl ht3  (pc' := 12) rfl ?_
  replace H := H _ rfl
  refine g_aload (r := some _) rfl rfl rfl (pc' := 13) ?_
  refine g_iload rfl rfl rfl (pc' := 14) ?_
  refine g_putI rfl rfl rfl rfl ht3  (pc' := 17) rfl ?_
  replace H := H _ rfl
  refine g_aload (r := some _) rfl rfl rfl (pc' := 18) ?_
  refine g_iload rfl rfl rfl (pc' := 19) ?_
  refine g_putI rfl rfl rfl rfl ht3  (pc' := 22) rfl ?_
  replace H := H _ rfl
  exact g_weak (show gm_Lle [] _ from trivial) H
set_option maxRecDepth 20000 in
theorem w_214_22 {a0 : Nat}  {h : hh_T} {Q : Option Value ⊕ Nat → hh_T → Prop} (H : Q (.inl none) h) : gm_G 214 22 [] [] h Q := by
  exact g_return rfl H
set_option maxRecDepth 20000 in
theorem w_215_0 {a0 : Nat}  {h : hh_T} {Q : Option Value ⊕ Nat → hh_T → Prop} (H : gm_sub (hh_tg h a0) 47 = true ∧ ((¬ (hh_i h a0 3) = Int32.ofNat 0 → (∀ r2, r2 = hh_r h a0 2 → (∃ a3, r2 = some a3 ∧ ((hh_tg h a3 = 100 ∨ hh_tg h a3 = 105) ∧ (0 < hh_ln h a3 ∧ (∀ h6, h6 = hh_wi h a0 3 ((hh_i h a0 3) - (Int32.ofNat 1)) → (gm_G 215 47 [some (.ref a0), some (.int (hh_i h a3 0)), some (.int (Int32.ofNat 0))] [] h6 Q))))))) ∧ ((hh_i h a0 3) = Int32.ofNat 0 → (∀ h7, h7 = hh_wi h a0 4 (Int32.ofNat 0) → (((hh_i h a0 4) = Int32.ofNat 0 → (Q (.inl (some (.int (Int32.ofInt (-2))))) h7)) ∧ (¬ (hh_i h a0 4) = Int32.ofNat 0 → (Q (.inl (some (.int (Int32.ofNat 0)))) h7))))))) : gm_G 215 0 [some (.ref a0)] [] h Q := by
  refine g_aload (r := some _) rfl rfl rfl (pc' := 1) ?_
  obtain ⟨ht1, H⟩ := H
  refine g_getI rfl rfl rfl rfl ht1 (pc' := 4) rfl ?_
  refine g_if_ne rfl (pc' := 7) (pt := 28) rfl rfl ⟨fun hc => ?_, fun hc => ?_⟩
  · replace H := H.1 hc
    refine g_aload (r := some _) rfl rfl rfl (pc' := 29) ?_
    refine g_getRv rfl rfl rfl rfl ht1 (pc' := 32) rfl (fun r2 hr2 => ?_)
    replace H := H r2 hr2
    refine g_iconst rfl rfl rfl (pc' := 33) ?_
    obtain ⟨a3, rfl, H⟩ := H
    obtain ⟨ht5, H⟩ := H
    obtain ⟨hn4, H⟩ := H
    refine g_iaload rfl ht5 ⟨rfl, by decide, hn4⟩ (pc' := 34) rfl ?_
    refine g_istore rfl rfl rfl (pc' := 35) ?_
    refine g_aload (r := some _) rfl rfl rfl (pc' := 36) ?_
    refine g_dup_a (r := some _) rfl rfl (pc' := 37) ?_
    refine g_getI rfl rfl rfl rfl ht1 (pc' := 40) rfl ?_
    refine g_iconst rfl rfl rfl (pc' := 41) ?_
    refine g_isub rfl rfl (pc' := 42) ?_
    refine g_putI rfl rfl rfl rfl ht1  (pc' := 45) rfl ?_
    replace H := H _ rfl
    refine g_iconst rfl rfl rfl (pc' := 46) ?_
    refine g_istore rfl rfl rfl (pc' := 47) ?_
    exact g_weak (show gm_Lle [some _, some _, some _] _ from ⟨rfl, ⟨rfl, ⟨rfl, trivial⟩⟩⟩) H
  · replace H := H.2 hc
    refine g_aload (r := some _) rfl rfl rfl (pc' := 8) ?_
    refine g_getZ rfl rfl rfl rfl ht1 (pc' := 11) rfl ?_
    refine g_istore rfl rfl rfl (pc' := 12) ?_
    refine g_aload (r := some _) rfl rfl rfl (pc' := 13) ?_
    refine g_iconst rfl rfl rfl (pc' := 14) ?_
    refine g_putZ rfl rfl rfl rfl ht1 (by decide) (pc' := 17) rfl ?_
    replace H := H _ rfl
    refine g_iload rfl rfl rfl (pc' := 18) ?_
    refine g_if_eq rfl (pc' := 21) (pt := 25) rfl rfl ⟨fun hc => ?_, fun hc => ?_⟩
    · replace H := H.1 hc
      refine g_iconst rfl rfl rfl (pc' := 27) ?_
      exact g_ireturn rfl (Or.inl rfl) H
    · replace H := H.2 hc
      refine g_iconst rfl rfl rfl (pc' := 22) ?_
      refine g_goto rfl (pc' := 27) rfl ?_
      exact g_ireturn rfl (Or.inl rfl) H
set_option maxRecDepth 20000 in
theorem w_215_47 {a0 : Nat} {x1 : Int32} {x2 : Int32} {h : hh_T} {Q : Option Value ⊕ Nat → hh_T → Prop} (H : gm_sub (hh_tg h a0) 47 = true ∧ ((¬ x2 < (hh_i h a0 3) → (Q (.inl (some (.int x1))) h)) ∧ (x2 < (hh_i h a0 3) → (∀ r2, r2 = hh_r h a0 2 → (∀ r3, r3 = hh_r h a0 2 → (∃ a4, r3 = some a4 ∧ ((hh_tg h a4 = 100 ∨ hh_tg h a4 = 105) ∧ (∃ n5, gm_ix (x2 + (Int32.ofNat 1)) n5 (hh_ln h a4) ∧ (∃ a7, r2 = some a7 ∧ (hh_tg h a7 = 100 ∧ (∃ n8, gm_ix x2 n8 (hh_ln h a7) ∧ (∀ h9, h9 = hh_wi h a7 n8 (hh_i h a4 n5) → (gm_G 215 47 [some (.ref a0), some (.int x1), some (.int (x2 + (Int32.ofNat 1)))] [] h9 Q))))))))))))) : gm_G 215 47 [some (.ref a0), some (.int x1), some (.int x2)] [] h Q := by
  refine g_iload rfl rfl rfl (pc' := 48) ?_
  refine g_aload (r := some _) rfl rfl rfl (pc' := 49) ?_
  obtain ⟨ht1, H⟩ := H
  refine g_getI rfl rfl rfl rfl ht1 (pc' := 52) rfl ?_
  refine g_ic_ge rfl (pc' := 55) (pt := 75) rfl rfl ⟨fun hc => ?_, fun hc => ?_⟩
  · replace H := H.1 hc
    refine g_iload rfl rfl rfl (pc' := 76) ?_
    exact g_ireturn rfl (Or.inl rfl) H
  · replace H := H.2 hc
    refine g_aload (r := some _) rfl rfl rfl (pc' := 56) ?_
    refine g_getRv rfl rfl rfl rfl ht1 (pc' := 59) rfl (fun r2 hr2 => ?_)
    replace H := H r2 hr2
    refine g_iload rfl rfl rfl (pc' := 60) ?_
    refine g_aload (r := some _) rfl rfl rfl (pc' := 61) ?_
    refine g_getRv rfl rfl rfl rfl ht1 (pc' := 64) rfl (fun r3 hr3 => ?_)
    replace H := H r3 hr3
    refine g_iload rfl rfl rfl (pc' := 65) ?_
    refine g_iconst rfl rfl rfl (pc' := 66) ?_
    refine g_iadd rfl rfl (pc' := 67) ?_
    obtain ⟨a4, rfl, H⟩ := H
    obtain ⟨ht6, H⟩ := H
    obtain ⟨n5, hn5, H⟩ := H
    refine g_iaload rfl ht6 hn5 (pc' := 68) rfl ?_
    obtain ⟨a7, rfl, H⟩ := H
    obtain ⟨ht10, H⟩ := H
    obtain ⟨n8, hn8, H⟩ := H
    refine g_iastore rfl ht10 hn8  (pc' := 69) rfl ?_
    replace H := H _ rfl
    refine g_iinc (c := (Int32.ofNat 1)) rfl rfl rfl rfl rfl (pc' := 72) ?_
    refine g_goto rfl (pc' := 47) rfl ?_
    exact g_weak (show gm_Lle [some _, some _, some _] _ from ⟨rfl, ⟨rfl, ⟨rfl, trivial⟩⟩⟩) H
set_option maxRecDepth 20000 in
theorem w_216_0 {a0 : Nat} {x1 : Int32} {h : hh_T} {Q : Option Value ⊕ Nat → hh_T → Prop} (H : gm_sub (hh_tg h a0) 47 = true ∧ (∀ r2, r2 = hh_r h a0 2 → (∃ a3, r2 = some a3 ∧ (100 ≤ hh_tg h a3 ∧ ((¬ (hh_i h a0 3) = (Int32.ofNat (hh_ln h a3)) → (∀ r4, r4 = hh_r h a0 2 → (∃ a5, r4 = some a5 ∧ (hh_tg h a5 = 100 ∧ (∃ n6, gm_ix (hh_i h a0 3) n6 (hh_ln h a5) ∧ (∀ h7, h7 = hh_wi h a5 n6 x1 → (∀ h8, h8 = hh_wi h7 a0 3 ((hh_i h7 a0 3) + (Int32.ofNat 1)) → (Q (.inl none) h8)))))))) ∧ ((hh_i h a0 3) = (Int32.ofNat (hh_ln h a3)) → (∀ h10, h10 = hh_wi h a0 4 (Int32.ofNat 1) → (Q (.inl none) h10)))))))) : gm_G 216 0 [some (.ref a0), some (.int x1)] [] h Q := by
  refine g_aload (r := some _) rfl rfl rfl (pc' := 1) ?_
  obtain ⟨ht1, H⟩ := H
  refine g_getI rfl rfl rfl rfl ht1 (pc' := 4) rfl ?_
  refine g_aload (r := some _) rfl rfl rfl (pc' := 5) ?_
  refine g_getRv rfl rfl rfl rfl ht1 (pc' := 8) rfl (fun r2 hr2 => ?_)
  replace H := H r2 hr2
  obtain ⟨a3, rfl, H⟩ := H
  obtain ⟨Hp, H⟩ := H
  refine g_alen rfl Hp (pc' := 9) rfl ?_
  refine g_ic_ne rfl (pc' := 12) (pt := 18) rfl rfl ⟨fun hc => ?_, fun hc => ?_⟩
  · replace H := H.1 hc
    refine g_aload (r := some _) rfl rfl rfl (pc' := 19) ?_
    refine g_getRv rfl rfl rfl rfl ht1 (pc' := 22) rfl (fun r4 hr4 => ?_)
    replace H := H r4 hr4
    refine g_aload (r := some _) rfl rfl rfl (pc' := 23) ?_
    refine g_getI rfl rfl rfl rfl ht1 (pc' := 26) rfl ?_
    refine g_iload rfl rfl rfl (pc' := 27) ?_
    obtain ⟨a5, rfl, H⟩ := H
    obtain ⟨ht9, H⟩ := H
    obtain ⟨n6, hn6, H⟩ := H
    refine g_iastore rfl ht9 hn6  (pc' := 28) rfl ?_
    replace H := H _ rfl
    refine g_aload (r := some _) rfl rfl rfl (pc' := 29) ?_
    refine g_dup_a (r := some _) rfl rfl (pc' := 30) ?_
    refine g_getI rfl rfl rfl rfl ht1 (pc' := 33) rfl ?_
    refine g_iconst rfl rfl rfl (pc' := 34) ?_
    refine g_iadd rfl rfl (pc' := 35) ?_
    refine g_putI rfl rfl rfl rfl ht1  (pc' := 38) rfl ?_
    replace H := H _ rfl
    exact g_return rfl H
  · replace H := H.2 hc
    refine g_aload (r := some _) rfl rfl rfl (pc' := 13) ?_
    refine g_iconst rfl rfl rfl (pc' := 14) ?_
    refine g_putZ rfl rfl rfl rfl ht1 (by decide) (pc' := 17) rfl ?_
    replace H := H _ rfl
    exact g_return rfl H
set_option maxRecDepth 20000 in
theorem w_217_0  {x0 : Int32} {h : hh_T} {Q : Option Value ⊕ Nat → hh_T → Prop} (H : Q (.inl (some (.int ((((((((x0 - (((x0.toUInt32 >>> ((Int32.ofNat 1).toUInt32 &&& Int32.toUInt32 31)).toInt32) &&& (Int32.ofNat 1431655765))) &&& (Int32.ofNat 858993459)) + ((((x0 - (((x0.toUInt32 >>> ((Int32.ofNat 1).toUInt32 &&& Int32.toUInt32 31)).toInt32) &&& (Int32.ofNat 1431655765))).toUInt32 >>> ((Int32.ofNat 2).toUInt32 &&& Int32.toUInt32 31)).toInt32) &&& (Int32.ofNat 858993459))) + (((((x0 - (((x0.toUInt32 >>> ((Int32.ofNat 1).toUInt32 &&& Int32.toUInt32 31)).toInt32) &&& (Int32.ofNat 1431655765))) &&& (Int32.ofNat 858993459)) + ((((x0 - (((x0.toUInt32 >>> ((Int32.ofNat 1).toUInt32 &&& Int32.toUInt32 31)).toInt32) &&& (Int32.ofNat 1431655765))).toUInt32 >>> ((Int32.ofNat 2).toUInt32 &&& Int32.toUInt32 31)).toInt32) &&& (Int32.ofNat 858993459))).toUInt32 >>> ((Int32.ofNat 4).toUInt32 &&& Int32.toUInt32 31)).toInt32)) &&& (Int32.ofNat 252645135)) + (((((((x0 - (((x0.toUInt32 >>> ((Int32.ofNat 1).toUInt32 &&& Int32.toUInt32 31)).toInt32) &&& (Int32.ofNat 1431655765))) &&& (Int32.ofNat 858993459)) + ((((x0 - (((x0.toUInt32 >>> ((Int32.ofNat 1).toUInt32 &&& Int32.toUInt32 31)).toInt32) &&& (Int32.ofNat 1431655765))).toUInt32 >>> ((Int32.ofNat 2).toUInt32 &&& Int32.toUInt32 31)).toInt32) &&& (Int32.ofNat 858993459))) + (((((x0 - (((x0.toUInt32 >>> ((Int32.ofNat 1).toUInt32 &&& Int32.toUInt32 31)).toInt32) &&& (Int32.ofNat 1431655765))) &&& (Int32.ofNat 858993459)) + ((((x0 - (((x0.toUInt32 >>> ((Int32.ofNat 1).toUInt32 &&& Int32.toUInt32 31)).toInt32) &&& (Int32.ofNat 1431655765))).toUInt32 >>> ((Int32.ofNat 2).toUInt32 &&& Int32.toUInt32 31)).toInt32) &&& (Int32.ofNat 858993459))).toUInt32 >>> ((Int32.ofNat 4).toUInt32 &&& Int32.toUInt32 31)).toInt32)) &&& (Int32.ofNat 252645135)).toUInt32 >>> ((Int32.ofNat 8).toUInt32 &&& Int32.toUInt32 31)).toInt32)) + ((((((((x0 - (((x0.toUInt32 >>> ((Int32.ofNat 1).toUInt32 &&& Int32.toUInt32 31)).toInt32) &&& (Int32.ofNat 1431655765))) &&& (Int32.ofNat 858993459)) + ((((x0 - (((x0.toUInt32 >>> ((Int32.ofNat 1).toUInt32 &&& Int32.toUInt32 31)).toInt32) &&& (Int32.ofNat 1431655765))).toUInt32 >>> ((Int32.ofNat 2).toUInt32 &&& Int32.toUInt32 31)).toInt32) &&& (Int32.ofNat 858993459))) + (((((x0 - (((x0.toUInt32 >>> ((Int32.ofNat 1).toUInt32 &&& Int32.toUInt32 31)).toInt32) &&& (Int32.ofNat 1431655765))) &&& (Int32.ofNat 858993459)) + ((((x0 - (((x0.toUInt32 >>> ((Int32.ofNat 1).toUInt32 &&& Int32.toUInt32 31)).toInt32) &&& (Int32.ofNat 1431655765))).toUInt32 >>> ((Int32.ofNat 2).toUInt32 &&& Int32.toUInt32 31)).toInt32) &&& (Int32.ofNat 858993459))).toUInt32 >>> ((Int32.ofNat 4).toUInt32 &&& Int32.toUInt32 31)).toInt32)) &&& (Int32.ofNat 252645135)) + (((((((x0 - (((x0.toUInt32 >>> ((Int32.ofNat 1).toUInt32 &&& Int32.toUInt32 31)).toInt32) &&& (Int32.ofNat 1431655765))) &&& (Int32.ofNat 858993459)) + ((((x0 - (((x0.toUInt32 >>> ((Int32.ofNat 1).toUInt32 &&& Int32.toUInt32 31)).toInt32) &&& (Int32.ofNat 1431655765))).toUInt32 >>> ((Int32.ofNat 2).toUInt32 &&& Int32.toUInt32 31)).toInt32) &&& (Int32.ofNat 858993459))) + (((((x0 - (((x0.toUInt32 >>> ((Int32.ofNat 1).toUInt32 &&& Int32.toUInt32 31)).toInt32) &&& (Int32.ofNat 1431655765))) &&& (Int32.ofNat 858993459)) + ((((x0 - (((x0.toUInt32 >>> ((Int32.ofNat 1).toUInt32 &&& Int32.toUInt32 31)).toInt32) &&& (Int32.ofNat 1431655765))).toUInt32 >>> ((Int32.ofNat 2).toUInt32 &&& Int32.toUInt32 31)).toInt32) &&& (Int32.ofNat 858993459))).toUInt32 >>> ((Int32.ofNat 4).toUInt32 &&& Int32.toUInt32 31)).toInt32)) &&& (Int32.ofNat 252645135)).toUInt32 >>> ((Int32.ofNat 8).toUInt32 &&& Int32.toUInt32 31)).toInt32)).toUInt32 >>> ((Int32.ofNat 16).toUInt32 &&& Int32.toUInt32 31)).toInt32)) &&& (Int32.ofNat 63))))) h) : gm_G 217 0 [some (.int x0)] [] h Q := by
  refine g_iload rfl rfl rfl (pc' := 1) ?_
  refine g_iload rfl rfl rfl (pc' := 2) ?_
  refine g_iconst rfl rfl rfl (pc' := 3) ?_
  refine g_iushr rfl rfl (pc' := 4) ?_
  refine g_iconst rfl rfl rfl (pc' := 7) ?_
  refine g_iand rfl rfl (pc' := 8) ?_
  refine g_isub rfl rfl (pc' := 9) ?_
  refine g_istore rfl rfl rfl (pc' := 10) ?_
  refine g_iload rfl rfl rfl (pc' := 11) ?_
  refine g_iconst rfl rfl rfl (pc' := 14) ?_
  refine g_iand rfl rfl (pc' := 15) ?_
  refine g_iload rfl rfl rfl (pc' := 16) ?_
  refine g_iconst rfl rfl rfl (pc' := 17) ?_
  refine g_iushr rfl rfl (pc' := 18) ?_
  refine g_iconst rfl rfl rfl (pc' := 21) ?_
  refine g_iand rfl rfl (pc' := 22) ?_
  refine g_iadd rfl rfl (pc' := 23) ?_
  refine g_istore rfl rfl rfl (pc' := 24) ?_
  refine g_iload rfl rfl rfl (pc' := 25) ?_
  refine g_iload rfl rfl rfl (pc' := 26) ?_
  refine g_iconst rfl rfl rfl (pc' := 27) ?_
  refine g_iushr rfl rfl (pc' := 28) ?_
  refine g_iadd rfl rfl (pc' := 29) ?_
  refine g_iconst rfl rfl rfl (pc' := 32) ?_
  refine g_iand rfl rfl (pc' := 33) ?_
  refine g_istore rfl rfl rfl (pc' := 34) ?_
  refine g_iload rfl rfl rfl (pc' := 35) ?_
  refine g_iload rfl rfl rfl (pc' := 36) ?_
  refine g_iconst rfl rfl rfl (pc' := 38) ?_
  refine g_iushr rfl rfl (pc' := 39) ?_
  refine g_iadd rfl rfl (pc' := 40) ?_
  refine g_istore rfl rfl rfl (pc' := 41) ?_
  refine g_iload rfl rfl rfl (pc' := 42) ?_
  refine g_iload rfl rfl rfl (pc' := 43) ?_
  refine g_iconst rfl rfl rfl (pc' := 45) ?_
  refine g_iushr rfl rfl (pc' := 46) ?_
  refine g_iadd rfl rfl (pc' := 47) ?_
  refine g_istore rfl rfl rfl (pc' := 48) ?_
  refine g_iload rfl rfl rfl (pc' := 49) ?_
  refine g_iconst rfl rfl rfl (pc' := 51) ?_
  refine g_iand rfl rfl (pc' := 52) ?_
  exact g_ireturn rfl (Or.inl rfl) H
set_option maxRecDepth 20000 in
theorem w_218_0 {a0 : Nat} {x1 : Int32} {x2 : Int32} {h : hh_T} {Q : Option Value ⊕ Nat → hh_T → Prop} (H : gm_sub (hh_tg h a0) 0 = true ∧ (gm_G 5 0 [some (.int x1), some (.int (Int32.ofNat 0)), some (.int ((hh_i h a0 35) - (Int32.ofNat 1)))] [] h (pI (fun v3 h2 => (¬ v3 = Int32.ofNat 0 → (gm_sub (hh_tg h2 a0) 0 = true ∧ (∀ r5, r5 = hh_r h2 a0 34 → (∃ a6, r5 = some a6 ∧ ((hh_tg h2 a6 = 104 ∨ 200 ≤ hh_tg h2 a6) ∧ (∃ n7, gm_ix (((hh_i h2 a0 35) - (Int32.ofNat 1)) - x1) n7 (hh_ln h2 a6) ∧ (∀ r9, r9 = hh_r h2 a6 n7 → ((¬ x2 = Int32.ofNat 0 → ((¬ x2 = (Int32.ofNat 1) → ((¬ x2 = (Int32.ofNat 2) → (Q (.inl (some (.int (Int32.ofInt (-2))))) h2)) ∧ (x2 = (Int32.ofNat 2) → (∃ a10, r9 = some a10 ∧ (gm_sub (hh_tg h2 a10) 22 = true ∧ (Q (.inl (some (.int (hh_i h2 a10 3)))) h2)))))) ∧ (x2 = (Int32.ofNat 1) → (∃ a12, r9 = some a12 ∧ (gm_sub (hh_tg h2 a12) 22 = true ∧ (Q (.inl (some (.int (hh_i h2 a12 2)))) h2)))))) ∧ (x2 = Int32.ofNat 0 → (∃ a14, r9 = some a14 ∧ (gm_sub (hh_tg h2 a14) 22 = true ∧ (Q (.inl (some (.int (hh_i h2 a14 6)))) h2)))))))))))) ∧ (v3 = Int32.ofNat 0 → (Q (.inl (some (.int (Int32.ofInt (-2))))) h2))) (fun e16 h17 => hh_tg h17 e16 = 21 ∧ Q (.inr e16) h17)))) : gm_G 218 0 [some (.ref a0), some (.int x1), some (.int x2)] [] h Q := by
  refine g_iload rfl rfl rfl (pc' := 1) ?_
  refine g_iconst rfl rfl rfl (pc' := 2) ?_
  refine g_aload (r := some _) rfl rfl rfl (pc' := 3) ?_
  obtain ⟨ht1, H⟩ := H
  refine g_getI rfl rfl rfl rfl ht1 (pc' := 6) rfl ?_
  refine g_iconst rfl rfl rfl (pc' := 7) ?_
  refine g_isub rfl rfl (pc' := 8) ?_
  refine g_call rfl (y := 5) (n := 3) (pc' := 11) (fun _ => rfl) rfl rfl ⟨(Nat.le_of_ble_eq_true rfl), (Nat.le_of_ble_eq_true rfl), (Nat.le_of_ble_eq_true rfl)⟩ rfl (gm_G.mono H (pI_elim (fun v3 h2 H' => ?_) (fun e16 h17 H => ?_)))
  · show gm_G _ 11 _ _ _ _
    replace H := H'
    clear H'
    refine g_if_ne rfl (pc' := 14) (pt := 17) rfl rfl ⟨fun hc => ?_, fun hc => ?_⟩
    · replace H := H.1 hc
      refine g_aload (r := some _) rfl rfl rfl (pc' := 18) ?_
      obtain ⟨ht4, H⟩ := H
      refine g_getRv rfl rfl rfl rfl ht4 (pc' := 21) rfl (fun r5 hr5 => ?_)
      replace H := H r5 hr5
      refine g_aload (r := some _) rfl rfl rfl (pc' := 22) ?_
      refine g_getI rfl rfl rfl rfl ht4 (pc' := 25) rfl ?_
      refine g_iconst rfl rfl rfl (pc' := 26) ?_
      refine g_isub rfl rfl (pc' := 27) ?_
      refine g_iload rfl rfl rfl (pc' := 28) ?_
      refine g_isub rfl rfl (pc' := 29) ?_
      obtain ⟨a6, rfl, H⟩ := H
      obtain ⟨ht8, H⟩ := H
      obtain ⟨n7, hn7, H⟩ := H
      refine g_aaloadv rfl ht8 hn7 (pc' := 30) rfl (fun r9 hr9 => ?_)
      replace H := H r9 hr9
      refine g_astore (r := _) rfl rfl rfl (pc' := 31) ?_
      refine g_iload rfl rfl rfl (pc' := 32) ?_
      refine g_if_ne rfl (pc' := 35) (pt := 42) rfl rfl ⟨fun hc => ?_, fun hc => ?_⟩
      · replace H := H.1 hc
        refine g_iload rfl rfl rfl (pc' := 43) ?_
        refine g_iconst rfl rfl rfl (pc' := 44) ?_
        refine g_ic_ne rfl (pc' := 47) (pt := 54) rfl rfl ⟨fun hc => ?_, fun hc => ?_⟩
        · replace H := H.1 hc
          refine g_iload rfl rfl rfl (pc' := 55) ?_
          refine g_iconst rfl rfl rfl (pc' := 56) ?_
          refine g_ic_ne rfl (pc' := 59) (pt := 66) rfl rfl ⟨fun hc => ?_, fun hc => ?_⟩
          · replace H := H.1 hc
            refine g_iconst rfl rfl rfl (pc' := 68) ?_
            exact g_ireturn rfl (Or.inl rfl) H
          · replace H := H.2 hc
            refine g_aload (r := _) rfl rfl rfl (pc' := 60) ?_
            obtain ⟨a10, rfl, H⟩ := H
            obtain ⟨ht11, H⟩ := H
            refine g_getI rfl rfl rfl rfl ht11 (pc' := 63) rfl ?_
            refine g_goto rfl (pc' := 68) rfl ?_
            exact g_ireturn rfl (Or.inl rfl) H
        · replace H := H.2 hc
          refine g_aload (r := _) rfl rfl rfl (pc' := 48) ?_
          obtain ⟨a12, rfl, H⟩ := H
          obtain ⟨ht13, H⟩ := H
          refine g_getI rfl rfl rfl rfl ht13 (pc' := 51) rfl ?_
          refine g_goto rfl (pc' := 68) rfl ?_
          exact g_ireturn rfl (Or.inl rfl) H
      · replace H := H.2 hc
        refine g_aload (r := _) rfl rfl rfl (pc' := 36) ?_
        obtain ⟨a14, rfl, H⟩ := H
        obtain ⟨ht15, H⟩ := H
        refine g_getI rfl rfl rfl rfl ht15 (pc' := 39) rfl ?_
        refine g_goto rfl (pc' := 68) rfl ?_
        exact g_ireturn rfl (Or.inl rfl) H
    · replace H := H.2 hc
      refine g_iconst rfl rfl rfl (pc' := 16) ?_
      exact g_ireturn rfl (Or.inl rfl) H
  · exact H
set_option maxRecDepth 20000 in
theorem w_219_0  {x0 : Int32} {h : hh_T} {Q : Option Value ⊕ Nat → hh_T → Prop} (H : gm_G 5 0 [some (.int x0), some (.int (Int32.ofNat 1)), some (.int (Int32.ofNat 127))] [] h (pI (fun v2 h1 => (v2 = Int32.ofNat 0 → (Q (.inl (some (.int (Int32.ofNat 0)))) h1)) ∧ (¬ v2 = Int32.ofNat 0 → ((¬ (x0 &&& (Int32.ofNat 3)) = Int32.ofNat 0 → (((x0 &&& (Int32.ofNat 8)) = Int32.ofNat 0 → (gm_G 219 31 [some (.int x0)] [] h1 Q)) ∧ (¬ (x0 &&& (Int32.ofNat 8)) = Int32.ofNat 0 → (((x0 &&& (Int32.ofNat 4)) = Int32.ofNat 0 → (Q (.inl (some (.int (Int32.ofNat 0)))) h1)) ∧ (¬ (x0 &&& (Int32.ofNat 4)) = Int32.ofNat 0 → (gm_G 219 31 [some (.int x0)] [] h1 Q)))))) ∧ ((x0 &&& (Int32.ofNat 3)) = Int32.ofNat 0 → (Q (.inl (some (.int (Int32.ofNat 0)))) h1))))) (fun e3 h4 => hh_tg h4 e3 = 21 ∧ Q (.inr e3) h4))) : gm_G 219 0 [some (.int x0)] [] h Q := by
  refine g_iload rfl rfl rfl (pc' := 1) ?_
  refine g_iconst rfl rfl rfl (pc' := 2) ?_
  refine g_iconst rfl rfl rfl (pc' := 4) ?_
  refine g_call rfl (y := 5) (n := 3) (pc' := 7) (fun _ => rfl) rfl rfl ⟨(Nat.le_of_ble_eq_true rfl), (Nat.le_of_ble_eq_true rfl), (Nat.le_of_ble_eq_true rfl)⟩ rfl (gm_G.mono H (pI_elim (fun v2 h1 H' => ?_) (fun e3 h4 H => ?_)))
  · show gm_G _ 7 _ _ _ _
    replace H := H'
    clear H'
    refine g_if_eq rfl (pc' := 10) (pt := 16) rfl rfl ⟨fun hc => ?_, fun hc => ?_⟩
    · replace H := H.1 hc
      refine g_iconst rfl rfl rfl (pc' := 17) ?_
      exact g_ireturn rfl (Or.inr (by decide)) H
    · replace H := H.2 hc
      refine g_iload rfl rfl rfl (pc' := 11) ?_
      refine g_iconst rfl rfl rfl (pc' := 12) ?_
      refine g_iand rfl rfl (pc' := 13) ?_
      refine g_if_ne rfl (pc' := 16) (pt := 18) rfl rfl ⟨fun hc => ?_, fun hc => ?_⟩
      · replace H := H.1 hc
        refine g_iload rfl rfl rfl (pc' := 19) ?_
        refine g_iconst rfl rfl rfl (pc' := 21) ?_
        refine g_iand rfl rfl (pc' := 22) ?_
        refine g_if_eq rfl (pc' := 25) (pt := 31) rfl rfl ⟨fun hc => ?_, fun hc => ?_⟩
        · replace H := H.1 hc
          exact g_weak (show gm_Lle [some _] _ from ⟨rfl, trivial⟩) H
        · replace H := H.2 hc
          refine g_iload rfl rfl rfl (pc' := 26) ?_
          refine g_iconst rfl rfl rfl (pc' := 27) ?_
          refine g_iand rfl rfl (pc' := 28) ?_
          refine g_if_eq rfl (pc' := 31) (pt := 48) rfl rfl ⟨fun hc => ?_, fun hc => ?_⟩
          · replace H := H.1 hc
            refine g_iconst rfl rfl rfl (pc' := 49) ?_
            exact g_ireturn rfl (Or.inr (by decide)) H
          · replace H := H.2 hc
            exact g_weak (show gm_Lle [some _] _ from ⟨rfl, trivial⟩) H
      · replace H := H.2 hc
        refine g_iconst rfl rfl rfl (pc' := 17) ?_
        exact g_ireturn rfl (Or.inr (by decide)) H
  · exact H
set_option maxRecDepth 20000 in
theorem w_219_31  {x0 : Int32} {h : hh_T} {Q : Option Value ⊕ Nat → hh_T → Prop} (H : ((x0 &&& (Int32.ofNat 48)) = Int32.ofNat 0 → (gm_G 219 44 [] [] h Q)) ∧ (¬ (x0 &&& (Int32.ofNat 48)) = Int32.ofNat 0 → (((x0 &&& (Int32.ofNat 2)) = Int32.ofNat 0 → (Q (.inl (some (.int (Int32.ofNat 0)))) h)) ∧ (¬ (x0 &&& (Int32.ofNat 2)) = Int32.ofNat 0 → (gm_G 219 44 [] [] h Q))))) : gm_G 219 31 [some (.int x0)] [] h Q := by
  refine g_iload rfl rfl rfl (pc' := 32) ?_
  refine g_iconst rfl rfl rfl (pc' := 34) ?_
  refine g_iand rfl rfl (pc' := 35) ?_
  refine g_if_eq rfl (pc' := 38) (pt := 44) rfl rfl ⟨fun hc => ?_, fun hc => ?_⟩
  · replace H := H.1 hc
    exact g_weak (show gm_Lle [] _ from trivial) H
  · replace H := H.2 hc
    refine g_iload rfl rfl rfl (pc' := 39) ?_
    refine g_iconst rfl rfl rfl (pc' := 40) ?_
    refine g_iand rfl rfl (pc' := 41) ?_
    refine g_if_eq rfl (pc' := 44) (pt := 48) rfl rfl ⟨fun hc => ?_, fun hc => ?_⟩
    · replace H := H.1 hc
      refine g_iconst rfl rfl rfl (pc' := 49) ?_
      exact g_ireturn rfl (Or.inr (by decide)) H
    · replace H := H.2 hc
      exact g_weak (show gm_Lle [] _ from trivial) H
set_option maxRecDepth 20000 in
theorem w_219_44   {h : hh_T} {Q : Option Value ⊕ Nat → hh_T → Prop} (H : Q (.inl (some (.int (Int32.ofNat 1)))) h) : gm_G 219 44 [] [] h Q := by
  refine g_iconst rfl rfl rfl (pc' := 45) ?_
  refine g_goto rfl (pc' := 49) rfl ?_
  exact g_ireturn rfl (Or.inr (by decide)) H
set_option maxRecDepth 20000 in
theorem w_220_0 {a0 : Nat}  {h : hh_T} {Q : Option Value ⊕ Nat → hh_T → Prop} (H : gm_sub (hh_tg h a0) 0 = true ∧ (∀ r2, r2 = hh_r h a0 32 → ((∀ a3, r2 = some a3 → (gm_sub (hh_tg h a3) 24 = true ∧ (∀ r5, r5 = hh_r h a3 3 → (∀ h6, h6 = hh_wr h a0 32 r5 → (gm_G 220 28 [none, some (.ref a3)] [] h6 Q))))) ∧ (r2 = none → (∀ a7 h8, a7 = hh_sz h → h8 = hh_al h 25 0 4 → (gm_G 187 0 [some (.ref a7)] [] h8 (pV (fun h9 => gm_G 220 28 [none, some (.ref a7)] [] h9 Q) (fun e10 h11 => hh_tg h11 e10 = 21 ∧ Q (.inr e10) h11)))))))) : gm_G 220 0 [some (.ref a0)] [] h Q := by
  refine g_aload (r := some _) rfl rfl rfl (pc' := 1) ?_
  obtain ⟨ht1, H⟩ := H
  refine g_getRv rfl rfl rfl rfl ht1 (pc' := 4) rfl (fun r2 hr2 => ?_)
  replace H := H r2 hr2
  refine g_astore (r := _) rfl rfl rfl (pc' := 5) ?_
  refine g_aload (r := _) rfl rfl rfl (pc' := 6) ?_
  refine g_ifnonnull rfl (pc' := 9) (pt := 20) rfl rfl ⟨fun a3 hc => ?_, fun hc => ?_⟩
  · replace H := H.1 a3 hc
    subst hc
    refine g_aload (r := some _) rfl rfl rfl (pc' := 21) ?_
    refine g_aload (r := some _) rfl rfl rfl (pc' := 22) ?_
    obtain ⟨ht4, H⟩ := H
    refine g_getRv rfl rfl rfl rfl ht4 (pc' := 25) rfl (fun r5 hr5 => ?_)
    replace H := H r5 hr5
    refine g_putR rfl rfl rfl rfl ht1  (pc' := 28) rfl ?_
    replace H := H _ rfl
    exact g_weak (show gm_Lle [none, some _] _ from ⟨rfl, trivial⟩) H
  · replace H := H.2 hc
    subst hc
    refine g_new rfl (t := 25) (s := 4) rfl rfl (pc' := 12) rfl ?_
    replace H := H _ _ rfl rfl
    refine g_dup_a (r := some _) rfl rfl (pc' := 13) ?_
    refine g_call rfl (y := 187) (n := 1) (pc' := 16) (fun _ => rfl) rfl rfl ⟨(Nat.le_of_ble_eq_true rfl), (Nat.le_of_ble_eq_true rfl), (Nat.le_of_ble_eq_true rfl)⟩ rfl (gm_G.mono H (pV_elim (fun h9 H' => ?_) (fun e10 h11 H => ?_)))
    · show gm_G _ 16 _ _ _ _
      replace H := H'
      clear H'
      refine g_astore (r := some _) rfl rfl rfl (pc' := 17) ?_
      refine g_goto rfl (pc' := 28) rfl ?_
      exact g_weak (show gm_Lle [none, some _] _ from ⟨rfl, trivial⟩) H
    · exact H
set_option maxRecDepth 20000 in
theorem w_220_28 {a0 : Nat} {r_1 : Option Nat} {h : hh_T} {Q : Option Value ⊕ Nat → hh_T → Prop} (H : ∃ a1, r_1 = some a1 ∧ (gm_sub (hh_tg h a1) 24 = true ∧ (∀ h3, h3 = hh_wr h a1 3 none → (∀ h4, h4 = hh_wi h3 a1 0 (Int32.ofNat 1) → (∀ h5, h5 = hh_wi h4 a1 1 (Int32.ofNat 0) → (Q (.inl (some (.ref a1))) h5)))))) : gm_G 220 28 [none, some (va_rf r_1)] [] h Q := by
  refine g_aload (r := _) rfl rfl rfl (pc' := 29) ?_
  refine g_null rfl rfl (pc' := 30) ?_
  obtain ⟨a1, rfl, H⟩ := H
  obtain ⟨ht2, H⟩ := H
  refine g_putR rfl rfl rfl rfl ht2  (pc' := 33) rfl ?_
  replace H := H _ rfl
  refine g_aload (r := some _) rfl rfl rfl (pc' := 34) ?_
  refine g_iconst rfl rfl rfl (pc' := 35) ?_
  refine g_putI rfl rfl rfl rfl ht2  (pc' := 38) rfl ?_
  replace H := H _ rfl
  refine g_aload (r := some _) rfl rfl rfl (pc' := 39) ?_
  refine g_iconst rfl rfl rfl (pc' := 40) ?_
  refine g_putI rfl rfl rfl rfl ht2  (pc' := 43) rfl ?_
  replace H := H _ rfl
  refine g_aload (r := some _) rfl rfl rfl (pc' := 44) ?_
  exact g_areturn (r := some _) rfl H
set_option maxRecDepth 20000 in
theorem w_221_0 {a0 : Nat} {x1 : Int32} {h : hh_T} {Q : Option Value ⊕ Nat → hh_T → Prop} (H : gm_G 5 0 [some (.int x1), some (.int (Int32.ofNat 0)), some (.int (Int32.ofNat 6))] [] h (pI (fun v2 h1 => (¬ v2 = Int32.ofNat 0 → ((¬ x1 < (Int32.ofNat 4) → ((¬ x1 = (Int32.ofNat 4) → ((¬ x1 = (Int32.ofNat 5) → (gm_sub (hh_tg h1 a0) 0 = true ∧ (∀ r4, r4 = hh_r h1 a0 18 → (∃ a5, r4 = some a5 ∧ (gm_sub (hh_tg h1 a5) 11 = true ∧ (Q (.inl (some (.int (hh_i h1 a5 7)))) h1)))))) ∧ (x1 = (Int32.ofNat 5) → (gm_sub (hh_tg h1 a0) 0 = true ∧ (∀ r8, r8 = hh_r h1 a0 18 → (∃ a9, r8 = some a9 ∧ (gm_sub (hh_tg h1 a9) 11 = true ∧ (Q (.inl (some (.int (hh_i h1 a9 6)))) h1)))))))) ∧ (x1 = (Int32.ofNat 4) → (gm_sub (hh_tg h1 a0) 0 = true ∧ (∀ r12, r12 = hh_r h1 a0 18 → (∃ a13, r12 = some a13 ∧ (gm_sub (hh_tg h1 a13) 11 = true ∧ (Q (.inl (some (.int (hh_i h1 a13 5)))) h1)))))))) ∧ (x1 < (Int32.ofNat 4) → (gm_sub (hh_tg h1 a0) 0 = true ∧ (∀ r16, r16 = hh_r h1 a0 18 → (∃ a17, r16 = some a17 ∧ (hh_tg h1 a17 = 12 ∧ (gm_G 61 0 [some (.ref a17), some (.int (x1 + (Int32.ofNat 1)))] [] h1 (pI (fun v20 h19 => Q (.inl (some (.int v20))) h19) (fun e21 h22 => hh_tg h22 e21 = 21 ∧ Q (.inr e21) h22)))))))))) ∧ (v2 = Int32.ofNat 0 → (Q (.inl (some (.int (Int32.ofInt (-1))))) h1))) (fun e23 h24 => hh_tg h24 e23 = 21 ∧ Q (.inr e23) h24))) : gm_G 221 0 [some (.ref a0), some (.int x1)] [] h Q := by
  refine g_iload rfl rfl rfl (pc' := 1) ?_
  refine g_iconst rfl rfl rfl (pc' := 2) ?_
  refine g_iconst rfl rfl rfl (pc' := 4) ?_
  refine g_call rfl (y := 5) (n := 3) (pc' := 7) (fun _ => rfl) rfl rfl ⟨(Nat.le_of_ble_eq_true rfl), (Nat.le_of_ble_eq_true rfl), (Nat.le_of_ble_eq_true rfl)⟩ rfl (gm_G.mono H (pI_elim (fun v2 h1 H' => ?_) (fun e23 h24 H => ?_)))
  · show gm_G _ 7 _ _ _ _
    replace H := H'
    clear H'
    refine g_if_ne rfl (pc' := 10) (pt := 12) rfl rfl ⟨fun hc => ?_, fun hc => ?_⟩
    · replace H := H.1 hc
      refine g_iload rfl rfl rfl (pc' := 13) ?_
      refine g_iconst rfl rfl rfl (pc' := 14) ?_
      refine g_ic_ge rfl (pc' := 17) (pt := 30) rfl rfl ⟨fun hc => ?_, fun hc => ?_⟩
      · replace H := H.1 hc
        refine g_iload rfl rfl rfl (pc' := 31) ?_
        refine g_iconst rfl rfl rfl (pc' := 32) ?_
        refine g_ic_ne rfl (pc' := 35) (pt := 45) rfl rfl ⟨fun hc => ?_, fun hc => ?_⟩
        · replace H := H.1 hc
          refine g_iload rfl rfl rfl (pc' := 46) ?_
          refine g_iconst rfl rfl rfl (pc' := 47) ?_
          refine g_ic_ne rfl (pc' := 50) (pt := 60) rfl rfl ⟨fun hc => ?_, fun hc => ?_⟩
          · replace H := H.1 hc
            refine g_aload (r := some _) rfl rfl rfl (pc' := 61) ?_
            obtain ⟨ht3, H⟩ := H
            refine g_getRv rfl rfl rfl rfl ht3 (pc' := 64) rfl (fun r4 hr4 => ?_)
            replace H := H r4 hr4
            obtain ⟨a5, rfl, H⟩ := H
            obtain ⟨ht6, H⟩ := H
            refine g_getI rfl rfl rfl rfl ht6 (pc' := 67) rfl ?_
            exact g_ireturn rfl (Or.inl rfl) H
          · replace H := H.2 hc
            refine g_aload (r := some _) rfl rfl rfl (pc' := 51) ?_
            obtain ⟨ht7, H⟩ := H
            refine g_getRv rfl rfl rfl rfl ht7 (pc' := 54) rfl (fun r8 hr8 => ?_)
            replace H := H r8 hr8
            obtain ⟨a9, rfl, H⟩ := H
            obtain ⟨ht10, H⟩ := H
            refine g_getI rfl rfl rfl rfl ht10 (pc' := 57) rfl ?_
            refine g_goto rfl (pc' := 67) rfl ?_
            exact g_ireturn rfl (Or.inl rfl) H
        · replace H := H.2 hc
          refine g_aload (r := some _) rfl rfl rfl (pc' := 36) ?_
          obtain ⟨ht11, H⟩ := H
          refine g_getRv rfl rfl rfl rfl ht11 (pc' := 39) rfl (fun r12 hr12 => ?_)
          replace H := H r12 hr12
          obtain ⟨a13, rfl, H⟩ := H
          obtain ⟨ht14, H⟩ := H
          refine g_getI rfl rfl rfl rfl ht14 (pc' := 42) rfl ?_
          refine g_goto rfl (pc' := 67) rfl ?_
          exact g_ireturn rfl (Or.inl rfl) H
      · replace H := H.2 hc
        refine g_aload (r := some _) rfl rfl rfl (pc' := 18) ?_
        obtain ⟨ht15, H⟩ := H
        refine g_getRv rfl rfl rfl rfl ht15 (pc' := 21) rfl (fun r16 hr16 => ?_)
        replace H := H r16 hr16
        refine g_iload rfl rfl rfl (pc' := 22) ?_
        refine g_iconst rfl rfl rfl (pc' := 23) ?_
        refine g_iadd rfl rfl (pc' := 24) ?_
        obtain ⟨a17, rfl, H⟩ := H
        obtain ⟨ht18, H⟩ := H
        refine g_call rfl (y := 61) (n := 2) (pc' := 27) (g_vt ht18 rfl rfl) rfl rfl ⟨(Nat.le_of_ble_eq_true rfl), (Nat.le_of_ble_eq_true rfl), (Nat.le_of_ble_eq_true rfl)⟩ rfl (gm_G.mono H (pI_elim (fun v20 h19 H' => ?_) (fun e21 h22 H => ?_)))
        · show gm_G _ 27 _ _ _ _
          replace H := H'
          clear H'
          refine g_goto rfl (pc' := 67) rfl ?_
          exact g_ireturn rfl (Or.inl rfl) H
        · exact H
    · replace H := H.2 hc
      refine g_iconst rfl rfl rfl (pc' := 11) ?_
      exact g_ireturn rfl (Or.inl rfl) H
  · exact H
set_option maxRecDepth 20000 in
theorem w_222_0 {a0 : Nat} {x1 : Int32} {h : hh_T} {Q : Option Value ⊕ Nat → hh_T → Prop} (H : gm_G 5 0 [some (.int x1), some (.int (Int32.ofNat 0)), some (.int (Int32.ofNat 1000))] [] h (pI (fun v2 h1 => (¬ v2 = Int32.ofNat 0 → (gm_sub (hh_tg h1 a0) 0 = true ∧ (∀ h4, h4 = hh_wi h1 a0 42 (if ((hh_i h1 a0 42) + x1) < (Int32.ofNat 2000000000) then ((hh_i h1 a0 42) + x1) else (Int32.ofNat 2000000000)) → (∀ r5, r5 = hh_r h4 a0 51 → (∃ a6, r5 = some a6 ∧ (hh_tg h4 a6 = 15 ∧ (gm_G 79 0 [some (.ref a6), some (.int (hh_i h4 a0 42))] [] h4 (pV (fun h8 => gm_sub (hh_tg h8 a0) 0 = true ∧ (Q (.inl (some (.int (hh_i h8 a0 42)))) h8)) (fun e10 h11 => hh_tg h11 e10 = 21 ∧ Q (.inr e10) h11))))))))) ∧ (v2 = Int32.ofNat 0 → (Q (.inl (some (.int (Int32.ofInt (-1))))) h1))) (fun e12 h13 => hh_tg h13 e12 = 21 ∧ Q (.inr e12) h13))) : gm_G 222 0 [some (.ref a0), some (.int x1)] [] h Q := by
  refine g_iload rfl rfl rfl (pc' := 1) ?_
  refine g_iconst rfl rfl rfl (pc' := 2) ?_
  refine g_iconst rfl rfl rfl (pc' := 5) ?_
  refine g_call rfl (y := 5) (n := 3) (pc' := 8) (fun _ => rfl) rfl rfl ⟨(Nat.le_of_ble_eq_true rfl), (Nat.le_of_ble_eq_true rfl), (Nat.le_of_ble_eq_true rfl)⟩ rfl (gm_G.mono H (pI_elim (fun v2 h1 H' => ?_) (fun e12 h13 H => ?_)))
  · show gm_G _ 8 _ _ _ _
    replace H := H'
    clear H'
    refine g_if_ne rfl (pc' := 11) (pt := 13) rfl rfl ⟨fun hc => ?_, fun hc => ?_⟩
    · replace H := H.1 hc
      refine g_aload (r := some _) rfl rfl rfl (pc' := 14) ?_
      refine g_iconst rfl rfl rfl (pc' := 17) ?_
      refine g_aload (r := some _) rfl rfl rfl (pc' := 18) ?_
      obtain ⟨ht3, H⟩ := H
      refine g_getI rfl rfl rfl rfl ht3 (pc' := 21) rfl ?_
      refine g_iload rfl rfl rfl (pc' := 22) ?_
      refine g_iadd rfl rfl (pc' := 23) ?_
      refine g_dsub rfl (Nat.le_of_ble_eq_true rfl) rfl (pc' := 26) ?_
      refine g_putI rfl rfl rfl rfl ht3  (pc' := 29) rfl ?_
      replace H := H _ rfl
      refine g_aload (r := some _) rfl rfl rfl (pc' := 30) ?_
      refine g_getRv rfl rfl rfl rfl ht3 (pc' := 33) rfl (fun r5 hr5 => ?_)
      replace H := H r5 hr5
      refine g_aload (r := some _) rfl rfl rfl (pc' := 34) ?_
      refine g_getI rfl rfl rfl rfl ht3 (pc' := 37) rfl ?_
      obtain ⟨a6, rfl, H⟩ := H
      obtain ⟨ht7, H⟩ := H
      refine g_call rfl (y := 79) (n := 2) (pc' := 40) (g_vt ht7 rfl rfl) rfl rfl ⟨(Nat.le_of_ble_eq_true rfl), (Nat.le_of_ble_eq_true rfl), (Nat.le_of_ble_eq_true rfl)⟩ rfl (gm_G.mono H (pV_elim (fun h8 H' => ?_) (fun e10 h11 H => ?_)))
      · show gm_G _ 40 _ _ _ _
        replace H := H'
        clear H'
        refine g_aload (r := some _) rfl rfl rfl (pc' := 41) ?_
        obtain ⟨ht9, H⟩ := H
        refine g_getI rfl rfl rfl rfl ht9 (pc' := 44) rfl ?_
        exact g_ireturn rfl (Or.inl rfl) H
      · exact H
    · replace H := H.2 hc
      refine g_iconst rfl rfl rfl (pc' := 12) ?_
      exact g_ireturn rfl (Or.inl rfl) H
  · exact H
set_option maxRecDepth 20000 in
theorem w_223_0 {a0 : Nat} {x1 : Int32} {h : hh_T} {Q : Option Value ⊕ Nat → hh_T → Prop} (H : (¬ (0 ≤ x1.toInt ∧ x1.toInt ≤ 10) → (Q (.inl (some (.int (Int32.ofInt (-1))))) h)) ∧ (x1.toInt = 0 → (gm_sub (hh_tg h a0) 0 = true ∧ (∀ r2, r2 = hh_r h a0 2 → (∃ a3, r2 = some a3 ∧ (gm_sub (hh_tg h a3) 1 = true ∧ (Q (.inl (some (.int (hh_i h a3 3)))) h)))))) ∧ (x1.toInt = 1 → (gm_sub (hh_tg h a0) 0 = true ∧ (∀ r6, r6 = hh_r h a0 2 → (∃ a7, r6 = some a7 ∧ (gm_sub (hh_tg h a7) 1 = true ∧ (Q (.inl (some (.int (hh_i h a7 4)))) h)))))) ∧ (x1.toInt = 2 → (gm_sub (hh_tg h a0) 0 = true ∧ (Q (.inl (some (.int (hh_i h a0 22)))) h))) ∧ (x1.toInt = 3 → (gm_sub (hh_tg h a0) 0 = true ∧ (Q (.inl (some (.int (hh_i h a0 16)))) h))) ∧ (x1.toInt = 4 → (gm_sub (hh_tg h a0) 0 = true ∧ (Q (.inl (some (.int (hh_i h a0 36)))) h))) ∧ (x1.toInt = 5 → (gm_sub (hh_tg h a0) 0 = true ∧ (∀ r13, r13 = hh_r h a0 49 → (∃ a14, r13 = some a14 ∧ (hh_tg h a14 = 14 ∧ (gm_G 67 0 [some (.ref a14), some (.int (Int32.ofNat 0))] [] h (pI (fun v17 h16 => Q (.inl (some (.int v17))) h16) (fun e18 h19 => hh_tg h19 e18 = 21 ∧ Q (.inr e18) h19)))))))) ∧ (x1.toInt = 6 → (gm_sub (hh_tg h a0) 0 = true ∧ (∀ r21, r21 = hh_r h a0 49 → (∃ a22, r21 = some a22 ∧ (hh_tg h a22 = 14 ∧ (gm_G 67 0 [some (.ref a22), some (.int (Int32.ofNat 1))] [] h (pI (fun v25 h24 => Q (.inl (some (.int v25))) h24) (fun e26 h27 => hh_tg h27 e26 = 21 ∧ Q (.inr e26) h27)))))))) ∧ (x1.toInt = 7 → (gm_sub (hh_tg h a0) 0 = true ∧ (Q (.inl (some (.int (hh_i h a0 15)))) h))) ∧ (x1.toInt = 8 → (gm_sub (hh_tg h a0) 0 = true ∧ (((hh_i h a0 10) = Int32.ofNat 0 → (Q (.inl (some (.int (Int32.ofNat 0)))) h)) ∧ (¬ (hh_i h a0 10) = Int32.ofNat 0 → (Q (.inl (some (.int (Int32.ofNat 1)))) h))))) ∧ (x1.toInt = 9 → (gm_sub (hh_tg h a0) 0 = true ∧ (∀ r31, r31 = hh_r h a0 57 → (∃ a32, r31 = some a32 ∧ (gm_sub (hh_tg h a32) 12 = true ∧ (Q (.inl (some (.int (hh_i h a32 1)))) h)))))) ∧ (x1.toInt = 10 → (gm_sub (hh_tg h a0) 0 = true ∧ (Q (.inl (some (.int (hh_i h a0 37)))) h)))) : gm_G 223 0 [some (.ref a0), some (.int x1)] [] h Q := by
  refine g_iload rfl rfl rfl (pc' := 1) ?_
  refine g_switch rfl ⟨fun hc => ?_, fun hc => ?_⟩
  · replace H := H.1 (fun hq => by omega)
    refine g_iconst rfl rfl rfl (pc' := 141) ?_
    exact g_ireturn rfl (Or.inl rfl) H
  · replace H := H.2
    have hq : x1.toInt = 0 ∨ x1.toInt = 1 ∨ x1.toInt = 2 ∨ x1.toInt = 3 ∨ x1.toInt = 4 ∨ x1.toInt = 5 ∨ x1.toInt = 6 ∨ x1.toInt = 7 ∨ x1.toInt = 8 ∨ x1.toInt = 9 ∨ x1.toInt = 10 := by omega
    rcases hq with hq | hq | hq | hq | hq | hq | hq | hq | hq | hq | hq
    · replace H := (H.1) hq
      refine ⟨60, by rw [hq]; rfl, ?_⟩
      show gm_G _ 60 _ _ _ _
      refine g_aload (r := some _) rfl rfl rfl (pc' := 61) ?_
      obtain ⟨ht1, H⟩ := H
      refine g_getRv rfl rfl rfl rfl ht1 (pc' := 64) rfl (fun r2 hr2 => ?_)
      replace H := H r2 hr2
      obtain ⟨a3, rfl, H⟩ := H
      obtain ⟨ht4, H⟩ := H
      refine g_getI rfl rfl rfl rfl ht4 (pc' := 67) rfl ?_
      exact g_ireturn rfl (Or.inl rfl) H
    · replace H := (H.2.1) hq
      refine ⟨68, by rw [hq]; rfl, ?_⟩
      show gm_G _ 68 _ _ _ _
      refine g_aload (r := some _) rfl rfl rfl (pc' := 69) ?_
      obtain ⟨ht5, H⟩ := H
      refine g_getRv rfl rfl rfl rfl ht5 (pc' := 72) rfl (fun r6 hr6 => ?_)
      replace H := H r6 hr6
      obtain ⟨a7, rfl, H⟩ := H
      obtain ⟨ht8, H⟩ := H
      refine g_getI rfl rfl rfl rfl ht8 (pc' := 75) rfl ?_
      exact g_ireturn rfl (Or.inl rfl) H
    · replace H := (H.2.2.1) hq
      refine ⟨76, by rw [hq]; rfl, ?_⟩
      show gm_G _ 76 _ _ _ _
      refine g_aload (r := some _) rfl rfl rfl (pc' := 77) ?_
      obtain ⟨ht9, H⟩ := H
      refine g_getI rfl rfl rfl rfl ht9 (pc' := 80) rfl ?_
      exact g_ireturn rfl (Or.inl rfl) H
    · replace H := (H.2.2.2.1) hq
      refine ⟨81, by rw [hq]; rfl, ?_⟩
      show gm_G _ 81 _ _ _ _
      refine g_aload (r := some _) rfl rfl rfl (pc' := 82) ?_
      obtain ⟨ht10, H⟩ := H
      refine g_getI rfl rfl rfl rfl ht10 (pc' := 85) rfl ?_
      exact g_ireturn rfl (Or.inl rfl) H
    · replace H := (H.2.2.2.2.1) hq
      refine ⟨86, by rw [hq]; rfl, ?_⟩
      show gm_G _ 86 _ _ _ _
      refine g_aload (r := some _) rfl rfl rfl (pc' := 87) ?_
      obtain ⟨ht11, H⟩ := H
      refine g_getI rfl rfl rfl rfl ht11 (pc' := 90) rfl ?_
      exact g_ireturn rfl (Or.inl rfl) H
    · replace H := (H.2.2.2.2.2.1) hq
      refine ⟨91, by rw [hq]; rfl, ?_⟩
      show gm_G _ 91 _ _ _ _
      refine g_aload (r := some _) rfl rfl rfl (pc' := 92) ?_
      obtain ⟨ht12, H⟩ := H
      refine g_getRv rfl rfl rfl rfl ht12 (pc' := 95) rfl (fun r13 hr13 => ?_)
      replace H := H r13 hr13
      refine g_iconst rfl rfl rfl (pc' := 96) ?_
      obtain ⟨a14, rfl, H⟩ := H
      obtain ⟨ht15, H⟩ := H
      refine g_call rfl (y := 67) (n := 2) (pc' := 99) (g_vt ht15 rfl rfl) rfl rfl ⟨(Nat.le_of_ble_eq_true rfl), (Nat.le_of_ble_eq_true rfl), (Nat.le_of_ble_eq_true rfl)⟩ rfl (gm_G.mono H (pI_elim (fun v17 h16 H' => ?_) (fun e18 h19 H => ?_)))
      · show gm_G _ 99 _ _ _ _
        replace H := H'
        clear H'
        exact g_ireturn rfl (Or.inl rfl) H
      · exact H
    · replace H := (H.2.2.2.2.2.2.1) hq
      refine ⟨100, by rw [hq]; rfl, ?_⟩
      show gm_G _ 100 _ _ _ _
      refine g_aload (r := some _) rfl rfl rfl (pc' := 101) ?_
      obtain ⟨ht20, H⟩ := H
      refine g_getRv rfl rfl rfl rfl ht20 (pc' := 104) rfl (fun r21 hr21 => ?_)
      replace H := H r21 hr21
      refine g_iconst rfl rfl rfl (pc' := 105) ?_
      obtain ⟨a22, rfl, H⟩ := H
      obtain ⟨ht23, H⟩ := H
      refine g_call rfl (y := 67) (n := 2) (pc' := 108) (g_vt ht23 rfl rfl) rfl rfl ⟨(Nat.le_of_ble_eq_true rfl), (Nat.le_of_ble_eq_true rfl), (Nat.le_of_ble_eq_true rfl)⟩ rfl (gm_G.mono H (pI_elim (fun v25 h24 H' => ?_) (fun e26 h27 H => ?_)))
      · show gm_G _ 108 _ _ _ _
        replace H := H'
        clear H'
        exact g_ireturn rfl (Or.inl rfl) H
      · exact H
    · replace H := (H.2.2.2.2.2.2.2.1) hq
      refine ⟨109, by rw [hq]; rfl, ?_⟩
      show gm_G _ 109 _ _ _ _
      refine g_aload (r := some _) rfl rfl rfl (pc' := 110) ?_
      obtain ⟨ht28, H⟩ := H
      refine g_getI rfl rfl rfl rfl ht28 (pc' := 113) rfl ?_
      exact g_ireturn rfl (Or.inl rfl) H
    · replace H := (H.2.2.2.2.2.2.2.2.1) hq
      refine ⟨114, by rw [hq]; rfl, ?_⟩
      show gm_G _ 114 _ _ _ _
      refine g_aload (r := some _) rfl rfl rfl (pc' := 115) ?_
      obtain ⟨ht29, H⟩ := H
      refine g_getZ rfl rfl rfl rfl ht29 (pc' := 118) rfl ?_
      refine g_if_eq rfl (pc' := 121) (pt := 125) rfl rfl ⟨fun hc => ?_, fun hc => ?_⟩
      · replace H := H.1 hc
        refine g_iconst rfl rfl rfl (pc' := 126) ?_
        exact g_ireturn rfl (Or.inl rfl) H
      · replace H := H.2 hc
        refine g_iconst rfl rfl rfl (pc' := 122) ?_
        refine g_goto rfl (pc' := 126) rfl ?_
        exact g_ireturn rfl (Or.inl rfl) H
    · replace H := (H.2.2.2.2.2.2.2.2.2.1) hq
      refine ⟨127, by rw [hq]; rfl, ?_⟩
      show gm_G _ 127 _ _ _ _
      refine g_aload (r := some _) rfl rfl rfl (pc' := 128) ?_
      obtain ⟨ht30, H⟩ := H
      refine g_getRv rfl rfl rfl rfl ht30 (pc' := 131) rfl (fun r31 hr31 => ?_)
      replace H := H r31 hr31
      obtain ⟨a32, rfl, H⟩ := H
      obtain ⟨ht33, H⟩ := H
      refine g_getI rfl rfl rfl rfl ht33 (pc' := 134) rfl ?_
      exact g_ireturn rfl (Or.inl rfl) H
    · replace H := (H.2.2.2.2.2.2.2.2.2.2) hq
      refine ⟨135, by rw [hq]; rfl, ?_⟩
      show gm_G _ 135 _ _ _ _
      refine g_aload (r := some _) rfl rfl rfl (pc' := 136) ?_
      obtain ⟨ht34, H⟩ := H
      refine g_getI rfl rfl rfl rfl ht34 (pc' := 139) rfl ?_
      exact g_ireturn rfl (Or.inl rfl) H
set_option maxRecDepth 20000 in
theorem w_224_0 {a0 : Nat} {x1 : Int32} {h : hh_T} {Q : Option Value ⊕ Nat → hh_T → Prop} (H : gm_G 5 0 [some (.int x1), some (.int (Int32.ofNat 8)), some (.int (Int32.ofNat 64))] [] h (pI (fun v2 h1 => (¬ v2 = Int32.ofNat 0 → (gm_sub (hh_tg h1 a0) 0 = true ∧ ((¬ (hh_i h1 a0 1) = (Int32.ofNat 8) → (∀ r4, r4 = hh_r h1 a0 0 → (∀ a5 h6, a5 = hh_sz h1 → h6 = hh_al h1 22 0 7 → (gm_G 166 0 [some (.ref a5), some (.int x1)] [] h6 (pV (fun h7 => ∃ a8, r4 = some a8 ∧ (200 ≤ hh_tg h7 a8 ∧ (gm_as (hh_tg h7 a8) (hh_tg h7 a5) = true) ∧ (∃ n9, gm_ix (hh_i h1 a0 1) n9 (hh_ln h7 a8) ∧ (∀ h10, h10 = hh_wr h7 a8 n9 (some a5) → (gm_sub (hh_tg h10 a0) 0 = true ∧ (∀ h12, h12 = hh_wi h10 a0 1 ((hh_i h10 a0 1) + (Int32.ofNat 1)) → (gm_G 224 52 [some (.ref a0)] [] h12 Q))))))) (fun e13 h14 => hh_tg h14 e13 = 21 ∧ Q (.inr e13) h14)))))) ∧ ((hh_i h1 a0 1) = (Int32.ofNat 8) → (Q (.inl (some (.int (Int32.ofInt (-3))))) h1))))) ∧ (v2 = Int32.ofNat 0 → (Q (.inl (some (.int (Int32.ofInt (-1))))) h1))) (fun e15 h16 => hh_tg h16 e15 = 21 ∧ Q (.inr e15) h16))) : gm_G 224 0 [some (.ref a0), some (.int x1)] [] h Q := by
  refine g_iload rfl rfl rfl (pc' := 1) ?_
  refine g_iconst rfl rfl rfl (pc' := 3) ?_
  refine g_iconst rfl rfl rfl (pc' := 5) ?_
  refine g_call rfl (y := 5) (n := 3) (pc' := 8) (fun _ => rfl) rfl rfl ⟨(Nat.le_of_ble_eq_true rfl), (Nat.le_of_ble_eq_true rfl), (Nat.le_of_ble_eq_true rfl)⟩ rfl (gm_G.mono H (pI_elim (fun v2 h1 H' => ?_) (fun e15 h16 H => ?_)))
  · show gm_G _ 8 _ _ _ _
    replace H := H'
    clear H'
    refine g_if_ne rfl (pc' := 11) (pt := 13) rfl rfl ⟨fun hc => ?_, fun hc => ?_⟩
    · replace H := H.1 hc
      refine g_aload (r := some _) rfl rfl rfl (pc' := 14) ?_
      obtain ⟨ht3, H⟩ := H
      refine g_getI rfl rfl rfl rfl ht3 (pc' := 17) rfl ?_
      refine g_iconst rfl rfl rfl (pc' := 19) ?_
      refine g_ic_ne rfl (pc' := 22) (pt := 25) rfl rfl ⟨fun hc => ?_, fun hc => ?_⟩
      · replace H := H.1 hc
        refine g_aload (r := some _) rfl rfl rfl (pc' := 26) ?_
        refine g_getRv rfl rfl rfl rfl ht3 (pc' := 29) rfl (fun r4 hr4 => ?_)
        replace H := H r4 hr4
        refine g_aload (r := some _) rfl rfl rfl (pc' := 30) ?_
        refine g_getI rfl rfl rfl rfl ht3 (pc' := 33) rfl ?_
        refine g_new rfl (t := 22) (s := 7) rfl rfl (pc' := 36) rfl ?_
        replace H := H _ _ rfl rfl
        refine g_dup_a (r := some _) rfl rfl (pc' := 37) ?_
        refine g_iload rfl rfl rfl (pc' := 38) ?_
        refine g_call rfl (y := 166) (n := 2) (pc' := 41) (fun _ => rfl) rfl rfl ⟨(Nat.le_of_ble_eq_true rfl), (Nat.le_of_ble_eq_true rfl), (Nat.le_of_ble_eq_true rfl)⟩ rfl (gm_G.mono H (pV_elim (fun h7 H' => ?_) (fun e13 h14 H => ?_)))
        · show gm_G _ 41 _ _ _ _
          replace H := H'
          clear H'
          obtain ⟨a8, rfl, H⟩ := H
          obtain ⟨Ha, Hb, H⟩ := H
          obtain ⟨n9, hn9, H⟩ := H
          refine g_aastore (r := some _) rfl Ha (fun b hb => by cases hb; exact Hb) hn9 (pc' := 42) rfl ?_
          replace H := H _ rfl
          refine g_aload (r := some _) rfl rfl rfl (pc' := 43) ?_
          refine g_dup_a (r := some _) rfl rfl (pc' := 44) ?_
          obtain ⟨ht11, H⟩ := H
          refine g_getI rfl rfl rfl rfl ht11 (pc' := 47) rfl ?_
          refine g_iconst rfl rfl rfl (pc' := 48) ?_
          refine g_iadd rfl rfl (pc' := 49) ?_
          refine g_putI rfl rfl rfl rfl ht11  (pc' := 52) rfl ?_
          replace H := H _ rfl
          exact g_weak (show gm_Lle [some _] _ from ⟨rfl, trivial⟩) H
        · exact H
      · replace H := H.2 hc
        refine g_iconst rfl rfl rfl (pc' := 24) ?_
        exact g_ireturn rfl (Or.inl rfl) H
    · replace H := H.2 hc
      refine g_iconst rfl rfl rfl (pc' := 12) ?_
      exact g_ireturn rfl (Or.inl rfl) H
  · exact H
set_option maxRecDepth 20000 in
theorem w_224_52 {a0 : Nat}  {h : hh_T} {Q : Option Value ⊕ Nat → hh_T → Prop} (H : gm_sub (hh_tg h a0) 0 = true ∧ (Q (.inl (some (.int ((hh_i h a0 1) - (Int32.ofNat 1))))) h)) : gm_G 224 52 [some (.ref a0)] [] h Q := by
  refine g_aload (r := some _) rfl rfl rfl (pc' := 53) ?_
  obtain ⟨ht1, H⟩ := H
  refine g_getI rfl rfl rfl rfl ht1 (pc' := 56) rfl ?_
  refine g_iconst rfl rfl rfl (pc' := 57) ?_
  refine g_isub rfl rfl (pc' := 58) ?_
  exact g_ireturn rfl (Or.inl rfl) H
set_option maxRecDepth 20000 in
theorem w_225_0 {a0 : Nat} {x1 : Int32} {h : hh_T} {Q : Option Value ⊕ Nat → hh_T → Prop} (H : gm_sub (hh_tg h a0) 0 = true ∧ (∀ r2, r2 = hh_r h a0 57 → (∃ a3, r2 = some a3 ∧ (gm_sub (hh_tg h a3) 12 = true ∧ (gm_G 5 0 [some (.int x1), some (.int (Int32.ofNat 0)), some (.int (hh_i h a3 1))] [] h (pI (fun v6 h5 => (¬ v6 = Int32.ofNat 0 → (gm_sub (hh_tg h5 a0) 0 = true ∧ (∀ r8, r8 = hh_r h5 a0 57 → (∃ a9, r8 = some a9 ∧ (gm_sub (hh_tg h5 a9) 12 = true ∧ (∀ h11, h11 = hh_wi h5 a9 1 x1 → (Q (.inl (some (.int x1))) h11))))))) ∧ (v6 = Int32.ofNat 0 → (Q (.inl (some (.int (Int32.ofInt (-1))))) h5))) (fun e12 h13 => hh_tg h13 e12 = 21 ∧ Q (.inr e12) h13))))))) : gm_G 225 0 [some (.ref a0), some (.int x1)] [] h Q := by
  refine g_iload rfl rfl rfl (pc' := 1) ?_
  refine g_iconst rfl rfl rfl (pc' := 2) ?_
  refine g_aload (r := some _) rfl rfl rfl (pc' := 3) ?_
  obtain ⟨ht1, H⟩ := H
  refine g_getRv rfl rfl rfl rfl ht1 (pc' := 6) rfl (fun r2 hr2 => ?_)
  replace H := H r2 hr2
  obtain ⟨a3, rfl, H⟩ := H
  obtain ⟨ht4, H⟩ := H
  refine g_getI rfl rfl rfl rfl ht4 (pc' := 9) rfl ?_
  refine g_call rfl (y := 5) (n := 3) (pc' := 12) (fun _ => rfl) rfl rfl ⟨(Nat.le_of_ble_eq_true rfl), (Nat.le_of_ble_eq_true rfl), (Nat.le_of_ble_eq_true rfl)⟩ rfl (gm_G.mono H (pI_elim (fun v6 h5 H' => ?_) (fun e12 h13 H => ?_)))
  · show gm_G _ 12 _ _ _ _
    replace H := H'
    clear H'
    refine g_if_ne rfl (pc' := 15) (pt := 17) rfl rfl ⟨fun hc => ?_, fun hc => ?_⟩
    · replace H := H.1 hc
      refine g_aload (r := some _) rfl rfl rfl (pc' := 18) ?_
      obtain ⟨ht7, H⟩ := H
      refine g_getRv rfl rfl rfl rfl ht7 (pc' := 21) rfl (fun r8 hr8 => ?_)
      replace H := H r8 hr8
      refine g_iload rfl rfl rfl (pc' := 22) ?_
      obtain ⟨a9, rfl, H⟩ := H
      obtain ⟨ht10, H⟩ := H
      refine g_putI rfl rfl rfl rfl ht10  (pc' := 25) rfl ?_
      replace H := H _ rfl
      refine g_iload rfl rfl rfl (pc' := 26) ?_
      exact g_ireturn rfl (Or.inl rfl) H
    · replace H := H.2 hc
      refine g_iconst rfl rfl rfl (pc' := 16) ?_
      exact g_ireturn rfl (Or.inl rfl) H
  · exact H
set_option maxRecDepth 20000 in
theorem w_226_0 {a0 : Nat} {x1 : Int32} {h : hh_T} {Q : Option Value ⊕ Nat → hh_T → Prop} (H : gm_sub (hh_tg h a0) 0 = true ∧ (∀ r2, r2 = hh_r h a0 21 → (∃ a3, r2 = some a3 ∧ (100 ≤ hh_tg h a3 ∧ (gm_G 5 0 [some (.int x1), some (.int (Int32.ofNat 0)), some (.int ((if (Int32.ofNat (hh_ln h a3)) < (hh_i h a0 22) then (Int32.ofNat (hh_ln h a3)) else (hh_i h a0 22)) - (Int32.ofNat 1)))] [] h (pI (fun v5 h4 => (v5 = Int32.ofNat 0 → (Q (.inl (some (.int (Int32.ofInt (-2))))) h4)) ∧ (¬ v5 = Int32.ofNat 0 → (gm_sub (hh_tg h4 a0) 0 = true ∧ (∀ r7, r7 = hh_r h4 a0 21 → (∀ r8, r8 = hh_r h4 a0 21 → (∃ a9, r8 = some a9 ∧ (100 ≤ hh_tg h4 a9 ∧ ((Int32.ofNat (hh_ln h4 a9)) ≠ 0 ∧ (∃ a10, r7 = some a10 ∧ ((hh_tg h4 a10 = 100 ∨ hh_tg h4 a10 = 105) ∧ (∃ n11, gm_ix ((((hh_i h4 a0 22) - (Int32.ofNat 1)) - x1) - (((hh_i h4 a0 22) - (Int32.ofNat 1)) - x1) / (Int32.ofNat (hh_ln h4 a9)) * (Int32.ofNat (hh_ln h4 a9))) n11 (hh_ln h4 a10) ∧ (Q (.inl (some (.int (hh_i h4 a10 n11)))) h4)))))))))))) (fun e13 h14 => hh_tg h14 e13 = 21 ∧ Q (.inr e13) h14))))))) : gm_G 226 0 [some (.ref a0), some (.int x1)] [] h Q := by
  refine g_iload rfl rfl rfl (pc' := 1) ?_
  refine g_iconst rfl rfl rfl (pc' := 2) ?_
  refine g_aload (r := some _) rfl rfl rfl (pc' := 3) ?_
  obtain ⟨ht1, H⟩ := H
  refine g_getI rfl rfl rfl rfl ht1 (pc' := 6) rfl ?_
  refine g_aload (r := some _) rfl rfl rfl (pc' := 7) ?_
  refine g_getRv rfl rfl rfl rfl ht1 (pc' := 10) rfl (fun r2 hr2 => ?_)
  replace H := H r2 hr2
  obtain ⟨a3, rfl, H⟩ := H
  obtain ⟨Hp, H⟩ := H
  refine g_alen rfl Hp (pc' := 11) rfl ?_
  refine g_dsub rfl (Nat.le_of_ble_eq_true rfl) rfl (pc' := 14) ?_
  refine g_iconst rfl rfl rfl (pc' := 15) ?_
  refine g_isub rfl rfl (pc' := 16) ?_
  refine g_call rfl (y := 5) (n := 3) (pc' := 19) (fun _ => rfl) rfl rfl ⟨(Nat.le_of_ble_eq_true rfl), (Nat.le_of_ble_eq_true rfl), (Nat.le_of_ble_eq_true rfl)⟩ rfl (gm_G.mono H (pI_elim (fun v5 h4 H' => ?_) (fun e13 h14 H => ?_)))
  · show gm_G _ 19 _ _ _ _
    replace H := H'
    clear H'
    refine g_if_eq rfl (pc' := 22) (pt := 44) rfl rfl ⟨fun hc => ?_, fun hc => ?_⟩
    · replace H := H.1 hc
      refine g_iconst rfl rfl rfl (pc' := 46) ?_
      exact g_ireturn rfl (Or.inl rfl) H
    · replace H := H.2 hc
      refine g_aload (r := some _) rfl rfl rfl (pc' := 23) ?_
      obtain ⟨ht6, H⟩ := H
      refine g_getRv rfl rfl rfl rfl ht6 (pc' := 26) rfl (fun r7 hr7 => ?_)
      replace H := H r7 hr7
      refine g_aload (r := some _) rfl rfl rfl (pc' := 27) ?_
      refine g_getI rfl rfl rfl rfl ht6 (pc' := 30) rfl ?_
      refine g_iconst rfl rfl rfl (pc' := 31) ?_
      refine g_isub rfl rfl (pc' := 32) ?_
      refine g_iload rfl rfl rfl (pc' := 33) ?_
      refine g_isub rfl rfl (pc' := 34) ?_
      refine g_aload (r := some _) rfl rfl rfl (pc' := 35) ?_
      refine g_getRv rfl rfl rfl rfl ht6 (pc' := 38) rfl (fun r8 hr8 => ?_)
      replace H := H r8 hr8
      obtain ⟨a9, rfl, H⟩ := H
      obtain ⟨Hp, H⟩ := H
      refine g_alen rfl Hp (pc' := 39) rfl ?_
      obtain ⟨Hp, H⟩ := H
      refine g_irem rfl Hp (pc' := 40) rfl ?_
      obtain ⟨a10, rfl, H⟩ := H
      obtain ⟨ht12, H⟩ := H
      obtain ⟨n11, hn11, H⟩ := H
      refine g_iaload rfl ht12 hn11 (pc' := 41) rfl ?_
      refine g_goto rfl (pc' := 46) rfl ?_
      exact g_ireturn rfl (Or.inl rfl) H
  · exact H
set_option maxRecDepth 20000 in
theorem w_227_0  {r_0 : Option Nat} {r_1 : Option Nat} {h : hh_T} {Q : Option Value ⊕ Nat → hh_T → Prop} (H : ∃ a1, r_0 = some a1 ∧ ((hh_tg h a1 = 27 ∧ (gm_G 194 0 [some (.ref a1)] [] h (pR (fun r3 h2 => (∀ a4, r3 = some a4 → (gm_G 227 13 [none, some (va_rf r_1), some (.ref a4), some (.int (Int32.ofNat 0))] [] h2 Q)) ∧ (r3 = none → (Q (.inl (some (.int (Int32.ofNat 1)))) h2))) (fun e5 h6 => hh_tg h6 e5 = 21 ∧ Q (.inr e5) h6)))) ∨ (hh_tg h a1 = 28 ∧ (gm_G 191 0 [some (.ref a1)] [] h (pR (fun r8 h7 => (∀ a9, r8 = some a9 → (gm_G 227 13 [none, some (va_rf r_1), some (.ref a9), some (.int (Int32.ofNat 0))] [] h7 Q)) ∧ (r8 = none → (Q (.inl (some (.int (Int32.ofNat 1)))) h7))) (fun e10 h11 => hh_tg h11 e10 = 21 ∧ Q (.inr e10) h11)))) ∨ (hh_tg h a1 = 29 ∧ (gm_G 191 0 [some (.ref a1)] [] h (pR (fun r13 h12 => (∀ a14, r13 = some a14 → (gm_G 227 13 [none, some (va_rf r_1), some (.ref a14), some (.int (Int32.ofNat 0))] [] h12 Q)) ∧ (r13 = none → (Q (.inl (some (.int (Int32.ofNat 1)))) h12))) (fun e15 h16 => hh_tg h16 e15 = 21 ∧ Q (.inr e15) h16)))))) : gm_G 227 0 [some (va_rf r_0), some (va_rf r_1)] [] h Q := by
  refine g_aload (r := _) rfl rfl rfl (pc' := 1) ?_
  obtain ⟨a1, rfl, H⟩ := H
  rcases H with ⟨ht, H⟩ | ⟨ht, H⟩ | ⟨ht, H⟩
  · refine g_call rfl (y := 194) (n := 1) (pc' := 4) (g_vt ht rfl rfl) rfl rfl ⟨(Nat.le_of_ble_eq_true rfl), (Nat.le_of_ble_eq_true rfl), (Nat.le_of_ble_eq_true rfl)⟩ rfl (gm_G.mono H (pR_elim (fun r3 h2 H' => ?_) (fun e5 h6 H => ?_)))
    · show gm_G _ 4 _ _ _ _
      replace H := H'
      clear H'
      refine g_astore (r := _) rfl gm_sto_rf1 rfl (pc' := 5) ?_
      refine g_aload (r := _) rfl rfl rfl (pc' := 6) ?_
      refine g_ifnonnull rfl (pc' := 9) (pt := 11) rfl rfl ⟨fun a4 hc => ?_, fun hc => ?_⟩
      · replace H := H.1 a4 hc
        subst hc
        refine g_iconst rfl rfl rfl (pc' := 12) ?_
        refine g_istore rfl rfl rfl (pc' := 13) ?_
        exact g_weak (show gm_Lle [none, some _, some _, some _] _ from ⟨rfl, ⟨rfl, ⟨rfl, trivial⟩⟩⟩) H
      · replace H := H.2 hc
        subst hc
        refine g_iconst rfl rfl rfl (pc' := 10) ?_
        exact g_ireturn rfl (Or.inr (by decide)) H
    · exact H
  · refine g_call rfl (y := 191) (n := 1) (pc' := 4) (g_vt ht rfl rfl) rfl rfl ⟨(Nat.le_of_ble_eq_true rfl), (Nat.le_of_ble_eq_true rfl), (Nat.le_of_ble_eq_true rfl)⟩ rfl (gm_G.mono H (pR_elim (fun r8 h7 H' => ?_) (fun e10 h11 H => ?_)))
    · show gm_G _ 4 _ _ _ _
      replace H := H'
      clear H'
      refine g_astore (r := _) rfl gm_sto_rf1 rfl (pc' := 5) ?_
      refine g_aload (r := _) rfl rfl rfl (pc' := 6) ?_
      refine g_ifnonnull rfl (pc' := 9) (pt := 11) rfl rfl ⟨fun a9 hc => ?_, fun hc => ?_⟩
      · replace H := H.1 a9 hc
        subst hc
        refine g_iconst rfl rfl rfl (pc' := 12) ?_
        refine g_istore rfl rfl rfl (pc' := 13) ?_
        exact g_weak (show gm_Lle [none, some _, some _, some _] _ from ⟨rfl, ⟨rfl, ⟨rfl, trivial⟩⟩⟩) H
      · replace H := H.2 hc
        subst hc
        refine g_iconst rfl rfl rfl (pc' := 10) ?_
        exact g_ireturn rfl (Or.inr (by decide)) H
    · exact H
  · refine g_call rfl (y := 191) (n := 1) (pc' := 4) (g_vt ht rfl rfl) rfl rfl ⟨(Nat.le_of_ble_eq_true rfl), (Nat.le_of_ble_eq_true rfl), (Nat.le_of_ble_eq_true rfl)⟩ rfl (gm_G.mono H (pR_elim (fun r13 h12 H' => ?_) (fun e15 h16 H => ?_)))
    · show gm_G _ 4 _ _ _ _
      replace H := H'
      clear H'
      refine g_astore (r := _) rfl gm_sto_rf1 rfl (pc' := 5) ?_
      refine g_aload (r := _) rfl rfl rfl (pc' := 6) ?_
      refine g_ifnonnull rfl (pc' := 9) (pt := 11) rfl rfl ⟨fun a14 hc => ?_, fun hc => ?_⟩
      · replace H := H.1 a14 hc
        subst hc
        refine g_iconst rfl rfl rfl (pc' := 12) ?_
        refine g_istore rfl rfl rfl (pc' := 13) ?_
        exact g_weak (show gm_Lle [none, some _, some _, some _] _ from ⟨rfl, ⟨rfl, ⟨rfl, trivial⟩⟩⟩) H
      · replace H := H.2 hc
        subst hc
        refine g_iconst rfl rfl rfl (pc' := 10) ?_
        exact g_ireturn rfl (Or.inr (by decide)) H
    · exact H
