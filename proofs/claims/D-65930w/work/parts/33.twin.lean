/-! STAGE 2, 4: the twin. Its methods (but the constructor) make nothing, throw nothing, and keep tags, lengths and references -/
set_option maxRecDepth 100000
def tw_m (k : Nat) : Bool := Nat.beq (gm_own k) 19 && !(Nat.beq k 87)
def tw_iok (ins : Instr) : Bool := match ins with
  | .putfield n => !(Nat.beq (n / 256 % 4) 3)
  | .aastore => false
  | .new _ => false
  | .newarray _ => false
  | .anewarray _ => false
  | .multianewarray _ _ => false
  | .athrow => false
  | .jsr_w _ => false
  | .invokestatic n => tw_m (n / 16)
  | .invokespecial _ => false
  | .invokevirtual n => (gv_e (n / 16)).2.2.2.2.2.2.all fun x => tw_m x.2.1
  | .invokeinterface _ _ => false
  | _ => true
def tw_kok (k : Nat) : Bool := !(tw_m k) || (List.range (gm_sz k)).all fun pc => tw_iok (gm_it k pc).1
theorem tw_kok_0 : ((List.range' 0 40).all tw_kok) = true := by decide +kernel
theorem tw_kok_40 : ((List.range' 40 40).all tw_kok) = true := by decide +kernel
theorem tw_kok_80 : ((List.range' 80 40).all tw_kok) = true := by decide +kernel
theorem tw_kok_120 : ((List.range' 120 40).all tw_kok) = true := by decide +kernel
theorem tw_kok_160 : ((List.range' 160 40).all tw_kok) = true := by decide +kernel
theorem tw_kok_200 : ((List.range' 200 40).all tw_kok) = true := by decide +kernel
theorem tw_kok_240 : ((List.range' 240 40).all tw_kok) = true := by decide +kernel
theorem tw_kok_280 : ((List.range' 280 40).all tw_kok) = true := by decide +kernel
theorem tw_kok_320 : ((List.range' 320 40).all tw_kok) = true := by decide +kernel
theorem tw_kok_360 : ((List.range' 360 40).all tw_kok) = true := by decide +kernel
theorem tw_kok_400 : ((List.range' 400 40).all tw_kok) = true := by decide +kernel
theorem tw_kok_440 : ((List.range' 440 40).all tw_kok) = true := by decide +kernel
theorem tw_kok_480 : ((List.range' 480 40).all tw_kok) = true := by decide +kernel
theorem tw_kok_520 : ((List.range' 520 40).all tw_kok) = true := by decide +kernel
theorem tw_kok_560 : ((List.range' 560 40).all tw_kok) = true := by decide +kernel
theorem tw_kok_600 : ((List.range' 600 32).all tw_kok) = true := by decide +kernel
theorem tw_kok_all {k : Nat} (hk : k < 632) : tw_kok k = true := by
  have key : ∀ a n, ((List.range' a n).all tw_kok) = true → a ≤ k → k < a + n → tw_kok k = true := fun a n h q1 q2 => List.all_eq_true.mp h k (List.mem_range'_1.mpr ⟨q1, q2⟩)
  by_cases c0 : k < 40
  · exact key 0 40 tw_kok_0 (by omega) (by omega)
  by_cases c40 : k < 80
  · exact key 40 40 tw_kok_40 (by omega) (by omega)
  by_cases c80 : k < 120
  · exact key 80 40 tw_kok_80 (by omega) (by omega)
  by_cases c120 : k < 160
  · exact key 120 40 tw_kok_120 (by omega) (by omega)
  by_cases c160 : k < 200
  · exact key 160 40 tw_kok_160 (by omega) (by omega)
  by_cases c200 : k < 240
  · exact key 200 40 tw_kok_200 (by omega) (by omega)
  by_cases c240 : k < 280
  · exact key 240 40 tw_kok_240 (by omega) (by omega)
  by_cases c280 : k < 320
  · exact key 280 40 tw_kok_280 (by omega) (by omega)
  by_cases c320 : k < 360
  · exact key 320 40 tw_kok_320 (by omega) (by omega)
  by_cases c360 : k < 400
  · exact key 360 40 tw_kok_360 (by omega) (by omega)
  by_cases c400 : k < 440
  · exact key 400 40 tw_kok_400 (by omega) (by omega)
  by_cases c440 : k < 480
  · exact key 440 40 tw_kok_440 (by omega) (by omega)
  by_cases c480 : k < 520
  · exact key 480 40 tw_kok_480 (by omega) (by omega)
  by_cases c520 : k < 560
  · exact key 520 40 tw_kok_520 (by omega) (by omega)
  by_cases c560 : k < 600
  · exact key 560 40 tw_kok_560 (by omega) (by omega)
  exact key 600 32 tw_kok_600 (by omega) (by omega)
theorem tw_it_ok {k pc len : Nat} {ins : Instr} (hk : tw_m k = true) (e : gm_it k pc = (ins, len)) : tw_iok ins = true := by
  cases hb : (Nat.blt k 632 && Nat.blt pc (gm_sz k)) with
  | false =>
    unfold gm_it at e
    rw [hb] at e
    have := (congrArg Prod.fst e).symm
    subst this
    rfl
  | true =>
    rw [Bool.and_eq_true] at hb
    have h1 : k < 632 := by simpa [Nat.blt_eq] using hb.1
    have h2 : pc < gm_sz k := by simpa [Nat.blt_eq] using hb.2
    have h3 := tw_kok_all h1
    unfold tw_kok at h3
    rw [hk, Bool.not_true, Bool.false_or] at h3
    have h4 := List.all_eq_true.mp h3 pc (List.mem_range.mpr h2)
    rw [e] at h4
    exact h4
/-- the shape is kept -/
def tw_S (h : hh_T) (r : Option Value ⊕ Nat) (h' : hh_T) : Prop := (∃ v, r = .inl v) ∧ hh_sz h' = hh_sz h ∧ hh_sl h' = hh_sl h ∧ hh_tg h' = hh_tg h ∧ hh_ln h' = hh_ln h ∧ hh_r h' = hh_r h
theorem tw_S.trans {h h1 h2 : hh_T} {r r' : Option Value ⊕ Nat} (a : tw_S h r h1) (b : tw_S h1 r' h2) : tw_S h r' h2 := ⟨b.1, b.2.1.trans a.2.1, b.2.2.1.trans a.2.2.1, b.2.2.2.1.trans a.2.2.2.1, b.2.2.2.2.1.trans a.2.2.2.2.1, b.2.2.2.2.2.trans a.2.2.2.2.2⟩
theorem tw_call {K : gm_K} (hK : ∀ k pc L st h r h', tw_m k = true → K k pc L st h = some (r, h') → tw_S h r h') {k pc len y n : Nat} (hk : tw_m k = true) (hy : tw_m y = true) {L : gm_L} {st : List Value} {h h' : hh_T} {r : Option Value ⊕ Nat} (hg : gm_call K k pc len y n L st h = some (r, h')) : tw_S h r h' := by
  unfold gm_call at hg
  split at hg
  · cases e : K y 0 (gm_ent ((st.take n).reverse)) [] h with
    | none => rw [e] at hg; cases hg
    | some w =>
      rw [e] at hg
      obtain ⟨r1, h1⟩ := w
      have s1 := hK _ _ _ _ _ _ _ hy e
      rcases r1 with (_ | v) | a
      · exact s1.trans (hK _ _ _ _ _ _ _ hk hg)
      · exact s1.trans (hK _ _ _ _ _ _ _ hk hg)
      · obtain ⟨v, hv⟩ := s1.1
        cases hv
  · cases hg
theorem tw_vt_ok {v t y : Nat} (h : (gv_e v).2.2.2.2.2.2.all (fun x => tw_m x.2.1) = true) (hv : gm_vt v t = some y) : tw_m y = true := by
  unfold gm_vt at hv
  revert h hv
  generalize (gv_e v).2.2.2.2.2.2 = l
  intro h hv
  induction l with
  | nil => cases hv
  | cons x r ih =>
    rw [List.all_cons, Bool.and_eq_true] at h
    unfold gv_f at hv
    cases hq : Nat.beq t (x.1 + 1) with
    | true => rw [hq, cond_true] at hv; cases hv; exact h.1
    | false => rw [hq, cond_false] at hv; exact ih h.2 hv
theorem tw_stI {K : gm_K} (hK : ∀ k pc L st h r h', tw_m k = true → K k pc L st h = some (r, h') → tw_S h r h') {k pc len : Nat} (hk : tw_m k = true) {ins : Instr} (hi : tw_iok ins = true) {L : gm_L} {st : List Value} {h h' : hh_T} {r : Option Value ⊕ Nat} (hg : gm_stI K k pc len ins L st h = some (r, h')) : tw_S h r h' := by
  have k0 : ∀ {pc' L' st'}, K k pc' L' st' h = some (r, h') → tw_S h r h' := fun q => hK _ _ _ _ _ _ _ hk q
  have ki : ∀ {pc' L' st' a n x}, K k pc' L' st' (hh_wi h a n x) = some (r, h') → tw_S h r h' := fun {_ _ _ a n x} q => (show tw_S (hh_wi h a n x) r h' → tw_S h r h' from fun z => z) (hK _ _ _ _ _ _ _ hk q)
  have kj : ∀ {pc' L' st' a n x}, K k pc' L' st' (hh_wj h a n x) = some (r, h') → tw_S h r h' := fun {_ _ _ a n x} q => (show tw_S (hh_wj h a n x) r h' → tw_S h r h' from fun z => z) (hK _ _ _ _ _ _ _ hk q)
  have kii : ∀ {f : Int32 → Int32 → Int32} {pc' L'}, gm_ii st f (fun q => K k pc' L' q h) = some (r, h') → tw_S h r h' := fun {f pc' L'} q => by
    unfold gm_ii at q
    split at q
    · exact k0 q
    · cases q
  have kll : ∀ {f : Int64 → Int64 → Int64} {pc' L'}, gm_ll st f (fun q => K k pc' L' q h) = some (r, h') → tw_S h r h' := fun {f pc' L'} q => by
    unfold gm_ll at q
    split at q
    · exact k0 q
    · cases q
  have kli : ∀ {f : Int64 → Int32 → Int64} {pc' L'}, gm_li st f (fun q => K k pc' L' q h) = some (r, h') → tw_S h r h' := fun {f pc' L'} q => by
    unfold gm_li at q
    split at q
    · exact k0 q
    · cases q
  have kbr : ∀ {cd x y p1 L1 s1 p2 L2 s2}, gm_br cd x y (K k p1 L1 s1 h) (K k p2 L2 s2 h) = some (r, h') → tw_S h r h' := fun {cd x y p1 L1 s1 p2 L2 s2} q => by
    cases cd <;> simp only [gm_br] at q <;> split at q <;> exact k0 q
  have kend : ∀ {v : Option Value}, some (Sum.inl v, h) = some (r, h') → tw_S h r h' := fun {v} q => by
    cases q
    exact ⟨⟨v, rfl⟩, rfl, rfl, rfl, rfl, rfl⟩
  cases ins
  case invokevirtual n =>
    simp only [gm_stI] at hg
    split at hg
    · split at hg
      · rename_i y hy
        exact tw_call hK hk (tw_vt_ok hi hy) hg
      · cases hg
    · cases hg
  case invokestatic n => exact tw_call hK hk hi hg
  case putfield n =>
    simp only [gm_stI] at hg
    have h3 : n / 256 % 4 ≠ 3 := by
      intro z
      simp [tw_iok, z] at hi
    split at hg
    · split at hg
      · exact ki hg
      · cases hg
    · split at hg
      · exact ki hg
      · cases hg
    · split at hg
      · exact kj hg
      · cases hg
    · exact absurd ‹n / 256 % 4 = 3› h3
    · exact absurd ‹n / 256 % 4 = 3› h3
    · cases hg
  all_goals first
    | exact k0 hg
    | exact kii hg
    | exact kll hg
    | exact kli hg
    | (cases hi; done)
    | (revert hg; simp only [gm_stI]; intro hg; cases hg; done)
    | skip
  all_goals (revert hg; simp only [gm_stI])
  all_goals ((repeat' split) <;> intro hg <;> first | exact k0 hg | exact ki hg | exact kj hg | (cases hg; done) | exact kbr hg | exact kii hg | exact kll hg | exact kli hg | exact kend hg)
theorem tw_same : ∀ (n k pc : Nat) (L : gm_L) (st : List Value) (h : hh_T) (r : Option Value ⊕ Nat) (h' : hh_T), tw_m k = true → gm_go n k pc L st h = some (r, h') → tw_S h r h'
  | 0, _, _, _, _, _, _, _, _, hg => by cases hg
  | n + 1, k, pc, L, st, h, r, h', hk, hg => tw_stI (tw_same n) hk (tw_it_ok hk (show gm_it k pc = ((gm_it k pc).1, (gm_it k pc).2) from rfl)) hg
theorem tw_G {k pc : Nat} (hk : tw_m k = true) {L : gm_L} {st : List Value} {h : hh_T} {Q : Option Value ⊕ Nat → hh_T → Prop} (H : gm_G k pc L st h Q) : gm_G k pc L st h (fun r h' => Q r h' ∧ tw_S h r h') := by
  obtain ⟨n, r, h', h1, h2⟩ := H
  exact ⟨n, r, h', h1, h2, tw_same n _ _ _ _ _ _ _ hk h1⟩
/-- where the array of a field lies behind the object; the tag and the length of each array -/
def tw_o (f : Nat) : Nat := match f with
  | 0 => 1
  | 1 => 2
  | 6 => 3
  | 8 => 4
  | 9 => 5
  | 10 => 6
  | 11 => 7
  | 12 => 8
  | 13 => 9
  | 14 => 10
  | 20 => 11
  | 21 => 12
  | 22 => 13
  | 23 => 14
  | 24 => 15
  | 25 => 16
  | 26 => 17
  | 27 => 18
  | 28 => 19
  | 29 => 20
  | 30 => 21
  | 31 => 22
  | 32 => 23
  | 33 => 24
  | 34 => 25
  | 35 => 26
  | 36 => 27
  | 37 => 28
  | 38 => 29
  | 39 => 30
  | 40 => 31
  | 44 => 32
  | 45 => 33
  | 50 => 34
  | 51 => 35
  | 52 => 36
  | 54 => 37
  | 55 => 38
  | 56 => 39
  | 57 => 40
  | 58 => 41
  | 59 => 42
  | 60 => 43
  | 61 => 44
  | 62 => 45
  | 63 => 46
  | 64 => 47
  | 65 => 48
  | 66 => 49
  | 67 => 50
  | 68 => 51
  | 69 => 52
  | 70 => 53
  | 71 => 54
  | 72 => 55
  | 73 => 56
  | 74 => 57
  | 75 => 58
  | 78 => 59
  | 79 => 60
  | 80 => 61
  | 81 => 62
  | 82 => 63
  | 83 => 64
  | 84 => 65
  | 85 => 66
  | 86 => 67
  | 87 => 68
  | 88 => 69
  | 89 => 70
  | 90 => 71
  | 91 => 72
  | 92 => 73
  | 93 => 74
  | 94 => 75
  | 95 => 76
  | 96 => 77
  | 97 => 78
  | 98 => 79
  | 103 => 80
  | 104 => 81
  | 105 => 82
  | 106 => 83
  | 107 => 84
  | 113 => 85
  | 114 => 86
  | 115 => 87
  | 116 => 88
  | 117 => 89
  | 118 => 90
  | 119 => 91
  | 120 => 92
  | 121 => 93
  | 122 => 94
  | 123 => 95
  | 124 => 96
  | 125 => 97
  | 126 => 98
  | 127 => 99
  | 128 => 100
  | 129 => 101
  | 130 => 102
  | 131 => 103
  | 132 => 104
  | 133 => 105
  | 134 => 106
  | 135 => 107
  | 136 => 108
  | 137 => 109
  | 140 => 110
  | 141 => 111
  | 142 => 112
  | 143 => 113
  | 144 => 114
  | 145 => 115
  | 148 => 116
  | 149 => 117
  | 150 => 118
  | 151 => 119
  | 152 => 120
  | 153 => 121
  | _ => 0
def tw_t (f : Nat) : Nat := match f with
  | 1 => 101
  | 2 => 101
  | 3 => 102
  | 4 => 100
  | 5 => 100
  | 6 => 100
  | 7 => 102
  | 8 => 102
  | 9 => 102
  | 10 => 101
  | 11 => 100
  | 12 => 100
  | 13 => 100
  | 14 => 100
  | 15 => 100
  | 16 => 101
  | 17 => 102
  | 18 => 102
  | 19 => 102
  | 20 => 100
  | 21 => 100
  | 22 => 100
  | 23 => 100
  | 24 => 100
  | 25 => 103
  | 26 => 101
  | 27 => 102
  | 28 => 101
  | 29 => 101
  | 30 => 100
  | 31 => 102
  | 32 => 100
  | 33 => 100
  | 34 => 100
  | 35 => 101
  | 36 => 101
  | 37 => 100
  | 38 => 100
  | 39 => 100
  | 40 => 100
  | 41 => 100
  | 42 => 100
  | 43 => 100
  | 44 => 100
  | 45 => 100
  | 46 => 100
  | 47 => 100
  | 48 => 100
  | 49 => 100
  | 50 => 100
  | 51 => 100
  | 52 => 100
  | 53 => 100
  | 54 => 100
  | 55 => 100
  | 56 => 101
  | 57 => 101
  | 58 => 100
  | 59 => 100
  | 60 => 100
  | 61 => 100
  | 62 => 100
  | 63 => 100
  | 64 => 100
  | 65 => 100
  | 66 => 100
  | 67 => 101
  | 68 => 101
  | 69 => 100
  | 70 => 100
  | 71 => 100
  | 72 => 100
  | 73 => 100
  | 74 => 100
  | 75 => 100
  | 76 => 100
  | 77 => 100
  | 78 => 100
  | 79 => 100
  | 80 => 100
  | 81 => 100
  | 82 => 100
  | 83 => 100
  | 84 => 100
  | 85 => 101
  | 86 => 101
  | 87 => 101
  | 88 => 102
  | 89 => 102
  | 90 => 100
  | 91 => 100
  | 92 => 100
  | 93 => 100
  | 94 => 100
  | 95 => 100
  | 96 => 101
  | 97 => 102
  | 98 => 102
  | 99 => 100
  | 100 => 100
  | 101 => 100
  | 102 => 100
  | 103 => 101
  | 104 => 100
  | 105 => 100
  | 106 => 100
  | 107 => 100
  | 108 => 100
  | 109 => 102
  | 110 => 101
  | 111 => 101
  | 112 => 101
  | 113 => 101
  | 114 => 101
  | 115 => 100
  | 116 => 102
  | 117 => 100
  | 118 => 100
  | 119 => 101
  | 120 => 101
  | 121 => 101
  | _ => 0
def tw_l (f : Nat) : Nat := match f with
  | 1 => 320
  | 2 => 512
  | 3 => 64
  | 4 => 8
  | 5 => 8
  | 6 => 8
  | 7 => 8
  | 8 => 512
  | 9 => 512
  | 10 => 4096
  | 11 => 3
  | 12 => 3
  | 13 => 3
  | 14 => 3
  | 15 => 18
  | 16 => 256
  | 17 => 640
  | 18 => 640
  | 19 => 640
  | 20 => 640
  | 21 => 640
  | 22 => 640
  | 23 => 1280
  | 24 => 1280
  | 25 => 640
  | 26 => 20480
  | 27 => 1152
  | 28 => 80
  | 29 => 64
  | 30 => 136
  | 31 => 136
  | 32 => 64
  | 33 => 4
  | 34 => 16
  | 35 => 32
  | 36 => 20480
  | 37 => 8
  | 38 => 8
  | 39 => 64
  | 40 => 1536
  | 41 => 1536
  | 42 => 1536
  | 43 => 1536
  | 44 => 1536
  | 45 => 1536
  | 46 => 1536
  | 47 => 1536
  | 48 => 1536
  | 49 => 1536
  | 50 => 6144
  | 51 => 6144
  | 52 => 6144
  | 53 => 12288
  | 54 => 12288
  | 55 => 12288
  | 56 => 98304
  | 57 => 36864
  | 58 => 96
  | 59 => 32
  | 60 => 32
  | 61 => 32
  | 62 => 32
  | 63 => 32
  | 64 => 32
  | 65 => 160
  | 66 => 288
  | 67 => 256
  | 68 => 384
  | 69 => 48
  | 70 => 48
  | 71 => 48
  | 72 => 48
  | 73 => 48
  | 74 => 48
  | 75 => 48
  | 76 => 4
  | 77 => 4
  | 78 => 3
  | 79 => 3
  | 80 => 8
  | 81 => 8
  | 82 => 37120
  | 83 => 37120
  | 84 => 8
  | 85 => 1024
  | 86 => 1024
  | 87 => 1
  | 88 => 8
  | 89 => 8
  | 90 => 8
  | 91 => 8
  | 92 => 8
  | 93 => 8
  | 94 => 8
  | 95 => 8
  | 96 => 8008
  | 97 => 4
  | 98 => 4
  | 99 => 4
  | 100 => 4
  | 101 => 4
  | 102 => 24
  | 103 => 544
  | 104 => 8
  | 105 => 3
  | 106 => 3
  | 107 => 3
  | 108 => 18
  | 109 => 8
  | 110 => 300
  | 111 => 64
  | 112 => 12200
  | 113 => 12200
  | 114 => 6400
  | 115 => 2
  | 116 => 32
  | 117 => 4
  | 118 => 4
  | 119 => 1280
  | 120 => 2048
  | 121 => 512
  | _ => 0
def tw_ok (h : hh_T) (m : Nat) : Prop := hh_tg h m = 20 ∧ (∀ f, tw_o f ≠ 0 → hh_r h m f = some (m + tw_o f)) ∧ ∀ j, tw_t j ≠ 0 → hh_tg h (m + j) = tw_t j ∧ hh_ln h (m + j) = tw_l j
theorem tw_ok.of {h h' : hh_T} {r : Option Value ⊕ Nat} {m : Nat} (hT : tw_ok h m) (s : tw_S h r h') : tw_ok h' m := by
  obtain ⟨-, -, -, s1, s2, s3⟩ := s
  unfold tw_ok
  rw [s1, s2, s3]
  exact hT
theorem tw_ok.wi {h : hh_T} {m a n : Nat} {x : Int32} (hT : tw_ok h m) : tw_ok (hh_wi h a n x) m := hT
theorem tw_ok.wj {h : hh_T} {m a n : Nat} {x : Int64} (hT : tw_ok h m) : tw_ok (hh_wj h a n x) m := hT
section GT
variable {k pc len pc' m : Nat} {L Le : gm_L} {st : List Value} {h : hh_T} {Q : Option Value ⊕ Nat → hh_T → Prop}
theorem t_tag (hT : tw_ok h m) : gm_sub (hh_tg h m) 19 = true := by rw [hT.1]; rfl
theorem t_get {N o : Nat} (e : gm_it k pc = (.getfield N, len)) (hT : tw_ok h m) (hN : N / 256 = 79) (ho : tw_o (N % 256) = o) (hz : Nat.beq o 0 = false) (p : pc + len = pc') (H : gm_G k pc' L (.ref (m + o) :: st) h Q) : gm_G k pc L (.ref m :: st) h Q := by
  have h0 : o ≠ 0 := fun z => by subst z; cases hz
  refine g_getR e (d := 19) (by omega) (by omega) rfl (t_tag hT) p ?_
  rw [hT.2.1 (N % 256) (by rw [ho]; exact h0), ho]
  exact H
theorem t_getI {N f : Nat} (e : gm_it k pc = (.getfield N, len)) (hT : tw_ok h m) (hN : N / 256 = 76) (hf : N % 256 = f) (p : pc + len = pc') (H : gm_G k pc' L (.int (hh_i h m f) :: st) h Q) : gm_G k pc L (.ref m :: st) h Q :=
  g_getI e (d := 19) (by omega) (by omega) hf (t_tag hT) p H
theorem t_getZ {N f : Nat} (e : gm_it k pc = (.getfield N, len)) (hT : tw_ok h m) (hN : N / 256 = 77) (hf : N % 256 = f) (p : pc + len = pc') (H : gm_G k pc' L (.int (hh_i h m f) :: st) h Q) : gm_G k pc L (.ref m :: st) h Q :=
  g_getZ e (d := 19) (by omega) (by omega) hf (t_tag hT) p H
theorem t_putI {N f : Nat} {x : Int32} (e : gm_it k pc = (.putfield N, len)) (hT : tw_ok h m) (hN : N / 256 = 76) (hf : N % 256 = f) (p : pc + len = pc') (H : tw_ok (hh_wi h m f x) m → gm_G k pc' L st (hh_wi h m f x) Q) : gm_G k pc L (.int x :: .ref m :: st) h Q :=
  g_putI e (d := 19) (by omega) (by omega) hf (t_tag hT) p (H hT.wi)
theorem t_putZ {N f : Nat} {x : Int32} (e : gm_it k pc = (.putfield N, len)) (hT : tw_ok h m) (hN : N / 256 = 77) (hf : N % 256 = f) (hx : x = 0 ∨ x = 1) (p : pc + len = pc') (H : tw_ok (hh_wi h m f x) m → gm_G k pc' L st (hh_wi h m f x) Q) : gm_G k pc L (.int x :: .ref m :: st) h Q :=
  g_putZ e (d := 19) (by omega) (by omega) hf (t_tag hT) hx p (H hT.wi)
theorem t_len {o n : Nat} (hT : tw_ok h m) (e : gm_it k pc = (.arraylength, len)) (ht : Nat.ble 100 (tw_t o) = true) (hl : tw_l o = n) (p : pc + len = pc') (H : gm_G k pc' L (.int (Int32.ofNat n) :: st) h Q) : gm_G k pc L (.ref (m + o) :: st) h Q := by
  have t1 : 100 ≤ tw_t o := Nat.le_of_ble_eq_true ht
  obtain ⟨a1, a2⟩ := hT.2.2 o (by omega)
  refine g_alen e (by rw [a1]; exact t1) p ?_
  rw [a2, hl]
  exact H
theorem t_iaload {o n l : Nat} {i : Int32} (hT : tw_ok h m) (e : gm_it k pc = (.iaload, len)) (ht : tw_t o = 100) (hl : tw_l o = l) (hi : gm_ix i n l) (p : pc + len = pc') (H : gm_G k pc' L (.int (hh_i h (m + o) n) :: st) h Q) : gm_G k pc L (.int i :: .ref (m + o) :: st) h Q := by
  obtain ⟨a1, a2⟩ := hT.2.2 o (by omega)
  exact g_iaload e (Or.inl (a1.trans ht)) (by rw [a2, hl]; exact hi) p H
theorem t_baload {o n l : Nat} {i : Int32} (hT : tw_ok h m) (e : gm_it k pc = (.baload, len)) (ht : tw_t o = 101) (hl : tw_l o = l) (hi : gm_ix i n l) (p : pc + len = pc') (H : gm_G k pc' L (.int (hh_i h (m + o) n) :: st) h Q) : gm_G k pc L (.int i :: .ref (m + o) :: st) h Q := by
  obtain ⟨a1, a2⟩ := hT.2.2 o (by omega)
  exact g_baload e (Or.inl (a1.trans ht)) (by rw [a2, hl]; exact hi) p H
theorem t_zaload {o n l : Nat} {i : Int32} (hT : tw_ok h m) (e : gm_it k pc = (.baload, len)) (ht : tw_t o = 102) (hl : tw_l o = l) (hi : gm_ix i n l) (p : pc + len = pc') (H : gm_G k pc' L (.int (hh_i h (m + o) n) :: st) h Q) : gm_G k pc L (.int i :: .ref (m + o) :: st) h Q := by
  obtain ⟨a1, a2⟩ := hT.2.2 o (by omega)
  exact g_baload e (Or.inr (a1.trans ht)) (by rw [a2, hl]; exact hi) p H
theorem t_laload {o n l : Nat} {i : Int32} (hT : tw_ok h m) (e : gm_it k pc = (.laload, len)) (ht : tw_t o = 103) (hl : tw_l o = l) (hi : gm_ix i n l) (p : pc + len = pc') (H : gm_G k pc' L (.long (hh_j h (m + o) n) :: st) h Q) : gm_G k pc L (.int i :: .ref (m + o) :: st) h Q := by
  obtain ⟨a1, a2⟩ := hT.2.2 o (by omega)
  exact g_laload e (a1.trans ht) (by rw [a2, hl]; exact hi) p H
theorem t_iastore {o n l : Nat} {i : Int32} {x : Int32} (hT : tw_ok h m) (e : gm_it k pc = (.iastore, len)) (ht : tw_t o = 100) (hl : tw_l o = l) (hi : gm_ix i n l) (p : pc + len = pc') (H : tw_ok (hh_wi h (m + o) n x) m → gm_G k pc' L st (hh_wi h (m + o) n x) Q) : gm_G k pc L (.int x :: .int i :: .ref (m + o) :: st) h Q := by
  obtain ⟨a1, a2⟩ := hT.2.2 o (by omega)
  exact g_iastore e (a1.trans ht) (by rw [a2, hl]; exact hi) p (H hT)
theorem t_bastore {o n l : Nat} {i : Int32} {x : Int32} (hT : tw_ok h m) (e : gm_it k pc = (.bastore, len)) (ht : tw_t o = 101) (hl : tw_l o = l) (hi : gm_ix i n l) (p : pc + len = pc') (H : tw_ok (hh_wi h (m + o) n x.toInt8.toInt32) m → gm_G k pc' L st (hh_wi h (m + o) n x.toInt8.toInt32) Q) : gm_G k pc L (.int x :: .int i :: .ref (m + o) :: st) h Q := by
  obtain ⟨a1, a2⟩ := hT.2.2 o (by omega)
  exact g_bastore e (a1.trans ht) (by rw [a2, hl]; exact hi) p (H hT)
theorem t_zastore {o n l : Nat} {i : Int32} {x : Int32} (hT : tw_ok h m) (e : gm_it k pc = (.bastore, len)) (ht : tw_t o = 102) (hl : tw_l o = l) (hi : gm_ix i n l) (hx : x = 0 ∨ x = 1) (p : pc + len = pc') (H : tw_ok (hh_wi h (m + o) n x) m → gm_G k pc' L st (hh_wi h (m + o) n x) Q) : gm_G k pc L (.int x :: .int i :: .ref (m + o) :: st) h Q := by
  obtain ⟨a1, a2⟩ := hT.2.2 o (by omega)
  exact g_zastore e (a1.trans ht) (by rw [a2, hl]; exact hi) hx p (H hT)
theorem t_lastore {o n l : Nat} {i : Int32} {x : Int64} (hT : tw_ok h m) (e : gm_it k pc = (.lastore, len)) (ht : tw_t o = 103) (hl : tw_l o = l) (hi : gm_ix i n l) (p : pc + len = pc') (H : tw_ok (hh_wj h (m + o) n x) m → gm_G k pc' L st (hh_wj h (m + o) n x) Q) : gm_G k pc L (.long x :: .int i :: .ref (m + o) :: st) h Q := by
  obtain ⟨a1, a2⟩ := hT.2.2 o (by omega)
  exact g_lastore e (a1.trans ht) (by rw [a2, hl]; exact hi) p (H hT)
theorem t_call {y n : Nat} {st0 rest : List Value} {ins : Instr} {P : Option Value ⊕ Nat → hh_T → Prop} (hT : tw_ok h m) (e : gm_it k pc = (ins, len)) (hy : tw_m y = true) (hi : ∀ K : gm_K, gm_stI K k pc len ins L st0 h = gm_call K k pc len y n L st0 h) (hL : gm_ent ((st0.take n).reverse) = Le) (hd : st0.drop n = rest) (hc : n ≤ st0.length ∧ st0.length ≤ n + 6 ∧ Le.length ≤ gm_ml y) (p : pc + len = pc')
    (H : gm_G y 0 Le [] h P) (HP : ∀ r h1, P r h1 → tw_ok h1 m → gm_A k pc pc' L rest Q r h1) : gm_G k pc L st0 h Q :=
  g_call e hi hL hd hc p ((tw_G hy H).mono fun r h1 q => HP r h1 q.1 (hT.of q.2))
theorem t_vt {N y : Nat} {st0 rest' : List Value} (hT : tw_ok h m) (hv : gm_vt (N / 16) 20 = some y) (hs : st0.drop (N % 16 - 1) = .ref m :: rest') : ∀ K : gm_K, gm_stI K k pc len (.invokevirtual N) L st0 h = gm_call K k pc len y (N % 16) L st0 h := g_vt hT.1 hv hs
theorem tI_elim {P : Int32 → hh_T → Prop} {R : Option Value ⊕ Nat → hh_T → Prop} (h1 : ∀ x h, P x h → tw_ok h m → R (.inl (some (.int x))) h) (r : Option Value ⊕ Nat) (h : hh_T) (q : pI P (fun _ _ => False) r h) (hT : tw_ok h m) : R r h := by
  rcases r with (_ | v) | a
  · exact q.elim
  · cases v <;> first | exact h1 _ _ q hT | exact q.elim
  · exact q.elim
theorem tL_elim {P : Int64 → hh_T → Prop} {R : Option Value ⊕ Nat → hh_T → Prop} (h1 : ∀ x h, P x h → tw_ok h m → R (.inl (some (.long x))) h) (r : Option Value ⊕ Nat) (h : hh_T) (q : pL P (fun _ _ => False) r h) (hT : tw_ok h m) : R r h := by
  rcases r with (_ | v) | a
  · exact q.elim
  · cases v <;> first | exact h1 _ _ q hT | exact q.elim
  · exact q.elim
theorem tV_elim {P : hh_T → Prop} {R : Option Value ⊕ Nat → hh_T → Prop} (h1 : ∀ h, P h → tw_ok h m → R (.inl none) h) (r : Option Value ⊕ Nat) (h : hh_T) (q : pV P (fun _ _ => False) r h) (hT : tw_ok h m) : R r h := by
  rcases r with (_ | v) | a
  · exact h1 _ q hT
  · exact q.elim
  · exact q.elim
end GT
