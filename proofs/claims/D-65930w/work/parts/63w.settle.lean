/-! STAGE 3: the twin settles -/
section TSe
variable {h : hh_T} {m : Nat} {Q : Option Value ⊕ Nat → hh_T → Prop} {I : Nat → List Nat}
theorem flt_S (L : List Nat) (u : Nat → Bool) (k : Nat) (hk : u k = false) : (L.filter (fun q => u q || decide (k ≤ q))).filter (fun c => !(ne_q k c)) = L.filter (fun q => u q || decide (k + 1 ≤ q)) := by
  rw [List.filter_filter]
  refine List.filter_congr (fun q _ => ?_)
  unfold ne_q
  by_cases z : k = q
  · subst z
    rw [hk, decide_eq_true rfl, decide_eq_false (show ¬ k + 1 ≤ k by omega)]
    rfl
  · rw [decide_eq_false z, show decide (k ≤ q) = decide (k + 1 ≤ q) from by rw [decide_eq_decide]; omega]
    simp
theorem flt_K (L : List Nat) (u : Nat → Bool) (k : Nat) (hk : u k = true) : L.filter (fun q => u q || decide (k ≤ q)) = L.filter (fun q => u q || decide (k + 1 ≤ q)) := by
  refine List.filter_congr (fun q _ => ?_)
  by_cases z : q = k
  · rw [z, hk]; rfl
  · rw [show decide (k ≤ q) = decide (k + 1 ≤ q) from by rw [decide_eq_decide]; omega]
/-- what is not in use leaves the lists -/
theorem t_settle11 {u : Nat → Bool} (hT : tw_ok h m) (L : rL h m I) (hu : ∀ p, p < 640 → hh_i h (m + 18) p = bi (u p)) (H : ∀ h', fr (tO m [32, 33] []) h h' → rL h' m (fun l => (I l).filter u) → Q (.inl none) h') : gm_G 422 11 [some (.ref m), some (.int (Int32.ofNat 0))] [] h Q := by
  have lp : ∀ d k h1, k + d = 640 → fr (tO m [32, 33] []) h h1 → rL h1 m (fun l => (I l).filter (fun q => u q || decide (k ≤ q))) → gm_G 422 11 [some (.ref m), some (.int (Int32.ofNat k))] [] h1 Q := by
    intro d
    induction d with
    | zero =>
      intro k h1 ek g1 L1
      have ek : k = 640 := by omega
      subst ek
      refine w_422_11 (hT.fr g1) ⟨fun _ => H h1 g1 (fun l hl => ?_), fun z => absurd z (by decide)⟩
      have e : (I l).filter (fun q => u q || decide (640 ≤ q)) = (I l).filter u := by
        refine List.filter_congr (fun q hq => ?_)
        obtain ⟨j, hj, ej⟩ := List.getElem_of_mem hq
        have := ((L l hl).2.2 j hj).2
        rw [List.getD_eq_getElem?_getD, List.getElem?_eq_getElem hj, Option.getD_some, ej] at this
        rw [decide_eq_false (by omega), Bool.or_false]
      have := L1 l hl
      dsimp only at this
      rw [e] at this
      exact this
    | succ d ih =>
      intro k h1 ek g1 L1
      have e18 : hh_i h1 (m + 18) k = bi (u k) := by rw [g1.arr (o := 18) rfl]; exact hu k (by omega)
      refine w_422_11 (hT.fr g1) ⟨fun z => absurd (by rw [i_lt (by omega) (by decide)]; omega) z, fun _ => ⟨k, ix_n (by omega) (by omega), ?_⟩⟩
      rw [e18]
      cases z : u k with
      | true =>
        refine ⟨fun _ => w_422_32 (hT.fr g1) ?_, fun y => absurd y (by decide)⟩
        rw [i_add]
        refine ih (k + 1) h1 (by omega) g1 (fun l hl => ?_)
        have := L1 l hl
        dsimp only at this ⊢
        rw [flt_K _ _ _ z] at this
        exact this
      | false =>
        refine ⟨fun y => absurd rfl y, fun _ => ?_⟩
        refine t_leave (hT.fr g1) L1 (show k < 640 by omega) (fun h2 g2 L2 => ?_)
        refine w_422_32 ((hT.fr g1).fr g2) ?_
        rw [i_add]
        refine ih (k + 1) h2 (by omega) (g1.trans g2) (fun l hl => ?_)
        have := L2 l hl
        unfold gl_lv at this
        dsimp only at this ⊢
        rw [flt_S _ _ _ z] at this
        exact this
  refine lp 640 0 h rfl (fr.refl _ _) (fun l hl => ?_)
  have e : (I l).filter (fun q => u q || decide (0 ≤ q)) = I l := by
    rw [List.filter_eq_self]
    intro q _
    rw [decide_eq_true (Nat.zero_le q), Bool.or_true]
  show rL1 h m l ((I l).filter (fun q => u q || decide (0 ≤ q)))
  rw [e]
  exact L l hl
end TSe
