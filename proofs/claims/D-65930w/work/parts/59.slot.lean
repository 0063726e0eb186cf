/-! STAGE 2, 30: a tree's slot by its number, in the twin -/
theorem ffi_lt {P : Nat → Bool} : ∀ {d k i : Nat}, ffi P d k = some i → k ≤ i ∧ i < k + d ∧ P i = true
  | 0, k, i, e => by cases e
  | d + 1, k, i, e => by
    rw [ffi_S] at e
    split at e
    · rename_i q
      cases e
      exact ⟨Nat.le_refl _, by omega, q⟩
    · obtain ⟨h1, h2, h3⟩ := ffi_lt e
      exact ⟨by omega, by omega, h3⟩
theorem fiv_neg {o : Option Nat} (ho : ∀ i, o = some i → i < 1000) : fiv o < Int32.ofNat 0 ↔ o = none := by
  cases o with
  | none => exact ⟨fun _ => rfl, fun _ => by decide⟩
  | some i => exact ⟨fun z => absurd z (by show ¬ Int32.ofNat i < _; have := ho i rfl; rw [i_lt (by omega) (by decide)]; omega), fun z => by cases z⟩
section SL
variable {h : hh_T} {Q : Option Value ⊕ Nat → hh_T → Prop}
/-- the place of a set or snapshot with a number, while the house is up -/
def tw_at (h : hh_T) (m a n : Nat) (s : Int32) : Option Nat := if hh_i h m 77 = Int32.ofNat 0 then none else ffi (fun k => decide (hh_i h (m + a) k = s)) n 0
theorem tw_at_lt {m a n i : Nat} {s : Int32} (e : tw_at h m a n s = some i) : i < n ∧ hh_i h (m + a) i = s := by
  unfold tw_at at e
  split at e
  · cases e
  · obtain ⟨-, h2, h3⟩ := ffi_lt e
    exact ⟨by omega, by simpa using h3⟩
theorem t_setAt' {m n : Nat} (hT : tw_ok h m) (hn : n < 2147483648) (H : Q (.inl (some (.int (fiv (tw_at h m 59 8 (Int32.ofNat n)))))) h) : gm_G 152 0 [some (.ref m), some (.int (Int32.ofNat n))] [] h Q := by
  refine t_setAt hT ?_
  unfold tw_at at H
  by_cases z : hh_i h m 77 = Int32.ofNat 0
  · rw [if_pos (Or.inl z)]; rw [if_pos z] at H; exact H
  · rw [if_neg (by rintro (t | t); exact z t; rw [i_lt hn (by decide)] at t; omega)]; rw [if_neg z] at H; exact H
theorem t_snapAt' {m n : Nat} (hT : tw_ok h m) (hn : n < 2147483648) (H : Q (.inl (some (.int (fiv (tw_at h m 69 12 (Int32.ofNat n)))))) h) : gm_G 153 0 [some (.ref m), some (.int (Int32.ofNat n))] [] h Q := by
  refine t_snapAt hT ?_
  unfold tw_at at H
  by_cases z : hh_i h m 77 = Int32.ofNat 0
  · rw [if_pos (Or.inl z)]; rw [if_pos z] at H; exact H
  · rw [if_neg (by rintro (t | t); exact z t; rw [i_lt hn (by decide)] at t; omega)]; rw [if_neg z] at H; exact H
/-- the slot of tree n -/
def tw_slot (h : hh_T) (m n : Nat) : Int32 := if n % 2 = 0 then (match tw_at h m 59 8 (Int32.ofNat (n / 2)) with | none => Int32.ofInt (-1) | some i => hh_i h (m + 63) i) else (match tw_at h m 69 12 (Int32.ofNat (n / 2)) with | none => Int32.ofInt (-1) | some i => hh_i h (m + 74) i)
theorem t_treeSlot {m : Nat} {t : Int32} (hT : tw_ok h m) (H1 : t < Int32.ofNat 0 → Q (.inl (some (.int (Int32.ofInt (-1))))) h) (H2 : ∀ n, n < 2147483648 → t = Int32.ofNat n → Q (.inl (some (.int (tw_slot h m n)))) h) : gm_G 307 0 [some (.ref m), some (.int t)] [] h Q := by
  refine w_307_0 hT ⟨fun q => ?_, H1⟩
  obtain ⟨n, hn, rfl⟩ := i_nat q
  have H := H2 n hn rfl
  have er : Int32.ofNat n - Int32.ofNat n / Int32.ofNat 2 * Int32.ofNat 2 = Int32.ofNat (n % 2) := i_rem hn (by decide)
  have ed : Int32.ofNat n / Int32.ofNat 2 = Int32.ofNat (n / 2) := i_div hn (by decide)
  have e2 : (Int32.ofNat (n % 2) = Int32.ofNat 0) ↔ n % 2 = 0 := i_eq (by omega) (by decide)
  unfold tw_slot at H
  refine ⟨fun z => ?_, fun z => ?_⟩
  · rw [er, e2] at z
    rw [if_neg z] at H
    rw [ed]
    refine t_snapAt' hT (by omega) ?_
    show gm_G 307 29 _ _ _ _
    refine w_307_29 hT ⟨fun y => ⟨fun _ => ?_, fun u => absurd (by rw [er, e2] at u; exact u) z⟩, fun y => ?_⟩
    · cases g : tw_at h m 69 12 (Int32.ofNat (n / 2)) with
      | none => rw [g] at y; exact absurd (by decide) y
      | some i =>
        rw [g] at H
        have := (tw_at_lt g).1
        exact ⟨i, ix_n (by omega) (by omega), H⟩
    · rw [fiv_neg (fun i e => by have := (tw_at_lt e).1; omega)] at y
      rw [y] at H
      exact H
  · rw [er, e2] at z
    rw [if_pos z] at H
    rw [ed]
    refine t_setAt' hT (by omega) ?_
    show gm_G 307 29 _ _ _ _
    refine w_307_29 hT ⟨fun y => ⟨fun u => absurd z (by rw [er, e2] at u; exact u), fun _ => ?_⟩, fun y => ?_⟩
    · cases g : tw_at h m 59 8 (Int32.ofNat (n / 2)) with
      | none => rw [g] at y; exact absurd (by decide) y
      | some i =>
        rw [g] at H
        have := (tw_at_lt g).1
        exact ⟨i, ix_n (by omega) (by omega), H⟩
    · rw [fiv_neg (fun i e => by have := (tw_at_lt e).1; omega)] at y
      rw [y] at H
      exact H
end SL
