/-! STAGE 2, 29: scans of the twin: sets and snapshots by number -/
/-- the first from k on, of d, that fits -/
def ffi (P : Nat → Bool) : Nat → Nat → Option Nat
  | 0, _ => none
  | d + 1, k => if P k then some k else ffi P d (k + 1)
theorem ffi_S (P : Nat → Bool) (d k : Nat) : ffi P (d + 1) k = if P k then some k else ffi P d (k + 1) := rfl
def fiv (o : Option Nat) : Int32 := match o with
  | none => Int32.ofInt (-1)
  | some k => Int32.ofNat k
section SC
variable {h : hh_T} {Q : Option Value ⊕ Nat → hh_T → Prop}
theorem t_setAt {m : Nat} {s : Int32} (hT : tw_ok h m) (H : Q (.inl (some (.int (if hh_i h m 77 = Int32.ofNat 0 ∨ s < Int32.ofNat 0 then Int32.ofInt (-1) else fiv (ffi (fun k => decide (hh_i h (m + 59) k = s)) 8 0))))) h) : gm_G 152 0 [some (.ref m), some (.int s)] [] h Q := by
  refine w_152_0 hT ?_
  have lp : ∀ d k, k + d = 8 → Q (.inl (some (.int (if hh_i h m 77 = Int32.ofNat 0 ∨ s < Int32.ofNat 0 then Int32.ofInt (-1) else fiv (ffi (fun k => decide (hh_i h (m + 59) k = s)) d k))))) h → gm_G 152 2 [some (.ref m), some (.int s), some (.int (Int32.ofNat k))] [] h Q := by
    intro d
    induction d with
    | zero =>
      intro k e H1
      refine w_152_2 hT ⟨fun z => ?_, fun z => ⟨fun y => ?_, fun y => ⟨fun _ => ?_, fun u => absurd u (by rw [i_lt (by omega) (by decide)]; omega)⟩⟩⟩
      · rw [if_pos (Or.inl z)] at H1; exact H1
      · rw [if_pos (Or.inr y)] at H1; exact H1
      · rw [if_neg (by rintro (t | t); exact z t; exact y t)] at H1; exact H1
    | succ d ih =>
      intro k e H1
      refine w_152_2 hT ⟨fun z => ?_, fun z => ⟨fun y => ?_, fun y => ⟨fun u => absurd (by rw [i_lt (by omega) (by decide)]; omega) u, fun _ => ⟨k, ix_n (by omega) (by omega), fun v => ?_, fun v => ?_⟩⟩⟩⟩
      · rw [if_pos (Or.inl z)] at H1; exact H1
      · rw [if_pos (Or.inr y)] at H1; exact H1
      · rw [ffi_S, decide_eq_false v] at H1
        rw [i_add]
        exact ih (k + 1) (by omega) H1
      · rw [if_neg (by rintro (t | t); exact z t; exact y t), ffi_S, decide_eq_true v] at H1
        exact H1
  exact lp 8 0 (by omega) H
theorem t_snapAt {m : Nat} {s : Int32} (hT : tw_ok h m) (H : Q (.inl (some (.int (if hh_i h m 77 = Int32.ofNat 0 ∨ s < Int32.ofNat 0 then Int32.ofInt (-1) else fiv (ffi (fun k => decide (hh_i h (m + 69) k = s)) 12 0))))) h) : gm_G 153 0 [some (.ref m), some (.int s)] [] h Q := by
  refine w_153_0 hT ?_
  have lp : ∀ d k, k + d = 12 → Q (.inl (some (.int (if hh_i h m 77 = Int32.ofNat 0 ∨ s < Int32.ofNat 0 then Int32.ofInt (-1) else fiv (ffi (fun k => decide (hh_i h (m + 69) k = s)) d k))))) h → gm_G 153 2 [some (.ref m), some (.int s), some (.int (Int32.ofNat k))] [] h Q := by
    intro d
    induction d with
    | zero =>
      intro k e H1
      refine w_153_2 hT ⟨fun z => ?_, fun z => ⟨fun y => ?_, fun y => ⟨fun _ => ?_, fun u => absurd u (by rw [i_lt (by omega) (by decide)]; omega)⟩⟩⟩
      · rw [if_pos (Or.inl z)] at H1; exact H1
      · rw [if_pos (Or.inr y)] at H1; exact H1
      · rw [if_neg (by rintro (t | t); exact z t; exact y t)] at H1; exact H1
    | succ d ih =>
      intro k e H1
      refine w_153_2 hT ⟨fun z => ?_, fun z => ⟨fun y => ?_, fun y => ⟨fun u => absurd (by rw [i_lt (by omega) (by decide)]; omega) u, fun _ => ⟨k, ix_n (by omega) (by omega), fun v => ?_, fun v => ?_⟩⟩⟩⟩
      · rw [if_pos (Or.inl z)] at H1; exact H1
      · rw [if_pos (Or.inr y)] at H1; exact H1
      · rw [ffi_S, decide_eq_false v] at H1
        rw [i_add]
        exact ih (k + 1) (by omega) H1
      · rw [if_neg (by rintro (t | t); exact z t; exact y t), ffi_S, decide_eq_true v] at H1
        exact H1
  exact lp 12 0 (by omega) H
end SC
