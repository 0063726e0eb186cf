/-! STAGE 3: properties of sets -/
/-- parents lead to the first set -/
def zu_ch (s : zU) : Nat → zD → Prop
  | 0, _ => False
  | F + 1, d => zd_no d = 0 ∨ ∃ p, (zd_pa d).bind (zu_set s) = some p ∧ zu_ch s F p
theorem i_nm1 {n : Nat} (hn : n < 2147483648) : ¬ (Int32.ofNat n) = Int32.ofInt (-1) := fun e => by
  have : (Int32.ofNat n) < (Int32.ofNat 0) := by rw [e]; decide
  rw [i_n0 hn] at this
  exact this
section TPr
variable {h : hh_T} {m : Nat} {Q : Option Value ⊕ Nat → hh_T → Prop} {s : zU}
theorem tu_at {d : zD} (T : tu h m 0 s) (hd : d ∈ zu_sets s) : ∃ k, k < 8 ∧ td h m k d ∧ ffi (fun k => decide (hh_i h (m + 59) k = (Int32.ofNat (zd_no d)))) 8 0 = some k := by
  obtain ⟨t1, t2, t3, t4, t5, t6, t7⟩ := T
  obtain ⟨k, hk, t⟩ := t2 d hd
  have t : td h m k d := by rw [Nat.mul_zero, Nat.zero_add] at t; exact t
  have e1 := t.1
  have l1 := t.2.1
  cases hf : ffi (fun k => decide (hh_i h (m + 59) k = (Int32.ofNat (zd_no d)))) 8 0 with
  | none =>
    have := ffi_none hf k (Nat.zero_le _) (by omega)
    rw [decide_eq_true e1] at this
    cases this
  | some k' =>
    obtain ⟨-, z1, z2⟩ := ffi_lt hf
    have z2 : hh_i h (m + 59) k' = (Int32.ofNat (zd_no d)) := of_decide_eq_true z2
    have : k' = k := by
      refine t5 k' k (by omega) hk ?_ ?_
      · rw [Nat.mul_zero, Nat.zero_add, z2]; exact i_nm1 (by omega)
      · rw [Nat.mul_zero, Nat.zero_add, Nat.zero_add, z2, e1]
    exact ⟨k', by omega, by rw [this]; exact t, rfl⟩
theorem zu_set_m {n : Nat} {d : zD} (e : zu_set s n = some d) : d ∈ zu_sets s ∧ zd_no d = n := by
  unfold zu_set at e
  refine ⟨List.mem_of_find?_eq_some e, ?_⟩
  have := List.find?_some e
  exact of_decide_eq_true this
theorem t_property0 {w : Nat} (hT : tw_ok h m) (up : hh_i h m 77 = (Int32.ofNat 1)) (T : tu h m 0 s) (hw : w < 5) : ∀ (F i : Nat) (d : zD), i < 8 → td h m i d → zu_ch s F d → Q (.inl (some (.int (Int32.ofNat (zu_prop s w F d))))) h → gm_G 297 2 [some (.ref m), none, some (.int (Int32.ofNat w)), some (.int (Int32.ofNat i))] [] h Q
  | 0, _, _, _, _, c, _ => c.elim
  | F + 1, i, d, hi, D, c, H => by
    obtain ⟨d1, d2, d3, d4, d5, d6, d7, d8, d9, d10, d11, d12⟩ := id D
    obtain ⟨e65, l65⟩ := d11 w hw
    have ix : gm_ix ((Int32.ofNat 5) * (Int32.ofNat i) + (Int32.ofNat w)) (5 * i + w) 160 := by rw [i_mul, i_add]; exact ix_n (by omega) (by omega)
    have H : Q (.inl (some (.int (Int32.ofNat (match zd_ow d w with
      | some v => v
      | none => if zd_no d = 0 then (if w = 1 then 1 else 0) else (match (zd_pa d).bind (zu_set s) with
        | none => 0
        | some p => zu_prop s w F p)))))) h := H
    refine w_297_2 hT ⟨5 * i + w, ix, ?_⟩
    cases u : zd_ow d w with
    | some v =>
      rw [u] at H e65
      have lv := l65 v u
      have e65 : hh_i h (m + 65) (5 * i + w) = (Int32.ofNat v) := e65
      refine ⟨fun _ => ⟨5 * i + w, ix, ?_⟩, fun z => ?_⟩
      · rw [e65]; exact H
      · rw [e65, i_n0 (by omega)] at z; exact z.elim
    | none =>
      rw [u] at H e65
      have e65 : hh_i h (m + 65) (5 * i + w) = Int32.ofInt (-1) := e65
      refine ⟨fun z => absurd (by rw [e65]; decide) z, fun _ => ⟨i, ix_n (by omega) (by omega), fun z => ?_, fun z => ?_⟩⟩
      · rw [d1] at z
        have nz : ¬ zd_no d = 0 := fun y => z (by rw [y])
        rcases c with c | ⟨p, c1, c2⟩
        · exact absurd c nz
        dsimp only at H
        rw [if_neg nz, c1] at H
        refine ⟨i, ix_n (by omega) (by omega), ?_⟩
        cases v : zd_pa d with
        | none => rw [v] at c1; cases c1
        | some n =>
          rw [v] at c1 d3
          have d3 : hh_i h (m + 60) i = (Int32.ofNat n) := d3
          have ln := d4 n v
          have c1 : zu_set s n = some p := c1
          obtain ⟨q1, q2⟩ := zu_set_m c1
          obtain ⟨k, hk, tk, ek⟩ := tu_at T q1
          rw [q2] at ek
          rw [d3]
          refine t_setAt hT ?_
          rw [if_neg (by rw [up]; rintro (y | y); exact absurd y (by decide); rw [i_n0 (by omega)] at y; exact y), ek]
          exact t_property0 hT up T hw F k p hk tk c2 H
      · rw [d1] at z
        have nz : zd_no d = 0 := (i_eq (b := 0) (by omega) (by decide)).mp z
        dsimp only at H
        rw [if_pos nz] at H
        refine ⟨fun y => ?_, fun y => ?_⟩
        · rw [if_neg (fun x => y (by rw [x]))] at H; exact H
        · rw [if_pos ((i_eq (b := 1) (by omega) (by decide)).mp y)] at H; exact H
end TPr
