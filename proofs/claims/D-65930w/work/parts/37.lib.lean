/-! STAGE 2, 8: small laws: the heap's reads behind writes; ints that are natural numbers -/
theorem hi_wi (h : hh_T) (a k : Nat) (x : Int32) (b j : Nat) : hh_i (hh_wi h a k x) b j = if b = a ∧ j = k then x else hh_i h b j := rfl
theorem hj_wi (h : hh_T) (a k : Nat) (x : Int32) : hh_j (hh_wi h a k x) = hh_j h := rfl
theorem hr_wi (h : hh_T) (a k : Nat) (x : Int32) : hh_r (hh_wi h a k x) = hh_r h := rfl
theorem ht_wi (h : hh_T) (a k : Nat) (x : Int32) : hh_tg (hh_wi h a k x) = hh_tg h := rfl
theorem hl_wi (h : hh_T) (a k : Nat) (x : Int32) : hh_ln (hh_wi h a k x) = hh_ln h := rfl
theorem hz_wi (h : hh_T) (a k : Nat) (x : Int32) : hh_sz (hh_wi h a k x) = hh_sz h := rfl
theorem hs_wi (h : hh_T) (a k : Nat) (x : Int32) : hh_sl (hh_wi h a k x) = hh_sl h := rfl
theorem hi_wj (h : hh_T) (a k : Nat) (x : Int64) : hh_i (hh_wj h a k x) = hh_i h := rfl
theorem hj_wj (h : hh_T) (a k : Nat) (x : Int64) (b j : Nat) : hh_j (hh_wj h a k x) b j = if b = a ∧ j = k then x else hh_j h b j := rfl
theorem hr_wj (h : hh_T) (a k : Nat) (x : Int64) : hh_r (hh_wj h a k x) = hh_r h := rfl
theorem ht_wj (h : hh_T) (a k : Nat) (x : Int64) : hh_tg (hh_wj h a k x) = hh_tg h := rfl
theorem hl_wj (h : hh_T) (a k : Nat) (x : Int64) : hh_ln (hh_wj h a k x) = hh_ln h := rfl
theorem hz_wj (h : hh_T) (a k : Nat) (x : Int64) : hh_sz (hh_wj h a k x) = hh_sz h := rfl
theorem hs_wj (h : hh_T) (a k : Nat) (x : Int64) : hh_sl (hh_wj h a k x) = hh_sl h := rfl
theorem hi_wr (h : hh_T) (a k : Nat) (x : Option Nat) : hh_i (hh_wr h a k x) = hh_i h := rfl
theorem hj_wr (h : hh_T) (a k : Nat) (x : Option Nat) : hh_j (hh_wr h a k x) = hh_j h := rfl
theorem hr_wr (h : hh_T) (a k : Nat) (x : Option Nat) (b j : Nat) : hh_r (hh_wr h a k x) b j = if b = a ∧ j = k then x else hh_r h b j := rfl
theorem ht_wr (h : hh_T) (a k : Nat) (x : Option Nat) : hh_tg (hh_wr h a k x) = hh_tg h := rfl
theorem hl_wr (h : hh_T) (a k : Nat) (x : Option Nat) : hh_ln (hh_wr h a k x) = hh_ln h := rfl
theorem hz_wr (h : hh_T) (a k : Nat) (x : Option Nat) : hh_sz (hh_wr h a k x) = hh_sz h := rfl
theorem hs_wr (h : hh_T) (a k : Nat) (x : Option Nat) : hh_sl (hh_wr h a k x) = hh_sl h := rfl
theorem hi_al (h : hh_T) (t n s b : Nat) : hh_i (hh_al h t n s) b = if b = hh_sz h then (fun _ => 0) else hh_i h b := rfl
theorem hj_al (h : hh_T) (t n s b : Nat) : hh_j (hh_al h t n s) b = if b = hh_sz h then (fun _ => 0) else hh_j h b := rfl
theorem hr_al (h : hh_T) (t n s b : Nat) : hh_r (hh_al h t n s) b = if b = hh_sz h then (fun _ => none) else hh_r h b := rfl
theorem ht_al (h : hh_T) (t n s b : Nat) : hh_tg (hh_al h t n s) b = if b = hh_sz h then t else hh_tg h b := rfl
theorem hl_al (h : hh_T) (t n s b : Nat) : hh_ln (hh_al h t n s) b = if b = hh_sz h then n else hh_ln h b := rfl
theorem hz_al (h : hh_T) (t n s : Nat) : hh_sz (hh_al h t n s) = hh_sz h + 1 := rfl
theorem hs_al (h : hh_T) (t n s : Nat) : hh_sl (hh_al h t n s) = hh_sl h + s := rfl
theorem i_add (a b : Nat) : Int32.ofNat a + Int32.ofNat b = Int32.ofNat (a + b) := (Int32.ofNat_add a b).symm
theorem i_mul (a b : Nat) : Int32.ofNat a * Int32.ofNat b = Int32.ofNat (a * b) := (Int32.ofNat_mul a b).symm
theorem i_sub {a b : Nat} (h : b ≤ a) : Int32.ofNat a - Int32.ofNat b = Int32.ofNat (a - b) := by
  have e : Int32.ofNat a = Int32.ofNat (a - b) + Int32.ofNat b := by rw [i_add, Nat.sub_add_cancel h]
  rw [e, Int32.add_sub_cancel]
theorem i_lt {a b : Nat} (ha : a < 2147483648) (hb : b < 2147483648) : (Int32.ofNat a < Int32.ofNat b) ↔ a < b := Int32.ofNat_lt_ofNat ha hb
theorem i_le {a b : Nat} (ha : a < 2147483648) (hb : b < 2147483648) : (Int32.ofNat a ≤ Int32.ofNat b) ↔ a ≤ b := Int32.ofNat_le_ofNat ha hb
theorem i_tn {a : Nat} (ha : a < 2147483648) : (Int32.ofNat a).toNatClampNeg = a := Int32.toNatClampNeg_ofNat_of_lt ha
theorem i_eq {a b : Nat} (ha : a < 2147483648) (hb : b < 2147483648) : (Int32.ofNat a = Int32.ofNat b) ↔ a = b := ⟨fun h => by rw [← i_tn ha, ← i_tn hb, h], fun h => by rw [h]⟩
theorem ix_n {n m : Nat} (h : n < m) (hm : n < 2147483648) : gm_ix (Int32.ofNat n) n m := ⟨i_tn hm, (i_le (by decide) hm).mpr (Nat.zero_le _), h⟩
theorem i_nat {x : Int32} (h : ¬ x < Int32.ofNat 0) : ∃ n, n < 2147483648 ∧ x = Int32.ofNat n := by
  have h0 : (0 : Int32) ≤ x := Int32.not_lt.mp h
  refine ⟨x.toNatClampNeg, ?_, ?_⟩
  · exact Int32.toNatClampNeg_lt x
  · exact (Int32.ofNat_toNatClampNeg x h0).symm
/-- a loop: from what holds at its head, step by step -/
theorem gm_loop {k pc : Nat} {Q : Option Value ⊕ Nat → hh_T → Prop} (F : Nat → hh_T → gm_L) (I : Nat → hh_T → Prop) (n : Nat) (step : ∀ i h, i < n → I i h → (∀ h', I (i + 1) h' → gm_G k pc (F (i + 1) h') [] h' Q) → gm_G k pc (F i h) [] h Q) (fin : ∀ h, I n h → gm_G k pc (F n h) [] h Q) :
    ∀ i h, i ≤ n → I i h → gm_G k pc (F i h) [] h Q := by
  intro i h hi hI
  obtain ⟨d, hd⟩ : ∃ d, d = n - i := ⟨_, rfl⟩
  induction d generalizing i h with
  | zero =>
    have : i = n := by omega
    subst this
    exact fin h hI
  | succ d ih =>
    exact step i h (by omega) hI fun h' hI' => ih (i + 1) h' (by omega) hI' (by omega)
