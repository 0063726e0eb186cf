/-! STAGE 2, 12: a name as a long: eight bytes, the first the highest -/
theorem l_bv (a : Nat) : (Int64.ofNat a).toBitVec = BitVec.ofNat 64 a := rfl
theorem i_bv (a : Nat) : (Int32.ofNat a).toBitVec = BitVec.ofNat 32 a := rfl
theorem l_sh8 (x : Int64) : (x <<< ((Int32.ofNat 8).toInt64 &&& 63)).toBitVec = x.toBitVec <<< 8 := by
  rw [Int64.toBitVec_shiftLeft]
  rfl
theorem l_of32 {b : Nat} (hb : b < 256) : (Int32.ofNat b).toInt64 = Int64.ofNat b := by
  apply Int64.toInt_inj.mp
  rw [Int32.toInt_toInt64, Int32.toInt_ofNat_of_lt (by omega), Int64.toInt_ofNat_of_lt (by omega)]
/-- one byte more -/
theorem l_put {a b : Nat} (ha : a < 2 ^ 56) (hb : b < 256) : (Int64.ofNat a <<< ((Int32.ofNat 8).toInt64 &&& 63)) ||| (Int32.ofNat b).toInt64 = Int64.ofNat (a * 256 + b) := by
  rw [l_of32 hb]
  apply Int64.toBitVec_inj.mp
  rw [Int64.toBitVec_or, l_sh8, l_bv, l_bv, l_bv]
  apply BitVec.eq_of_toNat_eq
  simp only [BitVec.toNat_or, BitVec.toNat_shiftLeft, BitVec.toNat_ofNat]
  have e1 : a % 2 ^ 64 = a := Nat.mod_eq_of_lt (by omega)
  have e2 : b % 2 ^ 64 = b := Nat.mod_eq_of_lt (by omega)
  rw [e1, e2]
  have e3 : a <<< 8 % 2 ^ 64 = a <<< 8 := Nat.mod_eq_of_lt (by rw [Nat.shiftLeft_eq]; omega)
  rw [e3, ← Nat.shiftLeft_add_eq_or_of_lt (show b < 2 ^ 8 by omega), Nat.shiftLeft_eq, Nat.mod_eq_of_lt (by omega)]
/-- the number of a byte that may be beyond the end -/
def pq_c (f : Nat → Int32) (p n k : Nat) : Nat := if k < n then (f (p + k) &&& Int32.ofNat 255).toNatClampNeg else 0
def pq (c : Nat → Nat) : Nat → Nat
  | 0 => 0
  | k + 1 => pq c k * 256 + c k
theorem pq_lt {c : Nat → Nat} (hc : ∀ k, c k < 128) : ∀ k, k ≤ 8 → 2 * pq c k ≤ 256 ^ k - 1
  | 0, _ => by simp [pq]
  | k + 1, hk => by
    have h1 := pq_lt hc k (by omega)
    have h2 := hc k
    have h3 : 0 < 256 ^ k := Nat.pow_pos (by decide)
    simp only [pq, Nat.pow_succ]
    omega
theorem b_and {x : Int32} : ∃ n, n < 256 ∧ x &&& Int32.ofNat 255 = Int32.ofNat n := by
  refine ⟨(x.toBitVec &&& 255#32).toNat, ?_, ?_⟩
  · rw [BitVec.toNat_and]
    exact Nat.lt_of_le_of_lt Nat.and_le_right (by decide)
  · apply Int32.toBitVec_inj.mp
    rw [Int32.toBitVec_and, i_bv, i_bv]
    apply BitVec.eq_of_toNat_eq
    simp
/-- a byte that is a letter is the same number as an int -/
theorem b_letter {x : Int32} (hb : gy_b x) : nm_l (x &&& Int32.ofNat 255) = nm_l x := by
  have key : ∀ v : BitVec 8, nm_l ((Int8.ofBitVec v).toInt32 &&& Int32.ofNat 255) = nm_l (Int8.ofBitVec v).toInt32 := by decide +kernel
  have := key x.toInt8.toBitVec
  rw [show Int8.ofBitVec x.toInt8.toBitVec = x.toInt8 from rfl, hb] at this
  exact this
theorem b_lt {x : Int32} (hb : gy_b x) (hl : nm_l x = true) : (x &&& Int32.ofNat 255).toNatClampNeg < 128 ∧ 0 < (x &&& Int32.ofNat 255).toNatClampNeg ∧ x = Int32.ofNat (x &&& Int32.ofNat 255).toNatClampNeg := by
  have key : ∀ v : BitVec 8, nm_l (Int8.ofBitVec v).toInt32 = true → ((Int8.ofBitVec v).toInt32 &&& Int32.ofNat 255).toNatClampNeg < 128 ∧ 0 < ((Int8.ofBitVec v).toInt32 &&& Int32.ofNat 255).toNatClampNeg ∧ (Int8.ofBitVec v).toInt32 = Int32.ofNat ((Int8.ofBitVec v).toInt32 &&& Int32.ofNat 255).toNatClampNeg := by decide +kernel
  have := key x.toInt8.toBitVec
  rw [show Int8.ofBitVec x.toInt8.toBitVec = x.toInt8 from rfl, hb] at this
  exact this hl
theorem pq_lt2 {c : Nat → Nat} (hc : ∀ k, c k < 256) : ∀ k, pq c k < 256 ^ k
  | 0 => by simp [pq]
  | k + 1 => by
    have h1 := pq_lt2 hc k
    have h2 := hc k
    simp only [pq, Nat.pow_succ]
    omega
theorem pq_c_lt (f : Nat → Int32) (p n k : Nat) : pq_c f p n k < 256 := by
  unfold pq_c
  split
  · obtain ⟨v, h1, h2⟩ := @b_and (f (p + k))
    rw [h2, i_tn (by omega)]
    exact h1
  · decide
theorem pq_c_of {f : Nat → Int32} {p n k : Nat} (h : k < n) : f (p + k) &&& Int32.ofNat 255 = Int32.ofNat (pq_c f p n k) := by
  unfold pq_c
  rw [if_pos h]
  obtain ⟨v, h1, h2⟩ := @b_and (f (p + k))
  rw [h2, i_tn (by omega)]
