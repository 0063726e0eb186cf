/-! STAGE 2, 23: the field of 256 -/
theorem i_and (a b : Nat) : Int32.ofNat a &&& Int32.ofNat b = Int32.ofNat (a &&& b) := by
  apply Int32.toBitVec_inj.mp
  rw [Int32.toBitVec_and, i_bv, i_bv, i_bv]
  apply BitVec.eq_of_toNat_eq
  simp only [BitVec.toNat_and, BitVec.toNat_ofNat]
  rw [Nat.and_mod_two_pow]
theorem i_xor (a b : Nat) : Int32.ofNat a ^^^ Int32.ofNat b = Int32.ofNat (a ^^^ b) := by
  apply Int32.toBitVec_inj.mp
  rw [Int32.toBitVec_xor, i_bv, i_bv, i_bv]
  apply BitVec.eq_of_toNat_eq
  simp only [BitVec.toNat_xor, BitVec.toNat_ofNat]
  rw [Nat.xor_mod_two_pow]
/-- times x -/
def xt (x : Nat) : Nat := if x &&& 128 = 0 then 2 * x else (2 * x ^^^ 285) &&& 255
theorem all256 (P : Nat → Bool) (h : ((List.range 256).all P) = true) {a : Nat} (ha : a < 256) : P a = true := List.all_eq_true.mp h a (List.mem_range.mpr ha)
theorem xt_lt {x : Nat} (h : x < 256) : xt x < 256 := by
  have := all256 (fun x => decide (xt x < 256)) (by decide +kernel) h
  simpa using this
/-- bit by bit -/
def gtl (b : Nat) : Nat → Nat → Nat → Nat → Nat
  | 0, _, _, r => r
  | d + 1, k, x, r => gtl b d (k + 1) (xt x) (if (b >>> k) &&& 1 = 1 then r ^^^ x else r)
theorem gtl_S (b d k x r : Nat) : gtl b (d + 1) k x r = gtl b d (k + 1) (xt x) (if (b >>> k) &&& 1 = 1 then r ^^^ x else r) := rfl
/-- a times b -/
def gt (a b : Nat) : Nat := gtl b 8 0 a 0
theorem xor_256 {a b : Nat} (ha : a < 256) (hb : b < 256) : a ^^^ b < 256 := Nat.xor_lt_two_pow (n := 8) ha hb
theorem gtl_lt {b : Nat} : ∀ (d k x r : Nat), x < 256 → r < 256 → gtl b d k x r < 256
  | 0, _, _, _, _, h2 => h2
  | d + 1, k, x, r, h1, h2 => by
    rw [gtl_S]
    refine gtl_lt d _ _ _ (xt_lt h1) ?_
    split
    · exact xor_256 h2 h1
    · exact h2
theorem gt_lt {a b : Nat} (ha : a < 256) : gt a b < 256 := gtl_lt 8 0 a 0 ha (by decide)
theorem xt_xor {r x : Nat} (hr : r < 256) (hx : x < 256) : xt (r ^^^ x) = xt r ^^^ xt x := by
  have := all256 (fun r => (List.range 256).all fun x => decide (xt (r ^^^ x) = xt r ^^^ xt x)) (by decide +kernel) hr
  have := List.all_eq_true.mp this x (List.mem_range.mpr hx)
  simpa using this
theorem gtl_xt {b : Nat} : ∀ (d k x r : Nat), x < 256 → r < 256 → gtl b d k (xt x) (xt r) = xt (gtl b d k x r)
  | 0, _, _, _, _, _ => rfl
  | d + 1, k, x, r, h1, h2 => by
    rw [gtl_S, gtl_S, ← gtl_xt d (k + 1) (xt x) _ (xt_lt h1) (by split; exact xor_256 h2 h1; exact h2)]
    congr 1
    split
    · rw [xt_xor h2 h1]
    · rfl
theorem gt_xt {a b : Nat} (ha : a < 256) : gt (xt a) b = xt (gt a b) := gtl_xt (r := 0) 8 0 a ha (by decide)
theorem gt_1 {b : Nat} (hb : b < 256) : gt 1 b = b := by
  have := all256 (fun b => decide (gt 1 b = b)) (by decide +kernel) hb
  simpa using this
/-- x to the n -/
def pw : Nat → Nat
  | 0 => 1
  | n + 1 => xt (pw n)
theorem pw_lt : ∀ n, pw n < 256
  | 0 => by decide
  | n + 1 => xt_lt (pw_lt n)
theorem gt_pw {b : Nat} (hb : b < 256) : ∀ i j, b = pw j → gt (pw i) b = pw (i + j)
  | 0, j, e => by rw [pw, gt_1 hb, Nat.zero_add]; exact e
  | i + 1, j, e => by
    rw [pw, gt_xt (pw_lt i), gt_pw hb i j e, show i + 1 + j = (i + j) + 1 by omega, pw]
theorem pw_mul (i j : Nat) : gt (pw i) (pw j) = pw (i + j) := gt_pw (pw_lt j) i j rfl
theorem pw_255 : pw 255 = 1 := by decide +kernel
theorem pw_per : ∀ n, pw (n + 255) = pw n
  | 0 => by rw [Nat.zero_add, pw_255, pw]
  | n + 1 => by rw [show n + 1 + 255 = (n + 255) + 1 by omega, pw, pw_per n, pw]
section FD
variable {h : hh_T} {Q : Option Value ⊕ Nat → hh_T → Prop}
theorem b_bit {b k : Nat} (hb : b < 256) (hk : k < 8) : (Int32.ofNat b >>> (Int32.ofNat k &&& 31)) &&& Int32.ofNat 1 = Int32.ofNat ((b >>> k) &&& 1) := by
  have := all256 (fun b => (List.range 8).all fun k => decide ((Int32.ofNat b >>> (Int32.ofNat k &&& 31)) &&& Int32.ofNat 1 = Int32.ofNat ((b >>> k) &&& 1))) (by decide +kernel) hb
  have := List.all_eq_true.mp this k (List.mem_range.mpr hk)
  simpa using this
theorem b_xt {x : Nat} (hx : x < 256) : ((Int32.ofNat x &&& Int32.ofNat 128 = Int32.ofNat 0) ↔ x &&& 128 = 0) ∧ Int32.ofNat x <<< (Int32.ofNat 1 &&& 31) = Int32.ofNat (2 * x) := by
  have := all256 (fun x => decide (((Int32.ofNat x &&& Int32.ofNat 128 = Int32.ofNat 0) ↔ x &&& 128 = 0) ∧ Int32.ofNat x <<< (Int32.ofNat 1 &&& 31) = Int32.ofNat (2 * x))) (by decide +kernel) hx
  simpa using this
theorem t_times {m a b : Nat} (hT : tw_ok h m) (ha : a < 256) (hb : b < 256) (H : Q (.inl (some (.int (Int32.ofNat (gt a b))))) h) : gm_G 161 0 [some (.int (Int32.ofNat a)), some (.int (Int32.ofNat b))] [] h Q := by
  refine w_161_0 hT ?_
  have lp : ∀ d k x r, k + d = 8 → x < 256 → r < 256 → gtl b d k x r = gt a b → gm_G 161 7 [none, some (.int (Int32.ofNat b)), some (.int (Int32.ofNat r)), some (.int (Int32.ofNat x)), some (.int (Int32.ofNat k))] [] h Q := by
    intro d
    induction d with
    | zero =>
      intro k x r e hx hr g
      refine w_161_7 hT ⟨fun _ => ?_, fun z => absurd z (by rw [i_lt (by omega) (by decide)]; omega)⟩
      have g' : r = gt a b := g
      rw [g']
      exact H
    | succ d ih =>
      intro k x r e hx hr g
      rw [gtl_S] at g
      have nx : ∀ r', r' < 256 → r' = (if (b >>> k) &&& 1 = 1 then r ^^^ x else r) → gm_G 161 28 [none, some (.int (Int32.ofNat b)), some (.int (Int32.ofNat r')), some (.int (Int32.ofNat x)), some (.int (Int32.ofNat k))] [] h Q := by
        intro r' hr' er
        rw [← er] at g
        obtain ⟨q1, q2⟩ := b_xt hx
        refine w_161_28 hT ⟨fun z => w_161_53 hT ?_, fun z => w_161_53 hT ?_⟩
        · rw [q1] at z
          rw [i_add, q2]
          have : xt x = 2 * x := by unfold xt; rw [if_pos z]
          rw [← this]
          exact ih (k + 1) (xt x) r' (by omega) (xt_lt hx) hr' g
        · rw [q1] at z
          rw [i_add, q2, i_xor, i_and]
          have : xt x = (2 * x ^^^ 285) &&& 255 := by unfold xt; rw [if_neg z]
          rw [← this]
          exact ih (k + 1) (xt x) r' (by omega) (xt_lt hx) hr' g
      have hbit : (b >>> k) &&& 1 < 2147483648 := Nat.lt_of_le_of_lt Nat.and_le_right (by decide)
      refine w_161_7 hT ⟨fun z => absurd (by rw [i_lt (by omega) (by decide)]; omega) z, fun _ => ⟨fun z => nx r hr ?_, fun z => ?_⟩⟩
      · rw [b_bit hb (by omega), i_eq hbit (by decide)] at z
        rw [if_neg z]
      · rw [b_bit hb (by omega), i_eq hbit (by decide)] at z
        rw [i_xor]
        exact nx _ (xor_256 hr hx) (by rw [if_pos z])
  exact lp 8 0 a 0 (by omega) ha (by decide) rfl
theorem t_power2 {m e : Nat} (hT : tw_ok h m) (he : e < 1000) (H : Q (.inl (some (.int (Int32.ofNat (pw e))))) h) : gm_G 296 0 [some (.int (Int32.ofNat e))] [] h Q := by
  refine w_296_0 hT ?_
  have lp : ∀ d k, k + d = e → gm_G 296 4 [some (.int (Int32.ofNat e)), some (.int (Int32.ofNat (pw k))), some (.int (Int32.ofNat k))] [] h Q := by
    intro d
    induction d with
    | zero =>
      intro k e1
      have : k = e := by omega
      subst this
      exact w_296_4 hT ⟨fun _ => H, fun z => absurd z (by rw [i_lt (by omega) (by omega)]; omega)⟩
    | succ d ih =>
      intro k e1
      refine w_296_4 hT ⟨fun z => absurd (by rw [i_lt (by omega) (by omega)]; omega) z, fun _ => t_times hT (pw_lt k) (by decide) ?_⟩
      show gm_G 296 4 _ _ _ _
      rw [i_add, show gt (pw k) 2 = pw (k + 1) from by rw [show (2 : Nat) = pw 1 from by decide]; exact pw_mul k 1]
      exact ih (k + 1) (by omega)
  exact lp e 0 (by omega)
/-- a to the n -/
def gp (a : Nat) : Nat → Nat
  | 0 => 1
  | n + 1 => gt (gp a n) a
theorem gp_lt {a : Nat} : ∀ n, gp a n < 256
  | 0 => by show 1 < 256; decide
  | n + 1 => gt_lt (gp_lt n)
theorem t_inverse {m a : Nat} (hT : tw_ok h m) (ha : a < 256) (H : Q (.inl (some (.int (Int32.ofNat (gp a 254))))) h) : gm_G 283 0 [some (.int (Int32.ofNat a))] [] h Q := by
  refine w_283_0 hT ?_
  have lp : ∀ d k, k + d = 254 → gm_G 283 4 [some (.int (Int32.ofNat a)), some (.int (Int32.ofNat (gp a k))), some (.int (Int32.ofNat k))] [] h Q := by
    intro d
    induction d with
    | zero =>
      intro k e1
      have : k = 254 := by omega
      subst this
      exact w_283_4 hT ⟨fun _ => H, fun z => absurd z (by decide)⟩
    | succ d ih =>
      intro k e1
      refine w_283_4 hT ⟨fun z => absurd (by rw [i_lt (by omega) (by decide)]; omega) z, fun _ => t_times hT (gp_lt k) ha ?_⟩
      show gm_G 283 4 _ _ _ _
      rw [i_add]
      exact ih (k + 1) (by omega)
  exact lp 254 0 (by omega)
theorem gp_pw (j : Nat) : ∀ n, gp (pw j) n = pw (n * j)
  | 0 => by rw [Nat.zero_mul, gp, pw]
  | n + 1 => by rw [gp, gp_pw j n, pw_mul, Nat.succ_mul]
/-- the inverse of x to the j -/
theorem gp_inv {j : Nat} (hj : j < 255) : gt (gp (pw j) 254) (pw j) = 1 := by
  rw [gp_pw, pw_mul, show 254 * j + j = 0 + 255 * j by omega]
  have : ∀ k, pw (0 + 255 * k) = 1 := by
    intro k
    induction k with
    | zero => rfl
    | succ k ih => rw [show 0 + 255 * (k + 1) = (0 + 255 * k) + 255 by omega, pw_per, ih]
  exact this j
end FD
