/-! STAGE 3, 13: the twin tries a row of a parity group -/
theorem tb1 {b k : Nat} : ((b >>> k) &&& 1 = 1) ↔ Nat.testBit b k = true := by
  rw [Nat.and_one_is_mod, Nat.shiftRight_eq_div_pow, Nat.testBit_eq_decide_div_mod_eq]
  simp
theorem ffi_none {P : Nat → Bool} : ∀ {d k : Nat}, ffi P d k = none → ∀ i, k ≤ i → i < k + d → P i = false
  | 0, k, _, i, h1, h2 => by omega
  | d + 1, k, e, i, h1, h2 => by
    rw [ffi_S] at e
    split at e
    · cases e
    · rename_i q
      by_cases z : i = k
      · subst z; simpa using q
      · exact ffi_none e i (by omega) (by omega)
theorem zl_inj : ∀ {l : List Nat} {i j : Nat}, l.Nodup → i < l.length → j < l.length → l.getD i 0 = l.getD j 0 → i = j
  | [], _, _, _, h, _, _ => by simp at h
  | x :: l, 0, 0, _, _, _, _ => rfl
  | x :: l, 0, j + 1, hn, _, hj, e => by
    exfalso
    rw [List.nodup_cons] at hn
    have hj' : j < l.length := by simpa using hj
    have e' : x = l.getD j 0 := e
    apply hn.1
    rw [e', List.getD_eq_getElem?_getD, List.getElem?_eq_getElem hj']
    exact List.getElem_mem hj'
  | x :: l, i + 1, 0, hn, hi, _, e => by
    exfalso
    rw [List.nodup_cons] at hn
    have hi' : i < l.length := by simpa using hi
    have e' : l.getD i 0 = x := e
    apply hn.1
    rw [← e', List.getD_eq_getElem?_getD, List.getElem?_eq_getElem hi']
    exact List.getElem_mem hi'
  | x :: l, i + 1, j + 1, hn, hi, hj, e => by
    rw [List.nodup_cons] at hn
    have := zl_inj (l := l) hn.2 (by simpa using hi) (by simpa using hj) e
    omega
theorem zr_U_nd (P : zP) (G : zG) (g o p r : Nat) : (zr_U P G g o p r).Nodup := List.Pairwise.filter _ (show List.Pairwise (fun a b => a ≠ b) (List.range r) from List.nodup_range)
theorem zr_U_lt {P : zP} {G : zG} {g o p r b : Nat} (hb : b < (zr_U P G g o p r).length) : (zr_U P G g o p r).getD b 0 < r ∧ zr_out P G g o (p + zg_chk G g + (zr_U P G g o p r).getD b 0) = true := by
  have : (zr_U P G g o p r).getD b 0 ∈ zr_U P G g o p r := by
    rw [List.getD_eq_getElem?_getD, List.getElem?_eq_getElem hb]
    exact List.getElem_mem hb
  unfold zr_U at this
  rw [List.mem_filter, List.mem_range] at this
  exact this
theorem zr_K_lt {P : zP} {G : zG} {g o p b : Nat} (hb : b < (zr_K P G g o p).length) : (zr_K P G g o p).getD b 0 < zg_chk G g := by
  have : (zr_K P G g o p).getD b 0 ∈ zr_K P G g o p := by
    rw [List.getD_eq_getElem?_getD, List.getElem?_eq_getElem hb]
    exact List.getElem_mem hb
  unfold zr_K at this
  rw [List.mem_filter, List.mem_range] at this
  exact this.1
/-- an array holds numbers -/
def tl (h : hh_T) (m o : Nat) (l : List Nat) : Prop := ∀ i, i < l.length → hh_i h (m + o) i = (Int32.ofNat (l.getD i 0))
theorem tl.put {h : hh_T} {m o n x : Nat} {l : List Nat} (c : tl h m o l) (hn : n = l.length) : tl (hh_wi h (m + o) n (Int32.ofNat x)) m o (l ++ [x]) := by
  intro i hi
  rw [List.length_append, List.length_singleton] at hi
  subst hn
  by_cases z : i = l.length
  · subst z
    rw [hi_e ⟨rfl, rfl⟩]
    simp
  · rw [hi_n (by omega), c i (by omega), List.getD_eq_getElem?_getD, List.getD_eq_getElem?_getD, List.getElem?_append_left (by omega)]
theorem zl_del {v : Nat → Nat} {a n : Nat} (ha : a < n) (hv : ∀ t, t < n → v t < 256) : zl_sum (fun t => gt (if n + t = n + a then 1 else 0) (v t)) n = v a := by
  have key : ∀ k, k ≤ n → zl_sum (fun t => gt (if n + t = n + a then 1 else 0) (v t)) k = if a < k then v a else 0 := by
    intro k
    induction k with
    | zero => intro _; rfl
    | succ k ih =>
      intro hk
      show zl_sum _ k ^^^ gt (if n + k = n + a then 1 else 0) (v k) = _
      rw [ih (by omega)]
      by_cases z : k = a
      · subst z
        rw [if_neg (by omega), if_pos rfl, if_pos (by omega), gt_1 (hv k (by omega)), Nat.zero_xor]
      · rw [if_neg (show ¬ n + k = n + a by omega), (gt_0 (hv k (by omega))).1, Nat.xor_zero]
        by_cases y : a < k
        · rw [if_pos y, if_pos (by omega)]
        · rw [if_neg y, if_neg (by omega)]
  rw [key n (Nat.le_refl _), if_pos ha]
section TRw
variable {h : hh_T} {m : Nat} {Q : Option Value ⊕ Nat → hh_T → Prop} {P : zP} {G : zG} {g : Nat}
/-- where a place of a parity group lies -/
theorem zg_at {p : Nat} (K : zg_ok P G) (hg : g < zg_ng G) (hp : zg_par G g = true) (h1 : p < zg_pl G g) : p % zg_many G g < zg_many G g ∧ zg_dsk G g (p % zg_many G g) < zp_nd P ∧ zp_nd P ≤ 8 ∧ p / zg_many G g < 64 ∧ p < 384 := by
  obtain ⟨k0, k1, k2, k3, k4, k5⟩ := K
  obtain ⟨c1, c2, c3, c4, c5, c6, c7⟩ := k1 g hg
  unfold zg_pl at h1
  rw [hp] at h1
  have h1 : p < zg_many G g * zg_len G g := h1
  have hm := Nat.mod_lt p (show zg_many G g > 0 by omega)
  have : p / zg_many G g < zg_len G g := by
    rw [Nat.div_lt_iff_lt_mul (by omega), Nat.mul_comm]
    exact h1
  have h3 := Nat.mul_le_mul c2 c4
  exact ⟨hm, (c7 _ hm).1, k4, by omega, by omega⟩
theorem t_isOut {p o : Nat} (hT : tw_ok h m) (R : rT_G h m G) (RP : rT_P h m P) (K : zg_ok P G) (hg : g < zg_ng G) (hp : zg_par G g = true) (h1 : p < zg_pl G g) (ho : o < 64) (H : Q (.inl (some (.int (bi (zr_out P G g o p))))) h) : gm_G 286 0 [some (.ref m), some (.int (Int32.ofNat g)), some (.int (Int32.ofNat p)), some (.int (Int32.ofNat o))] [] h Q := by
  obtain ⟨a1, a2, a3, a4, a5⟩ := zg_at K hg hp h1
  obtain ⟨c1, c2, -⟩ := K.2.1 g hg
  have k0 := K.1
  obtain ⟨r1, r2, r3, r4⟩ := R
  obtain ⟨s1, s2, s3, s4, s5⟩ := r3 g hg
  have e0 : ¬ (Int32.ofNat (zg_many G g)) = 0 := fun q => by
    have : zg_many G g = 0 := (i_eq (by omega) (by decide)).mp q
    omega
  unfold zr_out at H
  have hb := b_bit (b := o) (k := p % zg_many G g) (by omega) (by omega)
  have hlt : (o >>> (p % zg_many G g)) &&& 1 < 2 := by rw [Nat.and_one_is_mod]; omega
  refine w_286_0 hT ⟨g, ix_n (by omega) (by omega), by rw [s3]; exact e0, ?_⟩
  rw [s3, i_rem (by omega) (by omega), hb, i_eq (by omega) (by decide), tb1]
  refine ⟨fun z => ?_, fun z => ?_⟩
  · rw [z, Bool.true_or] at H
    exact w_286_47 hT H
  · refine ⟨6 * g + p % zg_many G g, by rw [i_mul, i_add]; exact ix_n (by omega) (by omega), g, ix_n (by omega) (by omega), by rw [s3]; exact e0, ?_⟩
    rw [s3, s5 _ a1, i_div (by omega) (by omega)]
    have z' : o.testBit (p % zg_many G g) = false := by simpa using z
    rw [z', Bool.false_or] at H
    refine t_isMissing hT RP (by omega) a4 ?_
    revert H
    cases zp_mi P (zg_dsk G g (p % zg_many G g)) (p / zg_many G g) with
    | true => exact fun H => ⟨fun z => absurd z (by decide), fun _ => w_286_47 hT H⟩
    | false => exact fun H => ⟨fun _ => H, fun z => absurd rfl z⟩
theorem t_byteAt {p i : Nat} (hT : tw_ok h m) (R : rT_G h m G) (RP : rT_P h m P) (K : zg_ok P G) (hg : g < zg_ng G) (hp : zg_par G g = true) (h1 : p < zg_pl G g) (hi : i < 8) (H : Q (.inl (some (.int (Int32.ofNat (zr_b P G g p i))))) h) : gm_G 91 0 [some (.ref m), some (.int (Int32.ofNat g)), some (.int (Int32.ofNat p)), some (.int (Int32.ofNat i))] [] h Q := by
  obtain ⟨a1, a2, a3, a4, a5⟩ := zg_at K hg hp h1
  obtain ⟨c1, c2, -⟩ := K.2.1 g hg
  have k0 := K.1
  obtain ⟨r1, r2, r3, r4⟩ := R
  obtain ⟨s1, s2, s3, s4, s5⟩ := r3 g hg
  obtain ⟨-, -, -, p4, -⟩ := RP
  have e0 : ¬ (Int32.ofNat (zg_many G g)) = 0 := fun q => by
    have : zg_many G g = 0 := (i_eq (by omega) (by decide)).mp q
    omega
  have ev := (p4 (zg_dsk G g (p % zg_many G g)) (by omega)).2.2.2 (8 * (p / zg_many G g) + i) (by omega)
  have e5 : 512 * zg_dsk G g (p % zg_many G g) + 8 * (p / zg_many G g) + i = 512 * zg_dsk G g (p % zg_many G g) + (8 * (p / zg_many G g) + i) := by omega
  unfold zr_b at H
  refine w_91_0 hT ⟨g, ix_n (by omega) (by omega), by rw [s3]; exact e0, ?_⟩
  rw [s3, i_rem (by omega) (by omega)]
  refine ⟨6 * g + p % zg_many G g, by rw [i_mul, i_add]; exact ix_n (by omega) (by omega), g, ix_n (by omega) (by omega), by rw [s3]; exact e0, ?_⟩
  rw [s3, s5 _ a1, i_div (by omega) (by omega), i_mul, i_mul, i_add, i_add, e5]
  refine ⟨_, ix_n (by omega) (by omega), ?_⟩
  rw [ev, (vz_of _).1]
  exact H
theorem t_tryRow {p r f o : Nat} (hT : tw_ok h m) (R : rT_G h m G) (RP : rT_P h m P) (K : zg_ok P G) (hg : g < zg_ng G) (hp : zg_par G g = true) (ho : o < 64) (hr1 : 1 ≤ r) (hr5 : r ≤ 5) (hpl : p + zg_chk G g + r ≤ zg_pl G g) (hfr : f + r ≤ 4)
    (H1 : zr_ok P G g o p r = false → ∀ h', fr (tO m [35, 37, 38, 39] [53]) h h' → Q (.inl (some (.int (Int32.ofNat 0)))) h')
    (H2 : zr_ok P G g o p r = true → ∀ h', fr (tO m [35, 37, 38, 39] [53]) h h' → hh_i h' m 53 = (if (List.range r).any (fun e => zp_mi P (zg_dsk G g ((p + zg_chk G g + e) % zg_many G g)) ((p + zg_chk G g + e) / zg_many G g)) then (Int32.ofNat 1) else hh_i h m 53) → (∀ j, hh_i h' (m + 35) j = if 8 * f ≤ j ∧ j < 8 * (f + r) then byt (Int32.ofNat (zr_d P G g o p r (j / 8 - f) (j % 8))) else hh_i h (m + 35) j) → Q (.inl (some (.int (Int32.ofNat 1)))) h') : gm_G 410 0 [some (.ref m), some (.int (Int32.ofNat g)), some (.int (Int32.ofNat p)), some (.int (Int32.ofNat ((zg_chk G g)))), some (.int (Int32.ofNat r)), some (.int (Int32.ofNat f)), some (.int (Int32.ofNat o))] [] h Q := by
  obtain ⟨k0, k1, k2⟩ := id K
  obtain ⟨c1, c2, c3, c4, c5, c6, c7⟩ := k1 g hg
  obtain ⟨d1, d2, d3⟩ := c5 hp
  obtain ⟨r1, r2, r3, r4⟩ := id R
  obtain ⟨s1, s2, s3, s4, s5⟩ := r3 g hg
  obtain ⟨M, hM⟩ : ∃ M, M = zg_chk G g := ⟨_, rfl⟩
  obtain ⟨KK, hKK⟩ : ∃ KK, KK = zr_K P G g o p := ⟨_, rfl⟩
  obtain ⟨U, hU⟩ : ∃ U, U = zr_U P G g o p r := ⟨_, rfl⟩
  have hKM : KK.length ≤ M := by
    rw [hKK, hM]
    have := List.length_filter_le (fun j => !(zr_out P G g o (p + j))) (List.range (zg_chk G g))
    rwa [List.length_range] at this
  have hUr : U.length ≤ r := by
    rw [hU]
    have := List.length_filter_le (fun e => zr_out P G g o (p + zg_chk G g + e)) (List.range r)
    rwa [List.length_range] at this
  have hokd : zr_ok P G g o p r = decide (U.length ≤ KK.length) := by rw [hU, hKK]; rfl
  have hpl384 : zg_pl G g ≤ 384 := by
    unfold zg_pl
    rw [if_pos hp]
    exact Nat.mul_le_mul c2 c4
  rw [← hM] at d1 d2 d3 hpl H2 ⊢
  have big : ∀ h1, fr (tO m [35, 37, 38, 39] [53]) h h1 → tw_ok h1 m ∧ rT_G h1 m G ∧ rT_P h1 m P := fun h1 x => ⟨hT.fr x, R.fr x rfl rfl, RP.fr x rfl rfl⟩
  -- the second half: byte by byte
  have half : ∀ h1, fr (tO m [37, 38] [53]) h h1 → hh_i h1 m 53 = (if (List.range r).any (fun e => zp_mi P (zg_dsk G g ((p + M + e) % zg_many G g)) ((p + M + e) / zg_many G g)) then (Int32.ofNat 1) else hh_i h m 53) → tl h1 m 38 KK → tl h1 m 37 U → U.length ≤ KK.length → gm_G 410 164 [some (.ref m), some (.int (Int32.ofNat g)), some (.int (Int32.ofNat p)), some (.int (Int32.ofNat M)), some (.int (Int32.ofNat r)), some (.int (Int32.ofNat f)), some (.int (Int32.ofNat o)), none, some (.int (Int32.ofNat U.length)), none, some (.int (Int32.ofNat 0))] [] h1 Q := by
    intro h1 x1 l1 tk tu hle
    have hn3 : U.length ≤ 3 := by omega
    have main : ∀ d i h2, i + d = 8 → fr (tO m [35, 39] []) h1 h2 → (∀ j, hh_i h2 (m + 35) j = if 8 * f ≤ j ∧ j < 8 * (f + r) ∧ j % 8 < i then byt (Int32.ofNat (zr_d P G g o p r (j / 8 - f) (j % 8))) else hh_i h (m + 35) j) → gm_G 410 164 [some (.ref m), some (.int (Int32.ofNat g)), some (.int (Int32.ofNat p)), some (.int (Int32.ofNat M)), some (.int (Int32.ofNat r)), some (.int (Int32.ofNat f)), some (.int (Int32.ofNat o)), none, some (.int (Int32.ofNat U.length)), none, some (.int (Int32.ofNat i))] [] h2 Q := by
      intro d
      induction d with
      | zero =>
        intro i h2 ei x2 hv
        have ei : i = 8 := by omega
        subst ei
        have x12 := ((x1.up (O' := [35, 37, 38, 39]) (F' := [53]) rfl rfl).trans (x2.up rfl rfl))
        refine w_410_164 (big h2 x12).1 ?_
        simp (disch := omega) only [forall_eq, exists_eq_left, exists_eq_left', Option.some.injEq, ex_ix, i_add, i_mul, i_sub, i_lt, i_le, i_eq, i_tn, hi_e, hi_n, hj_e, hj_n, hi_wj, hj_wi, hr_wi, hr_wj, ht_wi, ht_wj, hl_wi, hl_wj, hz_wi, hz_wj, hs_wi, hs_wj, hi_wr, hj_wr, hr_e, hr_n, ht_wr, hl_wr, hz_wr, hs_wr, n_lt_t, n_lt_f, n_le_t, n_le_f, n_eq_t, n_eq_f, true_and, and_true, false_and, and_false, true_or, or_true, false_or, or_false, not_true_eq_false, not_false_eq_true, forall_const, implies_true, true_imp_iff, false_imp_iff, gs_t, reduceIte, ite_true, ite_false]
        refine H2 (by rw [hokd]; exact decide_eq_true hle) h2 x12 (by rw [x2.fld (f := 53) rfl]; exact l1) (fun j => ?_)
        rw [hv j]
        by_cases z : 8 * f ≤ j ∧ j < 8 * (f + r)
        · rw [if_pos z, if_pos (by omega)]
        · rw [if_neg z, if_neg (by omega)]
      | succ d ih =>
        intro i h2 ei x2 hv
        have hi : i < 8 := by omega
        have x12 := ((x1.up (O' := [35, 37, 38, 39]) (F' := [53]) rfl rfl).trans (x2.up rfl rfl))
        obtain ⟨v, hvd⟩ : ∃ v : Nat → Nat, v = zr_v P G g o p r i := ⟨_, rfl⟩
        have hvl : ∀ a, v a < 256 := fun a => by
          rw [hvd]
          refine xor_256 (vz_of _).2 (zl_sum_lt r (fun e _ => ?_))
          split
          · decide
          · exact gt_lt (pw_lt _)
        obtain ⟨X, hX⟩ : ∃ X : Nat → Nat → Nat, X = fun a b => if b < U.length then pw (KK.getD a 0 * U.getD b 0) else v a := ⟨_, rfl⟩
        have hX2 : ∀ a b, X a b < 256 := fun a b => by
          rw [hX]
          dsimp only
          split
          · exact pw_lt _
          · exact hvl a
        refine w_410_164 (big h2 x12).1 ?_
        simp (disch := omega) only [forall_eq, exists_eq_left, exists_eq_left', Option.some.injEq, ex_ix, i_add, i_mul, i_sub, i_lt, i_le, i_eq, i_tn, hi_e, hi_n, hj_e, hj_n, hi_wj, hj_wi, hr_wi, hr_wj, ht_wi, ht_wj, hl_wi, hl_wj, hz_wi, hz_wj, hs_wi, hs_wj, hi_wr, hj_wr, hr_e, hr_n, ht_wr, hl_wr, hz_wr, hs_wr, n_lt_t, n_lt_f, n_le_t, n_le_f, n_eq_t, n_eq_f, true_and, and_true, false_and, and_false, true_or, or_true, false_or, or_false, not_true_eq_false, not_false_eq_true, forall_const, implies_true, true_imp_iff, false_imp_iff, gs_t, reduceIte, ite_true, ite_false]
        -- the bytes of the row
        have fin : ∀ d2 e h3, e + d2 = r → fr (tO m [35, 39] []) h1 h3 → mx h3 m U.length (zl_el X U.length) → (∀ j, hh_i h3 (m + 35) j = if 8 * f ≤ j ∧ j < 8 * (f + r) ∧ (j % 8 < i ∨ (j % 8 = i ∧ j / 8 < f + e)) then byt (Int32.ofNat (zr_d P G g o p r (j / 8 - f) (j % 8))) else hh_i h (m + 35) j) → gm_G 410 336 [some (.ref m), some (.int (Int32.ofNat g)), some (.int (Int32.ofNat p)), some (.int (Int32.ofNat M)), some (.int (Int32.ofNat r)), some (.int (Int32.ofNat f)), some (.int (Int32.ofNat o)), none, some (.int (Int32.ofNat U.length)), none, some (.int (Int32.ofNat i)), some (.int (Int32.ofNat e))] [] h3 Q := by
          intro d2
          induction d2 with
          | zero =>
            intro e h3 ee x3 mx3 hv3
            have x13 := ((x1.up (O' := [35, 37, 38, 39]) (F' := [53]) rfl rfl).trans (x3.up rfl rfl))
            refine w_410_336 (big h3 x13).1 ?_
            simp (disch := omega) only [forall_eq, exists_eq_left, exists_eq_left', Option.some.injEq, ex_ix, i_add, i_mul, i_sub, i_lt, i_le, i_eq, i_tn, hi_e, hi_n, hj_e, hj_n, hi_wj, hj_wi, hr_wi, hr_wj, ht_wi, ht_wj, hl_wi, hl_wj, hz_wi, hz_wj, hs_wi, hs_wj, hi_wr, hj_wr, hr_e, hr_n, ht_wr, hl_wr, hz_wr, hs_wr, n_lt_t, n_lt_f, n_le_t, n_le_f, n_eq_t, n_eq_f, true_and, and_true, false_and, and_false, true_or, or_true, false_or, or_false, not_true_eq_false, not_false_eq_true, forall_const, implies_true, true_imp_iff, false_imp_iff, gs_t, reduceIte, ite_true, ite_false]
            refine ih (i + 1) h3 (by omega) x3 (fun j => ?_)
            rw [hv3 j]
            by_cases z : 8 * f ≤ j ∧ j < 8 * (f + r) ∧ j % 8 < i + 1
            · rw [if_pos z, if_pos (by omega)]
            · rw [if_neg z, if_neg (by omega)]
          | succ d2 ih2 =>
            intro e h3 ee x3 mx3 hv3
            have he : e < r := by omega
            have x13 := ((x1.up (O' := [35, 37, 38, 39]) (F' := [53]) rfl rfl).trans (x3.up rfl rfl))
            obtain ⟨b1, b2, b3⟩ := big h3 x13
            have tu3 : tl h3 m 37 U := fun i hi => by rw [x3.arr (o := 37) rfl]; exact tu i hi
            -- what the byte becomes
            have put : ∀ v0 : Nat, v0 < 256 → (ffi (fun b => decide (U.getD b 0 = e)) U.length 0 = none → v0 = zr_d P G g o p r e i) → gm_G 410 377 [some (.ref m), some (.int (Int32.ofNat g)), some (.int (Int32.ofNat p)), some (.int (Int32.ofNat M)), some (.int (Int32.ofNat r)), some (.int (Int32.ofNat f)), some (.int (Int32.ofNat o)), none, some (.int (Int32.ofNat U.length)), none, some (.int (Int32.ofNat i)), some (.int (Int32.ofNat e)), some (.int (Int32.ofNat v0))] [] h3 Q := by
              intro v0 hv0 hno
              have lk : ∀ d3 x (v1 : Nat), x + d3 = U.length → v1 < 256 → ((∀ b, b < x → ¬ U.getD b 0 = e) → v1 = v0) → (∀ b, b < x → U.getD b 0 = e → v1 = zl_el X U.length b U.length) → gm_G 410 380 [some (.ref m), some (.int (Int32.ofNat g)), some (.int (Int32.ofNat p)), some (.int (Int32.ofNat M)), some (.int (Int32.ofNat r)), some (.int (Int32.ofNat f)), some (.int (Int32.ofNat o)), none, some (.int (Int32.ofNat U.length)), none, some (.int (Int32.ofNat i)), some (.int (Int32.ofNat e)), some (.int (Int32.ofNat v1)), some (.int (Int32.ofNat x))] [] h3 Q := by
                intro d3
                induction d3 with
                | zero =>
                  intro x v1 ex hv1 q1 q2
                  have ex : x = U.length := by omega
                  subst ex
                  refine w_410_380 b1 ?_
                  have ev : (((Int32.ofNat v1)).toInt8.toInt32).toInt8.toInt32 = byt (Int32.ofNat (zr_d P G g o p r e i)) := by
                    refine (byt_byt _).trans ?_
                    congr 2
                    cases hq : ffi (fun b => decide (U.getD b 0 = e)) U.length 0 with
                    | none =>
                      have h0 := ffi_none hq
                      rw [q1 (fun b hb y => by have := h0 b (Nat.zero_le _) (by omega); rw [decide_eq_true y] at this; cases this)]
                      exact hno hq
                    | some b =>
                      obtain ⟨-, hb, hb2⟩ := ffi_lt hq
                      have hb2 : U.getD b 0 = e := by simpa using hb2
                      rw [q2 b (by omega) hb2]
                      unfold zr_d
                      rw [← hU, hq, ← hKK, ← hvd]
                      dsimp only
                      unfold zl_so
                      have hKl : ∀ a, a < U.length → (KK.take U.length).getD a 0 = KK.getD a 0 := fun a ha => by rw [List.getD_eq_getElem?_getD, List.getD_eq_getElem?_getD, List.getElem?_take, if_pos ha]
                      refine zl_el_sum (X := X) (Y := zl_m (KK.take U.length) U) (n := U.length) (k := U.length) (v := v) (fun t _ => hvl t) (fun a b ha hb => ?_) (fun a b ha hb => ?_) (fun a ha => ?_) U.length (Nat.le_refl _) b (by omega)
                      · unfold zl_m
                        split
                        · exact pw_lt _
                        · split <;> decide
                      · rw [hX]
                        unfold zl_m
                        dsimp only
                        rw [if_pos hb, if_pos hb, hKl a ha]
                      · rw [hX]
                        dsimp only
                        rw [if_neg (Nat.lt_irrefl _), ← zl_del (n := U.length) ha (fun t _ => hvl t)]
                        refine zl_sum_cg _ (fun t ht => ?_)
                        unfold zl_m
                        rw [if_neg (show ¬ U.length + t < U.length by omega)]
                  simp (disch := omega) only [forall_eq, exists_eq_left, exists_eq_left', Option.some.injEq, ex_ix, i_add, i_mul, i_sub, i_lt, i_le, i_eq, i_tn, hi_e, hi_n, hj_e, hj_n, hi_wj, hj_wi, hr_wi, hr_wj, ht_wi, ht_wj, hl_wi, hl_wj, hz_wi, hz_wj, hs_wi, hs_wj, hi_wr, hj_wr, hr_e, hr_n, ht_wr, hl_wr, hz_wr, hs_wr, n_lt_t, n_lt_f, n_le_t, n_le_f, n_eq_t, n_eq_f, true_and, and_true, false_and, and_false, true_or, or_true, false_or, or_false, not_true_eq_false, not_false_eq_true, forall_const, implies_true, true_imp_iff, false_imp_iff, gs_t, reduceIte, ite_true, ite_false]
                  rw [ev]
                  refine ih2 (e + 1) _ (by omega) (x3.trans (fr.a rfl)) (fun a b ha hb => by rw [hi_n (by omega)]; exact mx3 a b ha hb) (fun j => ?_)
                  by_cases z : j = 8 * (f + e) + i
                  · subst z
                    rw [hi_e ⟨rfl, rfl⟩, if_pos (by omega), show (8 * (f + e) + i) / 8 - f = e by omega, show (8 * (f + e) + i) % 8 = i by omega]
                  · rw [hi_n (by omega), hv3 j]
                    by_cases y : 8 * f ≤ j ∧ j < 8 * (f + r) ∧ (j % 8 < i ∨ (j % 8 = i ∧ j / 8 < f + e))
                    · rw [if_pos y, if_pos (by omega)]
                    · rw [if_neg y, if_neg (by omega)]
                | succ d3 ih3 =>
                  intro x v1 ex hv1 q1 q2
                  have hx : x < U.length := by omega
                  have ux := tu3 x hx
                  have uxl : U.getD x 0 < r := by rw [hU]; rw [hU] at hx; exact (zr_U_lt hx).1
                  have mxx := mx3 x U.length hx (Nat.le_refl _)
                  refine w_410_380 b1 ?_
                  by_cases y : U.getD x 0 = e
                  · simp (disch := omega) only [forall_eq, exists_eq_left, exists_eq_left', Option.some.injEq, ex_ix, i_add, i_mul, i_sub, i_lt, i_le, i_eq, i_tn, hi_e, hi_n, hj_e, hj_n, hi_wj, hj_wi, hr_wi, hr_wj, ht_wi, ht_wj, hl_wi, hl_wj, hz_wi, hz_wj, hs_wi, hs_wj, hi_wr, hj_wr, hr_e, hr_n, ht_wr, hl_wr, hz_wr, hs_wr, n_lt_t, n_lt_f, n_le_t, n_le_f, n_eq_t, n_eq_f, true_and, and_true, false_and, and_false, true_or, or_true, false_or, or_false, not_true_eq_false, not_false_eq_true, forall_const, implies_true, true_imp_iff, false_imp_iff, gs_t, reduceIte, ite_true, ite_false, ux, mxx]
                    refine w_410_414 b1 ?_
                    rw [i_add]
                    refine ih3 (x + 1) _ (by omega) (zl_el_lt (A := fun _ => True) (B := fun _ => True) (fun a b _ _ => hX2 a b) _ (fun _ _ => ⟨trivial, trivial⟩) _ _ trivial trivial) (fun q => absurd y (q x (by omega))) (fun b hb hb2 => ?_)
                    have : b = x := zl_inj (by rw [hU]; exact zr_U_nd P G g o p r) (by omega) hx (by rw [hb2, y])
                    rw [this]
                  · simp (disch := omega) only [forall_eq, exists_eq_left, exists_eq_left', Option.some.injEq, ex_ix, i_add, i_mul, i_sub, i_lt, i_le, i_eq, i_tn, hi_e, hi_n, hj_e, hj_n, hi_wj, hj_wi, hr_wi, hr_wj, ht_wi, ht_wj, hl_wi, hl_wj, hz_wi, hz_wj, hs_wi, hs_wj, hi_wr, hj_wr, hr_e, hr_n, ht_wr, hl_wr, hz_wr, hs_wr, n_lt_t, n_lt_f, n_le_t, n_le_f, n_eq_t, n_eq_f, true_and, and_true, false_and, and_false, true_or, or_true, false_or, or_false, not_true_eq_false, not_false_eq_true, forall_const, implies_true, true_imp_iff, false_imp_iff, gs_t, reduceIte, ite_true, ite_false, ux]
                    refine w_410_414 b1 ?_
                    rw [i_add]
                    refine ih3 (x + 1) v1 (by omega) hv1 (fun q => q1 (fun b hb => q b (by omega))) (fun b hb hb2 => ?_)
                    by_cases u : b = x
                    · rw [u] at hb2; exact absurd hb2 y
                    · exact q2 b (by omega) hb2
              exact w_410_377 b1 (lk U.length 0 v0 (by omega) hv0 (fun _ => rfl) (fun b hb => by omega))
            refine w_410_336 b1 ⟨fun y => absurd (by rw [i_lt (by omega) (by omega)]; omega) y, fun _ => ?_⟩
            rw [i_add, i_add]
            refine t_isOut b1 b2 b3 K hg hp (by omega) ho ?_
            cases hout : zr_out P G g o (p + M + e) with
            | true =>
              refine ⟨fun _ => put 0 (by decide) (fun hq => ?_), fun y => absurd y (by decide)⟩
              exfalso
              have h0 := ffi_none hq
              have hmem : e ∈ U := by
                rw [hU]
                unfold zr_U
                rw [List.mem_filter, List.mem_range, ← hM]
                exact ⟨he, hout⟩
              obtain ⟨b', hb', eb⟩ := List.getElem_of_mem hmem
              have := h0 b' (Nat.zero_le _) (by omega)
              rw [List.getD_eq_getElem?_getD, List.getElem?_eq_getElem hb', Option.getD_some, eb, decide_eq_true rfl] at this
              cases this
            | false =>
              refine ⟨fun y => absurd rfl y, fun _ => ?_⟩
              refine t_byteAt b1 b2 b3 K hg hp (by omega) hi ?_
              refine put _ (vz_of _).2 (fun hq => ?_)
              unfold zr_d
              rw [← hU, hq, ← hM]
        -- the matrix
        have rows : ∀ d2 y h3, y + d2 = U.length → fr (tO m [35, 39] []) h1 h3 → (∀ j, hh_i h3 (m + 35) j = hh_i h2 (m + 35) j) → (∀ a b, a < y → b ≤ U.length → hh_i h3 (m + 39) (8 * a + b) = (Int32.ofNat (X a b))) → gm_G 410 174 [some (.ref m), some (.int (Int32.ofNat g)), some (.int (Int32.ofNat p)), some (.int (Int32.ofNat M)), some (.int (Int32.ofNat r)), some (.int (Int32.ofNat f)), some (.int (Int32.ofNat o)), none, some (.int (Int32.ofNat U.length)), none, some (.int (Int32.ofNat i)), some (.int (Int32.ofNat y))] [] h3 Q := by
          intro d2
          induction d2 with
          | zero =>
            intro y h3 ey x3 h35 mx3
            have ey : y = U.length := by omega
            subst ey
            have x13 := ((x1.up (O' := [35, 37, 38, 39]) (F' := [53]) rfl rfl).trans (x3.up rfl rfl))
            refine w_410_174 (big h3 x13).1 ⟨fun _ => ?_, fun z => absurd z (by rw [i_lt (by omega) (by omega)]; omega)⟩
            refine t_solve (X := X) (big h3 x13).1 hn3 mx3 (fun a b _ _ => hX2 a b) (fun c hc => ?_) (fun h4 x4 mx4 => ?_)
            · have hKl : ∀ a, a < U.length → (KK.take U.length).getD a 0 = KK.getD a 0 := fun a ha => by rw [List.getD_eq_getElem?_getD, List.getD_eq_getElem?_getD, List.getElem?_take, if_pos ha]
              rw [zl_el_col (Y := zl_m (KK.take U.length) U) (n := U.length) (A := fun a => a < U.length) (fun i hi => hi) (fun a b ha hb => by rw [hX]; unfold zl_m; dsimp only; rw [if_pos hb, if_pos hb, hKl a ha]) c (by omega) c c hc hc]
              rw [hKK, hU] at hle
              rw [hU] at hc
              rw [hKK, hU]
              exact zl_pv_ok (by omega) hr5 hle hc
            · refine fin r 0 h4 (by omega) (x3.trans (x4.up rfl rfl)) mx4 (fun j => ?_)
              rw [x4.arr (o := 35) rfl, h35 j, hv j]
              by_cases z : 8 * f ≤ j ∧ j < 8 * (f + r) ∧ j % 8 < i
              · rw [if_pos z, if_pos (by omega)]
              · rw [if_neg z, if_neg (by omega)]
          | succ d2 ih2 =>
            intro y h3 ey x3 h35 mx3
            have hy : y < U.length := by omega
            have x13 := ((x1.up (O' := [35, 37, 38, 39]) (F' := [53]) rfl rfl).trans (x3.up rfl rfl))
            obtain ⟨b1, b2, b3⟩ := big h3 x13
            have kv : hh_i h3 (m + 38) y = (Int32.ofNat (KK.getD y 0)) := by rw [x3.arr (o := 38) rfl]; exact tk y (by omega)
            have kl : KK.getD y 0 < M := by rw [hKK, hM]; exact zr_K_lt (by rw [← hKK]; omega)
            refine w_410_174 b1 ⟨fun z => absurd (by rw [i_lt (by omega) (by omega)]; omega) z, fun _ => ⟨y, ix_n (by omega) (by omega), ?_⟩⟩
            rw [kv, i_add]
            refine t_byteAt b1 b2 b3 K hg hp (by omega) hi ?_
            -- the entries of the line
            have ent : ∀ d3 x h4, x + d3 = U.length → fr (tO m [35, 39] []) h1 h4 → (∀ j, hh_i h4 (m + 35) j = hh_i h2 (m + 35) j) → (∀ a b, a < y → b ≤ U.length → hh_i h4 (m + 39) (8 * a + b) = (Int32.ofNat (X a b))) → (∀ b, b < x → hh_i h4 (m + 39) (8 * y + b) = (Int32.ofNat (X y b))) → gm_G 410 267 [some (.ref m), some (.int (Int32.ofNat g)), some (.int (Int32.ofNat p)), some (.int (Int32.ofNat M)), some (.int (Int32.ofNat r)), some (.int (Int32.ofNat f)), some (.int (Int32.ofNat o)), none, some (.int (Int32.ofNat U.length)), none, some (.int (Int32.ofNat i)), some (.int (Int32.ofNat y)), some (.int (Int32.ofNat ((KK.getD y 0)))), some (.int (Int32.ofNat ((v y)))), some (.int (Int32.ofNat x))] [] h4 Q := by
              intro d3
              induction d3 with
              | zero =>
                intro x h4 ex x4 h354 mx4 lx
                have x14 := ((x1.up (O' := [35, 37, 38, 39]) (F' := [53]) rfl rfl).trans (x4.up rfl rfl))
                refine w_410_267 (big h4 x14).1 ?_
                simp (disch := omega) only [forall_eq, exists_eq_left, exists_eq_left', Option.some.injEq, ex_ix, i_add, i_mul, i_sub, i_lt, i_le, i_eq, i_tn, hi_e, hi_n, hj_e, hj_n, hi_wj, hj_wi, hr_wi, hr_wj, ht_wi, ht_wj, hl_wi, hl_wj, hz_wi, hz_wj, hs_wi, hs_wj, hi_wr, hj_wr, hr_e, hr_n, ht_wr, hl_wr, hz_wr, hs_wr, n_lt_t, n_lt_f, n_le_t, n_le_f, n_eq_t, n_eq_f, true_and, and_true, false_and, and_false, true_or, or_true, false_or, or_false, not_true_eq_false, not_false_eq_true, forall_const, implies_true, true_imp_iff, false_imp_iff, gs_t, reduceIte, ite_true, ite_false]
                refine ih2 (y + 1) _ (by omega) (x4.trans (fr.a rfl)) (fun j => by rw [hi_n (by omega)]; exact h354 j) (fun a b ha hb => ?_)
                by_cases z : a = y
                · subst z
                  by_cases z2 : b = U.length
                  · subst z2
                    rw [hi_e ⟨rfl, rfl⟩, hX]
                    dsimp only
                    rw [if_neg (Nat.lt_irrefl _)]
                  · rw [hi_n (by omega)]
                    exact lx b (by omega)
                · rw [hi_n (by omega)]
                  exact mx4 a b (by omega) hb
              | succ d3 ih3 =>
                intro x h4 ex x4 h354 mx4 lx
                have hx : x < U.length := by omega
                have x14 := ((x1.up (O' := [35, 37, 38, 39]) (F' := [53]) rfl rfl).trans (x4.up rfl rfl))
                have ux : hh_i h4 (m + 37) x = (Int32.ofNat (U.getD x 0)) := by rw [x4.arr (o := 37) rfl]; exact tu x hx
                have uxl : U.getD x 0 < r := by rw [hU]; rw [hU] at hx; exact (zr_U_lt hx).1
                have hmul : KK.getD y 0 * U.getD x 0 ≤ 15 := Nat.le_trans (Nat.mul_le_mul (show KK.getD y 0 ≤ 3 by omega) (show U.getD x 0 ≤ 5 by omega)) (by decide)
                refine w_410_267 (big h4 x14).1 ⟨fun z => absurd (by rw [i_lt (by omega) (by omega)]; omega) z, fun _ => ⟨x, ix_n (by omega) (by omega), ?_⟩⟩
                rw [ux, i_mul]
                refine t_power2 (big h4 x14).1 (by omega) ⟨8 * y + x, by rw [i_mul, i_add]; exact ix_n (by omega) (by omega), fun h5 e5 => ?_⟩
                subst e5
                rw [i_add]
                refine ih3 (x + 1) _ (by omega) (x4.trans (fr.a rfl)) (fun j => by rw [hi_n (by omega)]; exact h354 j) (fun a b ha hb => by rw [hi_n (by omega)]; exact mx4 a b ha hb) (fun b hb => ?_)
                by_cases z : b = x
                · subst z
                  rw [hi_e ⟨rfl, rfl⟩, hX]
                  dsimp only
                  rw [if_pos hx]
                · rw [hi_n (by omega)]
                  exact lx b (by omega)
            -- what is left of the check
            have chk : ∀ d3 e, e + d3 = r → gm_G 410 206 [some (.ref m), some (.int (Int32.ofNat g)), some (.int (Int32.ofNat p)), some (.int (Int32.ofNat M)), some (.int (Int32.ofNat r)), some (.int (Int32.ofNat f)), some (.int (Int32.ofNat o)), none, some (.int (Int32.ofNat U.length)), none, some (.int (Int32.ofNat i)), some (.int (Int32.ofNat y)), some (.int (Int32.ofNat ((KK.getD y 0)))), some (.int (Int32.ofNat ((zr_b P G g (p + KK.getD y 0) i ^^^ zl_sum (fun e => if zr_out P G g o (p + M + e) then 0 else gt (pw (KK.getD y 0 * e)) (zr_b P G g (p + M + e) i)) e)))), some (.int (Int32.ofNat e))] [] h3 Q := by
              intro d3
              induction d3 with
              | zero =>
                intro e ee
                have ee : e = r := by omega
                subst ee
                refine w_410_206 b1 ?_
                simp (disch := omega) only [forall_eq, exists_eq_left, exists_eq_left', Option.some.injEq, ex_ix, i_add, i_mul, i_sub, i_lt, i_le, i_eq, i_tn, hi_e, hi_n, hj_e, hj_n, hi_wj, hj_wi, hr_wi, hr_wj, ht_wi, ht_wj, hl_wi, hl_wj, hz_wi, hz_wj, hs_wi, hs_wj, hi_wr, hj_wr, hr_e, hr_n, ht_wr, hl_wr, hz_wr, hs_wr, n_lt_t, n_lt_f, n_le_t, n_le_f, n_eq_t, n_eq_f, true_and, and_true, false_and, and_false, true_or, or_true, false_or, or_false, not_true_eq_false, not_false_eq_true, forall_const, implies_true, true_imp_iff, false_imp_iff, gs_t, reduceIte, ite_true, ite_false]
                have := ent U.length 0 h3 (by omega) x3 h35 mx3 (fun b hb => by omega)
                rw [hvd] at this
                unfold zr_v at this
                rw [← hKK, ← hM] at this
                exact this
              | succ d3 ih3 =>
                intro e ee
                refine w_410_206 b1 ⟨fun z => absurd (by rw [i_lt (by omega) (by omega)]; omega) z, fun _ => ?_⟩
                have ih4 := ih3 (e + 1) (by omega)
                have eS : ∀ F : Nat → Nat, zl_sum F (e + 1) = zl_sum F e ^^^ F e := fun F => rfl
                rw [eS, ← Nat.xor_assoc] at ih4
                rw [i_add, i_add]
                refine t_isOut b1 b2 b3 K hg hp (by omega) ho ?_
                have hmul : KK.getD y 0 * e ≤ 15 := Nat.le_trans (Nat.mul_le_mul (show KK.getD y 0 ≤ 3 by omega) (show e ≤ 5 by omega)) (by decide)
                cases hout : zr_out P G g o (p + M + e) with
                | true =>
                  rw [hout, if_pos rfl, Nat.xor_zero] at ih4
                  refine ⟨fun _ => w_410_258 b1 ?_, fun z => absurd z (by decide)⟩
                  rw [i_add]
                  exact ih4
                | false =>
                  rw [hout, if_neg (by decide)] at ih4
                  refine ⟨fun z => absurd rfl z, fun _ => ?_⟩
                  rw [i_mul]
                  refine t_power2 b1 (by omega) ?_
                  show gm_G 91 0 _ _ _ _
                  refine t_byteAt b1 b2 b3 K hg hp (by omega) hi ?_
                  refine t_times b1 (pw_lt _) (vz_of _).2 ?_
                  refine w_410_258 b1 ?_
                  rw [i_xor, i_add]
                  exact ih4
            have := chk r 0 (by omega)
            have e00 : ∀ F : Nat → Nat, zl_sum F 0 = 0 := fun _ => rfl
            rw [e00, Nat.xor_zero] at this
            show gm_G 410 206 _ _ _ _
            exact this
        exact rows U.length 0 h2 (by omega) x2 (fun _ => rfl) (fun a b ha => by omega)
    refine main 8 0 h1 (by omega) (fr.refl _ _) (fun j => ?_)
    rw [if_neg (by omega), x1.arr (o := 35) rfl]
  -- the first half: what is missing
  refine w_410_0 hT ?_
  have lp : ∀ d k h1, k + d = M + r → fr (tO m [37, 38] [53]) h h1 → hh_i h1 m 53 = (if (List.range (k - M)).any (fun e => zp_mi P (zg_dsk G g ((p + M + e) % zg_many G g)) ((p + M + e) / zg_many G g)) then (Int32.ofNat 1) else hh_i h m 53) → tl h1 m 38 ((List.range (min k M)).filter (fun j => !(zr_out P G g o (p + j)))) → tl h1 m 37 ((List.range (k - M)).filter (fun e => zr_out P G g o (p + M + e))) → gm_G 410 12 [some (.ref m), some (.int (Int32.ofNat g)), some (.int (Int32.ofNat p)), some (.int (Int32.ofNat M)), some (.int (Int32.ofNat r)), some (.int (Int32.ofNat f)), some (.int (Int32.ofNat o)), some (.int (Int32.ofNat ((min k M - ((List.range (min k M)).filter (fun j => !(zr_out P G g o (p + j)))).length + ((List.range (k - M)).filter (fun e => zr_out P G g o (p + M + e))).length)))), some (.int (Int32.ofNat (((List.range (k - M)).filter (fun e => zr_out P G g o (p + M + e))).length))), some (.int (Int32.ofNat (((List.range (min k M)).filter (fun j => !(zr_out P G g o (p + j)))).length))), some (.int (Int32.ofNat k))] [] h1 Q := by
    intro d
    induction d with
    | zero =>
      intro k h1 ek x1 l1 tk tu
      have ek : k = M + r := by omega
      subst ek
      have eK : (List.range (min (M + r) M)).filter (fun j => !(zr_out P G g o (p + j))) = KK := by rw [Nat.min_eq_right (by omega), hKK, hM]; rfl
      have eU : (List.range (M + r - M)).filter (fun e => zr_out P G g o (p + M + e)) = U := by rw [show M + r - M = r by omega, hU, hM]; rfl
      rw [eK] at tk ⊢
      rw [eU] at tu ⊢
      rw [show M + r - M = r by omega] at l1
      rw [Nat.min_eq_right (by omega)]
      refine w_410_12 (hT.fr x1) ?_
      by_cases z : U.length ≤ KK.length
      · simp (disch := omega) only [forall_eq, exists_eq_left, exists_eq_left', Option.some.injEq, ex_ix, i_add, i_mul, i_sub, i_lt, i_le, i_eq, i_tn, hi_e, hi_n, hj_e, hj_n, hi_wj, hj_wi, hr_wi, hr_wj, ht_wi, ht_wj, hl_wi, hl_wj, hz_wi, hz_wj, hs_wi, hs_wj, hi_wr, hj_wr, hr_e, hr_n, ht_wr, hl_wr, hz_wr, hs_wr, n_lt_t, n_lt_f, n_le_t, n_le_f, n_eq_t, n_eq_f, true_and, and_true, false_and, and_false, true_or, or_true, false_or, or_false, not_true_eq_false, not_false_eq_true, forall_const, implies_true, true_imp_iff, false_imp_iff, gs_t, reduceIte, ite_true, ite_false]
        exact half h1 x1 l1 tk tu z
      · simp (disch := omega) only [forall_eq, exists_eq_left, exists_eq_left', Option.some.injEq, ex_ix, i_add, i_mul, i_sub, i_lt, i_le, i_eq, i_tn, hi_e, hi_n, hj_e, hj_n, hi_wj, hj_wi, hr_wi, hr_wj, ht_wi, ht_wj, hl_wi, hl_wj, hz_wi, hz_wj, hs_wi, hs_wj, hi_wr, hj_wr, hr_e, hr_n, ht_wr, hl_wr, hz_wr, hs_wr, n_lt_t, n_lt_f, n_le_t, n_le_f, n_eq_t, n_eq_f, true_and, and_true, false_and, and_false, true_or, or_true, false_or, or_false, not_true_eq_false, not_false_eq_true, forall_const, implies_true, true_imp_iff, false_imp_iff, gs_t, reduceIte, ite_true, ite_false]
        exact H1 (by rw [hokd]; exact decide_eq_false z) h1 (x1.up rfl rfl)
    | succ d ih =>
      intro k h1 ek x1 l1 tk tu
      have b1 := hT.fr x1
      have b2 := R.fr x1 rfl rfl
      have b3 := RP.fr x1 rfl rfl
      have hKl : ((List.range (min k M)).filter (fun j => !(zr_out P G g o (p + j)))).length ≤ min k M := by
        have := List.length_filter_le (fun j => !(zr_out P G g o (p + j))) (List.range (min k M))
        rwa [List.length_range] at this
      have hUl : ((List.range (k - M)).filter (fun e => zr_out P G g o (p + M + e))).length ≤ k - M := by
        have := List.length_filter_le (fun e => zr_out P G g o (p + M + e)) (List.range (k - M))
        rwa [List.length_range] at this
      have ihk := ih (k + 1)
      refine w_410_12 b1 ⟨fun z => absurd (by rw [i_add, i_lt (by omega) (by omega)]; omega) z, fun _ => ?_⟩
      rw [i_add]
      refine t_isOut b1 b2 b3 K hg hp (by omega) ho ?_
      by_cases kM : k < M
      · have e1 : min (k + 1) M = min k M + 1 := by omega
        have e2 : k + 1 - M = k - M := by omega
        have e3 : min k M = k := by omega
        have e4 : k - M = 0 := by omega
        rw [e1, e2, List.range_succ, List.filter_append, List.length_append, e3] at ihk
        rw [e3] at tk hKl ⊢
        rw [e4] at ihk tu l1 ⊢
        have nx : ∀ h2 a b c, gm_G 410 12 [some (.ref m), some (.int (Int32.ofNat g)), some (.int (Int32.ofNat p)), some (.int (Int32.ofNat M)), some (.int (Int32.ofNat r)), some (.int (Int32.ofNat f)), some (.int (Int32.ofNat o)), some (.int (Int32.ofNat a)), some (.int (Int32.ofNat b)), some (.int (Int32.ofNat c)), some (.int (Int32.ofNat ((k + 1))))] [] h2 Q → fr (tO m [37, 38] [53]) h h2 → gm_G 410 147 [some (.ref m), some (.int (Int32.ofNat g)), some (.int (Int32.ofNat p)), some (.int (Int32.ofNat M)), some (.int (Int32.ofNat r)), some (.int (Int32.ofNat f)), some (.int (Int32.ofNat o)), some (.int (Int32.ofNat a)), some (.int (Int32.ofNat b)), some (.int (Int32.ofNat c)), some (.int (Int32.ofNat k))] [] h2 Q := fun h2 a b c z x2 => w_410_147 (hT.fr x2) (by rw [i_add]; exact z)
        cases hout : zr_out P G g o (p + k) with
        | true =>
          have e5 : List.filter (fun j => !(zr_out P G g o (p + j))) [k] = [] := by simp [hout]
          rw [e5, List.append_nil, List.length_nil] at ihk
          refine ⟨fun z => absurd z (by decide), fun _ => w_410_46 b1 ?_⟩
          simp (disch := omega) only [forall_eq, exists_eq_left, exists_eq_left', Option.some.injEq, ex_ix, i_add, i_mul, i_sub, i_lt, i_le, i_eq, i_tn, hi_e, hi_n, hj_e, hj_n, hi_wj, hj_wi, hr_wi, hr_wj, ht_wi, ht_wj, hl_wi, hl_wj, hz_wi, hz_wj, hs_wi, hs_wj, hi_wr, hj_wr, hr_e, hr_n, ht_wr, hl_wr, hz_wr, hs_wr, n_lt_t, n_lt_f, n_le_t, n_le_f, n_eq_t, n_eq_f, true_and, and_true, false_and, and_false, true_or, or_true, false_or, or_false, not_true_eq_false, not_false_eq_true, forall_const, implies_true, true_imp_iff, false_imp_iff, gs_t, reduceIte, ite_true, ite_false, bi_t]
          refine w_410_72 b1 ?_
          simp (disch := omega) only [forall_eq, exists_eq_left, exists_eq_left', Option.some.injEq, ex_ix, i_add, i_mul, i_sub, i_lt, i_le, i_eq, i_tn, hi_e, hi_n, hj_e, hj_n, hi_wj, hj_wi, hr_wi, hr_wj, ht_wi, ht_wj, hl_wi, hl_wj, hz_wi, hz_wj, hs_wi, hs_wj, hi_wr, hj_wr, hr_e, hr_n, ht_wr, hl_wr, hz_wr, hs_wr, n_lt_t, n_lt_f, n_le_t, n_le_f, n_eq_t, n_eq_f, true_and, and_true, false_and, and_false, true_or, or_true, false_or, or_false, not_true_eq_false, not_false_eq_true, forall_const, implies_true, true_imp_iff, false_imp_iff, gs_t, reduceIte, ite_true, ite_false]
          refine w_410_97 b1 ?_
          simp (disch := omega) only [forall_eq, exists_eq_left, exists_eq_left', Option.some.injEq, ex_ix, i_add, i_mul, i_sub, i_lt, i_le, i_eq, i_tn, hi_e, hi_n, hj_e, hj_n, hi_wj, hj_wi, hr_wi, hr_wj, ht_wi, ht_wj, hl_wi, hl_wj, hz_wi, hz_wj, hs_wi, hs_wj, hi_wr, hj_wr, hr_e, hr_n, ht_wr, hl_wr, hz_wr, hs_wr, n_lt_t, n_lt_f, n_le_t, n_le_f, n_eq_t, n_eq_f, true_and, and_true, false_and, and_false, true_or, or_true, false_or, or_false, not_true_eq_false, not_false_eq_true, forall_const, implies_true, true_imp_iff, false_imp_iff, gs_t, reduceIte, ite_true, ite_false]
          refine nx h1 _ _ _ ?_ x1
          have := ihk h1 (by omega) x1 l1 tk tu
          rw [show k + 1 - (((List.range k).filter (fun j => !(zr_out P G g o (p + j)))).length + 0) + ((List.range 0).filter (fun e => zr_out P G g o (p + M + e))).length = k - ((List.range k).filter (fun j => !(zr_out P G g o (p + j)))).length + ((List.range 0).filter (fun e => zr_out P G g o (p + M + e))).length + 1 by omega] at this
          exact this
        | false =>
          have e5 : List.filter (fun j => !(zr_out P G g o (p + j))) [k] = [k] := by simp [hout]
          rw [e5, List.length_singleton] at ihk
          refine ⟨fun _ => w_410_46 b1 ?_, fun z => absurd rfl z⟩
          simp (disch := omega) only [forall_eq, exists_eq_left, exists_eq_left', Option.some.injEq, ex_ix, i_add, i_mul, i_sub, i_lt, i_le, i_eq, i_tn, hi_e, hi_n, hj_e, hj_n, hi_wj, hj_wi, hr_wi, hr_wj, ht_wi, ht_wj, hl_wi, hl_wj, hz_wi, hz_wj, hs_wi, hs_wj, hi_wr, hj_wr, hr_e, hr_n, ht_wr, hl_wr, hz_wr, hs_wr, n_lt_t, n_lt_f, n_le_t, n_le_f, n_eq_t, n_eq_f, true_and, and_true, false_and, and_false, true_or, or_true, false_or, or_false, not_true_eq_false, not_false_eq_true, forall_const, implies_true, true_imp_iff, false_imp_iff, gs_t, reduceIte, ite_true, ite_false, bi_f]
          have x2 : fr (tO m [37, 38] [53]) h (hh_wi h1 (m + 38) ((List.range k).filter (fun j => !(zr_out P G g o (p + j)))).length (Int32.ofNat k)) := x1.trans (fr.a rfl)
          refine w_410_72 (hT.fr x2) ?_
          simp (disch := omega) only [forall_eq, exists_eq_left, exists_eq_left', Option.some.injEq, ex_ix, i_add, i_mul, i_sub, i_lt, i_le, i_eq, i_tn, hi_e, hi_n, hj_e, hj_n, hi_wj, hj_wi, hr_wi, hr_wj, ht_wi, ht_wj, hl_wi, hl_wj, hz_wi, hz_wj, hs_wi, hs_wj, hi_wr, hj_wr, hr_e, hr_n, ht_wr, hl_wr, hz_wr, hs_wr, n_lt_t, n_lt_f, n_le_t, n_le_f, n_eq_t, n_eq_f, true_and, and_true, false_and, and_false, true_or, or_true, false_or, or_false, not_true_eq_false, not_false_eq_true, forall_const, implies_true, true_imp_iff, false_imp_iff, gs_t, reduceIte, ite_true, ite_false]
          refine w_410_97 (hT.fr x2) ?_
          simp (disch := omega) only [forall_eq, exists_eq_left, exists_eq_left', Option.some.injEq, ex_ix, i_add, i_mul, i_sub, i_lt, i_le, i_eq, i_tn, hi_e, hi_n, hj_e, hj_n, hi_wj, hj_wi, hr_wi, hr_wj, ht_wi, ht_wj, hl_wi, hl_wj, hz_wi, hz_wj, hs_wi, hs_wj, hi_wr, hj_wr, hr_e, hr_n, ht_wr, hl_wr, hz_wr, hs_wr, n_lt_t, n_lt_f, n_le_t, n_le_f, n_eq_t, n_eq_f, true_and, and_true, false_and, and_false, true_or, or_true, false_or, or_false, not_true_eq_false, not_false_eq_true, forall_const, implies_true, true_imp_iff, false_imp_iff, gs_t, reduceIte, ite_true, ite_false]
          refine nx _ _ _ _ ?_ x2
          have := ihk _ (by omega) x2 (by rw [hi_n (by omega)]; exact l1) (tk.put rfl) (fun i hi => by rw [hi_n (by omega)]; exact tu i hi)
          rw [show k + 1 - (((List.range k).filter (fun j => !(zr_out P G g o (p + j)))).length + 1) + ((List.range 0).filter (fun e => zr_out P G g o (p + M + e))).length = k - ((List.range k).filter (fun j => !(zr_out P G g o (p + j)))).length + ((List.range 0).filter (fun e => zr_out P G g o (p + M + e))).length + 0 by omega] at this
          exact this
      · obtain ⟨e, he⟩ : ∃ e, k = M + e := ⟨k - M, by omega⟩
        subst he
        have e1 : min (M + e + 1) M = M := by omega
        have e2 : M + e + 1 - M = e + 1 := by omega
        have e3 : min (M + e) M = M := by omega
        have e4 : M + e - M = e := by omega
        have e6 : p + (M + e) = p + M + e := by omega
        rw [e1, e2, List.range_succ (n := e), List.filter_append, List.length_append, List.any_append] at ihk
        rw [e3] at tk hKl ⊢
        rw [e4] at tu l1 hUl ⊢
        rw [e6]
        obtain ⟨a1, a2, a3, a4, a5⟩ := zg_at (p := p + M + e) K hg hp (by omega)
        have e0 : ¬ (Int32.ofNat (zg_many G g)) = 0 := fun q => by
          have : zg_many G g = 0 := (i_eq (by omega) (by decide)).mp q
          omega
        -- the look whether it is lacked
        have lk : ∀ h2 a b c, fr (tO m [37, 38] [53]) h h2 → hh_i h2 m 53 = hh_i h1 m 53 → (∀ h3, fr (tO m [37, 38] [53]) h h3 → hh_i h3 m 53 = (if ((List.range e).any (fun e => zp_mi P (zg_dsk G g ((p + M + e) % zg_many G g)) ((p + M + e) / zg_many G g)) || ([e].any (fun e => zp_mi P (zg_dsk G g ((p + M + e) % zg_many G g)) ((p + M + e) / zg_many G g)))) = true then (Int32.ofNat 1) else hh_i h m 53) → hh_i h3 (m + 37) = hh_i h2 (m + 37) → hh_i h3 (m + 38) = hh_i h2 (m + 38) → gm_G 410 12 [some (.ref m), some (.int (Int32.ofNat g)), some (.int (Int32.ofNat p)), some (.int (Int32.ofNat M)), some (.int (Int32.ofNat r)), some (.int (Int32.ofNat f)), some (.int (Int32.ofNat o)), some (.int (Int32.ofNat a)), some (.int (Int32.ofNat b)), some (.int (Int32.ofNat c)), some (.int (Int32.ofNat ((M + e + 1))))] [] h3 Q) → gm_G 410 97 [some (.ref m), some (.int (Int32.ofNat g)), some (.int (Int32.ofNat p)), some (.int (Int32.ofNat M)), some (.int (Int32.ofNat r)), some (.int (Int32.ofNat f)), some (.int (Int32.ofNat o)), some (.int (Int32.ofNat a)), some (.int (Int32.ofNat b)), some (.int (Int32.ofNat c)), some (.int (Int32.ofNat ((M + e))))] [] h2 Q := by
          intro h2 a b c x2 e53 KK2
          have b1 := hT.fr x2
          have g13 : hh_i h2 (m + 13) g = (Int32.ofNat (zg_many G g)) := by rw [x2.arr (o := 13) rfl]; exact s3
          have g15 : hh_i h2 (m + 15) (6 * g + (p + M + e) % zg_many G g) = (Int32.ofNat (zg_dsk G g ((p + M + e) % zg_many G g))) := by rw [x2.arr (o := 15) rfl]; exact s5 _ a1
          refine w_410_97 b1 ⟨fun z => absurd z (by rw [i_lt (by omega) (by omega)]; omega), fun _ => ⟨g, ix_n (by omega) (by omega), by rw [g13]; exact e0, ?_⟩⟩
          rw [g13, i_add, e6, i_rem (by omega) (by omega)]
          refine ⟨6 * g + (p + M + e) % zg_many G g, by rw [i_mul, i_add]; exact ix_n (by omega) (by omega), g, ix_n (by omega) (by omega), by rw [g13]; exact e0, ?_⟩
          rw [g15, g13, i_div (by omega) (by omega)]
          refine t_isMissing b1 (RP.fr x2 rfl rfl) (by omega) a4 ?_
          rw [List.any_cons, List.any_nil, Bool.or_false] at KK2
          cases hmi : zp_mi P (zg_dsk G g ((p + M + e) % zg_many G g)) ((p + M + e) / zg_many G g) with
          | true =>
            rw [hmi, Bool.or_true, if_pos rfl] at KK2
            refine ⟨fun z => absurd z (by decide), fun _ h3 e3' => ?_⟩
            subst e3'
            have x3 : fr (tO m [37, 38] [53]) h (hh_wi h2 m 53 (Int32.ofNat 1)) := x2.trans (fr.f rfl)
            refine w_410_147 (hT.fr x3) ?_
            rw [i_add]
            have f3 : fr (tO m [] [53]) h2 (hh_wi h2 m 53 (Int32.ofNat 1)) := fr.f rfl
            exact KK2 _ x3 (hi_e ⟨rfl, rfl⟩) (f3.arr rfl) (f3.arr rfl)
          | false =>
            rw [hmi, Bool.or_false] at KK2
            refine ⟨fun _ => w_410_147 b1 ?_, fun z => absurd rfl z⟩
            rw [i_add]
            exact KK2 h2 x2 (by rw [e53, l1]) rfl rfl
        cases hout : zr_out P G g o (p + M + e) with
        | true =>
          have e5 : List.filter (fun e => zr_out P G g o (p + M + e)) [e] = [e] := by simp [hout]
          rw [e5, List.length_singleton] at ihk
          refine ⟨fun z => absurd z (by decide), fun _ => w_410_46 b1 ?_⟩
          simp (disch := omega) only [forall_eq, exists_eq_left, exists_eq_left', Option.some.injEq, ex_ix, i_add, i_mul, i_sub, i_lt, i_le, i_eq, i_tn, hi_e, hi_n, hj_e, hj_n, hi_wj, hj_wi, hr_wi, hr_wj, ht_wi, ht_wj, hl_wi, hl_wj, hz_wi, hz_wj, hs_wi, hs_wj, hi_wr, hj_wr, hr_e, hr_n, ht_wr, hl_wr, hz_wr, hs_wr, n_lt_t, n_lt_f, n_le_t, n_le_f, n_eq_t, n_eq_f, true_and, and_true, false_and, and_false, true_or, or_true, false_or, or_false, not_true_eq_false, not_false_eq_true, forall_const, implies_true, true_imp_iff, false_imp_iff, gs_t, reduceIte, ite_true, ite_false, bi_t]
          refine w_410_72 b1 ?_
          simp (disch := omega) only [forall_eq, exists_eq_left, exists_eq_left', Option.some.injEq, ex_ix, i_add, i_mul, i_sub, i_lt, i_le, i_eq, i_tn, hi_e, hi_n, hj_e, hj_n, hi_wj, hj_wi, hr_wi, hr_wj, ht_wi, ht_wj, hl_wi, hl_wj, hz_wi, hz_wj, hs_wi, hs_wj, hi_wr, hj_wr, hr_e, hr_n, ht_wr, hl_wr, hz_wr, hs_wr, n_lt_t, n_lt_f, n_le_t, n_le_f, n_eq_t, n_eq_f, true_and, and_true, false_and, and_false, true_or, or_true, false_or, or_false, not_true_eq_false, not_false_eq_true, forall_const, implies_true, true_imp_iff, false_imp_iff, gs_t, reduceIte, ite_true, ite_false]
          have x2 : fr (tO m [37, 38] [53]) h (hh_wi h1 (m + 37) ((List.range e).filter (fun e => zr_out P G g o (p + M + e))).length (Int32.ofNat e)) := x1.trans (fr.a rfl)
          rw [e4]
          refine lk _ _ _ _ x2 (hi_n (by omega)) (fun h3 x3 l3 h37 h38 => ?_)
          have := ihk h3 (by omega) x3 l3 (fun i hi => by rw [h38, hi_n (by omega)]; exact tk i hi) (fun i hi => by rw [h37]; exact (tu.put (x := e) rfl) i hi)
          rw [← Nat.add_assoc] at this
          exact this
        | false =>
          have e5 : List.filter (fun e => zr_out P G g o (p + M + e)) [e] = [] := by simp [hout]
          rw [e5, List.append_nil, List.length_nil] at ihk
          refine ⟨fun _ => w_410_46 b1 ?_, fun z => absurd rfl z⟩
          simp (disch := omega) only [forall_eq, exists_eq_left, exists_eq_left', Option.some.injEq, ex_ix, i_add, i_mul, i_sub, i_lt, i_le, i_eq, i_tn, hi_e, hi_n, hj_e, hj_n, hi_wj, hj_wi, hr_wi, hr_wj, ht_wi, ht_wj, hl_wi, hl_wj, hz_wi, hz_wj, hs_wi, hs_wj, hi_wr, hj_wr, hr_e, hr_n, ht_wr, hl_wr, hz_wr, hs_wr, n_lt_t, n_lt_f, n_le_t, n_le_f, n_eq_t, n_eq_f, true_and, and_true, false_and, and_false, true_or, or_true, false_or, or_false, not_true_eq_false, not_false_eq_true, forall_const, implies_true, true_imp_iff, false_imp_iff, gs_t, reduceIte, ite_true, ite_false, bi_f]
          refine w_410_72 b1 ?_
          simp (disch := omega) only [forall_eq, exists_eq_left, exists_eq_left', Option.some.injEq, ex_ix, i_add, i_mul, i_sub, i_lt, i_le, i_eq, i_tn, hi_e, hi_n, hj_e, hj_n, hi_wj, hj_wi, hr_wi, hr_wj, ht_wi, ht_wj, hl_wi, hl_wj, hz_wi, hz_wj, hs_wi, hs_wj, hi_wr, hj_wr, hr_e, hr_n, ht_wr, hl_wr, hz_wr, hs_wr, n_lt_t, n_lt_f, n_le_t, n_le_f, n_eq_t, n_eq_f, true_and, and_true, false_and, and_false, true_or, or_true, false_or, or_false, not_true_eq_false, not_false_eq_true, forall_const, implies_true, true_imp_iff, false_imp_iff, gs_t, reduceIte, ite_true, ite_false]
          refine lk h1 _ _ _ x1 rfl (fun h3 x3 l3 h37 h38 => ?_)
          exact ihk h3 (by omega) x3 l3 (fun i hi => by rw [h38]; exact tk i hi) (fun i hi => by rw [h37]; exact tu i hi)
  have := lp (M + r) 0 h (by omega) (fr.refl _ _) (by rw [Nat.zero_sub]; rfl) (fun i hi => by rw [Nat.zero_min] at hi; simp at hi) (fun i hi => by rw [Nat.zero_sub] at hi; simp at hi)
  rw [Nat.zero_min, Nat.zero_sub, Nat.zero_sub] at this
  exact this
end TRw
