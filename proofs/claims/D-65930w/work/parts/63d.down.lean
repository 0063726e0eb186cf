/-! STAGE 3, 8: what must hold in the midst of a call, so that the twin may go down -/
def rT_E0 (h : hh_T) (m : Nat) (E : zE) : Prop := hh_i h m 76 = bi (ze_house E) ∧ hh_i h m 99 = (Int32.ofNat ((ze_heads E).length)) ∧ (ze_heads E).length ≤ 3 ∧ (∀ k s, (ze_heads E)[k]? = some s → ∃ j, hh_i h (m + 78) k = (Int32.ofNat j) ∧ 1 ≤ j ∧ j < 4 ∧ hh_i h (m + 79) k = (Int32.ofNat (zu_no s)) ∧ zu_no s < 2147483000 ∧ tu h m j s)
  ∧ (∀ k k', k < (ze_heads E).length → k' < (ze_heads E).length → hh_i h (m + 78) k = hh_i h (m + 78) k' → k = k')
  ∧ (∀ p q, p < 640 → q < 640 → tw_us h m (tw_sl h m false (ze_heads E).length) p → tw_us h m (tw_sl h m false (ze_heads E).length) q → hh_i h (m + 23) (2 * p) = hh_i h (m + 23) (2 * q) → hh_i h (m + 24) (2 * p) = hh_i h (m + 24) (2 * q) → p = q)
  ∧ ∀ p, p < 640 → tw_us h m (tw_sl h m false (ze_heads E).length) p → hh_i h (m + 17) p = (Int32.ofNat 1)
theorem tw_sl.up {h : hh_T} {m n t : Nat} {up : Bool} (q : tw_sl h m false n t) : tw_sl h m up n t := by
  obtain ⟨j, a, b⟩ := q
  refine ⟨j, ?_, b⟩
  rcases a with a | a
  · cases a.2
  · exact Or.inr a
theorem tw_us.mono {h : hh_T} {m p : Nat} {L L' : Nat → Prop} (q : tw_us h m L p) (s : ∀ t, L t → L' t) : tw_us h m L' p := by
  obtain ⟨t, o, k, a, b⟩ := q
  exact ⟨t, o, k, s t a, b⟩
theorem rT_E.e0 {h : hh_T} {m : Nat} {E : zE} (R : rT_E h m E) : rT_E0 h m E := by
  obtain ⟨r1, r2, r3, r4, r5, r6, r7, r8, r9⟩ := R
  exact ⟨r1, r4, r5, r6, r7, fun p q hp hq u v => r8 p q hp hq (u.mono fun _ => tw_sl.up) (v.mono fun _ => tw_sl.up), fun p hp u => r9 p hp (u.mono fun _ => tw_sl.up)⟩
theorem rT_E0.of {h : hh_T} {m : Nat} {E : zE} (R : rT_E0 h m E) (hu : hh_i h m 77 = (Int32.ofNat 0)) : rT_E h m (ze_up_ E false) := by
  obtain ⟨r1, r4, r5, r6, r7, r8, r9⟩ := R
  exact ⟨r1, hu, (fun (z : false = true) => nomatch z), r4, r5, r6, r7, r8, r9⟩
def fE0 (f : Nat) : Bool := [76, 99].contains f
theorem rT_E0.sm {h h' : hh_T} {m : Nat} {E : zE} (g : tsm m oE fE0 h h') (R : rT_E0 h m E) : rT_E0 h' m E := by
  have a17 := g.1 17 rfl (by decide)
  have a23 := g.1 23 rfl (by decide)
  have a24 := g.1 24 rfl (by decide)
  have a40 := g.1 40 rfl (by decide)
  have a55 := g.1 55 rfl (by decide)
  have a59 := g.1 59 rfl (by decide)
  have a63 := g.1 63 rfl (by decide)
  have a69 := g.1 69 rfl (by decide)
  have a74 := g.1 74 rfl (by decide)
  have a78 := g.1 78 rfl (by decide)
  have a79 := g.1 79 rfl (by decide)
  have f76 := g.2.1 76 rfl
  have f99 := g.2.1 99 rfl
  obtain ⟨r1, r4, r5, r6, r7, r8, r9⟩ := R
  unfold rT_E0 tw_us tw_sl tw_st
  simp only [a17, a23, a24, a40, a55, a59, a63, a69, a74, a78, a79, f76, f99]
  refine ⟨r1, r4, r5, fun k s hs => ?_, r7, r8, r9⟩
  obtain ⟨j, z1, z2, z3, z4, z5, z6⟩ := r6 k s hs
  exact ⟨j, z1, z2, z3, z4, z5, z6.sm g⟩
theorem rT_E0.fr {h h' : hh_T} {m : Nat} {O F : List Nat} {E : zE} (R : rT_E0 h m E) (g0 : fr (tO m O F) h h') (hO : (O.all fun o => !(oE o)) = true) (hF : (F.all fun f => !(fE0 f)) = true) : rT_E0 h' m E := R.sm (g0.sm hO hF)
def rT_R0 (h : hh_T) (m : Nat) (E : zE) (R : Nat → List zH × Nat) : Prop := (ze_heads E = [] → ∀ i, i < 8 → hh_i h (m + 80) i = (Int32.ofNat 0) ∧ hh_i h (m + 81) i = (Int32.ofNat 0)) ∧ (∀ j, hh_i h (m + 78) 0 = (Int32.ofNat j) → j < 4 → ¬ ze_heads E = [] → ∀ i, i < 8 →
    (hh_i h (m + 59) (8 * j + i) = Int32.ofInt (-1) → hh_i h (m + 80) i = (Int32.ofNat 0) ∧ hh_i h (m + 81) i = (Int32.ofNat 0))
    ∧ ∀ n, n < 1000 → hh_i h (m + 59) (8 * j + i) = (Int32.ofNat n) → hh_i h (m + 80) i = (Int32.ofNat ((R n).1.length)) ∧ hh_i h (m + 81) i = (Int32.ofNat ((R n).2)) ∧ (R n).2 ≤ (R n).1.length ∧ (R n).1.length < 100000 ∧ (∀ k c, k < 16 → (R n).1[k]? = some c → tw_lg h m (290 * (16 * i + k)) c))
  ∧ (∀ n, (∀ s, (ze_heads E)[0]? = some s → zu_set s n = none) → R n = ([], 0))
theorem rT_R.r0 {h : hh_T} {m : Nat} {E : zE} {R : Nat → List zH × Nat} (q : rT_R h m E R) : rT_R0 h m E R := by
  obtain ⟨a, b, c, -⟩ := q
  exact ⟨a, b, c⟩
theorem rT_R0.fr {h h' : hh_T} {m : Nat} {O F : List Nat} {E : zE} {R0 : Nat → List zH × Nat} (R : rT_R0 h m E R0) (g0 : fr (tO m O F) h h') (hO : (O.all fun o => !(oR o)) = true) : rT_R0 h' m E R0 := by
  have g := g0.sm (R := f0) hO (by simp [f0])
  have a59 := g.1 59 rfl (by decide)
  have a78 := g.1 78 rfl (by decide)
  have a80 := g.1 80 rfl (by decide)
  have a81 := g.1 81 rfl (by decide)
  have a82 := g.1 82 rfl (by decide)
  unfold rT_R0 tw_lg
  simp only [a59, a78, a80, a81, a82]
  exact R
/-- the twin in the midst of a call -/
def rT0 (h : hh_T) (m : Nat) (S : zS) : Prop := tw_ok h m ∧ rT_A h m (zs_A S) ∧ rT_P h m (zs_P S) ∧ rT_G h m (zs_G S) ∧ rT_E0 h m (zs_E S) ∧ (hh_i h m 47 = zc_hits (zs_C S) ∧ hh_i h m 48 = zc_miss (zs_C S)) ∧ rT_R0 h m (zs_E S) (zs_R S) ∧ rT_X h m (zs_X S) ∧ rT_M h m (zs_M S)
theorem rT.m0 {h : hh_T} {m : Nat} {S : zS} (R : rT h m S) : rT0 h m S := by
  obtain ⟨r0, r1, r2, r3, r4, r5, r6, r7, r8, r9, r10, r11, r12⟩ := R
  exact ⟨r0, r1, r2, r3, r4.e0, r5.2.2.2, r6.r0, r8, r9⟩
/-- all of the twin but the flag of replays -/
def rTx (h : hh_T) (m : Nat) (S : zS) : Prop := tw_ok h m ∧ rT_A h m (zs_A S) ∧ rT_P h m (zs_P S) ∧ rT_G h m (zs_G S) ∧ rT_E h m (zs_E S) ∧ rT_C h m (zs_C S) ∧ rT_R h m (zs_E S) (zs_R S) ∧ rT_F h m (zs_F S) ∧ rT_X h m (zs_X S) ∧ rT_M h m (zs_M S) ∧ hh_i h m 112 = (Int32.ofNat 0) ∧ hh_i h m 110 = (Int32.ofNat 0)
theorem rT.x {h : hh_T} {m : Nat} {S : zS} (R : rT h m S) : rTx h m S := by
  obtain ⟨r0, r1, r2, r3, r4, r5, r6, r7, r8, r9, r10, r11, r12⟩ := R
  exact ⟨r0, r1, r2, r3, r4, r5, r6, r7, r8, r9, r11, r12⟩
theorem rTx.r {h : hh_T} {m : Nat} {S : zS} (R : rTx h m S) (e : hh_i h m 111 = (Int32.ofNat 0)) : rT h m S := by
  obtain ⟨r0, r1, r2, r3, r4, r5, r6, r7, r8, r9, r11, r12⟩ := R
  exact ⟨r0, r1, r2, r3, r4, r5, r6, r7, r8, r9, e, r11, r12⟩
section TD
variable {h : hh_T} {m : Nat} {Q : Option Value ⊕ Nat → hh_T → Prop} {S : zS}
def oFall : List Nat := [33, 80, 88, 94, 97, 116, 117]
def fFall : List Nat := [15, 41, 46, 77, 110, 112]
/-- the house goes down -/
theorem t_down (R : rT0 h m S) (H : ∀ h', fr (tO m oFall fFall) h h' → rTx h' m (zs_fall (zs_P_ S (zp_arm_ (zs_P S) none))) → Q (.inl none) h') : gm_G 109 0 [some (.ref m)] [] h Q := by
  obtain ⟨r0, r1, r2, r3, r4, r5, r6, r7, r8⟩ := R
  refine t_falls r0 (fun h' g e77 e15 e112 e110 e46 e80 e88 e97 e117 e116 e33 => H h' g ⟨r0.fr g, r1.fr g rfl rfl, ?_, r3.fr g rfl rfl, (r4.fr g rfl rfl).of e77, ?_, ?_, ?_, r7.fr g rfl, r8.fr g rfl rfl, e112, e110⟩)
  · obtain ⟨p1, p2, p3, p4, p5, p6, p7⟩ := r2
    show rT_P h' m (zp_arm_ (zs_P S) none)
    unfold rT_P
    simp only [g.arr (o := 4) rfl, g.arr (o := 6) rfl, g.arr (o := 7) rfl, g.arr (o := 8) rfl, g.arr (o := 9) rfl, g.arr (o := 10) rfl, g.fld (f := 7) rfl, g.fld (f := 16) rfl, g.fld (f := 17) rfl, g.fld (f := 18) rfl]
    exact ⟨p1, p2, p3, p4, e15, (fun n (hn : (none : Option Nat) = some n) => nomatch hn), p7⟩
  · show rT_C h' m (zc_aim_ (zc_ls_ (zs_C S) (fun _ => [])) 0)
    unfold rT_C
    rw [g.fld (f := 47) rfl, g.fld (f := 48) rfl]
    exact ⟨⟨fun _ => [], fun _ => (0, 0, [], 0, none), fun l hl => ⟨e33 l hl, Nat.zero_le _, fun j hj => absurd hj (Nat.not_lt_zero _)⟩, fun _ _ => rfl, fun l p _ hp => absurd hp (List.not_mem_nil)⟩, e46, Nat.zero_le _, r5⟩
  · show rT_R h' m (ze_up_ (zs_E S) false) (fun n => ((zs_R S n).1.take (zs_R S n).2, (zs_R S n).2))
    obtain ⟨a, b, c⟩ := r6
    refine ⟨fun z i hi => ?_, fun j h1 h2 h3 i hi => ?_, fun n hn => ?_, fun z => by cases z⟩
    · rw [e80 i hi, g.arr (o := 81) rfl]
      exact ⟨(a z i hi).2, (a z i hi).2⟩
    · rw [g.arr (o := 78) rfl] at h1
      rw [g.arr (o := 59) rfl, e80 i hi, g.arr (o := 81) rfl]
      obtain ⟨b1, b2⟩ := b j h1 h2 h3 i hi
      refine ⟨fun z => ⟨(b1 z).2, (b1 z).2⟩, fun n hn e => ?_⟩
      obtain ⟨z1, z2, z3, z4, z5⟩ := b2 n hn e
      have el : ((zs_R S n).1.take (zs_R S n).2).length = (zs_R S n).2 := by rw [List.length_take]; omega
      refine ⟨?_, z2, ?_, ?_, fun k c hk hc => ?_⟩
      · simp only [el]; exact z2
      · simp only [el]; exact Nat.le_refl _
      · simp only [el]; omega
      · have hc' : ((zs_R S n).1.take (zs_R S n).2)[k]? = some c := hc
        rw [List.getElem?_take] at hc'
        split at hc'
        · have := z5 k c hk hc'
          unfold tw_lg
          rw [g.arr (o := 82) rfl]
          exact this
        · cases hc'
    · have := c n hn
      show ((zs_R S n).1.take (zs_R S n).2, (zs_R S n).2) = ([], 0)
      rw [this]
      rfl
  · refine ⟨fun f hf => e88 f hf, fun w hw => e97 w hw, fun c hc => e117 c hc, fun c i hc hi => Or.inl ⟨e116 _ (by omega), (fun n _ _ (z : (none : Option Nat) = some c) => nomatch z)⟩⟩
/-- only disks and power change -/
theorem rT0.oP {h' : hh_T} {P : zP} (R : rT0 h m S) (g : fr (tO m [4, 6, 7, 8, 9, 10] [7, 15, 16, 17, 18]) h h') (N : rT_P h' m P) : rT0 h' m (zs_P_ S P) := by
  obtain ⟨r0, r1, r2, r3, r4, r5, r6, r7, r8⟩ := R
  exact ⟨r0.fr g, r1.fr g rfl rfl, N, r3.fr g rfl rfl, r4.fr g rfl rfl, by rw [g.fld (f := 47) rfl, g.fld (f := 48) rfl]; exact r5, r6.fr g rfl, r7.fr g rfl, r8.fr g rfl rfl⟩
theorem rT0.oN {h' : hh_T} (R : rT0 h m S) (g : fr (tO m oN fN) h h') : rT0 h' m S := by
  obtain ⟨r0, r1, r2, r3, r4, r5, r6, r7, r8⟩ := R
  exact ⟨r0.fr g, r1.fr g rfl rfl, r2.fr g rfl rfl, r3.fr g rfl rfl, r4.fr g rfl rfl, by rw [g.fld (f := 47) rfl, g.fld (f := 48) rfl]; exact r5, r6.fr g rfl, r7.fr g rfl, r8.fr g rfl rfl⟩
/-- a sector is written -/
theorem t_wrSec {d s b p : Nat} (R : rT0 h m S) (hd : d < 8) (hs : s < 64) (ht : hh_tg h b = 101) (hl : p + 8 ≤ hh_ln h b) (hl2 : hh_ln h b < 2147483648) (hB : ∀ i, i < 8 → gy_b (hh_i h b (p + i))) (hb : ¬ b = m + 10)
    (H1 : (zp_wr (zs_P S) d s (fun i => hh_i h b (p + i))).2 = true → ∀ h', fr (tO m [6, 8, 9, 10] [15, 17]) h h' → rT_P h' m (zp_wr (zs_P S) d s (fun i => hh_i h b (p + i))).1 → Q (.inl (some (.int (Int32.ofNat 1)))) h')
    (H2 : (zp_wr (zs_P S) d s (fun i => hh_i h b (p + i))).2 = false → ∀ h', rTx h' m (zs_fall (zs_P_ S (zp_wr (zs_P S) d s (fun i => hh_i h b (p + i))).1)) → fr (tO m (10 :: oFall) fFall) h h' → Q (.inl (some (.int (Int32.ofNat 0)))) h') : gm_G 309 0 [some (.ref m), some (.int (Int32.ofNat d)), some (.int (Int32.ofNat s)), some (.ref b), some (.int (Int32.ofNat p))] [] h Q := by
  obtain ⟨p1, p2, p3, p4, p5, p6, p7, p8, p9, p10⟩ := id R.2.2.1
  obtain ⟨a1, a2, a3, a4⟩ := p4 d hd
  refine w_309_0 R.1 ?_
  unfold zp_wr at H1 H2
  cases hh : zp_here (zs_P S) d with
  | false =>
    rw [hh] at a1
    have a1 : hh_i h (m + 7) d = (Int32.ofNat 1) := a1
    rw [if_pos hh] at H1
    simp (disch := omega) only [forall_eq, exists_eq_left, exists_eq_left', Option.some.injEq, ex_ix, i_add, i_mul, i_sub, i_lt, i_le, i_eq, i_tn, hi_e, hi_n, hj_e, hj_n, hi_wj, hj_wi, hr_wi, hr_wj, ht_wi, ht_wj, hl_wi, hl_wj, hz_wi, hz_wj, hs_wi, hs_wj, hi_wr, hj_wr, hr_e, hr_n, ht_wr, hl_wr, hz_wr, hs_wr, n_lt_t, n_lt_f, n_le_t, n_le_f, n_eq_t, n_eq_f, true_and, and_true, false_and, and_false, true_or, or_true, false_or, or_false, not_true_eq_false, not_false_eq_true, forall_const, implies_true, true_imp_iff, false_imp_iff, gs_t, reduceIte, ite_true, ite_false, a1]
    have g : fr (tO m [9] []) h (hh_wi h (m + 9) (64 * d + s) (Int32.ofNat 1)) := fr.a rfl
    refine H1 rfl _ (g.up rfl rfl) ?_
    show rT_P _ m (zp_stale_ (zs_P S) (fu2 (zp_stale (zs_P S)) d s true))
    unfold rT_P
    simp only [g.arr (o := 4) rfl, g.arr (o := 6) rfl, g.arr (o := 7) rfl, g.arr (o := 8) rfl, g.arr (o := 10) rfl, g.fld (f := 7) rfl, g.fld (f := 15) rfl, g.fld (f := 16) rfl, g.fld (f := 17) rfl, g.fld (f := 18) rfl]
    refine ⟨p1, p2, p3, fun e he => ⟨(p4 e he).1, (p4 e he).2.1, fun t ht => ⟨((p4 e he).2.2.1 t ht).1, ?_⟩, (p4 e he).2.2.2⟩, p5, p6, p7, p8, p9, p10⟩
    show _ = bi (fu2 (zp_stale (zs_P S)) d s true e t)
    unfold fu2
    by_cases z : e = d ∧ t = s
    · rw [if_pos z, hi_e (by omega)]; rfl
    · rw [if_neg z, hi_n (by omega)]
      exact ((p4 e he).2.2.1 t ht).2
  | true =>
    rw [hh] at a1
    have a1 : hh_i h (m + 7) d = (Int32.ofNat 0) := a1
    rw [if_neg (by rw [hh]; decide)] at H1 H2
    refine ⟨d, ix_n (by omega) (by omega), fun _ => t_fails R.1 R.2.2.1 ?_, fun z => absurd a1 z⟩
    -- the loop that writes k bytes
    have lp : ∀ c N, N ≤ 8 → (∀ h1, fr (tO m [10] []) h h1 → (∀ j, hh_i h1 (m + 10) j = if 512 * d + 8 * s ≤ j ∧ j < 512 * d + 8 * s + N then hh_i h b (p + (j - (512 * d + 8 * s))) else hh_i h (m + 10) j) → gm_G 309 52 [some (.ref m), some (.int (Int32.ofNat d)), none, some (.ref b), some (.int (Int32.ofNat p)), some (.int (Int32.ofNat ((64 * d + s)))), some (.int c), some (.int (Int32.ofNat N)), some (.int (Int32.ofNat N))] [] h1 Q) → gm_G 309 52 [some (.ref m), some (.int (Int32.ofNat d)), none, some (.ref b), some (.int (Int32.ofNat p)), some (.int (Int32.ofNat ((64 * d + s)))), some (.int c), some (.int (Int32.ofNat N)), some (.int (Int32.ofNat 0))] [] h Q := by
      intro c N hN K
      refine lp_fill (m := m) (o := 10) (b := 512 * d + 8 * s) (n := N) (fun i => [some (.ref m), some (.int (Int32.ofNat d)), none, some (.ref b), some (.int (Int32.ofNat p)), some (.int (Int32.ofNat ((64 * d + s)))), some (.int c), some (.int (Int32.ofNat N)), some (.int (Int32.ofNat i))]) (fun i => hh_i h b (p + i)) (by decide) (fun i h1 hi g _ K2 => ?_) K
      refine w_309_52 (R.1.fr g) ?_
      have eb : hh_i h1 b (p + i) = hh_i h b (p + i) := by rw [g.out (a := b) (by by_cases z : b < m; exact Or.inl z; exact Or.inr ⟨fun o ho => by simp at ho; omega, fun e => by have := R.1.1; rw [← e, ht] at this; cases this⟩)]
      have ey : (hh_i h b (p + i)).toInt8.toInt32 = hh_i h b (p + i) := hB i (by omega)
      have e8 : 8 * (64 * d + s) + i = 512 * d + 8 * s + i := by omega
      simp (disch := omega) only [forall_eq, exists_eq_left, exists_eq_left', Option.some.injEq, ex_ix, i_add, i_mul, i_sub, i_lt, i_le, i_eq, i_tn, hi_e, hi_n, hj_e, hj_n, hi_wj, hj_wi, hr_wi, hr_wj, ht_wi, ht_wj, hl_wi, hl_wj, hz_wi, hz_wj, hs_wi, hs_wj, hi_wr, hj_wr, hr_e, hr_n, ht_wr, hl_wr, hz_wr, hs_wr, n_lt_t, n_lt_f, n_le_t, n_le_f, n_eq_t, n_eq_f, true_and, and_true, false_and, and_false, true_or, or_true, false_or, or_false, not_true_eq_false, not_false_eq_true, forall_const, implies_true, true_imp_iff, false_imp_iff, gs_t, reduceIte, ite_true, ite_false, g.tg, g.ln, ht, eb, ey, e8]
      exact K2
    by_cases hz : zp_arm (zs_P S) = some 0
    · rw [if_pos hz] at H2
      rw [hz]
      refine ⟨fun z => absurd z (by decide), fun _ => w_309_47 R.1 ?_⟩
      rw [p7]
      rw [i_mul, i_add]
      refine lp _ (zp_tear (zs_P S)) (by omega) (fun h1 g hv => ?_)
      refine w_309_52 (R.1.fr g) ?_
      have e1 : ¬ bi (decide ((some 0 : Option Nat) = some 0)) = (Int32.ofNat 0) := by decide
      refine ⟨fun _ => ⟨fun z => absurd z e1, fun _ => ?_⟩, fun z => absurd z (by rw [i_lt (by omega) (by omega)]; omega)⟩
      have N1 : rT_P h1 m (zp_put (zs_P S) d s (zp_tear (zs_P S)) (fun i => hh_i h b (p + i))) := by
        unfold rT_P
        simp only [g.arr (o := 4) rfl, g.arr (o := 6) rfl, g.arr (o := 7) rfl, g.arr (o := 8) rfl, g.arr (o := 9) rfl, g.fld (f := 7) rfl, g.fld (f := 15) rfl, g.fld (f := 16) rfl, g.fld (f := 17) rfl, g.fld (f := 18) rfl]
        refine ⟨p1, p2, p3, fun e he => ⟨(p4 e he).1, (p4 e he).2.1, (p4 e he).2.2.1, fun j hj => ?_⟩, p5, p6, p7, p8, p9, p10⟩
        rw [hv]
        show _ = if e = d ∧ 8 * s ≤ j ∧ j < 8 * s + zp_tear (zs_P S) then hh_i h b (p + (j - 8 * s)) else zp_by (zs_P S) e j
        by_cases z : e = d ∧ 8 * s ≤ j ∧ j < 8 * s + zp_tear (zs_P S)
        · rw [if_pos z, if_pos (by omega)]; congr 1; omega
        · rw [if_neg z, if_neg (by omega)]
          exact (p4 e he).2.2.2 j hj
      refine t_down (R.oP (g.up rfl rfl) N1) (fun h2 g2 R2 => H2 rfl h2 ?_ ((g.up rfl rfl).trans (g2.up rfl rfl)))
      exact R2
    · rw [if_neg hz] at H1
      rw [decide_eq_false hz]
      refine ⟨fun _ => w_309_47 R.1 ?_, fun z => absurd rfl z⟩
      rw [i_mul, i_add]
      refine lp _ 8 (by omega) (fun h1 g hv => ?_)
      refine w_309_52 (R.1.fr g) ⟨fun _ => ⟨fun _ => ?_, fun z => absurd rfl z⟩, fun z => absurd z (by rw [i_lt (by omega) (by omega)]; omega)⟩
      have N1 : rT_P h1 m (zp_put (zs_P S) d s 8 (fun i => hh_i h b (p + i))) := by
        unfold rT_P
        simp only [g.arr (o := 4) rfl, g.arr (o := 6) rfl, g.arr (o := 7) rfl, g.arr (o := 8) rfl, g.arr (o := 9) rfl, g.fld (f := 7) rfl, g.fld (f := 15) rfl, g.fld (f := 16) rfl, g.fld (f := 17) rfl, g.fld (f := 18) rfl]
        refine ⟨p1, p2, p3, fun e he => ⟨(p4 e he).1, (p4 e he).2.1, (p4 e he).2.2.1, fun j hj => ?_⟩, p5, p6, p7, p8, p9, p10⟩
        rw [hv]
        show _ = if e = d ∧ 8 * s ≤ j ∧ j < 8 * s + 8 then hh_i h b (p + (j - 8 * s)) else zp_by (zs_P S) e j
        by_cases z : e = d ∧ 8 * s ≤ j ∧ j < 8 * s + 8
        · rw [if_pos z, if_pos (by omega)]; congr 1; omega
        · rw [if_neg z, if_neg (by omega)]
          exact (p4 e he).2.2.2 j hj
      refine t_wrote (R.1.fr g) N1 hz (fun h2 g2 N2 => ?_)
      obtain ⟨b1, b2, b3, b4, b5, b6, b7, b8, b9, b10⟩ := N2
      have b6' := (b4 d hd).2.1
      show ∃ n, _
      simp (disch := omega) only [forall_eq, exists_eq_left, exists_eq_left', Option.some.injEq, ex_ix, i_add, i_mul, i_sub, i_lt, i_le, i_eq, i_tn, hi_e, hi_n, hj_e, hj_n, hi_wj, hj_wi, hr_wi, hr_wj, ht_wi, ht_wj, hl_wi, hl_wj, hz_wi, hz_wj, hs_wi, hs_wj, hi_wr, hj_wr, hr_e, hr_n, ht_wr, hl_wr, hz_wr, hs_wr, n_lt_t, n_lt_f, n_le_t, n_le_f, n_eq_t, n_eq_f, true_and, and_true, false_and, and_false, true_or, or_true, false_or, or_false, not_true_eq_false, not_false_eq_true, forall_const, implies_true, true_imp_iff, false_imp_iff, gs_t, reduceIte, ite_true, ite_false, b6']
      have g3 : fr (tO m [6, 8, 9] []) h2 (hh_wi (hh_wi (hh_wi h2 (m + 6) d (zp_wc (zp_wrote (zp_put (zs_P S) d s 8 (fun i => hh_i h b (p + i)))) d + (Int32.ofNat 1))) (m + 8) (64 * d + s) (Int32.ofNat 0)) (m + 9) (64 * d + s) (Int32.ofNat 0)) := ((fr.a rfl).trans (fr.a rfl)).trans (fr.a rfl)
      refine H1 rfl _ (((g.up rfl rfl).trans (g2.up rfl rfl)).trans (g3.up rfl rfl)) ?_
      unfold rT_P
      simp only [g3.arr (o := 4) rfl, g3.arr (o := 7) rfl, g3.arr (o := 10) rfl, g3.fld (f := 7) rfl, g3.fld (f := 15) rfl, g3.fld (f := 16) rfl, g3.fld (f := 17) rfl, g3.fld (f := 18) rfl]
      refine ⟨b1, b2, b3, fun e he => ⟨(b4 e he).1, ?_, fun t ht => ⟨?_, ?_⟩, (b4 e he).2.2.2⟩, b5, b6, b7, b8, b9, b10⟩
      · show _ = fu (zp_wc (zs_P S)) d (zp_wc (zs_P S) d + (Int32.ofNat 1)) e
        unfold fu
        by_cases z : e = d
        · subst z
          simp (disch := omega) only [forall_eq, exists_eq_left, exists_eq_left', Option.some.injEq, ex_ix, i_add, i_mul, i_sub, i_lt, i_le, i_eq, i_tn, hi_e, hi_n, hj_e, hj_n, hi_wj, hj_wi, hr_wi, hr_wj, ht_wi, ht_wj, hl_wi, hl_wj, hz_wi, hz_wj, hs_wi, hs_wj, hi_wr, hj_wr, hr_e, hr_n, ht_wr, hl_wr, hz_wr, hs_wr, n_lt_t, n_lt_f, n_le_t, n_le_f, n_eq_t, n_eq_f, true_and, and_true, false_and, and_false, true_or, or_true, false_or, or_false, not_true_eq_false, not_false_eq_true, forall_const, implies_true, true_imp_iff, false_imp_iff, gs_t, reduceIte, ite_true, ite_false]
          rfl
        · simp (disch := omega) only [forall_eq, exists_eq_left, exists_eq_left', Option.some.injEq, ex_ix, i_add, i_mul, i_sub, i_lt, i_le, i_eq, i_tn, hi_e, hi_n, hj_e, hj_n, hi_wj, hj_wi, hr_wi, hr_wj, ht_wi, ht_wj, hl_wi, hl_wj, hz_wi, hz_wj, hs_wi, hs_wj, hi_wr, hj_wr, hr_e, hr_n, ht_wr, hl_wr, hz_wr, hs_wr, n_lt_t, n_lt_f, n_le_t, n_le_f, n_eq_t, n_eq_f, true_and, and_true, false_and, and_false, true_or, or_true, false_or, or_false, not_true_eq_false, not_false_eq_true, forall_const, implies_true, true_imp_iff, false_imp_iff, gs_t, reduceIte, ite_true, ite_false]
          exact (b4 e he).2.1
      · show _ = bi (fu2 (zp_dead (zs_P S)) d s false e t)
        unfold fu2
        by_cases z : e = d ∧ t = s
        · rw [if_pos z, hi_n (by omega), hi_e (by omega)]; rfl
        · rw [if_neg z, hi_n (by omega), hi_n (by omega), hi_n (by omega)]
          exact ((b4 e he).2.2.1 t ht).1
      · show _ = bi (fu2 (zp_stale (zs_P S)) d s false e t)
        unfold fu2
        by_cases z : e = d ∧ t = s
        · rw [if_pos z, hi_e (by omega)]; rfl
        · rw [if_neg z, hi_n (by omega), hi_n (by omega), hi_n (by omega)]
          exact ((b4 e he).2.2.1 t ht).2
end TD
