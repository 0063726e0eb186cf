/-! STAGE 3, 10: the twin writes a copy -/
/-- sector j of a copy on disk x of a mirror: disk, sector, bytes -/
def zg_en (G : zG) (g a k : Nat) (f : Nat → Int32) (x j : Nat) : Nat × Nat × (Nat → Int32) := if zg_par G g then (zg_dsk G g ((a + j) % zg_many G g), (a + j) / zg_many G g, fun i => zg_im G g k f j i) else (zg_dsk G g x, a + j, fun i => zg_im G g k f j i)
def zg_rd (G : zG) (g : Nat) : Nat := if zg_par G g then 1 else zg_many G g
theorem zg_wl_eq (G : zG) (g a k : Nat) (f : Nat → Int32) : zg_wl G g a k f = (List.range (zg_rd G g)).flatMap (fun x => (List.range (zg_sp G g k)).map (zg_en G g a k f x)) := by
  unfold zg_wl zg_rd zg_en zg_im
  cases z : zg_par G g with
  | true => simp
  | false =>
    have : zg_sp G g k = k := by unfold zg_sp; rw [z]; rfl
    rw [this]
    rfl
/-- what is left to write at x, j -/
def zg_rem (N n : Nat) (en : Nat → Nat → Nat × Nat × (Nat → Int32)) (x j : Nat) : List (Nat × Nat × (Nat → Int32)) := (List.range' j (n - j)).map (en x) ++ (List.range' (x + 1) (N - (x + 1))).flatMap (fun y => (List.range n).map (en y))
theorem zg_rem_0 {N n : Nat} {en : Nat → Nat → Nat × Nat × (Nat → Int32)} (hN : 0 < N) : (List.range N).flatMap (fun x => (List.range n).map (en x)) = zg_rem N n en 0 0 := by
  unfold zg_rem
  rw [List.range_eq_range', List.range_eq_range']
  obtain ⟨k, rfl⟩ : ∃ k, N = k + 1 := ⟨N - 1, by omega⟩
  rw [show k + 1 - (0 + 1) = k by omega, List.range'_succ]
  rfl
theorem zg_rem_S {N n : Nat} {en : Nat → Nat → Nat × Nat × (Nat → Int32)} {x j : Nat} (hj : j < n) : zg_rem N n en x j = en x j :: zg_rem N n en x (j + 1) := by
  unfold zg_rem
  obtain ⟨k, hk⟩ : ∃ k, n - j = k + 1 := ⟨n - j - 1, by omega⟩
  rw [hk, show n - (j + 1) = k by omega, List.range'_succ]
  rfl
theorem zg_rem_n {N n : Nat} {en : Nat → Nat → Nat × Nat × (Nat → Int32)} {x : Nat} (hx : x + 1 < N) : zg_rem N n en x n = zg_rem N n en (x + 1) 0 := by
  unfold zg_rem
  obtain ⟨k, hk⟩ : ∃ k, N - (x + 1) = k + 1 := ⟨N - (x + 1) - 1, by omega⟩
  rw [hk, show N - (x + 1 + 1) = k by omega, List.range'_succ, Nat.sub_self, Nat.sub_zero, List.range_eq_range']
  rfl
theorem zg_rem_e {N n : Nat} {en : Nat → Nat → Nat × Nat × (Nat → Int32)} {x : Nat} (hx : ¬ x + 1 < N) : zg_rem N n en x n = [] := by
  unfold zg_rem
  rw [Nat.sub_self, show N - (x + 1) = 0 by omega]
  rfl
def zp_go (mend : Bool) (P : zP) (l : List (Nat × Nat × (Nat → Int32))) : zP × Bool := if mend then zp_men P l else zp_lay P l
theorem zp_go_nil (mend : Bool) (P : zP) : zp_go mend P [] = (P, true) := by cases mend <;> rfl
theorem zp_ri_8 {P : zP} {d s : Nat} {f : Nat → Int32} : zp_ri P d s f = true ↔ (zp_dead P d s = false ∧ zp_stale P d s = false) ∧ ∀ i, i < 8 → zp_by P d (8 * s + i) = f i := by
  unfold zp_ri
  rw [Bool.and_eq_true, Bool.and_eq_true, List.all_eq_true]
  simp only [Bool.not_eq_true', List.mem_range, decide_eq_true_eq]
theorem zp_wr_nd (P : zP) (d s : Nat) (f : Nat → Int32) : zp_nd (zp_wr P d s f).1 = zp_nd P ∧ zp_sec (zp_wr P d s f).1 = zp_sec P := by
  unfold zp_wr
  split
  · exact ⟨rfl, rfl⟩
  · split <;> exact ⟨rfl, rfl⟩
section TC
variable {h : hh_T} {m : Nat} {Q : Option Value ⊕ Nat → hh_T → Prop} {S : zS}
theorem zp_wr_c {P : zP} {d s : Nat} {f f' : Nat → Int32} (ht : zp_tear P ≤ 8) (e : ∀ i, i < 8 → f i = f' i) : zp_wr P d s f = zp_wr P d s f' := by
  have hp : ∀ n, n ≤ 8 → zp_put P d s n f = zp_put P d s n f' := by
    intro n hn
    unfold zp_put
    congr 1
    funext x j
    by_cases z : x = d ∧ 8 * s ≤ j ∧ j < 8 * s + n
    · rw [if_pos z, if_pos z, e _ (by omega)]
    · rw [if_neg z, if_neg z]
  unfold zp_wr
  rw [hp _ ht, hp 8 (by omega)]
theorem zg_im_b {G : zG} {g k : Nat} {f : Nat → Int32} (hf : ∀ x, gy_b (f x)) (j i : Nat) : gy_b (zg_im G g k f j i) := by
  unfold zg_im
  split
  · unfold zi_x
    split
    · exact gy_b_of _
    · exact hf _
  · exact hf _
def oW : List Nat := [6, 8, 9, 10, 16]
def fW : List Nat := [15, 17, 18]
theorem t_writeCopy {b c g a k : Nat} {mend : Bool} (R : rT0 h m S) (w : gy_wf h) (K : zg_ok (zs_P S) (zs_G S)) (hb : b < 640) (hc : c < 2) (hg : g < zg_ng (zs_G S)) (eg : hh_i h (m + 23) (2 * b + c) = (Int32.ofNat g)) (ea : hh_i h (m + 24) (2 * b + c) = (Int32.ofNat a)) (hk : hh_i h (m + 21) b = (Int32.ofNat k)) (hk1 : 1 ≤ k) (hk4 : k ≤ 4) (hpl : a + zg_sp (zs_G S) g k ≤ zg_pl (zs_G S) g)
    (H1 : ∀ f, f = (fun x => if mend then hh_i h (m + 35) x else hh_i h (m + 26) (32 * b + x)) → (zp_go mend (zs_P S) (zg_wl (zs_G S) g a k f)).2 = true → ∀ h', fr (tO m oW fW) h h' → rT_P h' m (zp_go mend (zs_P S) (zg_wl (zs_G S) g a k f)).1 → Q (.inl (some (.int (Int32.ofNat 1)))) h')
    (H2 : ∀ f, f = (fun x => if mend then hh_i h (m + 35) x else hh_i h (m + 26) (32 * b + x)) → (zp_go mend (zs_P S) (zg_wl (zs_G S) g a k f)).2 = false → ∀ h', rTx h' m (zs_fall (zs_P_ S (zp_go mend (zs_P S) (zg_wl (zs_G S) g a k f)).1)) → fr (tO m (oW ++ oFall) (fW ++ fFall)) h h' → Q (.inl (some (.int (Int32.ofNat 0)))) h') : gm_G 413 0 [some (.ref m), some (.int (Int32.ofNat b)), some (.int (Int32.ofNat c)), some (.int (bi mend))] [] h Q := by
  obtain ⟨k0, k1, k2, k3, k4, k5⟩ := id K
  obtain ⟨c1, c2, c3, c4, c5, c6, c7⟩ := k1 g hg
  obtain ⟨r1, r2, r3, r4⟩ := id R.2.2.2.1
  obtain ⟨s1, s2, s3, s4, s5⟩ := r3 g hg
  have hk2 := zg_ki_le (zs_G S) g
  have hT := R.1
  obtain ⟨f, hf⟩ : ∃ f : Nat → Int32, f = (fun x => if mend then hh_i h (m + 35) x else hh_i h (m + 26) (32 * b + x)) := ⟨_, rfl⟩
  replace H1 := H1 f hf
  replace H2 := H2 f hf
  have hsp : zg_sp (zs_G S) g k ≤ 16 := by
    unfold zg_sp
    cases z : zg_par (zs_G S) g with
    | false => simp; omega
    | true =>
      obtain ⟨d1, d2, d3⟩ := c5 z
      have : (k + (zg_many (zs_G S) g - zg_chk (zs_G S) g) - 1) / (zg_many (zs_G S) g - zg_chk (zs_G S) g) ≤ 4 := by
        rw [Nat.div_le_iff_le_mul_add_pred (by omega)]
        have : 1 * 4 ≤ (zg_many (zs_G S) g - zg_chk (zs_G S) g) * 4 := Nat.mul_le_mul_right 4 (by omega)
        omega
      have := Nat.mul_le_mul d2 this
      simp
      omega
  have hsp1 : 1 ≤ zg_sp (zs_G S) g k := by unfold zg_sp; split <;> omega
  -- where a sector lies
  have hpl' : zg_pl (zs_G S) g ≤ 384 := by
    unfold zg_pl
    split
    · exact Nat.mul_le_mul c2 c4
    · omega
  have loc : ∀ x j, x < zg_rd (zs_G S) g → j < zg_sp (zs_G S) g k → (zg_en (zs_G S) g a k f x j).1 < zp_nd (zs_P S) ∧ (zg_en (zs_G S) g a k f x j).2.1 < 64 := by
    intro x j hx hj
    unfold zg_en
    unfold zg_rd at hx
    unfold zg_pl at hpl
    cases z : zg_par (zs_G S) g with
    | true =>
      rw [z] at hpl
      simp at hpl ⊢
      refine ⟨(c7 _ (Nat.mod_lt _ (by omega))).1, ?_⟩
      have : (a + j) / zg_many (zs_G S) g < zg_len (zs_G S) g := by
        rw [Nat.div_lt_iff_lt_mul (by omega), Nat.mul_comm]
        omega
      omega
    | false =>
      rw [z] at hpl hx
      simp at hpl hx ⊢
      exact ⟨(c7 x hx).1, by omega⟩
  -- the loop
  have main : ∀ h0, fr (tO m [16] []) h h0 → (∀ j i, j < zg_sp (zs_G S) g k → i < 8 → hh_i h0 (m + 16) (8 * j + i) = zg_im (zs_G S) g k f j i) → gm_G 413 58 [some (.ref m), none, none, some (.int (bi mend)), some (.int (Int32.ofNat g)), some (.int (Int32.ofNat a))] [.int (Int32.ofNat (zg_sp (zs_G S) g k))] h0 Q := by
    intro h0 f0 him
    have hfb : ∀ x, gy_b (f x) := fun x => by
      rw [hf]
      show gy_b (if mend = true then hh_i h (m + 35) x else hh_i h (m + 26) (32 * b + x))
      split
      · exact w.2.1 _ _ (hT.2.2 35 (by decide)).1
      · exact w.2.1 _ _ (hT.2.2 26 (by decide)).1
    have R0 : rT0 h0 m S := R.oN (f0.up rfl rfl)
    have lp : ∀ e x j h1 P1, (zg_rd (zs_G S) g - x) * 17 + (17 - j) = e → x < zg_rd (zs_G S) g → j ≤ zg_sp (zs_G S) g k → fr (tO m [6, 8, 9, 10] fW) h0 h1 → rT_P h1 m P1 → zp_nd P1 = zp_nd (zs_P S) → zp_go mend P1 (zg_rem (zg_rd (zs_G S) g) (zg_sp (zs_G S) g k) (zg_en (zs_G S) g a k f) x j) = zp_go mend (zs_P S) (zg_wl (zs_G S) g a k f) → gm_G 413 97 [some (.ref m), none, none, some (.int (bi mend)), some (.int (Int32.ofNat g)), some (.int (Int32.ofNat a)), some (.int (Int32.ofNat ((zg_sp (zs_G S) g k)))), some (.int (Int32.ofNat ((zg_rd (zs_G S) g)))), some (.int (Int32.ofNat x)), some (.int (Int32.ofNat j))] [] h1 Q := by
      intro e
      induction e using Nat.strongRecOn with
      | ind e IH =>
      intro x j h1 P1 em hx hj f1 RP hnd hres
      have R1 : rT0 h1 m (zs_P_ S P1) := R0.oP (f1.up rfl rfl) RP
      obtain ⟨p1, p2, p3, p4, p5, p6, p7, p8, p9, p10⟩ := id RP
      have g1 := f1.arr (o := 11) rfl
      have g2 := f1.arr (o := 13) rfl
      have g3 := f1.arr (o := 15) rfl
      have y1 := f0.arr (o := 11) rfl
      have y2 := f0.arr (o := 13) rfl
      have y3 := f0.arr (o := 15) rfl
      by_cases hj2 : j < zg_sp (zs_G S) g k
      · obtain ⟨l1, l2⟩ := loc x j hx hj2
        rw [zg_rem_S hj2] at hres
        obtain ⟨d, hd⟩ : ∃ d, d = (zg_en (zs_G S) g a k f x j).1 := ⟨_, rfl⟩
        obtain ⟨s, hs⟩ : ∃ s, s = (zg_en (zs_G S) g a k f x j).2.1 := ⟨_, rfl⟩
        have he : ∀ i, i < 8 → hh_i h1 (m + 16) (8 * j + i) = (zg_en (zs_G S) g a k f x j).2.2 i := fun i hi => by
          rw [f1.arr (o := 16) rfl, him j i hj2 hi]
          unfold zg_en
          split <;> rfl
        have heb : ∀ i, i < 8 → gy_b (hh_i h1 (m + 16) (8 * j + i)) := fun i hi => by
          rw [f1.arr (o := 16) rfl, him j i hj2 hi]
          exact zg_im_b hfb j i
        rw [← hd] at l1
        rw [← hs] at l2
        have t16 : hh_tg h1 (m + 16) = 101 ∧ hh_ln h1 (m + 16) = 256 := R1.1.2.2 16 (by decide)
        -- on to the next sector
        have nx : ∀ h2 P2, fr (tO m [6, 8, 9, 10] fW) h1 h2 → rT_P h2 m P2 → zp_nd P2 = zp_nd (zs_P S) → zp_go mend P2 (zg_rem (zg_rd (zs_G S) g) (zg_sp (zs_G S) g k) (zg_en (zs_G S) g a k f) x (j + 1)) = zp_go mend (zs_P S) (zg_wl (zs_G S) g a k f) → gm_G 413 352 [some (.ref m), none, none, some (.int (bi mend)), some (.int (Int32.ofNat g)), some (.int (Int32.ofNat a)), some (.int (Int32.ofNat ((zg_sp (zs_G S) g k)))), some (.int (Int32.ofNat ((zg_rd (zs_G S) g)))), some (.int (Int32.ofNat x)), some (.int (Int32.ofNat j))] [] h2 Q := by
          intro h2 P2 f2 RP2 hn2 hr2
          refine w_413_352 (R1.1.fr f2) ?_
          rw [i_add]
          exact IH (e - 1) (by omega) x (j + 1) h2 P2 (by omega) hx (by omega) (f1.trans f2) RP2 hn2 hr2
        -- the sector is written
        have wr : (mend = true → ¬ (zp_here P1 d = false ∨ zp_ri P1 d s (zg_en (zs_G S) g a k f x j).2.2 = true)) → gm_G 413 316 [some (.ref m), none, none, some (.int (bi mend)), some (.int (Int32.ofNat g)), some (.int (Int32.ofNat a)), some (.int (Int32.ofNat ((zg_sp (zs_G S) g k)))), some (.int (Int32.ofNat ((zg_rd (zs_G S) g)))), some (.int (Int32.ofNat x)), some (.int (Int32.ofNat j)), some (.int (Int32.ofNat d)), some (.int (Int32.ofNat s))] [] h1 Q := by
          intro hm
          have ec := zp_wr_c (P := P1) (d := d) (s := s) (f := fun i => hh_i h1 (m + 16) (8 * j + i)) (f' := (zg_en (zs_G S) g a k f x j).2.2) (by omega) he
          refine w_413_316 R1.1 ?_
          rw [i_mul]
          refine t_wrSec (S := zs_P_ S P1) R1 (by omega) l2 t16.1 (by rw [t16.2]; omega) (by rw [t16.2]; decide) heb (by omega) (fun hw h2 f2 N2 => ?_) (fun hw h2 R2 f2 => ?_)
          · have hw : (zp_wr P1 d s (fun i => hh_i h1 (m + 16) (8 * j + i))).2 = true := hw
            have N2 : rT_P h2 m (zp_wr P1 d s (fun i => hh_i h1 (m + 16) (8 * j + i))).1 := N2
            rw [ec] at hw N2
            refine ⟨fun _ => ⟨fun z => ?_, fun z => ?_⟩, fun z => absurd z (by decide)⟩
            · have hmf : mend = false := bi_0.mp z
              refine nx h2 _ (f2.up rfl rfl) N2 (by rw [(zp_wr_nd _ _ _ _).1]; exact hnd) ?_
              rw [← hres]
              subst hmf
              show zp_lay _ _ = zp_lay _ (_ :: _)
              rw [zp_lay, ← hd, ← hs, if_pos hw]
            · have hmt : mend = true := bi_n.mp z
              intro h3 e3
              subst e3
              have N3 : rT_P (hh_wi h2 m 18 (hh_i h2 m 18 + (Int32.ofNat 1))) m (zp_mended_ (zp_wr P1 d s (zg_en (zs_G S) g a k f x j).2.2).1 (zp_mended (zp_wr P1 d s (zg_en (zs_G S) g a k f x j).2.2).1 + (Int32.ofNat 1))) := by
                obtain ⟨q1, q2, q3, q4, q5, q6, q7, q8, q9, q10⟩ := N2
                have f3 : fr (tO m [] [18]) h2 (hh_wi h2 m 18 (hh_i h2 m 18 + (Int32.ofNat 1))) := fr.f rfl
                unfold rT_P
                simp only [f3.arr (o := 4) rfl, f3.arr (o := 6) rfl, f3.arr (o := 7) rfl, f3.arr (o := 8) rfl, f3.arr (o := 9) rfl, f3.arr (o := 10) rfl, f3.fld (f := 7) rfl, f3.fld (f := 15) rfl, f3.fld (f := 16) rfl, f3.fld (f := 17) rfl]
                exact ⟨q1, q2, q3, q4, q5, q6, q7, q8, q9, by rw [hi_e ⟨rfl, rfl⟩, q10]; rfl⟩
              refine nx _ _ ((f2.up rfl rfl).trans (fr.f rfl)) N3 (by show zp_nd (zp_wr P1 d s _).1 = _; rw [(zp_wr_nd _ _ _ _).1]; exact hnd) ?_
              rw [← hres]
              have hm' := hm hmt
              subst hmt
              show zp_men _ _ = zp_men _ (_ :: _)
              rw [zp_men, ← hd, ← hs, if_neg hm', if_pos hw]
          · have hw : (zp_wr P1 d s (fun i => hh_i h1 (m + 16) (8 * j + i))).2 = false := hw
            have R2 : rTx h2 m (zs_fall (zs_P_ (zs_P_ S P1) (zp_wr P1 d s (fun i => hh_i h1 (m + 16) (8 * j + i))).1)) := R2
            rw [ec] at hw R2
            have er : zp_go mend (zs_P S) (zg_wl (zs_G S) g a k f) = ((zp_wr P1 d s (zg_en (zs_G S) g a k f x j).2.2).1, false) := by
              rw [← hres]
              cases hmm : mend with
              | false =>
                show zp_lay _ (_ :: _) = _
                rw [zp_lay, ← hd, ← hs, if_neg (by rw [hw]; decide)]
              | true =>
                show zp_men _ (_ :: _) = _
                rw [zp_men, ← hd, ← hs, if_neg (hm hmm), if_neg (by rw [hw]; decide)]
            refine ⟨fun z => absurd rfl z, fun _ => H2 (by rw [er]) h2 ?_ (((f0.up rfl rfl).trans (f1.up rfl rfl)).trans (f2.up rfl rfl))⟩
            rw [er]
            exact R2
        -- whether it must be
        have ask : gm_G 413 189 [some (.ref m), none, none, some (.int (bi mend)), some (.int (Int32.ofNat g)), some (.int (Int32.ofNat a)), some (.int (Int32.ofNat ((zg_sp (zs_G S) g k)))), some (.int (Int32.ofNat ((zg_rd (zs_G S) g)))), some (.int (Int32.ofNat x)), some (.int (Int32.ofNat j)), some (.int (Int32.ofNat d))] [.int (Int32.ofNat s)] h1 Q := by
          refine w_413_189 R1.1 ?_
          cases hmm : mend with
          | false =>
            rw [hmm] at wr
            exact ⟨fun _ => wr (fun z => by cases z), fun z => absurd rfl z⟩
          | true =>
            rw [hmm] at wr nx
            obtain ⟨q1, -, q3, q4⟩ := p4 d (by omega)
            obtain ⟨q5, q6⟩ := q3 s l2
            -- behind the look
            have beh : ∀ gd : Bool, (gd = true ↔ zp_ri P1 d s (zg_en (zs_G S) g a k f x j).2.2 = true) → gm_G 413 298 [some (.ref m), none, none, some (.int (bi true)), some (.int (Int32.ofNat g)), some (.int (Int32.ofNat a)), some (.int (Int32.ofNat ((zg_sp (zs_G S) g k)))), some (.int (Int32.ofNat ((zg_rd (zs_G S) g)))), some (.int (Int32.ofNat x)), some (.int (Int32.ofNat j)), some (.int (Int32.ofNat d)), some (.int (Int32.ofNat s)), some (.int (bi gd))] [] h1 Q := by
              intro gd hgd
              have skip : (zp_here P1 d = false ∨ zp_ri P1 d s (zg_en (zs_G S) g a k f x j).2.2 = true) → gm_G 413 352 [some (.ref m), none, none, some (.int (bi true)), some (.int (Int32.ofNat g)), some (.int (Int32.ofNat a)), some (.int (Int32.ofNat ((zg_sp (zs_G S) g k)))), some (.int (Int32.ofNat ((zg_rd (zs_G S) g)))), some (.int (Int32.ofNat x)), some (.int (Int32.ofNat j))] [] h1 Q := by
                intro y
                refine nx h1 P1 (fr.refl _ _) RP hnd ?_
                rw [← hmm, ← hres, hmm]
                show zp_men _ _ = zp_men _ (_ :: _)
                rw [zp_men, ← hd, ← hs, if_pos y]
              refine w_413_298 R1.1 ?_
              cases hh : zp_here P1 d with
              | false =>
                rw [hh] at q1
                have q1 : hh_i h1 (m + 7) d = (Int32.ofNat 1) := q1
                simp (disch := omega) only [forall_eq, exists_eq_left, exists_eq_left', Option.some.injEq, ex_ix, i_add, i_mul, i_sub, i_lt, i_le, i_eq, i_tn, hi_e, hi_n, hj_e, hj_n, hi_wj, hj_wi, hr_wi, hr_wj, ht_wi, ht_wj, hl_wi, hl_wj, hz_wi, hz_wj, hs_wi, hs_wj, hi_wr, hj_wr, hr_e, hr_n, ht_wr, hl_wr, hz_wr, hs_wr, n_lt_t, n_lt_f, n_le_t, n_le_f, n_eq_t, n_eq_f, true_and, and_true, false_and, and_false, true_or, or_true, false_or, or_false, not_true_eq_false, not_false_eq_true, forall_const, implies_true, true_imp_iff, false_imp_iff, gs_t, reduceIte, ite_true, ite_false, q1]
                exact skip (Or.inl hh)
              | true =>
                rw [hh] at q1
                have q1 : hh_i h1 (m + 7) d = (Int32.ofNat 0) := q1
                cases gd with
                | true =>
                  simp (disch := omega) only [forall_eq, exists_eq_left, exists_eq_left', Option.some.injEq, ex_ix, i_add, i_mul, i_sub, i_lt, i_le, i_eq, i_tn, hi_e, hi_n, hj_e, hj_n, hi_wj, hj_wi, hr_wi, hr_wj, ht_wi, ht_wj, hl_wi, hl_wj, hz_wi, hz_wj, hs_wi, hs_wj, hi_wr, hj_wr, hr_e, hr_n, ht_wr, hl_wr, hz_wr, hs_wr, n_lt_t, n_lt_f, n_le_t, n_le_f, n_eq_t, n_eq_f, true_and, and_true, false_and, and_false, true_or, or_true, false_or, or_false, not_true_eq_false, not_false_eq_true, forall_const, implies_true, true_imp_iff, false_imp_iff, gs_t, reduceIte, ite_true, ite_false, q1, bi_t]
                  exact skip (Or.inr (hgd.mp rfl))
                | false =>
                  simp (disch := omega) only [forall_eq, exists_eq_left, exists_eq_left', Option.some.injEq, ex_ix, i_add, i_mul, i_sub, i_lt, i_le, i_eq, i_tn, hi_e, hi_n, hj_e, hj_n, hi_wj, hj_wi, hr_wi, hr_wj, ht_wi, ht_wj, hl_wi, hl_wj, hz_wi, hz_wj, hs_wi, hs_wj, hi_wr, hj_wr, hr_e, hr_n, ht_wr, hl_wr, hz_wr, hs_wr, n_lt_t, n_lt_f, n_le_t, n_le_f, n_eq_t, n_eq_f, true_and, and_true, false_and, and_false, true_or, or_true, false_or, or_false, not_true_eq_false, not_false_eq_true, forall_const, implies_true, true_imp_iff, false_imp_iff, gs_t, reduceIte, ite_true, ite_false, q1, bi_f]
                  refine wr (fun _ y => ?_)
                  rcases y with y | y
                  · rw [hh] at y; cases y
                  · exact absurd (hgd.mpr y) (by decide)
            -- the look at its bytes
            have lk : ∀ d' i (gd : Bool), i + d' = 8 → (gd = true ↔ (zp_dead P1 d s = false ∧ zp_stale P1 d s = false) ∧ ∀ t, t < i → zp_by P1 d (8 * s + t) = (zg_en (zs_G S) g a k f x j).2.2 t) → gm_G 413 237 [some (.ref m), none, none, some (.int (bi true)), some (.int (Int32.ofNat g)), some (.int (Int32.ofNat a)), some (.int (Int32.ofNat ((zg_sp (zs_G S) g k)))), some (.int (Int32.ofNat ((zg_rd (zs_G S) g)))), some (.int (Int32.ofNat x)), some (.int (Int32.ofNat j)), some (.int (Int32.ofNat d)), some (.int (Int32.ofNat s)), some (.int (bi gd)), some (.int (Int32.ofNat i))] [] h1 Q := by
              intro d'
              induction d' with
              | zero =>
                intro i gd ei hgd
                have ei : i = 8 := by omega
                subst ei
                refine w_413_237 R1.1 ?_
                simp (disch := omega) only [forall_eq, exists_eq_left, exists_eq_left', Option.some.injEq, ex_ix, i_add, i_mul, i_sub, i_lt, i_le, i_eq, i_tn, hi_e, hi_n, hj_e, hj_n, hi_wj, hj_wi, hr_wi, hr_wj, ht_wi, ht_wj, hl_wi, hl_wj, hz_wi, hz_wj, hs_wi, hs_wj, hi_wr, hj_wr, hr_e, hr_n, ht_wr, hl_wr, hz_wr, hs_wr, n_lt_t, n_lt_f, n_le_t, n_le_f, n_eq_t, n_eq_f, true_and, and_true, false_and, and_false, true_or, or_true, false_or, or_false, not_true_eq_false, not_false_eq_true, forall_const, implies_true, true_imp_iff, false_imp_iff, gs_t, reduceIte, ite_true, ite_false]
                exact beh gd (by rw [hgd, zp_ri_8])
              | succ d' ih =>
                intro i gd ei hgd
                refine w_413_237 R1.1 ?_
                cases gd with
                | false =>
                  simp (disch := omega) only [forall_eq, exists_eq_left, exists_eq_left', Option.some.injEq, ex_ix, i_add, i_mul, i_sub, i_lt, i_le, i_eq, i_tn, hi_e, hi_n, hj_e, hj_n, hi_wj, hj_wi, hr_wi, hr_wj, ht_wi, ht_wj, hl_wi, hl_wj, hz_wi, hz_wj, hs_wi, hs_wj, hi_wr, hj_wr, hr_e, hr_n, ht_wr, hl_wr, hz_wr, hs_wr, n_lt_t, n_lt_f, n_le_t, n_le_f, n_eq_t, n_eq_f, true_and, and_true, false_and, and_false, true_or, or_true, false_or, or_false, not_true_eq_false, not_false_eq_true, forall_const, implies_true, true_imp_iff, false_imp_iff, gs_t, reduceIte, ite_true, ite_false, bi_f]
                  refine beh false ⟨fun z => (by cases z), fun z => ?_⟩
                  rw [zp_ri_8] at z
                  exact hgd.mpr ⟨z.1, fun t ht => z.2 t (by omega)⟩
                | true =>
                  have v1 := q4 (8 * s + i) (by omega)
                  have e5 : 512 * d + 8 * s + i = 512 * d + (8 * s + i) := by omega
                  simp (disch := omega) only [forall_eq, exists_eq_left, exists_eq_left', Option.some.injEq, ex_ix, i_add, i_mul, i_sub, i_lt, i_le, i_eq, i_tn, hi_e, hi_n, hj_e, hj_n, hi_wj, hj_wi, hr_wi, hr_wj, ht_wi, ht_wj, hl_wi, hl_wj, hz_wi, hz_wj, hs_wi, hs_wj, hi_wr, hj_wr, hr_e, hr_n, ht_wr, hl_wr, hz_wr, hs_wr, n_lt_t, n_lt_f, n_le_t, n_le_f, n_eq_t, n_eq_f, true_and, and_true, false_and, and_false, true_or, or_true, false_or, or_false, not_true_eq_false, not_false_eq_true, forall_const, implies_true, true_imp_iff, false_imp_iff, gs_t, reduceIte, ite_true, ite_false, bi_t, e5, v1, he i (by omega)]
                  by_cases y : zp_by P1 d (8 * s + i) = (zg_en (zs_G S) g a k f x j).2.2 i
                  · simp (disch := omega) only [forall_eq, exists_eq_left, exists_eq_left', Option.some.injEq, ex_ix, i_add, i_mul, i_sub, i_lt, i_le, i_eq, i_tn, hi_e, hi_n, hj_e, hj_n, hi_wj, hj_wi, hr_wi, hr_wj, ht_wi, ht_wj, hl_wi, hl_wj, hz_wi, hz_wj, hs_wi, hs_wj, hi_wr, hj_wr, hr_e, hr_n, ht_wr, hl_wr, hz_wr, hs_wr, n_lt_t, n_lt_f, n_le_t, n_le_f, n_eq_t, n_eq_f, true_and, and_true, false_and, and_false, true_or, or_true, false_or, or_false, not_true_eq_false, not_false_eq_true, forall_const, implies_true, true_imp_iff, false_imp_iff, gs_t, reduceIte, ite_true, ite_false, y]
                    refine w_413_290 R1.1 ?_
                    rw [i_add]
                    refine ih (i + 1) true (by omega) ⟨fun _ => ⟨(hgd.mp rfl).1, fun t ht => ?_⟩, fun _ => rfl⟩
                    by_cases u : t = i
                    · subst u; exact y
                    · exact (hgd.mp rfl).2 t (by omega)
                  · simp (disch := omega) only [forall_eq, exists_eq_left, exists_eq_left', Option.some.injEq, ex_ix, i_add, i_mul, i_sub, i_lt, i_le, i_eq, i_tn, hi_e, hi_n, hj_e, hj_n, hi_wj, hj_wi, hr_wi, hr_wj, ht_wi, ht_wj, hl_wi, hl_wj, hz_wi, hz_wj, hs_wi, hs_wj, hi_wr, hj_wr, hr_e, hr_n, ht_wr, hl_wr, hz_wr, hs_wr, n_lt_t, n_lt_f, n_le_t, n_le_f, n_eq_t, n_eq_f, true_and, and_true, false_and, and_false, true_or, or_true, false_or, or_false, not_true_eq_false, not_false_eq_true, forall_const, implies_true, true_imp_iff, false_imp_iff, gs_t, reduceIte, ite_true, ite_false, y]
                    refine w_413_290 R1.1 ?_
                    rw [i_add]
                    exact ih (i + 1) false (by omega) ⟨fun z => (by cases z), fun z => absurd (z.2 i (by omega)) y⟩
            have go : ∀ gd : Bool, (gd = true ↔ (zp_dead P1 d s = false ∧ zp_stale P1 d s = false)) → gm_G 413 232 [some (.ref m), none, none, some (.int (bi true)), some (.int (Int32.ofNat g)), some (.int (Int32.ofNat a)), some (.int (Int32.ofNat ((zg_sp (zs_G S) g k)))), some (.int (Int32.ofNat ((zg_rd (zs_G S) g)))), some (.int (Int32.ofNat x)), some (.int (Int32.ofNat j)), some (.int (Int32.ofNat d)), some (.int (Int32.ofNat s))] [.int (bi gd)] h1 Q := by
              intro gd hgd
              exact w_413_232 R1.1 (lk 8 0 gd (by omega) (by rw [hgd]; exact ⟨fun z => ⟨z, fun t ht => by omega⟩, fun z => z.1⟩))
            cases hde : zp_dead P1 d s with
            | true =>
              rw [hde] at q5
              have q5 : hh_i h1 (m + 8) (64 * d + s) = (Int32.ofNat 1) := q5
              simp (disch := omega) only [forall_eq, exists_eq_left, exists_eq_left', Option.some.injEq, ex_ix, i_add, i_mul, i_sub, i_lt, i_le, i_eq, i_tn, hi_e, hi_n, hj_e, hj_n, hi_wj, hj_wi, hr_wi, hr_wj, ht_wi, ht_wj, hl_wi, hl_wj, hz_wi, hz_wj, hs_wi, hs_wj, hi_wr, hj_wr, hr_e, hr_n, ht_wr, hl_wr, hz_wr, hs_wr, n_lt_t, n_lt_f, n_le_t, n_le_f, n_eq_t, n_eq_f, true_and, and_true, false_and, and_false, true_or, or_true, false_or, or_false, not_true_eq_false, not_false_eq_true, forall_const, implies_true, true_imp_iff, false_imp_iff, gs_t, reduceIte, ite_true, ite_false, bi_t, q5]
              exact w_413_231 R1.1 (go false (by rw [hde]; simp))
            | false =>
              rw [hde] at q5
              have q5 : hh_i h1 (m + 8) (64 * d + s) = (Int32.ofNat 0) := q5
              cases hst : zp_stale P1 d s with
              | true =>
                rw [hst] at q6
                have q6 : hh_i h1 (m + 9) (64 * d + s) = (Int32.ofNat 1) := q6
                simp (disch := omega) only [forall_eq, exists_eq_left, exists_eq_left', Option.some.injEq, ex_ix, i_add, i_mul, i_sub, i_lt, i_le, i_eq, i_tn, hi_e, hi_n, hj_e, hj_n, hi_wj, hj_wi, hr_wi, hr_wj, ht_wi, ht_wj, hl_wi, hl_wj, hz_wi, hz_wj, hs_wi, hs_wj, hi_wr, hj_wr, hr_e, hr_n, ht_wr, hl_wr, hz_wr, hs_wr, n_lt_t, n_lt_f, n_le_t, n_le_f, n_eq_t, n_eq_f, true_and, and_true, false_and, and_false, true_or, or_true, false_or, or_false, not_true_eq_false, not_false_eq_true, forall_const, implies_true, true_imp_iff, false_imp_iff, gs_t, reduceIte, ite_true, ite_false, bi_t, q5, q6]
                exact w_413_231 R1.1 (go false (by rw [hde, hst]; simp))
              | false =>
                rw [hst] at q6
                have q6 : hh_i h1 (m + 9) (64 * d + s) = (Int32.ofNat 0) := q6
                simp (disch := omega) only [forall_eq, exists_eq_left, exists_eq_left', Option.some.injEq, ex_ix, i_add, i_mul, i_sub, i_lt, i_le, i_eq, i_tn, hi_e, hi_n, hj_e, hj_n, hi_wj, hj_wi, hr_wi, hr_wj, ht_wi, ht_wj, hl_wi, hl_wj, hz_wi, hz_wj, hs_wi, hs_wj, hi_wr, hj_wr, hr_e, hr_n, ht_wr, hl_wr, hz_wr, hs_wr, n_lt_t, n_lt_f, n_le_t, n_le_f, n_eq_t, n_eq_f, true_and, and_true, false_and, and_false, true_or, or_true, false_or, or_false, not_true_eq_false, not_false_eq_true, forall_const, implies_true, true_imp_iff, false_imp_iff, gs_t, reduceIte, ite_true, ite_false, bi_t, q5, q6]
                exact go true (by rw [hde, hst]; simp)
        -- disk and sector
        refine w_413_97 R1.1 ?_
        cases z : zg_par (zs_G S) g with
        | true =>
          have e2 : zg_ki (zs_G S) g = 2 := zg_ki_2.mpr z
          have hmd : (a + j) % zg_many (zs_G S) g < zg_many (zs_G S) g := Nat.mod_lt _ (by omega)
          have ed : d = zg_dsk (zs_G S) g ((a + j) % zg_many (zs_G S) g) := by rw [hd]; unfold zg_en; rw [z]; rfl
          have es : s = (a + j) / zg_many (zs_G S) g := by rw [hs]; unfold zg_en; rw [z]; rfl
          have e0 : ¬ (Int32.ofNat (zg_many (zs_G S) g)) = 0 := fun q => by
            have : zg_many (zs_G S) g = 0 := (i_eq (by omega) (by decide)).mp q
            omega
          simp (disch := omega) only [forall_eq, exists_eq_left, exists_eq_left', Option.some.injEq, ex_ix, i_add, i_mul, i_sub, i_lt, i_le, i_eq, i_tn, hi_e, hi_n, hj_e, hj_n, hi_wj, hj_wi, hr_wi, hr_wj, ht_wi, ht_wj, hl_wi, hl_wj, hz_wi, hz_wj, hs_wi, hs_wj, hi_wr, hj_wr, hr_e, hr_n, ht_wr, hl_wr, hz_wr, hs_wr, n_lt_t, n_lt_f, n_le_t, n_le_f, n_eq_t, n_eq_f, true_and, and_true, false_and, and_false, true_or, or_true, false_or, or_false, not_true_eq_false, not_false_eq_true, forall_const, implies_true, true_imp_iff, false_imp_iff, gs_t, reduceIte, ite_true, ite_false, g1, g2, g3, y1, y2, y3, s1, s3, e2, ne_eq, e0, i_rem, s5 _ hmd]
          refine w_413_155 R1.1 ?_
          simp (disch := omega) only [forall_eq, exists_eq_left, exists_eq_left', Option.some.injEq, ex_ix, i_add, i_mul, i_sub, i_lt, i_le, i_eq, i_tn, hi_e, hi_n, hj_e, hj_n, hi_wj, hj_wi, hr_wi, hr_wj, ht_wi, ht_wj, hl_wi, hl_wj, hz_wi, hz_wj, hs_wi, hs_wj, hi_wr, hj_wr, hr_e, hr_n, ht_wr, hl_wr, hz_wr, hs_wr, n_lt_t, n_lt_f, n_le_t, n_le_f, n_eq_t, n_eq_f, true_and, and_true, false_and, and_false, true_or, or_true, false_or, or_false, not_true_eq_false, not_false_eq_true, forall_const, implies_true, true_imp_iff, false_imp_iff, gs_t, reduceIte, ite_true, ite_false, g1, g2, y1, y2, s1, s3, e2, ne_eq, e0, i_div]
          rw [← ed, ← es]
          exact ask
        | false =>
          have e2 : ¬ zg_ki (zs_G S) g = 2 := fun q => by rw [zg_ki_2, z] at q; cases q
          have hx' : x < zg_many (zs_G S) g := by unfold zg_rd at hx; rw [z] at hx; exact hx
          have ed : d = zg_dsk (zs_G S) g x := by rw [hd]; unfold zg_en; rw [z]; rfl
          have es : s = a + j := by rw [hs]; unfold zg_en; rw [z]; rfl
          simp (disch := omega) only [forall_eq, exists_eq_left, exists_eq_left', Option.some.injEq, ex_ix, i_add, i_mul, i_sub, i_lt, i_le, i_eq, i_tn, hi_e, hi_n, hj_e, hj_n, hi_wj, hj_wi, hr_wi, hr_wj, ht_wi, ht_wj, hl_wi, hl_wj, hz_wi, hz_wj, hs_wi, hs_wj, hi_wr, hj_wr, hr_e, hr_n, ht_wr, hl_wr, hz_wr, hs_wr, n_lt_t, n_lt_f, n_le_t, n_le_f, n_eq_t, n_eq_f, true_and, and_true, false_and, and_false, true_or, or_true, false_or, or_false, not_true_eq_false, not_false_eq_true, forall_const, implies_true, true_imp_iff, false_imp_iff, gs_t, reduceIte, ite_true, ite_false, g1, g2, g3, y1, y2, y3, s1, s3, s5 x hx']
          refine w_413_155 R1.1 ?_
          simp (disch := omega) only [forall_eq, exists_eq_left, exists_eq_left', Option.some.injEq, ex_ix, i_add, i_mul, i_sub, i_lt, i_le, i_eq, i_tn, hi_e, hi_n, hj_e, hj_n, hi_wj, hj_wi, hr_wi, hr_wj, ht_wi, ht_wj, hl_wi, hl_wj, hz_wi, hz_wj, hs_wi, hs_wj, hi_wr, hj_wr, hr_e, hr_n, ht_wr, hl_wr, hz_wr, hs_wr, n_lt_t, n_lt_f, n_le_t, n_le_f, n_eq_t, n_eq_f, true_and, and_true, false_and, and_false, true_or, or_true, false_or, or_false, not_true_eq_false, not_false_eq_true, forall_const, implies_true, true_imp_iff, false_imp_iff, gs_t, reduceIte, ite_true, ite_false, g1, g2, y1, y2, s1, s3]
          rw [← ed, ← es]
          exact ask
      · have ej : j = zg_sp (zs_G S) g k := by omega
        subst ej
        have hN : zg_rd (zs_G S) g ≤ 6 := by unfold zg_rd; split <;> omega
        refine w_413_97 R1.1 ?_
        simp (disch := omega) only [forall_eq, exists_eq_left, exists_eq_left', Option.some.injEq, ex_ix, i_add, i_mul, i_sub, i_lt, i_le, i_eq, i_tn, hi_e, hi_n, hj_e, hj_n, hi_wj, hj_wi, hr_wi, hr_wj, ht_wi, ht_wj, hl_wi, hl_wj, hz_wi, hz_wj, hs_wi, hs_wj, hi_wr, hj_wr, hr_e, hr_n, ht_wr, hl_wr, hz_wr, hs_wr, n_lt_t, n_lt_f, n_le_t, n_le_f, n_eq_t, n_eq_f, true_and, and_true, false_and, and_false, true_or, or_true, false_or, or_false, not_true_eq_false, not_false_eq_true, forall_const, implies_true, true_imp_iff, false_imp_iff, gs_t, reduceIte, ite_true, ite_false]
        by_cases hx2 : x + 1 < zg_rd (zs_G S) g
        · rw [zg_rem_n hx2] at hres
          refine w_413_87 R1.1 ?_
          simp (disch := omega) only [forall_eq, exists_eq_left, exists_eq_left', Option.some.injEq, ex_ix, i_add, i_mul, i_sub, i_lt, i_le, i_eq, i_tn, hi_e, hi_n, hj_e, hj_n, hi_wj, hj_wi, hr_wi, hr_wj, ht_wi, ht_wj, hl_wi, hl_wj, hz_wi, hz_wj, hs_wi, hs_wj, hi_wr, hj_wr, hr_e, hr_n, ht_wr, hl_wr, hz_wr, hs_wr, n_lt_t, n_lt_f, n_le_t, n_le_f, n_eq_t, n_eq_f, true_and, and_true, false_and, and_false, true_or, or_true, false_or, or_false, not_true_eq_false, not_false_eq_true, forall_const, implies_true, true_imp_iff, false_imp_iff, gs_t, reduceIte, ite_true, ite_false]
          exact IH _ (by omega) (x + 1) 0 h1 P1 rfl hx2 (by omega) f1 RP hnd hres
        · rw [zg_rem_e hx2, zp_go_nil] at hres
          refine w_413_87 R1.1 ?_
          simp (disch := omega) only [forall_eq, exists_eq_left, exists_eq_left', Option.some.injEq, ex_ix, i_add, i_mul, i_sub, i_lt, i_le, i_eq, i_tn, hi_e, hi_n, hj_e, hj_n, hi_wj, hj_wi, hr_wi, hr_wj, ht_wi, ht_wj, hl_wi, hl_wj, hz_wi, hz_wj, hs_wi, hs_wj, hi_wr, hj_wr, hr_e, hr_n, ht_wr, hl_wr, hz_wr, hs_wr, n_lt_t, n_lt_f, n_le_t, n_le_f, n_eq_t, n_eq_f, true_and, and_true, false_and, and_false, true_or, or_true, false_or, or_false, not_true_eq_false, not_false_eq_true, forall_const, implies_true, true_imp_iff, false_imp_iff, gs_t, reduceIte, ite_true, ite_false]
          refine H1 (by rw [← hres]) h1 ((f0.up rfl rfl).trans (f1.up rfl rfl)) ?_
          rw [← hres]
          exact RP
    have hN1 : 0 < zg_rd (zs_G S) g := by unfold zg_rd; split <;> omega
    have hN : zg_rd (zs_G S) g ≤ 6 := by unfold zg_rd; split <;> omega
    have go : gm_G 413 82 [some (.ref m), none, none, some (.int (bi mend)), some (.int (Int32.ofNat g)), some (.int (Int32.ofNat a)), some (.int (Int32.ofNat ((zg_sp (zs_G S) g k))))] [.int (Int32.ofNat (zg_rd (zs_G S) g))] h0 Q := by
      refine w_413_82 R0.1 (w_413_87 R0.1 ?_)
      simp (disch := omega) only [forall_eq, exists_eq_left, exists_eq_left', Option.some.injEq, ex_ix, i_add, i_mul, i_sub, i_lt, i_le, i_eq, i_tn, hi_e, hi_n, hj_e, hj_n, hi_wj, hj_wi, hr_wi, hr_wj, ht_wi, ht_wj, hl_wi, hl_wj, hz_wi, hz_wj, hs_wi, hs_wj, hi_wr, hj_wr, hr_e, hr_n, ht_wr, hl_wr, hz_wr, hs_wr, n_lt_t, n_lt_f, n_le_t, n_le_f, n_eq_t, n_eq_f, true_and, and_true, false_and, and_false, true_or, or_true, false_or, or_false, not_true_eq_false, not_false_eq_true, forall_const, implies_true, true_imp_iff, false_imp_iff, gs_t, reduceIte, ite_true, ite_false]
      exact lp _ 0 0 h0 (zs_P S) rfl hN1 (by omega) (fr.refl _ _) R0.2.2.1 rfl (by rw [← zg_rem_0 hN1, ← zg_wl_eq])
    refine w_413_58 R0.1 ?_
    have y1 := f0.arr (o := 11) rfl
    have y2 := f0.arr (o := 13) rfl
    unfold zg_rd at go
    cases z : zg_par (zs_G S) g with
    | true =>
      have e2 : zg_ki (zs_G S) g = 2 := zg_ki_2.mpr z
      rw [z] at go
      simp (disch := omega) only [forall_eq, exists_eq_left, exists_eq_left', Option.some.injEq, ex_ix, i_add, i_mul, i_sub, i_lt, i_le, i_eq, i_tn, hi_e, hi_n, hj_e, hj_n, hi_wj, hj_wi, hr_wi, hr_wj, ht_wi, ht_wj, hl_wi, hl_wj, hz_wi, hz_wj, hs_wi, hs_wj, hi_wr, hj_wr, hr_e, hr_n, ht_wr, hl_wr, hz_wr, hs_wr, n_lt_t, n_lt_f, n_le_t, n_le_f, n_eq_t, n_eq_f, true_and, and_true, false_and, and_false, true_or, or_true, false_or, or_false, not_true_eq_false, not_false_eq_true, forall_const, implies_true, true_imp_iff, false_imp_iff, gs_t, reduceIte, ite_true, ite_false, y1, y2, s1, s3, e2]
      exact go
    | false =>
      have e2 : ¬ zg_ki (zs_G S) g = 2 := fun q => by rw [zg_ki_2, z] at q; cases q
      rw [z] at go
      simp (disch := omega) only [forall_eq, exists_eq_left, exists_eq_left', Option.some.injEq, ex_ix, i_add, i_mul, i_sub, i_lt, i_le, i_eq, i_tn, hi_e, hi_n, hj_e, hj_n, hi_wj, hj_wi, hr_wi, hr_wj, ht_wi, ht_wj, hl_wi, hl_wj, hz_wi, hz_wj, hs_wi, hs_wj, hi_wr, hj_wr, hr_e, hr_n, ht_wr, hl_wr, hz_wr, hs_wr, n_lt_t, n_lt_f, n_le_t, n_le_f, n_eq_t, n_eq_f, true_and, and_true, false_and, and_false, true_or, or_true, false_or, or_false, not_true_eq_false, not_false_eq_true, forall_const, implies_true, true_imp_iff, false_imp_iff, gs_t, reduceIte, ite_true, ite_false, y1, y2, s1, s3]
      exact go
  have t26 : hh_tg h (m + 26) = 101 ∧ hh_ln h (m + 26) = 20480 := hT.2.2 26 (by decide)
  have t35 : hh_tg h (m + 35) = 101 ∧ hh_ln h (m + 35) = 32 := hT.2.2 35 (by decide)
  refine w_413_0 hT ⟨_, by rw [i_mul, i_add]; exact ix_n (by omega) (by omega), _, by rw [i_mul, i_add]; exact ix_n (by omega) (by omega), fun z => ?_, fun z => ?_⟩
  · have hmf : mend = false := bi_0.mp z
    rw [eg, ea, i_mul]
    refine t_makeImage (P := zs_P S) hT R.2.2.2.1 K hg hb hk hk1 hk4 t26.1 (by rw [t26.2]; omega) (by rw [t26.2]; decide) (fun i => w.2.1 _ _ t26.1) (by omega) (fun h0 f0 him => ?_)
    have hf' : f = fun x => hh_i h (m + 26) (32 * b + x) := by rw [hf, hmf]; rfl
    rw [← hf'] at him
    exact main h0 f0 him
  · have hmt : mend = true := bi_n.mp z
    rw [eg, ea]
    refine t_makeImage (P := zs_P S) (p := 0) hT R.2.2.2.1 K hg hb hk hk1 hk4 t35.1 (by rw [t35.2]; omega) (by rw [t35.2]; decide) (fun i => w.2.1 _ _ t35.1) (by omega) (fun h0 f0 him => ?_)
    have hf' : f = fun x => hh_i h (m + 35) (0 + x) := by rw [hf, hmt]; funext x; rw [Nat.zero_add]; rfl
    rw [← hf'] at him
    exact main h0 f0 him
end TC
