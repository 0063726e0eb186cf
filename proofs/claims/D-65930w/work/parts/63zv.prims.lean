/-! STAGE 3: objects of an own tree are changed -/
theorem zn_ins_mem {x e : Int64 × Nat} : ∀ {l : List (Int64 × Nat)}, e ∈ zn_ins x l ↔ e = x ∨ e ∈ l
  | [] => by
    show e ∈ [x] ↔ _
    rw [List.mem_singleton]
    exact ⟨fun q => Or.inl q, fun q => by rcases q with q | q; exact q; exact absurd q (List.not_mem_nil)⟩
  | y :: r => by
    show e ∈ (if x.1 < y.1 then x :: y :: r else y :: zn_ins x r) ↔ _
    split
    · rw [List.mem_cons]
    · rw [List.mem_cons, zn_ins_mem (l := r), List.mem_cons]
      constructor
      · rintro (q | q | q)
        · exact Or.inr (Or.inl q)
        · exact Or.inl q
        · exact Or.inr (Or.inr q)
      · rintro (q | q | q)
        · exact Or.inr (Or.inl q)
        · exact Or.inl q
        · exact Or.inr (Or.inr q)
theorem zn_ins_len {x : Int64 × Nat} : ∀ {l : List (Int64 × Nat)}, (zn_ins x l).length = l.length + 1
  | [] => rfl
  | y :: r => by
    show (if x.1 < y.1 then x :: y :: r else y :: zn_ins x r).length = _
    split
    · rfl
    · rw [List.length_cons, zn_ins_len (l := r)]
      rfl
section PR
variable {h h' : hh_T} {m : Nat} {S : zS} {i t : Nat} {d : zD} {T : zT} {Q : Option Value ⊕ Nat → hh_T → Prop}
/-- an attribute of an object becomes another one -/
theorem tn_at {q f v : Nat} {N : zN} (e : h' = hh_wi h (m + (40 + f)) q (Int32.ofNat v)) (hf : f < 8) (hf1 : 1 ≤ f) (hv : v < 2147483648) (h23 : f = 2 ∨ f = 3 → v < 8) (h5 : f = 5 → v ≤ 256 ∧ ¬ zn_at N 0 = 2 ∧ ¬ zn_at N 0 = 3) (R : tn h m q N) : tn h' m q (zn_at_ N (fu (zn_at N) f v)) := by
  obtain ⟨r1, r2, r3, r4, r5, r6, r7, r8, r9, r10, r11, r12⟩ := R
  have ne : ∀ o x, ¬ o = 40 + f → hh_i h' (m + o) x = hh_i h (m + o) x := fun o x ho => by rw [e, hi_n (by omega)]
  have g0 : fr (tO m [40 + f] []) h h' := by rw [e]; exact fr.wi (tO.a (List.mem_singleton.mpr rfl) (by omega))
  have tbk : ∀ p b0, tb h m p b0 → tb h' m p b0 := fun p b0 B => tb_f8 B g0 (by
    show (!(oB (40 + f)) && true) = true
    unfold oB
    cases q1 : Nat.ble (40 + f) 26 with
    | true => rw [Nat.ble_eq] at q1; omega
    | false => rw [Bool.and_false]; rfl)
  have a : ∀ x, ¬ x = f → fu (zn_at N) f v x = zn_at N x := fun x hx => if_neg hx
  refine ⟨fun f' hf' => ?_, ?_, ?_, ?_, ?_, ?_, by rw [ne 49 q (by omega)]; exact r7, r8, fun k hk => ?_, fun z => ?_, fun z => ?_, fun k hk => ?_⟩
  · show hh_i h' (m + (40 + f')) q = (Int32.ofNat (fu (zn_at N) f v f')) ∧ fu (zn_at N) f v f' < _
    by_cases y : f' = f
    · subst y
      rw [fu, if_pos rfl, e, hi_e ⟨rfl, rfl⟩]
      exact ⟨rfl, hv⟩
    · rw [a f' y, e, hi_n (by omega)]
      exact r1 f' hf'
  · show 1 ≤ fu (zn_at N) f v 0
    rw [a 0 (by omega)]; exact r2
  · show fu (zn_at N) f v 0 ≤ 4
    rw [a 0 (by omega)]; exact r3
  · show fu (zn_at N) f v 2 < 8
    by_cases y : 2 = f
    · rw [fu, if_pos y]; exact h23 (Or.inl y.symm)
    · rw [a 2 y]; exact r4
  · show fu (zn_at N) f v 3 < 8
    by_cases y : 3 = f
    · rw [fu, if_pos y]; exact h23 (Or.inr y.symm)
    · rw [a 3 y]; exact r5
  · show fu (zn_at N) f v 5 ≤ 256
    by_cases y : 5 = f
    · rw [fu, if_pos y]; exact (h5 y.symm).1
    · rw [a 5 y]; exact r6
  · rw [ne 50 _ (by omega), ne 51 _ (by omega), ne 52 _ (by omega)]; exact r9 k hk
  · have z : fu (zn_at N) f v 0 = 2 := z
    rw [a 0 (by omega)] at z
    obtain ⟨s1, s2, s3, s4, s5, s6⟩ := r10 z
    have s3' : fu (zn_at N) f v 5 = (zn_en N).length := by
      rw [a 5 (fun y => (h5 y.symm).2.1 z)]; exact s3
    refine ⟨by rw [ne 48 _ (by omega)]; exact s1, s2, s3', s4, fun j hj => ?_, fun x hx => ?_⟩
    · obtain ⟨x, z1, z2⟩ := s5 j hj
      refine ⟨x, z1, ?_⟩
      unfold tw_en at z2 ⊢
      rw [ne 53 _ (by omega), ne 54 _ (by omega), show hh_i h' (m + 56) = hh_i h (m + 56) from funext fun y => ne 56 y (by omega)]
      exact z2
    · obtain ⟨j, z1, z2⟩ := s6 x hx
      refine ⟨j, z1, ?_⟩
      unfold tw_en at z2 ⊢
      rw [ne 53 _ (by omega), ne 54 _ (by omega), show hh_i h' (m + 56) = hh_i h (m + 56) from funext fun y => ne 56 y (by omega)]
      exact z2
  · have z : fu (zn_at N) f v 0 = 3 := z
    rw [a 0 (by omega)] at z
    obtain ⟨s1, s2, s3⟩ := r11 z
    have s1' : fu (zn_at N) f v 5 = (zn_ph N).length := by
      rw [a 5 (fun y => (h5 y.symm).2.2 z)]; exact s1
    exact ⟨s1', s2, fun x hx => by rw [ne 57 _ (by omega)]; exact s3 x hx⟩
  · rw [ne 55 _ (by omega)]
    show (zn_pt N k = none ∧ _) ∨ ∃ b p, zn_pt N k = some b ∧ p < 640 ∧ _ ∧ _ ∧ (fu (zn_at N) f v 0 = 1 ∨ fu (zn_at N) f v 0 = 4)
    rw [a 0 (by omega)]
    rcases r12 k hk with z | ⟨b, p, z1, z2, z3, z4, z5⟩
    · exact Or.inl z
    · exact Or.inr ⟨b, p, z1, z2, z3, tbk _ _ z4, z5⟩
theorem rOw_N {o : Nat} {N : zN} (R : rOw h m S i t d T) (ho : o < 16) (eN : zt_ob T o = some N) : tn h m (16 * t + o) N := by
  rcases R.2.2.2.1.2.2.2 o ho with ⟨z, -⟩ | ⟨N', z1, z2⟩
  · rw [eN] at z; cases z
  · rw [eN] at z1
    cases z1
    exact z2
theorem rOw_at {o f v : Nat} {N : zN} (R : rOw h m S i t d T) (up : zs_up S = true) (hi : i < 8) (ho : o < 16) (eN : zt_ob T o = some N) (e : h' = hh_wi h (m + (40 + f)) (16 * t + o) (Int32.ofNat v)) (hf : f < 8) (hf1 : 1 ≤ f) (hv : v < 2147483648) (h23 : f = 2 ∨ f = 3 → v < 8) (h5 : f = 5 → v ≤ 256 ∧ ¬ zn_at N 0 = 2 ∧ ¬ zn_at N 0 = 3) : rOw h' m S i t d (zt_put T o (zn_at_ N (fu (zn_at N) f v))) := by
  have R0 := rOw_N R ho eN
  have g0 : fr (tO m [40 + f] []) h h' := by rw [e]; exact fr.wi (tO.a (List.mem_singleton.mpr rfl) (by omega))
  refine rOw_ob R up hi ho g0 ?_ rfl (fun q hq => ?_) (Or.inr ⟨_, rfl, tn_at e hf hf1 hv h23 h5 R0⟩) (fun k p hk h1 h2 hp => ?_)
  · show (Nat.ble 40 (40 + f) && Nat.ble (40 + f) 57 && true) = true
    rw [Bool.and_true, Bool.and_eq_true, Nat.ble_eq, Nat.ble_eq]
    omega
  · refine ⟨fun o' h1 h2 => ?_, fun o' k h1 h2 _ => by rw [e, hi_n (by omega)], fun o' k h1 h2 _ => by rw [e, hi_n (by omega)], fun k _ => by rw [e, hi_n (by omega)], fun k _ => by rw [e, hi_n (by omega)]⟩
    rw [e, hi_n (by omega)]
  · refine ⟨tn_k0 R0, ?_⟩
    rw [e, hi_n (by omega)] at h2
    exact h2
theorem ow_time {o : Nat} {N : zN} (R : rOw h m S i t d T) (up : zs_up S = true) (hi : i < 8) (ho : o < 16) (eN : zt_ob T o = some N) (H : ∀ h', fr (tO m [46] []) h h' → rOw h' m S i t d (zt_put T o (zn_tm N (zs_ck S))) → Q (.inl none) h') : gm_G 93 0 [some (.ref m), some (.int (Int32.ofNat ((16 * t + o))))] [] h Q := by
  have ht := R.2.2.2.1.1
  have hA : rT_A h m (zs_A S) := R.1.2.1
  refine w_93_0 R.1.1 ⟨16 * t + o, ix_n (by omega) (by omega), fun h2 a2 => ?_⟩
  rw [show hh_i h m 4 = (Int32.ofNat (zs_ck S)) from hA.2.2.2.2.2.2.1] at a2
  have hck : zs_ck S ≤ 2000000000 := hA.2.2.2.2.2.2.2.1
  exact H h2 (by rw [a2]; exact fr.a rfl) (rOw_at (f := 6) R up hi ho eN a2 (by decide) (by decide) (by omega) (fun q => by omega) (fun q => by omega))
/-- an entry more, without the time -/
def zn_ad0 (N : zN) (n : Int64) (o : Nat) : zN := zn_en_ (zn_at_ N (fu (zn_at N) 5 (zn_at N 5 + 1))) (zn_ins (n, o) (zn_en N))
theorem ow_add {fo ob b1 a k : Nat} {N : zN} {na : Int64} (R : rOw h m S i t d T) (w : gy_wf h) (up : zs_up S = true) (hi : i < 8) (hfo : fo < 16) (hob : ob < 16) (eN : zt_ob T fo = some N) (k2 : zn_at N 0 = 2) (h8 : zn_at N 5 < 8) (ht : hh_tg h b1 = 101) (hl : a + k ≤ hh_ln h b1) (hl2 : hh_ln h b1 < 1000000) (hb : ¬ b1 = m + 56) (hk : nm_ok (hh_i h b1) a k = true) (hna : nm_v (hh_i h b1) a k = na)
    (H : ∀ h', fr (tO m [45, 53, 54, 56] []) h h' → rOw h' m S i t d (zt_put T fo (zn_ad0 N na ob)) → Q (.inl none) h') : gm_G 88 0 [some (.ref m), some (.int (Int32.ofNat ((16 * t + fo)))), some (.int (Int32.ofNat ob)), some (.ref b1), some (.int (Int32.ofNat a)), some (.int (Int32.ofNat k))] [] h Q := by
  have htt := R.2.2.2.1.1
  have hT := R.1.1
  have R0 := rOw_N R hfo eN
  obtain ⟨q, eq⟩ : ∃ q, q = 16 * t + fo := ⟨_, rfl⟩
  rw [← eq] at R0 ⊢
  have hq : q < 1536 := by omega
  obtain ⟨r1, r2, r3, r4, r5, r6, r7, r8, r9, r10, r11, r12⟩ := id R0
  obtain ⟨s1, s2, s3, s4, s5, s6⟩ := r10 k2
  obtain ⟨l, el⟩ : ∃ l, l = (zn_en N).length := ⟨_, rfl⟩
  rw [← el] at s3 s4 s5 s6
  have e45 : hh_i h (m + 45) q = (Int32.ofNat l) := by rw [← s3]; exact (r1 5 (by decide)).1
  have hk8 := (nm_ok_inv hk).2.1
  have Bb : ∀ x, gy_b (hh_i h b1 x) := fun x => w.2.1 _ _ ht
  have hbm : ¬ b1 = m := fun e => by rw [e, hT.1] at ht; exact absurd ht (by decide)
  have tgs : ∀ o, o = 45 ∨ o = 53 ∨ o = 54 → ¬ b1 = m + o := fun o ho e => by
    rcases ho with y | y | y <;> subst y
    · rw [e, (hT.2.2 45 (by decide)).1] at ht; exact absurd ht (by decide)
    · rw [e, (hT.2.2 53 (by decide)).1] at ht; exact absurd ht (by decide)
    · rw [e, (hT.2.2 54 (by decide)).1] at ht; exact absurd ht (by decide)
  have bo : ∀ h1, fr (tO m [45, 53, 54, 56] []) h h1 → hh_i h1 b1 = hh_i h b1 := fun h1 g1 => g1.out (Or.inr ⟨fun o ho => by
    have : o = 45 ∨ o = 53 ∨ o = 54 ∨ o = 56 := by simpa using ho
    rcases this with y | y | y | y
    · exact tgs o (Or.inl y)
    · exact tgs o (Or.inr (Or.inl y))
    · exact tgs o (Or.inr (Or.inr y))
    · rw [y]; exact hb, hbm⟩)
  refine w_88_0 hT ⟨q, ix_n hq (by omega), ?_⟩
  rw [e45, i_mul, i_add]
  refine ⟨8 * q + l, ix_n (by omega) (by omega), fun h3 a3 => ⟨8 * q + l, ix_n (by omega) (by omega), fun h5 a5 => ?_⟩⟩
  have g5 : fr (tO m [53, 54] []) h h5 := by rw [a5, a3]; exact (fr.a rfl).trans (fr.a rfl)
  refine lp_fill (m := m) (o := 56) (b := 8 * (8 * q + l)) (n := k) (fun j => [some (.ref m), some (.int (Int32.ofNat q)), none, some (.ref b1), some (.int (Int32.ofNat a)), some (.int (Int32.ofNat k)), some (.int (Int32.ofNat ((8 * q + l)))), some (.int (Int32.ofNat j))]) (fun j => hh_i h b1 (a + j)) (by decide) (fun j h6 hj g6 _ kk => ?_) (fun h6 g6 e6 => ?_)
  · have g06 : fr (tO m [45, 53, 54, 56] []) h h6 := (g5.up rfl rfl).trans (g6.up rfl rfl)
    refine w_88_33 (hT.fr g06) ⟨fun z => absurd (by rw [i_lt (by omega) (by omega)]; exact hj) z, fun _ => ⟨Or.inl (by rw [g06.tg]; exact ht), a + j, by rw [i_add, g06.ln]; exact ix_n (by omega) (by omega), 8 * (8 * q + l) + j, by rw [i_mul, i_add]; exact ix_n (by omega) (by omega), fun h7 a7 => ?_⟩⟩
    rw [bo h6 g06, show (hh_i h b1 (a + j)).toInt8.toInt32 = hh_i h b1 (a + j) from Bb _] at a7
    rw [a7, i_add]
    exact kk
  · have g06 : fr (tO m [45, 53, 54, 56] []) h h6 := (g5.up rfl rfl).trans (g6.up rfl rfl)
    have f45 : hh_i h6 (m + 45) q = (Int32.ofNat l) := by rw [g6.arr (o := 45) rfl, g5.arr (o := 45) rfl]; exact e45
    refine w_88_33 (hT.fr g06) ⟨fun _ => ⟨q, ix_n hq (by omega), q, ix_n hq (by omega), fun h9 a9 => ?_⟩, fun z => absurd z (by rw [i_lt (by omega) (by omega)]; omega)⟩
    rw [f45, i_add] at a9
    have g9 : fr (tO m [45, 53, 54, 56] []) h h9 := g06.trans (by rw [a9]; exact fr.a rfl)
    have v45 : ∀ x, hh_i h9 (m + 45) x = if x = q then (Int32.ofNat (l + 1)) else hh_i h (m + 45) x := fun x => by
      rw [a9]
      by_cases y : x = q
      · rw [hi_e ⟨rfl, y⟩, if_pos y]
      · rw [hi_n (by omega), if_neg y, g6.arr (o := 45) rfl, g5.arr (o := 45) rfl]
    have v53 : ∀ x, hh_i h9 (m + 53) x = if x = 8 * q + l then (Int32.ofNat ob) else hh_i h (m + 53) x := fun x => by
      rw [a9, hi_n (by omega), g6.arr (o := 53) rfl, a5, hi_n (by omega), a3]
      by_cases y : x = 8 * q + l
      · rw [hi_e ⟨rfl, y⟩, if_pos y]
      · rw [hi_n (by omega), if_neg y]
    have v54 : ∀ x, hh_i h9 (m + 54) x = if x = 8 * q + l then (Int32.ofNat k) else hh_i h (m + 54) x := fun x => by
      rw [a9, hi_n (by omega), g6.arr (o := 54) rfl, a5]
      by_cases y : x = 8 * q + l
      · rw [hi_e ⟨rfl, y⟩, if_pos y]
      · rw [hi_n (by omega), if_neg y, a3, hi_n (by omega)]
    have v56 : ∀ x, hh_i h9 (m + 56) x = if 8 * (8 * q + l) ≤ x ∧ x < 8 * (8 * q + l) + k then hh_i h b1 (a + (x - 8 * (8 * q + l))) else hh_i h (m + 56) x := fun x => by
      rw [a9, hi_n (by omega), e6, g5.arr (o := 56) rfl]
    have tbk : ∀ p b0, tb h m p b0 → tb h9 m p b0 := fun p b0 B => tb_f8 B g9 rfl
    -- an entry that was there
    have en : ∀ j x, j < l → tw_en h m (8 * q + j) x → tw_en h9 m (8 * q + j) x := by
      rintro j x hj ⟨t1, t2, n', t3, t4, t5⟩
      have hn8 := (nm_ok_inv t4).2.1
      obtain ⟨c1, c2⟩ := nm_cg (f := hh_i h (m + 56)) (g := hh_i h9 (m + 56)) (p := 8 * (8 * q + j)) (q := 8 * (8 * q + j)) (n := n') (fun y hy => by rw [v56, if_neg (by omega)])
      exact ⟨by rw [v53, if_neg (by omega)]; exact t1, t2, n', by rw [v54, if_neg (by omega)]; exact t3, c1.trans t4, c2.trans t5⟩
    have nw : tw_en h9 m (8 * q + l) (na, ob) := by
      obtain ⟨c1, c2⟩ := nm_cg (f := hh_i h b1) (g := hh_i h9 (m + 56)) (p := a) (q := 8 * (8 * q + l)) (n := k) (fun y hy => by rw [v56, if_pos (by omega), show 8 * (8 * q + l) + y - 8 * (8 * q + l) = y by omega])
      exact ⟨by rw [v53, if_pos rfl], hob, k, by rw [v54, if_pos rfl], c1.trans hk, c2.trans hna⟩
    have hlen : (zn_ins (na, ob) (zn_en N)).length = l + 1 := by rw [zn_ins_len, ← el]
    have at5 : ∀ f, fu (zn_at N) 5 (zn_at N 5 + 1) f = if f = 5 then l + 1 else zn_at N f := fun f => by
      rw [fu]
      by_cases y : f = 5
      · rw [if_pos y, if_pos y, s3]
      · rw [if_neg y, if_neg y]
    refine H h9 g9 ?_
    refine rOw_ob R up hi hfo g9 rfl rfl (fun x hx => ?_) (Or.inr ⟨_, rfl, ?_⟩) (fun k' p hk' h1 h2 hp => ?_)
    · rw [← eq] at hx
      refine ⟨fun o h1 h2 => ?_, fun o k h1 h2 _ => ?_, fun o k' h1 h2 hk' => ?_, fun k' hk' => by rw [v56, if_neg (by omega)], fun k' _ => by rw [g9.arr (o := 57) rfl]⟩
      · by_cases y : o = 45
        · subst y; rw [v45, if_neg hx]
        · rw [g9.arrs (P := fun o => Nat.ble o 52 && !(Nat.beq o 45)) rfl (by
            (try dsimp only)
            rw [Bool.and_eq_true, Nat.ble_eq]
            refine ⟨by omega, ?_⟩
            cases q2 : Nat.beq o 45 with
            | false => rfl
            | true => exact absurd (Nat.eq_of_beq_eq_true q2) y) (by omega)]
      · rw [g9.arrs (P := fun o => Nat.ble o 52 && Nat.ble 50 o) rfl (by (try dsimp only); rw [Bool.and_eq_true, Nat.ble_eq, Nat.ble_eq]; omega) (by omega)]
      · rcases (show o = 53 ∨ o = 54 ∨ o = 55 by omega) with y | y | y <;> subst y
        · rw [v53, if_neg (by omega)]
        · rw [v54, if_neg (by omega)]
        · rw [g9.arr (o := 55) rfl]
    · rw [← eq]
      refine ⟨fun f hf => ?_, ?_, ?_, ?_, ?_, ?_, by rw [g9.arr (o := 49) rfl]; exact r7, r8, by rw [g9.arr (o := 50) rfl, g9.arr (o := 51) rfl, g9.arr (o := 52) rfl]; exact r9, fun _ => ?_, fun z => ?_, fun k' hk' => ?_⟩
      · show hh_i h9 (m + (40 + f)) q = (Int32.ofNat (fu (zn_at N) 5 (zn_at N 5 + 1) f)) ∧ fu (zn_at N) 5 (zn_at N 5 + 1) f < _
        rw [at5]
        by_cases y : f = 5
        · subst y
          rw [if_pos rfl]
          refine ⟨?_, by omega⟩
          show hh_i h9 (m + 45) q = _
          rw [v45, if_pos rfl]
        · rw [if_neg y, g9.arrs (P := fun o => Nat.ble o 47 && !(Nat.beq o 45)) rfl (by
            (try dsimp only)
            rw [Bool.and_eq_true, Nat.ble_eq]
            refine ⟨by omega, ?_⟩
            cases q2 : Nat.beq (40 + f) 45 with
            | false => rfl
            | true => have := Nat.eq_of_beq_eq_true q2; omega) (by omega)]
          exact r1 f hf
      · show 1 ≤ fu (zn_at N) 5 (zn_at N 5 + 1) 0
        rw [at5]; exact r2
      · show fu (zn_at N) 5 (zn_at N 5 + 1) 0 ≤ 4
        rw [at5]; exact r3
      · show fu (zn_at N) 5 (zn_at N 5 + 1) 2 < 8
        rw [at5]; exact r4
      · show fu (zn_at N) 5 (zn_at N 5 + 1) 3 < 8
        rw [at5]; exact r5
      · show fu (zn_at N) 5 (zn_at N 5 + 1) 5 ≤ 256
        rw [at5, if_pos rfl]; omega
      · refine ⟨by rw [g9.arr (o := 48) rfl]; exact s1, s2, ?_, ?_, fun j hj => ?_, fun x hx => ?_⟩
        · show fu (zn_at N) 5 (zn_at N 5 + 1) 5 = (zn_ins (na, ob) (zn_en N)).length
          rw [at5, if_pos rfl, hlen]
        · show (zn_ins (na, ob) (zn_en N)).length ≤ 8
          omega
        · have hj : j < (zn_ins (na, ob) (zn_en N)).length := hj
          rw [hlen] at hj
          by_cases y : j = l
          · subst y
            exact ⟨(na, ob), zn_ins_mem.mpr (Or.inl rfl), nw⟩
          · obtain ⟨x, z1, z2⟩ := s5 j (by omega)
            exact ⟨x, zn_ins_mem.mpr (Or.inr z1), en j x (by omega) z2⟩
        · show ∃ j, j < (zn_ins (na, ob) (zn_en N)).length ∧ _
          rw [hlen]
          rcases zn_ins_mem.mp hx with y | y
          · rw [y]; exact ⟨l, by omega, nw⟩
          · obtain ⟨j, z1, z2⟩ := s6 x y
            exact ⟨j, by omega, en j x z1 z2⟩
      · have z : fu (zn_at N) 5 (zn_at N 5 + 1) 0 = 3 := z
        rw [at5, if_neg (by decide), k2] at z
        exact absurd z (by decide)
      · rw [g9.arr (o := 55) rfl]
        show (zn_pt N k' = none ∧ _) ∨ ∃ b p, zn_pt N k' = some b ∧ p < 640 ∧ _ ∧ _ ∧ (fu (zn_at N) 5 (zn_at N 5 + 1) 0 = 1 ∨ fu (zn_at N) 5 (zn_at N 5 + 1) 0 = 4)
        rw [at5, if_neg (by decide)]
        rcases r12 k' hk' with z | ⟨b, p, z1, z2, z3, z4, z5⟩
        · exact Or.inl z
        · exact Or.inr ⟨b, p, z1, z2, z3, tbk _ _ z4, z5⟩
    · rw [← eq] at h1 h2 ⊢
      refine ⟨tn_k0 R0, ?_⟩
      rw [g9.arr (o := 55) rfl] at h2
      exact h2
end PR
