/-! STAGE 3: rows of changes and watches in the midst of a change -/
section LG
variable {h h' : hh_T} {m : Nat} {S : zS} {i t : Nat} {d : zD} {T : zT} {Q : Option Value ⊕ Nat → hh_T → Prop}
/-- a change in the log, out of what stands there -/
theorem lg_mk {A n k : Nat} {l : List Nat} {n1 n2 : Int64} {b : zBy} (w : gy_wf h) (hv : ∀ f, f < 8 → hh_i h (m + 82) (A + f) = (Int32.ofNat (l.getD f 0)) ∧ l.getD f 0 < 2147483648) (h1 : 1 ≤ l.getD 0 0) (h2 : l.getD 0 0 ≤ 11) (e8 : hh_i h (m + 82) (A + 8) = (Int32.ofNat n)) (e9 : hh_i h (m + 82) (A + 9) = (Int32.ofNat k)) (hn : n ≤ 256) (hk : k ≤ 24) (hnk : n + k ≤ 256)
    (c1 : l.getD 0 0 ≤ 4 → nm_ok (hh_i h (m + 82)) (A + 10) n = true ∧ nm_v (hh_i h (m + 82)) (A + 10) n = n1) (c2 : l.getD 0 0 = 4 → nm_ok (hh_i h (m + 82)) (A + 10 + n) k = true ∧ nm_v (hh_i h (m + 82)) (A + 10 + n) k = n2) (c3 : l.getD 0 0 = 1 → b = lm (hh_i h (m + 82)) (A + 10 + n) k) (c4 : (l.getD 0 0 = 7 ∨ (l.getD 0 0 = 11 ∧ ¬ l.getD 3 0 = 1)) → b = lm (hh_i h (m + 82)) (A + 10) n) (c5 : l.getD 0 0 = 2 ∨ l.getD 0 0 = 3 → b = []) (hb : ∀ x, x < n + k → gy_b (hh_i h (m + 82) (A + 10 + x))) : tw_lg h m A (zx_ch l n1 n2 b) :=
  ⟨fun f hf => ⟨Or.inl (hv f hf).1, (hv f hf).2⟩, h1, h2, n, k, e8, e9, hn, hk, hnk, c1, c2, c3, c4, c5, hb⟩
/-- the row of a set grows in the midst of a change -/
theorem rTq_row {p : Nat} {c : zH} (R : rTq h m S) (up : zs_up S = true) (hh : ¬ ze_heads (zs_E S) = []) (hi : i < 8) (D : td h m i d) (g : fr (tO m [80, 81, 82] [108, 109, 112]) h h')
    (e80 : ∀ k, hh_i h' (m + 80) k = if k = i then (Int32.ofNat ((zs_R S (zd_no d)).1.length + 1)) else hh_i h (m + 80) k) (e81 : ∀ k, hh_i h' (m + 81) k = if k = i then (Int32.ofNat p) else hh_i h (m + 81) k) (hp : p ≤ (zs_R S (zd_no d)).1.length + 1) (hlen : (zs_R S (zd_no d)).1.length < 99999)
    (e82 : ∀ q, ¬ (290 * (16 * i + (zs_R S (zd_no d)).1.length) ≤ q ∧ q < 290 * (16 * i + (zs_R S (zd_no d)).1.length) + 290) ∨ 16 ≤ (zs_R S (zd_no d)).1.length → hh_i h' (m + 82) q = hh_i h (m + 82) q) (L : (zs_R S (zd_no d)).1.length < 16 → tw_lg h' m (290 * (16 * i + (zs_R S (zd_no d)).1.length)) c) : rTq h' m (zs_row S (zd_no d) c p) := by
  obtain ⟨r0, r1, r2, r3, r4, r5, r6, r7, r8, r9⟩ := R
  refine ⟨r0.fr g, r1.fr g rfl rfl, r2.fr g rfl rfl, r3.fr g rfl rfl, r4.fr g rfl rfl, ?_, rT_R_row r6 r4 up hh hi D g rfl e80 e81 hp hlen e82 L, r7.fr g rfl, r8.fr g rfl, r9.fr g rfl rfl⟩
  have us : ∀ p, tw_uN h' m p → tw_uN h m p := fun p u => by
    unfold tw_uN tw_us tw_sl tw_st at u ⊢
    rw [g.arr (o := 40) rfl, g.arr (o := 55) rfl, g.arr (o := 59) rfl, g.arr (o := 63) rfl, g.arr (o := 69) rfl, g.arr (o := 74) rfl, g.arr (o := 78) rfl, g.fld (f := 77) rfl, g.fld (f := 99) rfl] at u
    exact u
  obtain ⟨⟨I, f, d1, d2, d3⟩, d4⟩ := r5
  refine ⟨⟨I, f, d1.fr g rfl rfl, d2, fun l p hl hp => ?_⟩, ?_⟩
  · obtain ⟨z1, z2, z3, z4⟩ := d3 l p hl hp
    refine ⟨z1, tb_f8 z2 g rfl, fun q hq u e1 e2 => ?_, fun hl2 i hi => by rw [g.arr (o := 36) rfl]; exact z4 hl2 i hi⟩
    rw [g.arr (o := 23) rfl] at e1
    rw [g.arr (o := 24) rfl] at e2
    exact z3 q hq (us q u) e1 e2
  · rw [g.fld (f := 46) rfl, g.fld (f := 47) rfl, g.fld (f := 48) rfl]
    exact d4
theorem zs_pm_le (S : zS) (d : zD) (rp : Bool) (h : (zs_R S (zd_no d)).2 ≤ (zs_R S (zd_no d)).1.length) : (zs_pm S d rp).1 ≤ (zs_R S (zd_no d)).1.length + 1 := by
  unfold zs_pm
  split
  · exact Nat.le_refl _
  · split
    · split
      · exact Nat.le_refl _
      · exact Nat.le_succ_of_le h
    · exact Nat.le_succ_of_le h
/-- what is asked of the house when a change is noted -/
def zs_nt (S : zS) (d : zD) : Prop := zs_up S = true ∧ ¬ ze_heads (zs_E S) = [] ∧ (∀ d, d ∈ zu_sets (zs_liv S) → zd_no d < 100) ∧ d ∈ zu_sets (zs_liv S) ∧ zu_ch (zs_liv S) 9 d ∧ zu_pr (zs_liv S) d 4 ≤ 2 ∧ zs_np S ≤ 800000 ∧ (zs_R S (zd_no d)).1.length < 99999 ∧ ∀ x, x ∈ zu_sets (zs_liv S) → zd_no x = zd_no d → x = d
/-- begin, with nothing to note -/
theorem t_bn0 {l : List Nat} {op a b x y z : Nat} {rp : Bool} (el : l = [op, a, b, x, y, z, za_clock (zs_A S), za_actor (zs_A S)]) (R : rTq h m S) (w : gy_wf h) (N : zs_nt S d) (hi : i < 8) (D : td h m i d) (e111 : hh_i h m 111 = bi rp) (h1 : 5 ≤ op) (h2 : op ≤ 10) (h7 : ¬ op = 7) (hv : a < 2147483648 ∧ b < 2147483648 ∧ x < 2147483648 ∧ y < 2147483648 ∧ z < 2147483648)
    (H : ∀ h', gy_wf h' → fr (tO m [80, 81, 82] [108, 109, 112]) h h' → rTq h' m (zs_row S (zd_no d) (zx_ch l 0 0 []) (zs_pm S d rp).1) → hh_i h' m 112 = (if (zs_pm S d rp).2 then (Int32.ofNat 1) else hh_i h m 112) → Q (.inl none) h') : gm_G 364 0 [some (.ref m), some (.int (Int32.ofNat i)), some (.int (Int32.ofNat op)), some (.int (Int32.ofNat a)), some (.int (Int32.ofNat b)), some (.int (Int32.ofNat x)), some (.int (Int32.ofNat y)), some (.int (Int32.ofNat z))] [] h Q := by
  obtain ⟨n1, n2, n3, n4, n5, n6, n7, n8, n9⟩ := N
  have RA := R.2.1
  have RE := R.2.2.2.2.1
  have RR := R.2.2.2.2.2.2.1
  have hck := RA.2.2.2.2.2.2.2.1
  have hac := RA.2.2.2.2.2.2.2.2.2.1
  have hle := ((rT_R_up RR RE n1 n2).2 i d hi D).2.2.1
  refine gy_use w ?_
  refine t_begin R.1 RA RE RR n1 n2 n3 hi D n4 n5 n6 n7 e111 (fun h' g e80 e81 e112 ee w' => ?_)
  refine H h' w' g (rTq_row R n1 n2 hi D g e80 e81 (zs_pm_le S d rp hle) n8 (fun q hq => ?_) (fun hl => ?_)) e112
  · rcases ee with ⟨y1, y2, y3⟩ | ⟨y1, y2, y3, y4⟩
    · rw [y3]
    · rcases hq with hq | hq
      · rw [y4, if_neg (by omega)]
      · omega
  · rcases ee with ⟨y1, -⟩ | ⟨y1, y2, y3, y4⟩
    · omega
    · obtain ⟨A, eA⟩ : ∃ A, A = 290 * (16 * i + (zs_R S (zd_no d)).1.length) := ⟨_, rfl⟩
      rw [← eA] at y4 ⊢
      have v : ∀ f, f < 10 → hh_i h' (m + 82) (A + f) = (Int32.ofNat ([op, a, b, x, y, z, za_clock (zs_A S), za_actor (zs_A S), 0, 0].getD f 0)) := fun f hf => by
        rw [y4, if_pos (by omega), show A + f - A = f by omega]
        rcases (show f = 0 ∨ f = 1 ∨ f = 2 ∨ f = 3 ∨ f = 4 ∨ f = 5 ∨ f = 6 ∨ f = 7 ∨ f = 8 ∨ f = 9 by omega) with u | u | u | u | u | u | u | u | u | u <;> subst u <;> rfl
      have gl : ∀ f, f < 8 → [op, a, b, x, y, z, za_clock (zs_A S), za_actor (zs_A S), 0, 0].getD f 0 = l.getD f 0 := fun f hf => by
        rw [el]
        rcases (show f = 0 ∨ f = 1 ∨ f = 2 ∨ f = 3 ∨ f = 4 ∨ f = 5 ∨ f = 6 ∨ f = 7 by omega) with u | u | u | u | u | u | u | u <;> subst u <;> rfl
      have l0 : l.getD 0 0 = op := by rw [el]; rfl
      refine lg_mk (n := 0) (k := 0) w' (fun f hf => ⟨by rw [v f (by omega), gl f hf], ?_⟩) (by rw [l0]; omega) (by rw [l0]; omega) (v 8 (by decide)) (v 9 (by decide)) (by decide) (by decide) (by decide) (fun q => by rw [l0] at q; omega) (fun q => by rw [l0] at q; omega) (fun _ => rfl) (fun _ => rfl) (fun _ => rfl) (fun x hx => absurd hx (Nat.not_lt_zero _))
      rw [el]
      rcases (show f = 0 ∨ f = 1 ∨ f = 2 ∨ f = 3 ∨ f = 4 ∨ f = 5 ∨ f = 6 ∨ f = 7 by omega) with u | u | u | u | u | u | u | u <;> subst u
      · show op < _; omega
      · exact hv.1
      · exact hv.2.1
      · exact hv.2.2.1
      · exact hv.2.2.2.1
      · exact hv.2.2.2.2
      · show za_clock (zs_A S) < _; omega
      · show za_actor (zs_A S) < _; omega
theorem rOw_id (hu : ∀ x, x ∈ zu_sets (zs_liv S) → zd_no x = zd_no d → x = d) (R : rTq h m S) (D : td h m i d) (e63 : hh_i h (m + 63) i = (Int32.ofNat t)) (TT : tt h m t (zd_tr d)) (hot : ¬ tw_ot h m (ze_heads (zs_E S)).length i t) : rOw h m S i t d (zd_tr d) := by
  refine ⟨?_, D, e63, TT, hot⟩
  rw [zs_trc_id hu]
  exact R
/-- a tree of its own, in the midst of a change -/
theorem t_ownq (R : rTq h m S) (w : gy_wf h) (up : zs_up S = true) (hu : ∀ x, x ∈ zu_sets (zs_liv S) → zd_no x = zd_no d → x = d) (hi : i < 8) (D : td h m i d) (H : ∀ h' t', gy_wf h' → fr (tO m oOw []) h h' → rOw h' m S i t' d (zd_tr d) → Q (.inl (some (.int (Int32.ofNat t')))) h') : gm_G 420 0 [some (.ref m), some (.int (Int32.ofNat i))] [] h Q := by
  obtain ⟨r0, r1, r2, r3, r4, r5, r6, r7, r8, r9⟩ := R
  obtain ⟨t, e63, TT⟩ := D.2.2.2.2.2.2.2.2.1
  refine t_ownTree r0 w r4 up hu hi D e63 TT (fun h' t' w' g R' D' e63' TT' hot us => H h' t' w' g (rOw_id hu ⟨r0.fr g, r1.fr g rfl rfl, r2.fr g rfl rfl, r3.fr g rfl rfl, R', ?_, r6.fr g rfl, r7.fr g rfl, r8.fr g rfl, r9.fr g rfl rfl⟩ D' e63' TT' hot))
  obtain ⟨⟨I, f, d1, d2, d3⟩, d4⟩ := r5
  refine ⟨⟨I, f, d1.fr g rfl rfl, d2, fun l p hl hp => ?_⟩, ?_⟩
  · obtain ⟨z1, z2, z3, z4⟩ := d3 l p hl hp
    refine ⟨z1, tb_f8 z2 g rfl, fun q hq u e1 e2 => ?_, fun hl2 i hi => by rw [g.arr (o := 36) rfl]; exact z4 hl2 i hi⟩
    rw [g.arr (o := 23) rfl] at e1
    rw [g.arr (o := 24) rfl] at e2
    exact z3 q hq ((us q).mp u) e1 e2
  · rw [g.fld (f := 46) rfl, g.fld (f := 47) rfl, g.fld (f := 48) rfl]
    exact d4
/-- watches are told, but not when changes are done anew -/
theorem t_tellr {fo ob what : Nat} {rp : Bool} (hT : tw_ok h m) (R : rT_F h m (zs_F S)) (e111 : hh_i h m 111 = bi rp) (hi : i < 8) (e59 : hh_i h (m + 59) i = (Int32.ofNat (zd_no d))) (hno : zd_no d < 1000) (hfo : fo < 16) (hob : ob < 16) (hwh : what < 16)
    (H : ∀ h', fr (tO m [98, 101, 102] []) h h' → rT_F h' m (zs_F (if rp then S else zs_tell S (zd_no d) fo ob what)) → Q (.inl none) h') : gm_G 160 0 [some (.ref m), some (.int (Int32.ofNat i)), some (.int (Int32.ofNat fo)), some (.int (Int32.ofNat ob)), some (.int (Int32.ofNat what))] [] h Q := by
  cases rp with
  | false => exact t_tell hT R e111 hi e59 hno hfo hob hwh H
  | true =>
    refine w_160_0 hT (w_160_3 hT ⟨fun z => absurd (by decide) z, fun _ => ⟨fun _ => H h (fr.refl _ _) R, fun z => absurd (e111.symm.trans z) (by decide)⟩⟩)
end LG
