/-! STAGE 3: a change stands in the log -/
theorem lm_cg2 {f g : Nat → Int32} : ∀ n s t, (∀ x, x < n → f (s + x) = g (t + x)) → lm f s n = lm g t n
  | 0, _, _, _ => rfl
  | n + 1, s, t, e => by rw [lm_S, lm_S, lm_cg2 n s t (fun x hx => e x (by omega)), e n (by omega)]
section PB
variable {h h1 h' : hh_T} {m : Nat} {S : zS} {i : Nat} {d : zD} {Q : Option Value ⊕ Nat → hh_T → Prop}
/-- a row has grown from h to h1; its change stands in the log as far as noted -/
def tw_pb (h h1 : hh_T) (m : Nat) (S : zS) (i : Nat) (d : zD) (rp : Bool) (l : List Nat) (k1 : Nat) (f1 : Nat → Int32) (k2 : Nat) (f2 : Nat → Int32) : Prop := fr (tO m [80, 81, 82] [108, 109, 112]) h h1 ∧ (∀ k, hh_i h1 (m + 80) k = if k = i then (Int32.ofNat ((zs_R S (zd_no d)).1.length + 1)) else hh_i h (m + 80) k) ∧ (∀ k, hh_i h1 (m + 81) k = if k = i then (Int32.ofNat ((zs_pm S d rp).1)) else hh_i h (m + 81) k) ∧ hh_i h1 m 112 = (if (zs_pm S d rp).2 then (Int32.ofNat 1) else hh_i h m 112)
  ∧ ((16 ≤ (zs_R S (zd_no d)).1.length ∧ hh_i h1 m 108 = Int32.ofInt (-1) ∧ hh_i h1 (m + 82) = hh_i h (m + 82)) ∨ ((zs_R S (zd_no d)).1.length < 16 ∧ hh_i h1 m 108 = (Int32.ofNat (290 * (16 * i + (zs_R S (zd_no d)).1.length))) ∧ hh_i h1 m 109 = (Int32.ofNat (290 * (16 * i + (zs_R S (zd_no d)).1.length) + 10 + k1 + k2))
    ∧ (∀ q, ¬ (290 * (16 * i + (zs_R S (zd_no d)).1.length) ≤ q ∧ q < 290 * (16 * i + (zs_R S (zd_no d)).1.length) + 290) → hh_i h1 (m + 82) q = hh_i h (m + 82) q) ∧ (∀ f, f < 8 → hh_i h1 (m + 82) (290 * (16 * i + (zs_R S (zd_no d)).1.length) + f) = (Int32.ofNat (l.getD f 0))) ∧ hh_i h1 (m + 82) (290 * (16 * i + (zs_R S (zd_no d)).1.length) + 8) = (Int32.ofNat k1) ∧ hh_i h1 (m + 82) (290 * (16 * i + (zs_R S (zd_no d)).1.length) + 9) = (Int32.ofNat k2)
    ∧ (∀ x, x < k1 → hh_i h1 (m + 82) (290 * (16 * i + (zs_R S (zd_no d)).1.length) + 10 + x) = f1 x) ∧ ∀ x, x < k2 → hh_i h1 (m + 82) (290 * (16 * i + (zs_R S (zd_no d)).1.length) + 10 + k1 + x) = f2 x))
theorem t_beginp {op a b x y z : Nat} {rp : Bool} {f1 f2 : Nat → Int32} (R : rTq h m S) (w : gy_wf h) (N : zs_nt S d) (hi : i < 8) (D : td h m i d) (e111 : hh_i h m 111 = bi rp)
    (H : ∀ h1, gy_wf h1 → tw_pb h h1 m S i d rp [op, a, b, x, y, z, zs_ck S, zs_ac S] 0 f1 0 f2 → Q (.inl none) h1) : gm_G 364 0 [some (.ref m), some (.int (Int32.ofNat i)), some (.int (Int32.ofNat op)), some (.int (Int32.ofNat a)), some (.int (Int32.ofNat b)), some (.int (Int32.ofNat x)), some (.int (Int32.ofNat y)), some (.int (Int32.ofNat z))] [] h Q := by
  obtain ⟨n1, n2, n3, n4, n5, n6, n7, n8, n9⟩ := N
  refine gy_use w ?_
  refine t_begin R.1 R.2.1 R.2.2.2.2.1 R.2.2.2.2.2.2.1 n1 n2 n3 hi D n4 n5 n6 n7 e111 (fun h1 g e80 e81 e112 ee w1 => H h1 w1 ⟨g, e80, e81, e112, ?_⟩)
  rcases ee with y | ⟨y1, y2, y3, y4⟩
  · exact Or.inl y
  · right
    obtain ⟨A, eA⟩ : ∃ A, A = 290 * (16 * i + (zs_R S (zd_no d)).1.length) := ⟨_, rfl⟩
    rw [← eA] at y2 y3 y4 ⊢
    refine ⟨y1, y2, y3, fun q hq => by rw [y4, if_neg (by omega)], fun f hf => ?_, ?_, ?_, fun x hx => absurd hx (Nat.not_lt_zero _), fun x hx => absurd hx (Nat.not_lt_zero _)⟩
    · rw [y4, if_pos (by omega), show A + f - A = f by omega]
      rcases (show f = 0 ∨ f = 1 ∨ f = 2 ∨ f = 3 ∨ f = 4 ∨ f = 5 ∨ f = 6 ∨ f = 7 by omega) with u | u | u | u | u | u | u | u <;> subst u <;> rfl
    · rw [y4, if_pos (by omega), show A + 8 - A = 8 by omega]; rfl
    · rw [y4, if_pos (by omega), show A + 9 - A = 9 by omega]; rfl
theorem t_noteA {rp : Bool} {l : List Nat} {f1 f2 : Nat → Int32} {a k b1 : Nat} (hT : tw_ok h1 m) (w : gy_wf h1) (hi : i < 8) (B : tw_pb h h1 m S i d rp l 0 f1 0 f2) (ht : hh_tg h1 b1 = 101) (hl : a + k ≤ hh_ln h1 b1) (hl2 : hh_ln h1 b1 < 1000000) (hk : k ≤ 256)
    (H : ∀ h2, gy_wf h2 → fr (tO m [82] [109]) h1 h2 → tw_pb h h2 m S i d rp l k (fun x => hh_i h1 b1 (a + x)) 0 f2 → Q (.inl none) h2) : gm_G 139 0 [some (.ref m), some (.ref b1), some (.int (Int32.ofNat a)), some (.int (Int32.ofNat k)), some (.int (Int32.ofNat 0))] [] h1 Q := by
  obtain ⟨g, e80, e81, e112, ee⟩ := id B
  refine gy_use w ?_
  obtain ⟨A, eA⟩ : ∃ A, A = 290 * (16 * i + (zs_R S (zd_no d)).1.length) := ⟨_, rfl⟩
  rcases ee with ⟨y1, y2, y3⟩ | ⟨y1, y2, y3, y4, y5, y6, y7, y8, y9⟩
  · refine t_note (A := 0) (ls := 10) hT ht hl hl2 (by decide) (by decide) (by omega) (Or.inl ⟨y2, fun w2 => H h1 w2 (fr.refl _ _) ⟨g, e80, e81, e112, Or.inl ⟨y1, y2, y3⟩⟩⟩)
  · rw [← eA] at y2 y3 y4 y5 y6 y7
    have hA : A + 290 ≤ 37120 := by omega
    refine t_note (A := A) (ls := A + 10) hT ht hl hl2 (by decide) (by omega) (by omega) (Or.inr ⟨y2, y3, fun h2 g2 e2 e109 w2 => H h2 w2 g2 ⟨g.trans (g2.up rfl rfl), by rw [g2.arr (o := 80) rfl]; exact e80, by rw [g2.arr (o := 81) rfl]; exact e81, by rw [g2.fld (f := 112) rfl]; exact e112, Or.inr ?_⟩⟩)
    rw [← eA]
    refine ⟨y1, by rw [g2.fld (f := 108) rfl]; exact y2, e109, fun q hq => by rw [e2, if_neg (by omega), if_neg (by omega)]; exact y4 q hq, fun f hf => by rw [e2, if_neg (by omega), if_neg (by omega)]; exact y5 f hf, by rw [e2, if_pos (by omega)], by rw [e2, if_neg (by omega), if_neg (by omega)]; exact y7, fun x hx => ?_, fun x hx => absurd hx (Nat.not_lt_zero _)⟩
    rw [e2, if_neg (by omega), if_pos (by omega), show A + 10 + x - (A + 10) = x by omega]
theorem t_noteB {rp : Bool} {l : List Nat} {f1 f2 : Nat → Int32} {a k k1 b1 : Nat} (hT : tw_ok h1 m) (w : gy_wf h1) (hi : i < 8) (B : tw_pb h h1 m S i d rp l k1 f1 0 f2) (ht : hh_tg h1 b1 = 101) (hl : a + k ≤ hh_ln h1 b1) (hl2 : hh_ln h1 b1 < 1000000) (hk : k1 + k ≤ 256)
    (H : ∀ h2, gy_wf h2 → fr (tO m [82] [109]) h1 h2 → tw_pb h h2 m S i d rp l k1 f1 k (fun x => hh_i h1 b1 (a + x)) → Q (.inl none) h2) : gm_G 139 0 [some (.ref m), some (.ref b1), some (.int (Int32.ofNat a)), some (.int (Int32.ofNat k)), some (.int (Int32.ofNat 1))] [] h1 Q := by
  obtain ⟨g, e80, e81, e112, ee⟩ := id B
  refine gy_use w ?_
  obtain ⟨A, eA⟩ : ∃ A, A = 290 * (16 * i + (zs_R S (zd_no d)).1.length) := ⟨_, rfl⟩
  rcases ee with ⟨y1, y2, y3⟩ | ⟨y1, y2, y3, y4, y5, y6, y7, y8, y9⟩
  · refine t_note (A := 0) (ls := 10) hT ht hl hl2 (by decide) (by decide) (by omega) (Or.inl ⟨y2, fun w2 => H h1 w2 (fr.refl _ _) ⟨g, e80, e81, e112, Or.inl ⟨y1, y2, y3⟩⟩⟩)
  · rw [← eA] at y2 y3 y4 y5 y6 y7 y8
    have hA : A + 290 ≤ 37120 := by omega
    refine t_note (A := A) (ls := A + 10 + k1) hT ht hl hl2 (by decide) (by omega) (by omega) (Or.inr ⟨y2, y3, fun h2 g2 e2 e109 w2 => H h2 w2 g2 ⟨g.trans (g2.up rfl rfl), by rw [g2.arr (o := 80) rfl]; exact e80, by rw [g2.arr (o := 81) rfl]; exact e81, by rw [g2.fld (f := 112) rfl]; exact e112, Or.inr ?_⟩⟩)
    rw [← eA]
    refine ⟨y1, by rw [g2.fld (f := 108) rfl]; exact y2, e109, fun q hq => by rw [e2, if_neg (by omega), if_neg (by omega)]; exact y4 q hq, fun f hf => by rw [e2, if_neg (by omega), if_neg (by omega)]; exact y5 f hf, by rw [e2, if_neg (by omega), if_neg (by omega)]; exact y6, by rw [e2, if_pos (by omega)], fun x hx => by rw [e2, if_neg (by omega), if_neg (by omega)]; exact y8 x hx, fun x hx => ?_⟩
    rw [e2, if_neg (by omega), if_pos (by omega), show A + 10 + k1 + x - (A + 10 + k1) = x by omega]
/-- all is noted -/
theorem rTq_pb {rp : Bool} {l : List Nat} {f1 f2 : Nat → Int32} {k1 k2 : Nat} {n1 n2 : Int64} {b : zBy} (R : rTq h m S) (N : zs_nt S d) (hi : i < 8) (D : td h m i d) (B : tw_pb h h1 m S i d rp l k1 f1 k2 f2) (h8 : ∀ f, f < 8 → l.getD f 0 < 2147483648) (o1 : 1 ≤ l.getD 0 0) (o2 : l.getD 0 0 ≤ 11) (hk2 : k2 ≤ 24) (hkk : k1 + k2 ≤ 256)
    (c1 : l.getD 0 0 ≤ 4 → nm_ok f1 0 k1 = true ∧ nm_v f1 0 k1 = n1) (c2 : l.getD 0 0 = 4 → nm_ok f2 0 k2 = true ∧ nm_v f2 0 k2 = n2) (c3 : l.getD 0 0 = 1 → b = lm f2 0 k2) (c4 : (l.getD 0 0 = 7 ∨ (l.getD 0 0 = 11 ∧ ¬ l.getD 3 0 = 1)) → b = lm f1 0 k1) (c5 : l.getD 0 0 = 2 ∨ l.getD 0 0 = 3 → b = []) (hb1 : ∀ x, x < k1 → gy_b (f1 x)) (hb2 : ∀ x, x < k2 → gy_b (f2 x)) (w1 : gy_wf h1) :
    rTq h1 m (zs_row S (zd_no d) (zx_ch l n1 n2 b) (zs_pm S d rp).1) ∧ fr (tO m [80, 81, 82] [108, 109, 112]) h h1 ∧ hh_i h1 m 112 = (if (zs_pm S d rp).2 then (Int32.ofNat 1) else hh_i h m 112) := by
  obtain ⟨q1, q2, q3, q4, q5, q6, q7, q8, q9⟩ := N
  obtain ⟨g, e80, e81, e112, ee⟩ := B
  have hle := ((rT_R_up R.2.2.2.2.2.2.1 R.2.2.2.2.1 q1 q2).2 i d hi D).2.2.1
  refine ⟨rTq_row R q1 q2 hi D g e80 e81 (zs_pm_le S d rp hle) q8 (fun q hq => ?_) (fun hl => ?_), g, e112⟩
  · rcases ee with ⟨y1, y2, y3⟩ | ⟨y1, y2, y3, y4, -⟩
    · rw [y3]
    · rcases hq with hq | hq
      · exact y4 q hq
      · omega
  · rcases ee with ⟨y1, -⟩ | ⟨y1, y2, y3, y4, y5, y6, y7, y8, y9⟩
    · omega
    · obtain ⟨A, eA⟩ : ∃ A, A = 290 * (16 * i + (zs_R S (zd_no d)).1.length) := ⟨_, rfl⟩
      rw [← eA] at y5 y6 y7 y8 y9 ⊢
      refine lg_mk (n := k1) (k := k2) w1 (fun f hf => ⟨y5 f hf, h8 f hf⟩) o1 o2 y6 y7 (by omega) hk2 hkk (fun q => ?_) (fun q => ?_) (fun q => ?_) (fun q => ?_) c5 (fun x hx => ?_)
      · obtain ⟨z1, z2⟩ := nm_cg (f := f1) (g := hh_i h1 (m + 82)) (p := 0) (q := A + 10) (n := k1) (fun x hx => by rw [Nat.zero_add]; exact y8 x hx)
        exact ⟨z1.trans (c1 q).1, z2.trans (c1 q).2⟩
      · obtain ⟨z1, z2⟩ := nm_cg (f := f2) (g := hh_i h1 (m + 82)) (p := 0) (q := A + 10 + k1) (n := k2) (fun x hx => by rw [Nat.zero_add]; exact y9 x hx)
        exact ⟨z1.trans (c2 q).1, z2.trans (c2 q).2⟩
      · rw [c3 q]
        exact lm_cg2 k2 0 (A + 10 + k1) (fun x hx => by rw [Nat.zero_add]; exact (y9 x hx).symm)
      · rw [c4 q]
        exact lm_cg2 k1 0 (A + 10) (fun x hx => by rw [Nat.zero_add]; exact (y8 x hx).symm)
      · by_cases y : x < k1
        · rw [y8 x y]; exact hb1 x y
        · have := y9 (x - k1) (by omega)
          rw [show A + 10 + k1 + (x - k1) = A + 10 + x by omega] at this
          rw [this]
          exact hb2 _ (by omega)
end PB
