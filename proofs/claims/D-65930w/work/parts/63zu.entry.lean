/-! STAGE 3: entries, objects, watches -/
section EN
variable {h h' : hh_T} {m : Nat} {S : zS} {Q : Option Value ⊕ Nat → hh_T → Prop}
theorem zn_f_some {N : zN} {v : Int64} {e : Int64 × Nat} (hnd : ∀ e e', e ∈ zn_en N → e' ∈ zn_en N → e.1 = e'.1 → e = e') (he : e ∈ zn_en N) (hv : e.1 = v) : zn_f N v = some e.2 := by
  unfold zn_f
  cases q : (zn_en N).find? (fun x => decide (x.1 = v)) with
  | none =>
    rw [List.find?_eq_none] at q
    exact absurd (decide_eq_true hv) (q e he)
  | some e' =>
    have h1 := List.mem_of_find?_eq_some q
    have h2 := List.find?_some q
    have h2 : e'.1 = v := of_decide_eq_true h2
    rw [hnd e' e h1 he (h2.trans hv.symm)]
    rfl
theorem zn_f_none {N : zN} {v : Int64} (hv : ∀ e, e ∈ zn_en N → ¬ e.1 = v) : zn_f N v = none := by
  unfold zn_f
  have : (zn_en N).find? (fun x => decide (x.1 = v)) = none := by
    rw [List.find?_eq_none]
    exact fun e he q => hv e he (of_decide_eq_true q)
  rw [this]
  rfl
theorem t_entry {q b1 a k : Nat} {N : zN} (hT : tw_ok h m) (w : gy_wf h) (hq : q < 1536) (R : tn h m q N) (k2 : zn_at N 0 = 2) (hnd : ∀ e e', e ∈ zn_en N → e' ∈ zn_en N → e.1 = e'.1 → e = e') (ht : hh_tg h b1 = 101) (hl : a + k ≤ hh_ln h b1) (hl2 : hh_ln h b1 < 1000000)
    (H0 : zn_f N (nm_v (hh_i h b1) a k) = none → Q (.inl (some (.int (Int32.ofInt (-1))))) h)
    (H1 : ∀ e o, e < (zn_en N).length → zn_f N (nm_v (hh_i h b1) a k) = some o → tw_en h m (8 * q + e) (nm_v (hh_i h b1) a k, o) → Q (.inl (some (.int (Int32.ofNat e)))) h) : gm_G 106 0 [some (.ref m), some (.int (Int32.ofNat q)), some (.ref b1), some (.int (Int32.ofNat a)), some (.int (Int32.ofNat k))] [] h Q := by
  obtain ⟨s1, s2, s3, s4, s5, s6⟩ := R.2.2.2.2.2.2.2.2.2.1 k2
  have e45 : hh_i h (m + 45) q = (Int32.ofNat ((zn_en N).length)) := by rw [← s3]; exact (R.1 5 (by decide)).1
  have B56 : ∀ x, gy_b (hh_i h (m + 56) x) := fun x => w.2.1 _ _ (hT.2.2 56 (by decide)).1
  have Bb : ∀ x, gy_b (hh_i h b1 x) := fun x => w.2.1 _ _ ht
  obtain ⟨v, ev⟩ : ∃ v, v = nm_v (hh_i h b1) a k := ⟨_, rfl⟩
  rw [← ev] at H0 H1
  -- a place that fits has the name
  have fit : ∀ e en, tw_en h m (8 * q + e) en → (en.1 = v ↔ hh_i h (m + 54) (8 * q + e) = (Int32.ofNat k) ∧ ∀ x, x < k → hh_i h (m + 56) (8 * (8 * q + e) + x) = hh_i h b1 (a + x)) := by
    rintro e en ⟨t1, t2, n', t3, t4, t5⟩
    have hn8 := (nm_ok_inv t4).2.1
    cases hk : nm_ok (hh_i h b1) a k with
    | false =>
      constructor
      · intro z
        have hv : v = Int64.ofNat 0 := by rw [ev, nm_v_n Bb]; exact hk
        rw [hv, ← t5, nm_v_n B56, t4] at z
        cases z
      · rintro ⟨x1, x2⟩
        rw [t3] at x1
        have : n' = k := (i_eq (by omega) (by omega)).mp x1
        rw [this] at t4
        have c := (nm_cg (f := hh_i h (m + 56)) (g := hh_i h b1) (p := 8 * (8 * q + e)) (q := a) (n := k) (fun x hx => (x2 x hx).symm)).1
        rw [t4, hk] at c
        cases c
    | true =>
      rw [← t5, ev, nm_v_inj B56 Bb t4 hk, t3]
      constructor
      · rintro ⟨x1, x2⟩
        exact ⟨by rw [x1], fun x hx => x2 x (by omega)⟩
      · rintro ⟨x1, x2⟩
        have : n' = k := (i_eq (by omega) (by omega)).mp x1
        exact ⟨this, fun x hx => x2 x (by omega)⟩
  refine w_106_0 hT ?_
  have lp : ∀ d e, e + d = (zn_en N).length → (∀ e' en, e' < e → tw_en h m (8 * q + e') en → ¬ en.1 = v) → gm_G 106 3 [some (.ref m), some (.int (Int32.ofNat q)), some (.ref b1), some (.int (Int32.ofNat a)), some (.int (Int32.ofNat k)), some (.int (Int32.ofNat e))] [] h Q := by
    intro d
    induction d with
    | zero =>
      intro e ee hb
      have ee : e = (zn_en N).length := by omega
      subst ee
      refine w_106_3 hT ⟨q, ix_n hq (by omega), fun _ => H0 (zn_f_none (fun en hen => ?_)), fun z => absurd z (by rw [e45, i_lt (by omega) (by omega)]; omega)⟩
      obtain ⟨j, j1, j2⟩ := s6 en hen
      exact hb j en j1 j2
    | succ d ih =>
      intro e ee hb
      obtain ⟨en, hen, te⟩ := s5 e (by omega)
      have he8 : e < 8 := by omega
      have nx : ¬ en.1 = v → gm_G 106 3 [some (.ref m), some (.int (Int32.ofNat q)), some (.ref b1), some (.int (Int32.ofNat a)), some (.int (Int32.ofNat k)), some (.int (Int32.ofNat ((e + 1))))] [] h Q := fun hne => by
        refine ih (e + 1) (by omega) (fun e' en' h1 t' => ?_)
        by_cases y : e' = e
        · subst y
          intro z
          rw [fit e' en' t'] at z
          exact hne ((fit e' en te).mpr z)
        · exact hb e' en' (by omega) t'
      have no : ¬ en.1 = v → gm_G 106 93 [some (.ref m), some (.int (Int32.ofNat q)), some (.ref b1), some (.int (Int32.ofNat a)), some (.int (Int32.ofNat k)), some (.int (Int32.ofNat e)), some (.int (Int32.ofNat 0))] [] h Q := fun hne => by
        refine w_106_93 hT ⟨fun _ => ?_, fun z => absurd rfl z⟩
        rw [i_add]
        exact nx hne
      refine w_106_3 hT ⟨q, ix_n hq (by omega), fun z => absurd (by rw [e45, i_lt (by omega) (by omega)]; omega) z, fun _ => ⟨8 * q + e, by rw [i_mul, i_add]; exact ix_n (by omega) (by omega), fun z => w_106_36 hT (w_106_41 hT ⟨fun _ => no (fun y => z ((fit e en te).mp y).1), fun y => absurd rfl y⟩), fun z => w_106_36 hT ?_⟩⟩
      have hk8 : k ≤ 8 := by
        obtain ⟨-, -, n', t3, t4, -⟩ := te
        have hn8 := (nm_ok_inv t4).2.1
        have : n' = k := (i_eq (by omega) (by omega)).mp (t3.symm.trans z)
        omega
      have li : ∀ f j, j + f = k → (∀ x, x < j → hh_i h (m + 56) (8 * (8 * q + e) + x) = hh_i h b1 (a + x)) → gm_G 106 41 [some (.ref m), some (.int (Int32.ofNat q)), some (.ref b1), some (.int (Int32.ofNat a)), some (.int (Int32.ofNat k)), some (.int (Int32.ofNat e)), some (.int (Int32.ofNat 1)), some (.int (Int32.ofNat j))] [] h Q := by
        intro f
        induction f with
        | zero =>
          intro j ej hx
          have ej : j = k := by omega
          subst ej
          have hv : en.1 = v := (fit e en te).mpr ⟨z, hx⟩
          refine w_106_41 hT ⟨fun y => absurd y (by decide), fun _ => ⟨fun _ => w_106_93 hT ⟨fun y => absurd y (by decide), fun _ => ?_⟩, fun y => absurd y (by rw [i_lt (by omega) (by omega)]; omega)⟩⟩
          refine H1 e en.2 (by omega) (zn_f_some hnd hen hv) ?_
          have : (v, en.2) = en := Prod.ext hv.symm rfl
          rw [this]
          exact te
        | succ f ih2 =>
          intro j ej hx
          refine w_106_41 hT ⟨fun y => absurd y (by decide), fun _ => ⟨fun y => absurd (by rw [i_lt (by omega) (by omega)]; omega) y, fun _ => ⟨8 * (8 * q + e) + j, by rw [i_mul, i_add, i_mul, i_add]; exact ix_n (by omega) (by omega), Or.inl ht, a + j, by rw [i_add]; exact ix_n (by omega) (by omega), fun y => w_106_85 hT ?_, fun y => w_106_85 hT ?_⟩⟩⟩
          · rw [i_add]
            exact w_106_41 hT ⟨fun _ => no (fun y2 => y (((fit e en te).mp y2).2 j (by omega))), fun y2 => absurd rfl y2⟩
          · rw [i_add]
            refine ih2 (j + 1) (by omega) (fun x hx2 => ?_)
            by_cases y2 : x = j
            · subst y2; exact y
            · exact hx x (by omega)
      exact li k 0 (by omega) (fun x hx => absurd hx (Nat.not_lt_zero _))
  exact lp _ 0 (Nat.zero_add _) (fun e' en h1 => absurd h1 (Nat.not_lt_zero _))
theorem t_freeObject {t : Nat} {T : zT} (hT : tw_ok h m) (TT : tt h m t T) (H : Q (.inl (some (.int (oi (Int32.ofInt (-1)) (zt_free T))))) h) : gm_G 111 0 [some (.ref m), some (.int (Int32.ofNat t))] [] h Q := by
  have ht := TT.1
  have lp : ∀ d o, o + d = 16 → zt_free T = ffi (fun o => (zt_ob T o).isNone) d o → gm_G 111 2 [some (.ref m), some (.int (Int32.ofNat t)), some (.int (Int32.ofNat o))] [] h Q := by
    intro d
    induction d with
    | zero =>
      intro o eo ef
      have eo : o = 16 := by omega
      subst eo
      rw [ef] at H
      exact w_111_2 hT ⟨fun _ => H, fun z => absurd z (by decide)⟩
    | succ d ih =>
      intro o eo ef
      rw [ffi_S] at ef
      refine w_111_2 hT ⟨fun z => absurd (by rw [i_lt (by omega) (by decide)]; omega) z, fun _ => ⟨16 * t + o, by rw [i_mul, i_add]; exact ix_n (by omega) (by omega), ?_⟩⟩
      rcases TT.2.2.2 o (by omega) with ⟨z1, z2⟩ | ⟨N, z1, z2⟩
      · rw [z1] at ef
        rw [if_pos (show (none : Option zN).isNone = true from rfl)] at ef
        rw [ef] at H
        exact ⟨fun z => absurd z2 z, fun _ => H⟩
      · rw [z1, if_neg (show ¬ (some N).isNone = true from fun q => by cases q)] at ef
        refine ⟨fun _ => ?_, fun z => absurd z (tn_k0 z2)⟩
        rw [i_add]
        exact ih (o + 1) (by omega) ef
  exact w_111_0 hT (lp 16 0 rfl rfl)
theorem tw_wa_cg {k : Nat} {x : Option zW} (e1 : ∀ o, 97 ≤ o → o ≤ 101 → hh_i h' (m + o) k = hh_i h (m + o) k) (e2 : ∀ j, j < 6 → hh_i h' (m + 102) (6 * k + j) = hh_i h (m + 102) (6 * k + j)) (R : tw_wa h m k x) : tw_wa h' m k x := by
  cases x with
  | none =>
    show hh_i h' (m + 97) k = (Int32.ofNat 0)
    rw [e1 97 (by decide) (by decide)]
    exact R
  | some W =>
    obtain ⟨r1, r2, r3, r4, r5, r6, r7, r8, r9⟩ := R
    refine ⟨by rw [e1 97 (by decide) (by decide)]; exact r1, by rw [e1 98 (by decide) (by decide)]; exact r2, by rw [e1 99 (by decide) (by decide)]; exact r3, r4, by rw [e1 100 (by decide) (by decide)]; exact r5, r6, by rw [e1 101 (by decide) (by decide)]; exact r7, r8, fun j hj => ?_⟩
    rw [e2 j (by omega)]
    exact r9 j hj
def zw_tl (n fo : Nat) (v : Int32) (x : Option zW) : Option zW := x.map (fun W => if zw_set W = n ∧ zw_folder W = fo then zw_row W v else W)
theorem t_tell {i fo ob what : Nat} {d : zD} (hT : tw_ok h m) (R : rT_F h m (zs_F S)) (e111 : hh_i h m 111 = (Int32.ofNat 0)) (hi : i < 8) (e59 : hh_i h (m + 59) i = (Int32.ofNat (zd_no d))) (hno : zd_no d < 1000) (hfo : fo < 16) (hob : ob < 16) (hwh : what < 16)
    (H : ∀ h', fr (tO m [98, 101, 102] []) h h' → rT_F h' m (zs_F (zs_tell S (zd_no d) fo ob what)) → Q (.inl none) h') : gm_G 160 0 [some (.ref m), some (.int (Int32.ofNat i)), some (.int (Int32.ofNat fo)), some (.int (Int32.ofNat ob)), some (.int (Int32.ofNat what))] [] h Q := by
  obtain ⟨f1, f2, f3, f4⟩ := R
  have lp : ∀ e k h1, k + e = 4 → fr (tO m [98, 101, 102] []) h h1 → (∀ x, x < k → tw_wa h1 m x (zw_tl (zd_no d) fo (Int32.ofNat (16 * ob + what)) (zf_wt (zs_F S) x))) → (∀ x, k ≤ x → x < 4 → tw_wa h1 m x (zf_wt (zs_F S) x)) → gm_G 160 3 [some (.ref m), some (.int (Int32.ofNat i)), some (.int (Int32.ofNat fo)), some (.int (Int32.ofNat ob)), some (.int (Int32.ofNat what)), some (.int (Int32.ofNat k))] [] h1 Q := by
    intro e
    induction e with
    | zero =>
      intro k h1 ek g1 c1 c2
      have ek : k = 4 := by omega
      subst ek
      refine w_160_3 (hT.fr g1) ⟨fun _ => H h1 g1 ⟨fun f hf => ?_, fun x hx => c1 x hx, fun c hc => ?_, ?_⟩, fun z => absurd z (by decide)⟩
      · have := f1 f hf
        show tw_of h1 m f (zf_fl (zs_F S) f)
        unfold tw_of at this ⊢
        simp only [g1.arr (o := 88) rfl, g1.arr (o := 89) rfl, g1.arr (o := 90) rfl, g1.arr (o := 91) rfl, g1.arr (o := 92) rfl, g1.arr (o := 93) rfl, g1.arr (o := 94) rfl, g1.arr (o := 95) rfl, g1.arr (o := 96) rfl]
        exact this
      · have := f3 c hc
        show tw_kp h1 m c (zf_kp (zs_F S) c)
        unfold tw_kp at this ⊢
        simp only [g1.arr (o := 117) rfl, g1.arr (o := 118) rfl, g1.arr (o := 119) rfl, g1.arr (o := 120) rfl]
        exact this
      · show ∀ c i, c < 4 → i < 8 → _
        rw [g1.arr (o := 116) rfl, g1.arr (o := 59) rfl]
        exact f4
    | succ e ih =>
      intro k h1 ek g1 c1 c2
      have hk : k < 4 := by omega
      have hT1 := hT.fr g1
      have ck := c2 k (Nat.le_refl _) hk
      have v59 : hh_i h1 (m + 59) i = (Int32.ofNat (zd_no d)) := by rw [g1.arr (o := 59) rfl]; exact e59
      -- the next watch
      have nx : ∀ h2, fr (tO m [98, 101, 102] []) h1 h2 → (∀ x o, ¬ x = k → hh_i h2 (m + o) x = hh_i h1 (m + o) x ∨ ¬ (97 ≤ o ∧ o ≤ 101)) → (∀ x j, ¬ x = k → j < 6 → hh_i h2 (m + 102) (6 * x + j) = hh_i h1 (m + 102) (6 * x + j)) → tw_wa h2 m k (zw_tl (zd_no d) fo (Int32.ofNat (16 * ob + what)) (zf_wt (zs_F S) k)) → gm_G 160 109 [some (.ref m), some (.int (Int32.ofNat i)), some (.int (Int32.ofNat fo)), some (.int (Int32.ofNat ob)), some (.int (Int32.ofNat what)), some (.int (Int32.ofNat k))] [] h2 Q := by
        intro h2 g2 o1 o2 ck2
        refine w_160_109 (hT1.fr g2) ?_
        rw [i_add]
        have cg : ∀ x y, ¬ x = k → tw_wa h1 m x y → tw_wa h2 m x y := fun x y hx R => tw_wa_cg (fun o h3 h4 => by
          rcases o1 x o hx with z | z
          · exact z
          · exact absurd ⟨h3, h4⟩ z) (fun j hj => o2 x j hx hj) R
        refine ih (k + 1) h2 (by omega) (g1.trans g2) (fun x hx => ?_) (fun x hx hx4 => cg x _ (by omega) (c2 x (by omega) hx4))
        by_cases y : x = k
        · subst y; exact ck2
        · exact cg x _ y (c1 x (by omega))
      have sk : tw_wa h1 m k (zw_tl (zd_no d) fo (Int32.ofNat (16 * ob + what)) (zf_wt (zs_F S) k)) → gm_G 160 109 [some (.ref m), some (.int (Int32.ofNat i)), some (.int (Int32.ofNat fo)), some (.int (Int32.ofNat ob)), some (.int (Int32.ofNat what)), some (.int (Int32.ofNat k))] [] h1 Q := fun q => nx h1 (fr.refl _ _) (fun _ _ _ => Or.inl rfl) (fun _ _ _ _ => rfl) q
      refine w_160_3 hT1 ⟨fun z => absurd (by rw [i_lt (by omega) (by decide)]; exact hk) z, fun _ => ⟨fun z => absurd (by rw [g1.fld (f := 111) rfl]; exact e111) z, fun _ => ⟨k, ix_n hk (by omega), ?_⟩⟩⟩
      cases eW : zf_wt (zs_F S) k with
      | none =>
        rw [eW] at ck sk
        have ck' : hh_i h1 (m + 97) k = (Int32.ofNat 0) := ck
        exact ⟨fun _ => sk ck, fun z => absurd ck' z⟩
      | some W =>
        rw [eW] at ck sk nx
        obtain ⟨r1, r2, r3, r4, r5, r6, r7, r8, r9⟩ := id ck
        refine ⟨fun z => absurd (r1.symm.trans z) (by decide), fun _ => ⟨k, ix_n hk (by omega), i, ix_n (by omega) (by omega), ?_⟩⟩
        rw [r3, v59]
        refine ⟨fun z => sk ?_, fun z => ⟨k, ix_n hk (by omega), ?_⟩⟩
        · show tw_wa h1 m k (some (if zw_set W = zd_no d ∧ zw_folder W = fo then _ else W))
          rw [if_neg (fun y => z (by rw [y.1]))]
          exact ck
        · have z : zw_set W = zd_no d := (i_eq (by omega) (by omega)).mp z
          rw [r5]
          refine ⟨fun y => ⟨k, ix_n hk (by omega), ?_⟩, fun y => sk ?_⟩
          · have y : zw_folder W = fo := (i_eq (by omega) (by omega)).mp y
            have eq : zw_tl (zd_no d) fo (Int32.ofNat (16 * ob + what)) (some W) = some (zw_row W (Int32.ofNat (16 * ob + what))) := by
              show some (if zw_set W = zd_no d ∧ zw_folder W = fo then _ else W) = _
              rw [if_pos ⟨z, y⟩]
            rw [eq] at nx
            rw [r7]
            refine ⟨fun q => ?_, fun q => ?_⟩
            · have q : ¬ (zw_rows W).length = 6 := fun y2 => q (by rw [y2])
              refine ⟨k, ix_n hk (by omega), k, ix_n hk (by omega), fun h8 a8 => ⟨6 * k + (zw_rows W).length, by rw [r7, i_mul, i_add]; exact ix_n (by omega) (by omega), fun h10 a10 => ?_⟩⟩
              rw [r7, i_add] at a8
              rw [i_mul, i_add] at a10
              refine nx h10 (by rw [a10, a8]; exact (fr.a rfl).trans (fr.a rfl)) (fun x o hx => ?_) (fun x j hx hj => by rw [a10, hi_n (by omega), a8, hi_n (by omega)]) ?_
              · by_cases q2 : 97 ≤ o ∧ o ≤ 101
                · left; rw [a10, hi_n (by omega), a8, hi_n (by omega)]
                · exact Or.inr q2
              · have er : zw_row W (Int32.ofNat (16 * ob + what)) = zw_rows_ W (zw_rows W ++ [(Int32.ofNat (16 * ob + what))]) := by unfold zw_row; rw [if_neg q]
                rw [er]
                have el : (zw_rows W ++ [(Int32.ofNat (16 * ob + what))]).length = (zw_rows W).length + 1 := by rw [List.length_append]; rfl
                refine ⟨by rw [a10, hi_n (by omega), a8, hi_n (by omega)]; exact r1, by rw [a10, hi_n (by omega), a8, hi_n (by omega)]; exact r2, by rw [a10, hi_n (by omega), a8, hi_n (by omega)]; exact r3, r4, by rw [a10, hi_n (by omega), a8, hi_n (by omega)]; exact r5, r6, ?_, ?_, fun j hj => ?_⟩
                · show hh_i h10 (m + 101) k = (Int32.ofNat ((zw_rows W ++ [(Int32.ofNat (16 * ob + what))]).length))
                  rw [el, a10, hi_n (by omega), a8, hi_e ⟨rfl, rfl⟩]
                · show (zw_rows W ++ [(Int32.ofNat (16 * ob + what))]).length ≤ 6
                  omega
                · have hj : j < (zw_rows W ++ [(Int32.ofNat (16 * ob + what))]).length := hj
                  show _ = (zw_rows W ++ [(Int32.ofNat (16 * ob + what))]).getD j 0
                  rw [el] at hj
                  by_cases q2 : j = (zw_rows W).length
                  · subst q2
                    rw [a10, hi_e ⟨rfl, rfl⟩, List.getD_eq_getElem?_getD, List.getElem?_append_right (Nat.le_refl _), Nat.sub_self]
                    rfl
                  · rw [a10, hi_n (by omega), a8, hi_n (by omega), r9 j (by omega), List.getD_eq_getElem?_getD, List.getD_eq_getElem?_getD, List.getElem?_append_left (by omega)]
            · have q : (zw_rows W).length = 6 := (i_eq (by omega) (by decide)).mp q
              refine ⟨k, ix_n hk (by omega), fun h12 a12 => ?_⟩
              refine nx h12 (by rw [a12]; exact fr.a rfl) (fun x o hx => ?_) (fun x j hx hj => by rw [a12, hi_n (by omega)]) ?_
              · by_cases q2 : 97 ≤ o ∧ o ≤ 101
                · left; rw [a12, hi_n (by omega)]
                · exact Or.inr q2
              · have er : zw_row W (Int32.ofNat (16 * ob + what)) = zw_losing_ W true := by unfold zw_row; rw [if_pos q]
                rw [er]
                exact ⟨by rw [a12, hi_n (by omega)]; exact r1, by rw [a12, hi_e ⟨rfl, rfl⟩]; rfl, by rw [a12, hi_n (by omega)]; exact r3, r4, by rw [a12, hi_n (by omega)]; exact r5, r6, by rw [a12, hi_n (by omega)]; exact r7, r8, fun j hj => by rw [a12, hi_n (by omega)]; exact r9 j hj⟩
          · show tw_wa h1 m k (some (if zw_set W = zd_no d ∧ zw_folder W = fo then _ else W))
            rw [if_neg (fun q => y (by rw [q.2]))]
            exact ck
  exact w_160_0 hT (lp 4 0 h rfl (fr.refl _ _) (fun x hx => absurd hx (Nat.not_lt_zero _)) (fun x _ hx => f2 x hx))
end EN
