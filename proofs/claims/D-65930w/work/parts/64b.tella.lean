/-! STAGE 3: watches of all folders that have an object -/
section TA
variable {h : hh_T} {m : Nat} {S : zS} {i t : Nat} {d : zD} {T : zT} {Q : Option Value ⊕ Nat → hh_T → Prop}
/-- whether a folder has an entry for an object -/
def zt_has (T : zT) (ob fo : Nat) : Bool := (zn_en (zt_n T fo)).any (fun x => decide (x.2 = ob))
/-- what watches are told, folders below k -/
def zw_ta (n ob : Nat) (v : Int32) (has : Nat → Bool) (k : Nat) (x : Option zW) : Option zW := x.map (fun W => if zw_set W = n ∧ zw_folder W < k ∧ has (zw_folder W) = true then zw_row W v else W)
def zs_tk (S : zS) (n ob what : Nat) (has : Nat → Bool) (k : Nat) : zS := zs_F_ S (zf_wt_ (zs_F S) (fun w => zw_ta n ob (Int32.ofNat (16 * ob + what)) has k (zf_wt (zs_F S) w)))
theorem zw_row_f (W : zW) (v : Int32) : zw_set (zw_row W v) = zw_set W ∧ zw_folder (zw_row W v) = zw_folder W := by
  unfold zw_row
  split <;> exact ⟨rfl, rfl⟩
theorem zs_tk_S (S : zS) (n ob what : Nat) (has : Nat → Bool) (k : Nat) : zs_tk S n ob what has (k + 1) = if has k then zs_tell (zs_tk S n ob what has k) n k ob what else zs_tk S n ob what has k := by
  have key : ∀ x : Option zW, zw_ta n ob (Int32.ofNat (16 * ob + what)) has (k + 1) x = if has k then (zw_ta n ob (Int32.ofNat (16 * ob + what)) has k x).map (fun W => if zw_set W = n ∧ zw_folder W = k then zw_row W (Int32.ofNat (16 * ob + what)) else W) else zw_ta n ob (Int32.ofNat (16 * ob + what)) has k x := by
    intro x
    cases x with
    | none => cases has k <;> rfl
    | some W =>
      unfold zw_ta
      cases hk : has k with
      | true =>
        rw [if_pos rfl, Option.map_some, Option.map_some, Option.map_some]
        congr 1
        by_cases c : zw_set W = n ∧ zw_folder W < k ∧ has (zw_folder W) = true
        · obtain ⟨f1, f2⟩ := zw_row_f W (Int32.ofNat (16 * ob + what))
          rw [if_pos ⟨c.1, by omega, c.2.2⟩, if_pos c, f1, f2, if_neg (by omega)]
        · rw [if_neg c]
          by_cases c2 : zw_set W = n ∧ zw_folder W = k
          · rw [if_pos c2, if_pos ⟨c2.1, by omega, by rw [c2.2]; exact hk⟩]
          · rw [if_neg c2, if_neg]
            rintro ⟨y1, y2, y3⟩
            by_cases y4 : zw_folder W = k
            · exact c2 ⟨y1, y4⟩
            · exact c ⟨y1, by omega, y3⟩
      | false =>
        rw [if_neg (by decide), Option.map_some, Option.map_some]
        congr 1
        by_cases c : zw_set W = n ∧ zw_folder W < k ∧ has (zw_folder W) = true
        · rw [if_pos ⟨c.1, by omega, c.2.2⟩, if_pos c]
        · rw [if_neg c, if_neg]
          rintro ⟨y1, y2, y3⟩
          by_cases y4 : zw_folder W = k
          · rw [y4, hk] at y3; cases y3
          · exact c ⟨y1, by omega, y3⟩
  have e : (fun w => zw_ta n ob (Int32.ofNat (16 * ob + what)) has (k + 1) (zf_wt (zs_F S) w)) = fun w => if has k then (zw_ta n ob (Int32.ofNat (16 * ob + what)) has k (zf_wt (zs_F S) w)).map (fun W => if zw_set W = n ∧ zw_folder W = k then zw_row W (Int32.ofNat (16 * ob + what)) else W) else zw_ta n ob (Int32.ofNat (16 * ob + what)) has k (zf_wt (zs_F S) w) := funext fun w => key _
  unfold zs_tk
  rw [e]
  cases has k <;> rfl
theorem zs_tk_0 (S : zS) (n ob what : Nat) (has : Nat → Bool) : zs_tk S n ob what has 0 = S := by
  have e : (fun w => zw_ta n ob (Int32.ofNat (16 * ob + what)) has 0 (zf_wt (zs_F S) w)) = zf_wt (zs_F S) := by
    funext w
    unfold zw_ta
    cases zf_wt (zs_F S) w with
    | none => rfl
    | some W => rw [Option.map_some, if_neg (fun y => absurd y.2.1 (Nat.not_lt_zero _))]
  unfold zs_tk
  rw [e]
  rfl
theorem t_tellAll {ob what : Nat} {rp : Bool} (hT : tw_ok h m) (R : rT_F h m (zs_F S)) (e111 : hh_i h m 111 = bi rp) (hi : i < 8) (e59 : hh_i h (m + 59) i = (Int32.ofNat (zd_no d))) (hno : zd_no d < 1000) (e63 : hh_i h (m + 63) i = (Int32.ofNat t)) (TT : tt h m t T) (hwf : zt_wf T) (hob : ob < 16) (hwh : what < 16)
    (H : ∀ h', fr (tO m [98, 101, 102] []) h h' → rT_F h' m (zs_F (if rp then S else zs_tk S (zd_no d) ob what (zt_has T ob) 16)) → Q (.inl none) h') : gm_G 304 0 [some (.ref m), some (.int (Int32.ofNat i)), some (.int (Int32.ofNat ob)), some (.int (Int32.ofNat what))] [] h Q := by
  have ht := TT.1
  refine w_304_0 hT ⟨i, ix_n (by omega) (by omega), ?_⟩
  rw [e63]
  have lp : ∀ e o h1, o + e = 16 → fr (tO m [98, 101, 102] []) h h1 → rT_F h1 m (zs_F (if rp then S else zs_tk S (zd_no d) ob what (zt_has T ob) o)) → gm_G 304 11 [some (.ref m), some (.int (Int32.ofNat i)), some (.int (Int32.ofNat ob)), some (.int (Int32.ofNat what)), some (.int (Int32.ofNat t)), some (.int (Int32.ofNat o))] [] h1 Q := by
    intro e
    induction e with
    | zero =>
      intro o h1 eo g1 R1
      have eo : o = 16 := by omega
      subst eo
      exact w_304_11 (hT.fr g1) ⟨fun _ => H h1 g1 R1, fun z => absurd z (by decide)⟩
    | succ e ih =>
      intro o h1 eo g1 R1
      have ho : o < 16 := by omega
      have hT1 := hT.fr g1
      -- on with the next folder
      have nx : ∀ h2, fr (tO m [98, 101, 102] []) h1 h2 → rT_F h2 m (zs_F (if rp then S else zs_tk S (zd_no d) ob what (zt_has T ob) (o + 1))) → gm_G 304 114 [some (.ref m), some (.int (Int32.ofNat i)), some (.int (Int32.ofNat ob)), some (.int (Int32.ofNat what)), some (.int (Int32.ofNat t)), some (.int (Int32.ofNat o))] [] h2 Q := fun h2 g2 R2 => by
        refine w_304_114 (hT1.fr g2) ?_
        rw [i_add]
        exact ih (o + 1) h2 (by omega) (g1.trans g2) R2
      have fin : ∀ u : Bool, u = zt_has T ob o → gm_G 304 100 [some (.ref m), some (.int (Int32.ofNat i)), some (.int (Int32.ofNat ob)), some (.int (Int32.ofNat what)), some (.int (Int32.ofNat t)), some (.int (Int32.ofNat o)), some (.int (bi u))] [] h1 Q := by
        intro u eu
        have es := zs_tk_S S (zd_no d) ob what (zt_has T ob) o
        rw [← eu] at es
        cases u with
        | false =>
          rw [if_neg (by decide)] at es
          refine w_304_100 hT1 ⟨fun _ => nx h1 (fr.refl _ _) (by rw [es]; exact R1), fun z => absurd rfl z⟩
        | true =>
          rw [if_pos rfl] at es
          refine w_304_100 hT1 ⟨fun z => absurd z (by decide), fun _ => ?_⟩
          refine t_tellr (S := if rp then S else zs_tk S (zd_no d) ob what (zt_has T ob) o) (d := d) hT1 R1 (by rw [g1.fld (f := 111) rfl]; exact e111) hi (by rw [g1.arr (o := 59) rfl]; exact e59) hno ho hob hwh (fun h2 g2 R2 => nx h2 g2 ?_)
          rw [es]
          cases rp with
          | true => exact R2
          | false => exact R2
      refine w_304_11 hT1 ⟨fun z => absurd (by rw [i_lt (by omega) (by decide)]; exact ho) z, fun _ => ?_⟩
      have x40 : hh_i h1 (m + 40) (16 * t + o) = hh_i h (m + 40) (16 * t + o) := by rw [g1.arr (o := 40) rfl]
      rcases TT.2.2.2 o ho with ⟨z1, z2⟩ | ⟨N, z1, z2⟩
      · refine w_304_24 hT1 ⟨16 * t + o, by rw [i_mul, i_add]; exact ix_n (by omega) (by omega), fun _ => fin false ?_, fun z => absurd (by rw [← z, x40, z2]) (show ¬ (Int32.ofNat 0) = (Int32.ofNat 2) by decide)⟩
        unfold zt_has zt_n
        rw [z1]
        rfl
      · have en : zt_n T o = N := by unfold zt_n; rw [z1]; rfl
        have e40 : hh_i h1 (m + 40) (16 * t + o) = (Int32.ofNat (zn_at N 0)) := by rw [x40]; exact (z2.1 0 (by decide)).1
        have l40 := (z2.1 0 (by decide)).2
        by_cases k2 : zn_at N 0 = 2
        · obtain ⟨s1, s2, s3, s4, s5, s6⟩ := z2.2.2.2.2.2.2.2.2.2.1 k2
          have e45 : hh_i h1 (m + 45) (16 * t + o) = (Int32.ofNat ((zn_en N).length)) := by rw [← s3, g1.arr (o := 45) rfl]; exact (z2.1 5 (by decide)).1
          have li : ∀ e j (u : Bool), j + e = (zn_en N).length → (u = true ↔ ∃ j', j' < j ∧ hh_i h (m + 53) (8 * (16 * t + o) + j') = (Int32.ofNat ob)) → gm_G 304 24 [some (.ref m), some (.int (Int32.ofNat i)), some (.int (Int32.ofNat ob)), some (.int (Int32.ofNat what)), some (.int (Int32.ofNat t)), some (.int (Int32.ofNat o)), some (.int (bi u)), some (.int (Int32.ofNat j))] [] h1 Q := by
            intro e
            induction e with
            | zero =>
              intro j u ej hu
              have ej : j = (zn_en N).length := by omega
              subst ej
              refine w_304_24 hT1 ⟨16 * t + o, by rw [i_mul, i_add]; exact ix_n (by omega) (by omega), fun z => absurd (by rw [e40, k2]) z, fun _ => ⟨16 * t + o, by rw [i_mul, i_add]; exact ix_n (by omega) (by omega), fun _ => fin u ?_, fun z => absurd z (by rw [e45, i_lt (by omega) (by omega)]; omega)⟩⟩
              rw [Bool.eq_iff_iff, hu]
              unfold zt_has
              rw [en, List.any_eq_true]
              constructor
              · rintro ⟨j', q1, q2⟩
                obtain ⟨x, x1, x2⟩ := s5 j' q1
                exact ⟨x, x1, decide_eq_true ((i_eq (by have := x2.2.1; omega) (by omega)).mp (x2.1.symm.trans q2))⟩
              · rintro ⟨x, x1, x2⟩
                obtain ⟨j', q1, q2⟩ := s6 x x1
                exact ⟨j', q1, by rw [q2.1, of_decide_eq_true x2]⟩
            | succ e ih2 =>
              intro j u ej hu
              have v53 : hh_i h1 (m + 53) (8 * (16 * t + o) + j) = hh_i h (m + 53) (8 * (16 * t + o) + j) := by rw [g1.arr (o := 53) rfl]
              have on : ∀ u' : Bool, (u' = true ↔ ∃ j', j' < j + 1 ∧ hh_i h (m + 53) (8 * (16 * t + o) + j') = (Int32.ofNat ob)) → gm_G 304 92 [some (.ref m), some (.int (Int32.ofNat i)), some (.int (Int32.ofNat ob)), some (.int (Int32.ofNat what)), some (.int (Int32.ofNat t)), some (.int (Int32.ofNat o)), none, some (.int (Int32.ofNat j))] [.int (bi u')] h1 Q := fun u' hu' => by
                refine w_304_92 hT1 ?_
                rw [i_add]
                exact ih2 (j + 1) u' (by omega) hu'
              refine w_304_24 hT1 ⟨16 * t + o, by rw [i_mul, i_add]; exact ix_n (by omega) (by omega), fun z => absurd (by rw [e40, k2]) z, fun _ => ⟨16 * t + o, by rw [i_mul, i_add]; exact ix_n (by omega) (by omega), fun z => absurd (by rw [e45, i_lt (by omega) (by omega)]; omega) z, fun _ => ⟨fun z => w_304_87 hT1 (on true ?_), fun z => ⟨8 * (16 * t + o) + j, by rw [i_mul, i_add, i_mul, i_add]; exact ix_n (by omega) (by omega), fun z2 => on false ?_, fun z2 => w_304_87 hT1 (on true ?_)⟩⟩⟩⟩
              · have ut : u = true := by cases u with
                  | true => rfl
                  | false => exact absurd rfl z
                obtain ⟨j', q1, q2⟩ := hu.mp ut
                exact ⟨fun _ => ⟨j', by omega, q2⟩, fun _ => rfl⟩
              · have uf : u = false := by cases u with
                  | false => rfl
                  | true => exact absurd z (by decide)
                refine ⟨fun q => absurd q (by decide), fun q => ?_⟩
                obtain ⟨j', q1, q2⟩ := q
                by_cases y : j' = j
                · subst y; rw [v53] at z2; exact absurd q2 z2
                · have := hu.mpr ⟨j', by omega, q2⟩
                  rw [uf] at this
                  exact this
              · rw [v53] at z2
                exact ⟨fun _ => ⟨j, by omega, z2⟩, fun _ => rfl⟩
          exact li _ 0 false (Nat.zero_add _) ⟨fun q => absurd q (by decide), fun q => by obtain ⟨j', q1, -⟩ := q; exact absurd q1 (Nat.not_lt_zero _)⟩
        · refine w_304_24 hT1 ⟨16 * t + o, by rw [i_mul, i_add]; exact ix_n (by omega) (by omega), fun _ => fin false ?_, fun z => absurd ((i_eq l40 (by decide)).mp (e40.symm.trans z)) k2⟩
          unfold zt_has
          rw [en, (hwf o N ho z1).2.2 k2]
          rfl
  exact lp 16 0 h rfl (fr.refl _ _) (by rw [zs_tk_0]; cases rp <;> exact R)
end TA
