/-! STAGE 3: the twin's lists of the cache -/
def gl_in {α : Type} (e : α → α → Bool) (L : Nat → List α) (b : α) : Option Nat := (List.range 4).find? (fun l => (L l).any (e b))
def gl_lv {α : Type} (e : α → α → Bool) (L : Nat → List α) (b : α) : Nat → List α := fun l => (L l).filter (fun c => !(e b c))
def gl_co {α : Type} (L : Nat → List α) (l : Nat) (b : α) : Nat → List α := fu L l (L l ++ [b])
def gl_old {α : Type} (e : α → α → Bool) (L : Nat → List α) (l : Nat) : Nat → List α := match L l with
  | [] => L
  | b :: _ => gl_lv e L b
def gl_mv {α : Type} (e : α → α → Bool) (L : Nat → List α) (l t : Nat) : Nat → List α := match L l with
  | [] => L
  | b :: _ => gl_co (gl_lv e L b) t b
def gl_room {α : Type} (e : α → α → Bool) (L : Nat → List α) (aim : Nat) (g2 : Bool) : Nat → List α :=
  if 0 < (L 0).length ∧ (aim < (L 0).length ∨ (L 0).length = aim ∧ g2 = true) then gl_mv e L 0 2 else if 0 < (L 1).length then gl_mv e L 1 3 else L
def ne_q (a b : Nat) : Bool := decide (a = b)
theorem find4 {P : Nat → Bool} {l : Nat} (hl : l < 4) (h1 : ∀ k, k < l → P k = false) (h2 : P l = true) : (List.range 4).find? P = some l := by
  have e : List.range 4 = [0, 1, 2, 3] := rfl
  rw [e]
  have : l = 0 ∨ l = 1 ∨ l = 2 ∨ l = 3 := by omega
  rcases this with rfl | rfl | rfl | rfl
  · rw [List.find?_cons_of_pos h2]
  · rw [List.find?_cons_of_neg (by rw [h1 0 (by decide)]; decide), List.find?_cons_of_pos h2]
  · rw [List.find?_cons_of_neg (by rw [h1 0 (by decide)]; decide), List.find?_cons_of_neg (by rw [h1 1 (by decide)]; decide), List.find?_cons_of_pos h2]
  · rw [List.find?_cons_of_neg (by rw [h1 0 (by decide)]; decide), List.find?_cons_of_neg (by rw [h1 1 (by decide)]; decide), List.find?_cons_of_neg (by rw [h1 2 (by decide)]; decide), List.find?_cons_of_pos h2]
theorem find4n {P : Nat → Bool} (h1 : ∀ k, k < 4 → P k = false) : (List.range 4).find? P = none := by
  rw [List.find?_eq_none]
  intro x hx
  rw [h1 x (List.mem_range.mp hx)]
  decide
theorem any_pre {L : List Nat} {p : Nat} (h1 : ∀ j, j < L.length → ¬ L.getD j 0 = p) : L.any (ne_q p) = false := by
  rw [Bool.eq_false_iff]
  intro z
  rw [List.any_eq_true] at z
  obtain ⟨x, hx, hq⟩ := z
  obtain ⟨j, hj, e⟩ := List.getElem_of_mem hx
  have hq : p = x := of_decide_eq_true hq
  refine h1 j hj ?_
  rw [List.getD_eq_getElem?_getD, List.getElem?_eq_getElem hj, Option.getD_some, e, hq]
theorem any_at {L : List Nat} {p j : Nat} (hj : j < L.length) (h1 : L.getD j 0 = p) : L.any (ne_q p) = true := by
  rw [List.any_eq_true]
  refine ⟨L[j], List.getElem_mem hj, ?_⟩
  rw [List.getD_eq_getElem?_getD, List.getElem?_eq_getElem hj, Option.getD_some] at h1
  exact decide_eq_true h1.symm
theorem gD_r (L : List Nat) (v : Nat) : (L ++ [v]).getD L.length 0 = v := by
  rw [List.getD_eq_getElem?_getD, List.getElem?_append_right (Nat.le_refl _), Nat.sub_self]
  rfl
theorem gD_l {L : List Nat} {v x : Nat} (h : x < L.length) : (L ++ [v]).getD x 0 = L.getD x 0 := by
  rw [List.getD_eq_getElem?_getD, List.getElem?_append_left h, ← List.getD_eq_getElem?_getD]
theorem rL1.fr {h h' : hh_T} {m l : Nat} {L : List Nat} (q : rL1 h m l L) (e1 : hh_i h' (m + 33) l = hh_i h (m + 33) l) (e2 : ∀ j, j < 16 → hh_i h' (m + 32) (16 * l + j) = hh_i h (m + 32) (16 * l + j)) : rL1 h' m l L := by
  obtain ⟨q1, q2, q3⟩ := q
  exact ⟨e1.trans q1, q2, fun j hj => ⟨(e2 j (by omega)).trans (q3 j hj).1, (q3 j hj).2⟩⟩
section TLi
variable {h : hh_T} {m : Nat} {Q : Option Value ⊕ Nat → hh_T → Prop} {I : Nat → List Nat}
theorem t_inList {p : Nat} (hT : tw_ok h m) (L : rL h m I) (hp : p < 640) (H : Q (.inl (some (.int (oi (Int32.ofInt (-1)) (gl_in ne_q I p))))) h) : gm_G 116 0 [some (.ref m), some (.int (Int32.ofNat p))] [] h Q := by
  have lp : ∀ e l, l + e = 4 → (∀ k, k < l → (I k).any (ne_q p) = false) → gm_G 116 2 [some (.ref m), some (.int (Int32.ofNat p)), some (.int (Int32.ofNat l))] [] h Q := by
    intro e
    induction e with
    | zero =>
      intro l el hn
      have el : l = 4 := by omega
      subst el
      refine w_116_2 hT ⟨fun _ => ?_, fun z => absurd z (by decide)⟩
      unfold gl_in at H
      rw [find4n hn] at H
      exact H
    | succ e ih =>
      intro l el hn
      obtain ⟨q1, q2, q3⟩ := L l (by omega)
      have l2 : ∀ d j, j + d = (I l).length → (∀ x, x < j → ¬ (I l).getD x 0 = p) → gm_G 116 9 [some (.ref m), some (.int (Int32.ofNat p)), some (.int (Int32.ofNat l)), some (.int (Int32.ofNat j))] [] h Q := by
        intro d
        induction d with
        | zero =>
          intro j ej hx
          have ej : j = (I l).length := by omega
          refine w_116_9 hT ?_
          simp (disch := omega) only [forall_eq, exists_eq_left, exists_eq_left', Option.some.injEq, ex_ix, i_add, i_mul, i_sub, i_lt, i_le, i_eq, i_tn, hi_e, hi_n, hj_e, hj_n, hi_wj, hj_wi, hr_wi, hr_wj, ht_wi, ht_wj, hl_wi, hl_wj, hz_wi, hz_wj, hs_wi, hs_wj, hi_wr, hj_wr, hr_e, hr_n, ht_wr, hl_wr, hz_wr, hs_wr, n_lt_t, n_lt_f, n_le_t, n_le_f, n_eq_t, n_eq_f, true_and, and_true, false_and, and_false, true_or, or_true, false_or, or_false, not_true_eq_false, not_false_eq_true, forall_const, implies_true, true_imp_iff, false_imp_iff, gs_t, reduceIte, ite_true, ite_false, q1]
          refine ih (l + 1) (by omega) (fun k hk => ?_)
          by_cases y : k = l
          · rw [y]; exact any_pre (fun x hx2 => hx x (by omega))
          · exact hn k (by omega)
        | succ d ih2 =>
          intro j ej hx
          obtain ⟨q4, q5⟩ := q3 j (by omega)
          refine w_116_9 hT ?_
          by_cases y : (I l).getD j 0 = p
          · simp (disch := omega) only [forall_eq, exists_eq_left, exists_eq_left', Option.some.injEq, ex_ix, i_add, i_mul, i_sub, i_lt, i_le, i_eq, i_tn, hi_e, hi_n, hj_e, hj_n, hi_wj, hj_wi, hr_wi, hr_wj, ht_wi, ht_wj, hl_wi, hl_wj, hz_wi, hz_wj, hs_wi, hs_wj, hi_wr, hj_wr, hr_e, hr_n, ht_wr, hl_wr, hz_wr, hs_wr, n_lt_t, n_lt_f, n_le_t, n_le_f, n_eq_t, n_eq_f, true_and, and_true, false_and, and_false, true_or, or_true, false_or, or_false, not_true_eq_false, not_false_eq_true, forall_const, implies_true, true_imp_iff, false_imp_iff, gs_t, reduceIte, ite_true, ite_false, q1, q4]
            unfold gl_in at H
            rw [find4 (l := l) (by omega) hn (any_at (j := j) (by omega) y)] at H
            exact H
          · simp (disch := omega) only [forall_eq, exists_eq_left, exists_eq_left', Option.some.injEq, ex_ix, i_add, i_mul, i_sub, i_lt, i_le, i_eq, i_tn, hi_e, hi_n, hj_e, hj_n, hi_wj, hj_wi, hr_wi, hr_wj, ht_wi, ht_wj, hl_wi, hl_wj, hz_wi, hz_wj, hs_wi, hs_wj, hi_wr, hj_wr, hr_e, hr_n, ht_wr, hl_wr, hz_wr, hs_wr, n_lt_t, n_lt_f, n_le_t, n_le_f, n_eq_t, n_eq_f, true_and, and_true, false_and, and_false, true_or, or_true, false_or, or_false, not_true_eq_false, not_false_eq_true, forall_const, implies_true, true_imp_iff, false_imp_iff, gs_t, reduceIte, ite_true, ite_false, q1, q4]
            refine ih2 (j + 1) (by omega) (fun x hx2 => ?_)
            by_cases u : x = j
            · rw [u]; exact y
            · exact hx x (by omega)
      refine w_116_2 hT ⟨fun z => absurd (by rw [i_lt (by omega) (by omega)]; omega) z, fun _ => ?_⟩
      exact l2 _ 0 (Nat.zero_add _) (fun x hx => absurd hx (Nat.not_lt_zero _))
  exact w_116_0 hT (lp 4 0 rfl (fun k hk => absurd hk (Nat.not_lt_zero _)))
theorem t_leave {p : Nat} (hT : tw_ok h m) (L : rL h m I) (hp : p < 640) (H : ∀ h', fr (tO m [32, 33] []) h h' → rL h' m (gl_lv ne_q I p) → Q (.inl none) h') : gm_G 129 0 [some (.ref m), some (.int (Int32.ofNat p))] [] h Q := by
  have lp : ∀ e l h1, l + e = 4 → fr (tO m [32, 33] []) h h1 → (∀ k, k < l → rL1 h1 m k (gl_lv ne_q I p k)) → (∀ k, l ≤ k → k < 4 → rL1 h1 m k (I k)) → gm_G 129 2 [some (.ref m), some (.int (Int32.ofNat p)), some (.int (Int32.ofNat l))] [] h1 Q := by
    intro e
    induction e with
    | zero =>
      intro l h1 el g1 c1 c2
      have el : l = 4 := by omega
      subst el
      exact w_129_2 (hT.fr g1) ⟨fun _ => H h1 g1 c1, fun z => absurd z (by decide)⟩
    | succ e ih =>
      intro l h1 el g1 c1 c2
      obtain ⟨q1, q2, q3⟩ := c2 l (Nat.le_refl _) (by omega)
      have l2 : ∀ d j h2, j + d = (I l).length → fr (tO m [32, 33] []) h h2 → (∀ k, k < l → rL1 h2 m k (gl_lv ne_q I p k)) → (∀ k, l < k → k < 4 → rL1 h2 m k (I k)) → hh_i h2 (m + 33) l = (Int32.ofNat ((I l).length))
          → (∀ x, x < (((I l).take j).filter (fun c => !(ne_q p c))).length → hh_i h2 (m + 32) (16 * l + x) = (Int32.ofNat ((((I l).take j).filter (fun c => !(ne_q p c))).getD x 0)) ∧ (((I l).take j).filter (fun c => !(ne_q p c))).getD x 0 < 640)
          → (∀ x, j ≤ x → x < (I l).length → hh_i h2 (m + 32) (16 * l + x) = (Int32.ofNat ((I l).getD x 0)) ∧ (I l).getD x 0 < 640)
          → gm_G 129 12 [some (.ref m), some (.int (Int32.ofNat p)), some (.int (Int32.ofNat l)), some (.int (Int32.ofNat (((((I l).take j).filter (fun c => !(ne_q p c))).length)))), some (.int (Int32.ofNat j))] [] h2 Q := by
        intro d
        induction d with
        | zero =>
          intro j h2 ej g2 d1 d2 d3 d4 d5
          have ej : j = (I l).length := by omega
          have et : ((I l).take j).filter (fun c => !(ne_q p c)) = gl_lv ne_q I p l := by rw [ej, List.take_length]; rfl
          rw [et] at d4 ⊢
          have hle : (gl_lv ne_q I p l).length ≤ (I l).length := List.length_filter_le ..
          refine w_129_12 (hT.fr g2) ?_
          simp (disch := omega) only [forall_eq, exists_eq_left, exists_eq_left', Option.some.injEq, ex_ix, i_add, i_mul, i_sub, i_lt, i_le, i_eq, i_tn, hi_e, hi_n, hj_e, hj_n, hi_wj, hj_wi, hr_wi, hr_wj, ht_wi, ht_wj, hl_wi, hl_wj, hz_wi, hz_wj, hs_wi, hs_wj, hi_wr, hj_wr, hr_e, hr_n, ht_wr, hl_wr, hz_wr, hs_wr, n_lt_t, n_lt_f, n_le_t, n_le_f, n_eq_t, n_eq_f, true_and, and_true, false_and, and_false, true_or, or_true, false_or, or_false, not_true_eq_false, not_false_eq_true, forall_const, implies_true, true_imp_iff, false_imp_iff, gs_t, reduceIte, ite_true, ite_false, d3]
          refine ih (l + 1) _ (by omega) (g2.trans (fr.a rfl)) (fun k hk => ?_) (fun k hk hk4 => (d2 k (by omega) hk4).fr (by rw [hi_n (by omega)]) (fun j hj => by rw [hi_n (by omega)]))
          by_cases y : k = l
          · subst y
            refine ⟨by rw [hi_e ⟨rfl, rfl⟩], by omega, fun x hx => ?_⟩
            rw [hi_n (by omega)]
            exact d4 x hx
          · exact (d1 k (by omega)).fr (by rw [hi_n (by omega)]) (fun j hj => by rw [hi_n (by omega)])
        | succ d ih2 =>
          intro j h2 ej g2 d1 d2 d3 d4 d5
          have hj : j < (I l).length := by omega
          obtain ⟨q4, q5⟩ := d5 j (Nat.le_refl _) hj
          have hle : (((I l).take j).filter (fun c => !(ne_q p c))).length ≤ j := Nat.le_trans (List.length_filter_le ..) (by rw [List.length_take]; omega)
          have eg : (I l).getD j 0 = (I l)[j] := by rw [List.getD_eq_getElem?_getD, List.getElem?_eq_getElem hj]; rfl
          have es : (I l).take (j + 1) = (I l).take j ++ [(I l).getD j 0] := by rw [eg, List.take_succ_eq_append_getElem hj]
          refine w_129_12 (hT.fr g2) ?_
          by_cases y : (I l).getD j 0 = p
          · simp (disch := omega) only [forall_eq, exists_eq_left, exists_eq_left', Option.some.injEq, ex_ix, i_add, i_mul, i_sub, i_lt, i_le, i_eq, i_tn, hi_e, hi_n, hj_e, hj_n, hi_wj, hj_wi, hr_wi, hr_wj, ht_wi, ht_wj, hl_wi, hl_wj, hz_wi, hz_wj, hs_wi, hs_wj, hi_wr, hj_wr, hr_e, hr_n, ht_wr, hl_wr, hz_wr, hs_wr, n_lt_t, n_lt_f, n_le_t, n_le_f, n_eq_t, n_eq_f, true_and, and_true, false_and, and_false, true_or, or_true, false_or, or_false, not_true_eq_false, not_false_eq_true, forall_const, implies_true, true_imp_iff, false_imp_iff, gs_t, reduceIte, ite_true, ite_false, d3, q4]
            refine w_129_65 (hT.fr g2) ?_
            rw [i_add]
            have ef : ((I l).take (j + 1)).filter (fun c => !(ne_q p c)) = ((I l).take j).filter (fun c => !(ne_q p c)) := by
              rw [es, List.filter_append, List.filter_cons_of_neg (by unfold ne_q; rw [decide_eq_true y.symm]; decide), List.filter_nil, List.append_nil]
            have := ih2 (j + 1) h2 (by omega) g2 d1 d2 d3 (by rw [ef]; exact d4) (fun x hx hx2 => d5 x (by omega) hx2)
            rw [ef] at this
            exact this
          · simp (disch := omega) only [forall_eq, exists_eq_left, exists_eq_left', Option.some.injEq, ex_ix, i_add, i_mul, i_sub, i_lt, i_le, i_eq, i_tn, hi_e, hi_n, hj_e, hj_n, hi_wj, hj_wi, hr_wi, hr_wj, ht_wi, ht_wj, hl_wi, hl_wj, hz_wi, hz_wj, hs_wi, hs_wj, hi_wr, hj_wr, hr_e, hr_n, ht_wr, hl_wr, hz_wr, hs_wr, n_lt_t, n_lt_f, n_le_t, n_le_f, n_eq_t, n_eq_f, true_and, and_true, false_and, and_false, true_or, or_true, false_or, or_false, not_true_eq_false, not_false_eq_true, forall_const, implies_true, true_imp_iff, false_imp_iff, gs_t, reduceIte, ite_true, ite_false, d3, q4]
            refine w_129_65 (hT.fr (g2.trans (fr.a rfl))) ?_
            rw [i_add]
            have ef : ((I l).take (j + 1)).filter (fun c => !(ne_q p c)) = ((I l).take j).filter (fun c => !(ne_q p c)) ++ [(I l).getD j 0] := by
              rw [es, List.filter_append, List.filter_cons_of_pos (by unfold ne_q; rw [decide_eq_false (fun u => y u.symm)]; decide), List.filter_nil]
            have := ih2 (j + 1) (hh_wi h2 (m + 32) (16 * l + (((I l).take j).filter (fun c => !(ne_q p c))).length) (Int32.ofNat ((I l).getD j 0))) (by omega) (g2.trans (fr.a rfl)) (fun k hk => (d1 k hk).fr (by rw [hi_n (by omega)]) (fun j hj => by rw [hi_n (by omega)])) (fun k hk hk4 => (d2 k hk hk4).fr (by rw [hi_n (by omega)]) (fun j hj => by rw [hi_n (by omega)])) (by rw [hi_n (by omega)]; exact d3) (fun x hx => ?_) (fun x hx hx2 => by rw [hi_n (by omega)]; exact d5 x (by omega) hx2)
            · rw [ef, List.length_append] at this
              exact this
            · rw [ef] at hx ⊢
              rw [List.length_append] at hx
              have hx : x < (((I l).take j).filter (fun c => !(ne_q p c))).length + 1 := hx
              by_cases u : x = (((I l).take j).filter (fun c => !(ne_q p c))).length
              · rw [hi_e ⟨rfl, by rw [u]⟩, u, gD_r]
                exact ⟨rfl, q5⟩
              · rw [hi_n (by omega), gD_l (by omega)]
                exact d4 x (by omega)
      refine w_129_2 (hT.fr g1) ⟨fun z => absurd (by rw [i_lt (by omega) (by omega)]; omega) z, fun _ => ?_⟩
      have := l2 _ 0 h1 (Nat.zero_add _) g1 c1 (fun k hk hk4 => c2 k (by omega) hk4) q1 (fun x hx => by rw [List.take_zero] at hx; exact absurd hx (Nat.not_lt_zero _)) (fun x _ hx => q3 x hx)
      exact this
  exact w_129_0 hT (lp 4 0 h rfl (fr.refl _ _) (fun k hk => absurd hk (Nat.not_lt_zero _)) (fun k _ hk => L k hk))
theorem t_come {l p : Nat} (hT : tw_ok h m) (L : rL h m I) (hl : l < 4) (hp : p < 640) (h12 : (I l).length < 12) (H : ∀ h', fr (tO m [32, 33] []) h h' → rL h' m (gl_co I l p) → Q (.inl none) h') : gm_G 97 0 [some (.ref m), some (.int (Int32.ofNat l)), some (.int (Int32.ofNat p))] [] h Q := by
  obtain ⟨q1, q2, q3⟩ := L l hl
  refine w_97_0 hT ?_
  simp (disch := omega) only [forall_eq, exists_eq_left, exists_eq_left', Option.some.injEq, ex_ix, i_add, i_mul, i_sub, i_lt, i_le, i_eq, i_tn, hi_e, hi_n, hj_e, hj_n, hi_wj, hj_wi, hr_wi, hr_wj, ht_wi, ht_wj, hl_wi, hl_wj, hz_wi, hz_wj, hs_wi, hs_wj, hi_wr, hj_wr, hr_e, hr_n, ht_wr, hl_wr, hz_wr, hs_wr, n_lt_t, n_lt_f, n_le_t, n_le_f, n_eq_t, n_eq_f, true_and, and_true, false_and, and_false, true_or, or_true, false_or, or_false, not_true_eq_false, not_false_eq_true, forall_const, implies_true, true_imp_iff, false_imp_iff, gs_t, reduceIte, ite_true, ite_false, q1]
  refine H _ ((fr.a rfl).trans (fr.a rfl)) (fun k hk => ?_)
  unfold gl_co fu
  by_cases y : k = l
  · subst y
    rw [if_pos rfl]
    refine ⟨?_, by rw [List.length_append]; exact h12, fun j hj => ?_⟩
    · rw [hi_e ⟨rfl, rfl⟩, List.length_append]
      rfl
    · rw [List.length_append] at hj
      have hj : j < (I k).length + 1 := hj
      rw [hi_n (by omega)]
      by_cases u : j = (I k).length
      · rw [hi_e ⟨rfl, by rw [u]⟩, u, gD_r]
        exact ⟨rfl, hp⟩
      · rw [hi_n (by omega), gD_l (by omega)]
        exact q3 j (by omega)
  · rw [if_neg y]
    exact (L k hk).fr (by rw [hi_n (by omega), hi_n (by omega)]) (fun j hj => by rw [hi_n (by omega), hi_n (by omega)])
theorem gl_lv_le {α : Type} (e : α → α → Bool) (L : Nat → List α) (b : α) (l : Nat) : (gl_lv e L b l).length ≤ (L l).length := List.length_filter_le ..
theorem t_oldest {l : Nat} (hT : tw_ok h m) (L : rL h m I) (hl : l < 4) {p : Nat} {r : List Nat} (e : I l = p :: r) (H : ∀ h', fr (tO m [32, 33] []) h h' → rL h' m (gl_lv ne_q I p) → Q (.inl (some (.int (Int32.ofNat p)))) h') : gm_G 293 0 [some (.ref m), some (.int (Int32.ofNat l))] [] h Q := by
  obtain ⟨q1, q2, q3⟩ := L l hl
  obtain ⟨q4, q5⟩ := q3 0 (by rw [e]; exact Nat.zero_lt_succ _)
  have e0 : (I l).getD 0 0 = p := by rw [e]; rfl
  rw [e0] at q4 q5
  refine w_293_0 hT ⟨16 * l, by rw [i_mul]; exact ix_n (by omega) (by omega), ?_⟩
  rw [show hh_i h (m + 32) (16 * l) = (Int32.ofNat p) from q4]
  exact t_leave hT L q5 (fun h' g L' => H h' g L')
theorem t_makeRoom {aim : Nat} {g2 : Bool} (hT : tw_ok h m) (L : rL h m I) (ha : hh_i h m 46 = (Int32.ofNat aim)) (ha6 : aim ≤ 6) (h2 : 0 < (I 0).length → (I 2).length < 12) (h3 : 0 < (I 1).length → (I 3).length < 12) (H : ∀ h', fr (tO m [32, 33] []) h h' → rL h' m (gl_room ne_q I aim g2) → Q (.inl none) h') : gm_G 375 0 [some (.ref m), some (.int (bi g2))] [] h Q := by
  obtain ⟨a1, a2, a3⟩ := L 0 (by decide)
  obtain ⟨b1, b2, b3⟩ := L 1 (by decide)
  have mv : ∀ l t, l < 4 → t < 4 → (I t).length < 12 → ∀ p r, I l = p :: r → (∀ h', fr (tO m [32, 33] []) h h' → rL h' m (gl_mv ne_q I l t) → Q (.inl none) h') → gm_G 293 0 [some (.ref m), some (.int (Int32.ofNat l))] [] h (pI (fun v2 h1 => gm_G 97 0 [some (.ref m), some (.int (Int32.ofNat t)), some (.int v2)] [] h1 (pV (fun h3 => Q (.inl none) h3) (fun _ _ => False))) (fun _ _ => False)) := by
    intro l t hl ht h12 p r e H
    refine t_oldest hT L hl e (fun h1 g1 L1 => ?_)
    have hp : p < 640 := by
      have := ((L l hl).2.2 0 (by rw [e]; exact Nat.zero_lt_succ _)).2
      rw [e] at this
      exact this
    refine t_come (hT.fr g1) L1 ht hp (Nat.lt_of_le_of_lt (gl_lv_le ..) h12) (fun h2 g2 L2 => H h2 (g1.trans g2) ?_)
    unfold gl_mv
    rw [e]
    exact L2
  have m0 : 0 < (I 0).length → (aim < (I 0).length ∨ (I 0).length = aim ∧ g2 = true) → gm_G 375 39 [some (.ref m)] [] h Q := by
    intro z1 z2
    refine w_375_39 hT ?_
    cases e : I 0 with
    | nil => exact absurd z1 (by rw [e]; decide)
    | cons p r =>
      refine mv 0 2 (by decide) (by decide) (h2 z1) p r e (fun h' g L' => H h' g ?_)
      unfold gl_room
      rw [if_pos ⟨z1, z2⟩]
      exact L'
  have m1 : ¬ (0 < (I 0).length ∧ (aim < (I 0).length ∨ (I 0).length = aim ∧ g2 = true)) → gm_G 375 52 [some (.ref m)] [] h Q := by
    intro z
    refine w_375_52 hT ⟨fun y => ?_, fun y => ?_⟩
    · rw [b1, i_lt (by omega) (by omega)] at y
      refine H h (fr.refl _ _) ?_
      unfold gl_room
      rw [if_neg z, if_neg y]
      exact L
    · rw [b1, i_lt (by omega) (by omega)] at y
      cases e : I 1 with
      | nil => exact absurd y (by rw [e]; decide)
      | cons p r =>
        refine mv 1 3 (by decide) (by decide) (h3 y) p r e (fun h' g L' => H h' g ?_)
        unfold gl_room
        rw [if_neg z, if_pos y]
        exact L'
  refine w_375_0 hT ⟨fun y => ?_, fun y => ⟨fun y2 => ?_, fun y2 => ⟨fun y3 => ?_, fun y3 => ⟨fun y4 => ?_, fun y4 => ?_⟩⟩⟩⟩
  · rw [a1, i_lt (by omega) (by omega)] at y
    exact m1 (fun z => y z.1)
  · rw [a1, i_lt (by omega) (by omega)] at y
    rw [a1, ha, i_lt (by omega) (by omega)] at y2
    exact m0 y (Or.inl y2)
  · rw [a1, ha, i_lt (by omega) (by omega)] at y2
    rw [a1, ha, i_eq (by omega) (by omega)] at y3
    refine m1 (fun z => ?_)
    rcases z.2 with u | u
    · exact y2 u
    · exact y3 u.1
  · rw [a1, ha, i_lt (by omega) (by omega)] at y2
    refine m1 (fun z => ?_)
    rcases z.2 with u | u
    · exact y2 u
    · rw [u.2] at y4; exact absurd y4 (by decide)
  · rw [a1, i_lt (by omega) (by omega)] at y
    rw [a1, ha, i_eq (by omega) (by omega)] at y3
    refine m0 y (Or.inr ⟨y3, ?_⟩)
    cases g2 with
    | true => rfl
    | false => exact absurd rfl y4
end TLi
