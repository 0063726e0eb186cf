/-! STAGE 3: the cache by places and by blocks -/
theorem zb_ok.lt {P : zP} {G : zG} {b : zB} (K : zg_ok P G) (z : zb_ok G b) {c : Nat × Nat} (hc : c ∈ zb_cp b) : c.1 < 3 ∧ c.2 < 400 := by
  obtain ⟨k0, k1, -⟩ := K
  obtain ⟨z1, z2⟩ := z c hc
  obtain ⟨c1, c2, c3, c4, -⟩ := k1 _ z1
  refine ⟨by omega, ?_⟩
  have : zg_pl G c.1 ≤ 384 := by
    unfold zg_pl
    split
    · exact Nat.le_trans (Nat.mul_le_mul c2 c4) (by decide)
    · omega
  omega
theorem tb_inj {h : hh_T} {m p : Nat} {b b' : zB} {P : zP} {G : zG} (K : zg_ok P G) (B : tb h m p b) (B' : tb h m p b') (z : zb_ok G b) (z' : zb_ok G b') : b = b' := by
  obtain ⟨b1, b2, b3, b4, b5, b6, b7, b8, b9, b10, b11, b12⟩ := B
  obtain ⟨c1, c2, c3, c4, c5, c6, c7, c8, c9, c10, c11, c12⟩ := B'
  have e1 : zb_co b = zb_co b' := (i_eq (by omega) (by omega)).mp (b1.symm.trans c1)
  have e2 : zb_k b = zb_k b' := (i_eq (by omega) (by omega)).mp (b3.symm.trans c3)
  have e3 : (zb_cp b).length = (zb_cp b').length := (i_eq (by omega) (by omega)).mp (b6.symm.trans c6)
  have e4 : zb_cp b = zb_cp b' := by
    refine List.ext_getElem e3 (fun i h1 h2 => ?_)
    have g1 : (zb_cp b).getD i (0, 0) = (zb_cp b)[i] := by rw [List.getD_eq_getElem?_getD, List.getElem?_eq_getElem h1]; rfl
    have g2 : (zb_cp b').getD i (0, 0) = (zb_cp b')[i] := by rw [List.getD_eq_getElem?_getD, List.getElem?_eq_getElem h2]; rfl
    obtain ⟨x1, x2⟩ := b9 i h1
    obtain ⟨y1, y2⟩ := c9 i h2
    rw [g1] at x1 x2
    rw [g2] at y1 y2
    have l1 := z.lt K (List.getElem_mem h1)
    have l2 := z'.lt K (List.getElem_mem h2)
    exact Prod.ext ((i_eq (by omega) (by omega)).mp (x1.symm.trans y1)) ((i_eq (by omega) (by omega)).mp (x2.symm.trans y2))
  have e5 : zb_su b = zb_su b' := b10.symm.trans c10
  have e6 : zb_sh b = zb_sh b' := by
    have i1 := bi_inj.mp (b11.symm.trans c11)
    cases u : zb_sh b with
    | none =>
      cases u' : zb_sh b' with
      | none => rfl
      | some l' => rw [u, u'] at i1; cases i1
    | some l =>
      cases u' : zb_sh b' with
      | none => rw [u, u'] at i1; cases i1
      | some l' =>
        obtain ⟨x1, x2⟩ := b12 l u
        obtain ⟨y1, y2⟩ := c12 l' u'
        congr 1
        refine List.ext_getElem (by omega) (fun i h1 h2 => ?_)
        have x3 := x2 i (by omega)
        have y3 := y2 i (by omega)
        have g1 : lf l i = l[i] := by unfold lf; rw [List.getD_eq_getElem?_getD, List.getElem?_eq_getElem h1]; rfl
        have g2 : lf l' i = l'[i] := by unfold lf; rw [List.getD_eq_getElem?_getD, List.getElem?_eq_getElem h2]; rfl
        rw [← g1, ← g2, ← x3, ← y3]
  exact Prod.ext e1 (Prod.ext e2 (Prod.ext e4 (Prod.ext e5 e6)))
theorem tw_uN.of {h : hh_T} {m p : Nat} {E : zE} (R : rT_E h m E) : tw_uN h m p ↔ tw_us h m (tw_sl h m (ze_up E) (ze_heads E).length) p := by
  obtain ⟨r1, r2, r3, r4, r5, -⟩ := R
  unfold tw_uN
  have e1 : decide (hh_i h m 77 = (Int32.ofNat 1)) = ze_up E := by rw [r2]; cases ze_up E <;> rfl
  have e2 : (hh_i h m 99).toNatClampNeg = (ze_heads E).length := by rw [r4, i_tn (by omega)]
  rw [e1, e2]
theorem tb_key {h : hh_T} {m p : Nat} {b : zB} (B : tb h m p b) : hh_i h (m + 23) (2 * p) = (Int32.ofNat ((zb_key b).1)) ∧ hh_i h (m + 24) (2 * p) = (Int32.ofNat ((zb_key b).2)) := by
  obtain ⟨b1, b2, b3, b4, b5, b6, b7, b8, b9, b10, b11⟩ := B
  have ek : (zb_cp b).getD 0 (0, 0) = zb_key b := by unfold zb_key; cases zb_cp b <;> rfl
  rw [← ek]
  exact b9 0 (by omega)
/-- places in use are equal where keys are -/
theorem us_key {h : hh_T} {m p q : Nat} {E : zE} {b c : zB} (R : rT_E h m E) (hp : p < 640) (hq : q < 640) (up : tw_uN h m p) (uq : tw_uN h m q) (B : tb h m p b) (C : tb h m q c) (e : zb_key b = zb_key c) : p = q := by
  obtain ⟨r1, r2, r3, r4, r5, r6, r7, r8, r9⟩ := id R
  obtain ⟨x1, x2⟩ := tb_key B
  obtain ⟨y1, y2⟩ := tb_key C
  exact r8 p q hp hq ((tw_uN.of R).mp up) ((tw_uN.of R).mp uq) (by rw [x1, y1, e]) (by rw [x2, y2, e])
def rlF (f : Nat → zB) (I : Nat → List Nat) (L : Nat → List zB) : Prop := ∀ l, l < 4 → L l = (I l).map f
def rlA (A : Nat → Prop) (I : Nat → List Nat) : Prop := ∀ l, l < 4 → ∀ p, p ∈ I l → A p
/-- what is in the first two lists was there -/
def rlS (p : Nat) (J I : Nat → List Nat) : Prop := ∀ l, l < 2 → ∀ q, q ∈ I l → q = p ∨ q ∈ J l
section GL
variable {A : Nat → Prop} {f : Nat → zB} {I J : Nat → List Nat} {L : Nat → List zB}
theorem rlF.len (r : rlF f I L) {l : Nat} (hl : l < 4) : (L l).length = (I l).length := by rw [r l hl, List.length_map]
theorem rlF.lv (inj : ∀ p q, A p → A q → zb_eq (f p) (f q) = ne_q p q) (r : rlF f I L) (a : rlA A I) {p : Nat} (hp : A p) : rlF f (gl_lv ne_q I p) (gl_lv zb_eq L (f p)) := by
  intro l hl
  unfold gl_lv
  rw [r l hl, List.filter_map]
  congr 1
  refine List.filter_congr (fun q hq => ?_)
  show (!(zb_eq (f p) (f q))) = _
  rw [inj p q hp (a l hl q hq)]
theorem rlF.co (r : rlF f I L) (l p : Nat) : rlF f (gl_co I l p) (gl_co L l (f p)) := by
  intro k hk
  unfold gl_co fu
  by_cases y : k = l
  · subst y
    rw [if_pos rfl, if_pos rfl, r k hk, List.map_append]
    rfl
  · rw [if_neg y, if_neg y, r k hk]
theorem rlF.old (inj : ∀ p q, A p → A q → zb_eq (f p) (f q) = ne_q p q) (r : rlF f I L) (a : rlA A I) {l : Nat} (hl : l < 4) : rlF f (gl_old ne_q I l) (gl_old zb_eq L l) := by
  unfold gl_old
  cases e : I l with
  | nil =>
    have e2 : L l = [] := by rw [r l hl, e]; rfl
    rw [e2]
    exact r
  | cons p t =>
    have e2 : L l = f p :: t.map f := by rw [r l hl, e]; rfl
    rw [e2]
    exact r.lv inj a (a l hl p (by rw [e]; exact List.mem_cons_self ..))
theorem rlF.mv (inj : ∀ p q, A p → A q → zb_eq (f p) (f q) = ne_q p q) (r : rlF f I L) (a : rlA A I) {l : Nat} (t' : Nat) (hl : l < 4) : rlF f (gl_mv ne_q I l t') (gl_mv zb_eq L l t') := by
  unfold gl_mv
  cases e : I l with
  | nil =>
    have e2 : L l = [] := by rw [r l hl, e]; rfl
    rw [e2]
    exact r
  | cons p t =>
    have e2 : L l = f p :: t.map f := by rw [r l hl, e]; rfl
    rw [e2]
    exact (r.lv inj a (a l hl p (by rw [e]; exact List.mem_cons_self ..))).co t' p
theorem rlF.room (inj : ∀ p q, A p → A q → zb_eq (f p) (f q) = ne_q p q) (r : rlF f I L) (a : rlA A I) (aim : Nat) (g2 : Bool) : rlF f (gl_room ne_q I aim g2) (gl_room zb_eq L aim g2) := by
  unfold gl_room
  rw [r.len (show 0 < 4 by decide), r.len (show 1 < 4 by decide)]
  split
  · exact r.mv inj a 2 (by decide)
  · split
    · exact r.mv inj a 3 (by decide)
    · exact r
theorem find4_cg {P P' : Nat → Bool} (e : ∀ k, k < 4 → P k = P' k) : (List.range 4).find? P = (List.range 4).find? P' := by
  have e4 : List.range 4 = [0, 1, 2, 3] := rfl
  rw [e4]
  simp only [List.find?_cons, e 0 (by decide), e 1 (by decide), e 2 (by decide), e 3 (by decide), List.find?_nil]
theorem rlF.in (inj : ∀ p q, A p → A q → zb_eq (f p) (f q) = ne_q p q) (r : rlF f I L) (a : rlA A I) {p : Nat} (hp : A p) : gl_in zb_eq L (f p) = gl_in ne_q I p := by
  unfold gl_in
  refine find4_cg (fun k hk => ?_)
  rw [r k hk, List.any_map, Bool.eq_iff_iff, List.any_eq_true, List.any_eq_true]
  constructor
  · rintro ⟨x, h1, h2⟩
    exact ⟨x, h1, by rw [← inj p x hp (a k hk x h1)]; exact h2⟩
  · rintro ⟨x, h1, h2⟩
    exact ⟨x, h1, by show zb_eq (f p) (f x) = true; rw [inj p x hp (a k hk x h1)]; exact h2⟩
theorem gl_lv_m {p l q : Nat} (h : q ∈ gl_lv ne_q I p l) : q ∈ I l ∧ ¬ q = p := by
  unfold gl_lv at h
  rw [List.mem_filter] at h
  refine ⟨h.1, fun e => ?_⟩
  have h2 := h.2
  unfold ne_q at h2
  rw [e, decide_eq_true rfl] at h2
  cases h2
theorem gl_co_m {p l k q : Nat} (h : q ∈ gl_co I l p k) : q ∈ I k ∨ (k = l ∧ q = p) := by
  unfold gl_co fu at h
  by_cases y : k = l
  · rw [if_pos y, List.mem_append, List.mem_singleton] at h
    rcases h with h | h
    · left; rw [y]; exact h
    · exact Or.inr ⟨y, h⟩
  · rw [if_neg y] at h
    exact Or.inl h
theorem gl_old_m {l k q : Nat} (h : q ∈ gl_old ne_q I l k) : q ∈ I k := by
  unfold gl_old at h
  cases e : I l with
  | nil => rw [e] at h; exact h
  | cons p t => rw [e] at h; exact (gl_lv_m h).1
theorem gl_mv_m {l t' k q : Nat} (h : q ∈ gl_mv ne_q I l t' k) : q ∈ I k ∨ (k = t' ∧ q ∈ I l) := by
  unfold gl_mv at h
  cases e : I l with
  | nil => rw [e] at h; exact Or.inl h
  | cons p t =>
    rw [e] at h
    rcases gl_co_m h with h | ⟨h1, h2⟩
    · exact Or.inl (gl_lv_m h).1
    · exact Or.inr ⟨h1, by rw [h2]; exact List.mem_cons_self ..⟩
theorem gl_room_m {aim k q : Nat} {g2 : Bool} (h : q ∈ gl_room ne_q I aim g2 k) : q ∈ I k ∨ (k = 2 ∧ q ∈ I 0) ∨ (k = 3 ∧ q ∈ I 1) := by
  unfold gl_room at h
  split at h
  · rcases gl_mv_m h with h | h
    · exact Or.inl h
    · exact Or.inr (Or.inl h)
  · split at h
    · rcases gl_mv_m h with h | h
      · exact Or.inl h
      · exact Or.inr (Or.inr h)
    · exact Or.inl h
theorem rlA.lv (a : rlA A I) (p : Nat) : rlA A (gl_lv ne_q I p) := fun l hl q hq => a l hl q (gl_lv_m hq).1
theorem rlA.co (a : rlA A I) (l : Nat) {p : Nat} (hp : A p) : rlA A (gl_co I l p) := fun k hk q hq => by
  rcases gl_co_m hq with h | ⟨-, h⟩
  · exact a k hk q h
  · rw [h]; exact hp
theorem rlA.old (a : rlA A I) (l : Nat) : rlA A (gl_old ne_q I l) := fun k hk q hq => a k hk q (gl_old_m hq)
theorem rlA.room (a : rlA A I) (aim : Nat) (g2 : Bool) : rlA A (gl_room ne_q I aim g2) := fun k hk q hq => by
  rcases gl_room_m hq with h | ⟨-, h⟩ | ⟨-, h⟩
  · exact a k hk q h
  · exact a 0 (by decide) q h
  · exact a 1 (by decide) q h
theorem rlS.lv {p0 : Nat} (a : rlS p0 J I) (p : Nat) : rlS p0 J (gl_lv ne_q I p) := fun l hl q hq => a l hl q (gl_lv_m hq).1
theorem rlS.co {p : Nat} (a : rlS p J I) (l : Nat) : rlS p J (gl_co I l p) := fun k hk q hq => by
  rcases gl_co_m hq with h | ⟨-, h⟩
  · exact a k hk q h
  · exact Or.inl h
theorem rlS.old {p : Nat} (a : rlS p J I) (l : Nat) : rlS p J (gl_old ne_q I l) := fun k hk q hq => a k hk q (gl_old_m hq)
theorem rlS.room {p : Nat} (a : rlS p J I) (aim : Nat) (g2 : Bool) : rlS p J (gl_room ne_q I aim g2) := fun k hk q hq => by
  rcases gl_room_m hq with h | ⟨h, -⟩ | ⟨h, -⟩
  · exact a k hk q h
  · omega
  · omega
end GL
theorem zc_old_k (C : zC) (l : Nat) : zc_ls (zc_old C l) = gl_old zb_eq (zc_ls C) l ∧ zc_aim (zc_old C l) = zc_aim C ∧ zc_hits (zc_old C l) = zc_hits C ∧ zc_miss (zc_old C l) = zc_miss C := by
  unfold zc_old gl_old
  cases zc_ls C l <;> exact ⟨rfl, rfl, rfl, rfl⟩
theorem zc_mv_k (C : zC) (l t : Nat) : zc_ls (zc_mv C l t) = gl_mv zb_eq (zc_ls C) l t ∧ zc_aim (zc_mv C l t) = zc_aim C ∧ zc_hits (zc_mv C l t) = zc_hits C ∧ zc_miss (zc_mv C l t) = zc_miss C := by
  unfold zc_mv gl_mv
  cases zc_ls C l <;> exact ⟨rfl, rfl, rfl, rfl⟩
theorem zc_room_k (C : zC) (g2 : Bool) : zc_ls (zc_room C g2) = gl_room zb_eq (zc_ls C) (zc_aim C) g2 ∧ zc_aim (zc_room C g2) = zc_aim C ∧ zc_hits (zc_room C g2) = zc_hits C ∧ zc_miss (zc_room C g2) = zc_miss C := by
  unfold zc_room gl_room zc_n
  split
  · exact zc_mv_k C 0 2
  · split
    · exact zc_mv_k C 1 3
    · exact ⟨rfl, rfl, rfl, rfl⟩
theorem gl_mv_le {α : Type} (e : α → α → Bool) (L : Nat → List α) {l t k : Nat} (hk : ¬ k = t) : (gl_mv e L l t k).length ≤ (L k).length := by
  unfold gl_mv
  cases L l with
  | nil => exact Nat.le_refl _
  | cons p r =>
    show (gl_co (gl_lv e L p) t p k).length ≤ _
    unfold gl_co fu
    rw [if_neg hk]
    exact gl_lv_le ..
theorem gl_room_le {α : Type} (e : α → α → Bool) (L : Nat → List α) (aim : Nat) (g2 : Bool) {k : Nat} (hk : k < 2) : (gl_room e L aim g2 k).length ≤ (L k).length := by
  unfold gl_room
  split
  · exact gl_mv_le e L (by omega)
  · split
    · exact gl_mv_le e L (by omega)
    · exact Nat.le_refl _
theorem gl_old_le {α : Type} (e : α → α → Bool) (L : Nat → List α) (l k : Nat) : (gl_old e L l k).length ≤ (L k).length := by
  unfold gl_old
  cases L l with
  | nil => exact Nat.le_refl _
  | cons p r => exact gl_lv_le ..
/-- the oldest leaves its list -/
theorem gl_old_lt {L : Nat → List Nat} {l p : Nat} {r : List Nat} (h : L l = p :: r) : (gl_old ne_q L l l).length < (L l).length := by
  unfold gl_old
  rw [h]
  show (gl_lv ne_q L p l).length < _
  unfold gl_lv
  rw [h, List.filter_cons_of_neg (by unfold ne_q; rw [decide_eq_true rfl]; decide)]
  exact Nat.lt_succ_of_le (List.length_filter_le ..)
/-- how long lists are -/
def zc_ok (C : zC) : Prop := zc_n C 0 + zc_n C 1 ≤ 6 ∧ zc_n C 0 + zc_n C 2 ≤ 6 ∧ zc_n C 0 + zc_n C 1 + zc_n C 2 + zc_n C 3 ≤ 12
