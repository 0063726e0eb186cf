/-! STAGE 3: a plan of blocks -/
/-- only ints at places of the twin and sums of blocks change -/
def hh_sj (h : hh_T) (J : Nat → Nat → Int64) : hh_T := (hh_sz h, hh_sl h, hh_tg h, hh_ln h, hh_i h, J, hh_r h)
def fq (m : Nat) (O F : List Nat) (h h' : hh_T) : Prop := fr (tO m O F) h (hh_sj h' (hh_j h)) ∧ ∀ a k, ¬ a = m + 25 → hh_j h' a k = hh_j h a k
theorem fq.of {m : Nat} {O F : List Nat} {h h' : hh_T} (g : fr (tO m O F) h h') : fq m O F h h' := ⟨⟨g.1, g.2.1, g.2.2.1, g.2.2.2.1, rfl, g.2.2.2.2.2.1, g.2.2.2.2.2.2⟩, fun a k _ => by rw [g.jj]⟩
theorem fq.trans {m : Nat} {O F : List Nat} {h h1 h2 : hh_T} (a : fq m O F h h1) (b : fq m O F h1 h2) : fq m O F h h2 := by
  obtain ⟨⟨a1, a2, a3, a4, a5, a6, a7⟩, a8⟩ := a
  obtain ⟨⟨b1, b2, b3, b4, b5, b6, b7⟩, b8⟩ := b
  exact ⟨⟨b1.trans a1, b2.trans a2, b3.trans a3, b4.trans a4, rfl, b6.trans a6, fun x k q => (b7 x k q).trans (a7 x k q)⟩, fun x k q => (b8 x k q).trans (a8 x k q)⟩
theorem fq.up {m : Nat} {O F O' F' : List Nat} {h h' : hh_T} (g : fq m O F h h') (h1 : (O.all fun o => O'.contains o) = true) (h2 : (F.all fun o => F'.contains o) = true) : fq m O' F' h h' := ⟨g.1.up h1 h2, g.2⟩
theorem fq.arr {m : Nat} {O F : List Nat} {h h' : hh_T} (g : fq m O F h h') {o : Nat} (ho : (O.contains o || Nat.beq o 0) = false) : hh_i h' (m + o) = hh_i h (m + o) := g.1.arr ho
theorem fq.fld {m : Nat} {O F : List Nat} {h h' : hh_T} (g : fq m O F h h') {f : Nat} (hf : F.contains f = false) : hh_i h' m f = hh_i h m f := g.1.fld hf
theorem fq.tw {m : Nat} {O F : List Nat} {h h' : hh_T} (g : fq m O F h h') (hT : tw_ok h m) : tw_ok h' m := by
  have q := hT.fr g.1
  exact q
theorem fq.tg {m : Nat} {O F : List Nat} {h h' : hh_T} (g : fq m O F h h') : hh_tg h' = hh_tg h := g.1.tg
theorem fq.ln {m : Nat} {O F : List Nat} {h h' : hh_T} (g : fq m O F h h') : hh_ln h' = hh_ln h := g.1.ln
theorem fq.wj {m : Nat} {O F : List Nat} {h : hh_T} {k : Nat} {x : Int64} : fq m O F h (hh_wj h (m + 25) k x) := ⟨⟨rfl, rfl, rfl, rfl, rfl, rfl, fun _ _ _ => rfl⟩, fun a j z => by rw [hj_n (fun y => z y.1)]⟩
/-- a place of the table is as it was -/
def ts (h h' : hh_T) (m p : Nat) : Prop := (∀ o, [17, 18, 19, 20, 21, 22].contains o = true → hh_i h' (m + o) p = hh_i h (m + o) p) ∧ (∀ c, c < 2 → hh_i h' (m + 23) (2 * p + c) = hh_i h (m + 23) (2 * p + c) ∧ hh_i h' (m + 24) (2 * p + c) = hh_i h (m + 24) (2 * p + c)) ∧ hh_j h' (m + 25) p = hh_j h (m + 25) p ∧ ∀ i, i < 32 → hh_i h' (m + 26) (32 * p + i) = hh_i h (m + 26) (32 * p + i)
theorem ts.refl (h : hh_T) (m p : Nat) : ts h h m p := ⟨fun _ _ => rfl, fun _ _ => ⟨rfl, rfl⟩, rfl, fun _ _ => rfl⟩
theorem ts.trans {h h1 h2 : hh_T} {m p : Nat} (a : ts h h1 m p) (b : ts h1 h2 m p) : ts h h2 m p :=
  ⟨fun o ho => (b.1 o ho).trans (a.1 o ho), fun c hc => ⟨(b.2.1 c hc).1.trans (a.2.1 c hc).1, (b.2.1 c hc).2.trans (a.2.1 c hc).2⟩, b.2.2.1.trans a.2.2.1, fun i hi => (b.2.2.2 i hi).trans (a.2.2.2 i hi)⟩
/-- arrays of the table -/
def oTb (o : Nat) : Bool := Nat.ble 17 o && Nat.ble o 26
theorem ts_fr {O F : List Nat} {h h' : hh_T} {m p : Nat} (g : fr (tO m O F) h h') (hO : (O.all fun o => !(oTb o)) = true) : ts h h' m p := by
  refine ⟨fun o ho => ?_, fun c _ => ⟨?_, ?_⟩, by rw [g.jj], fun i _ => ?_⟩
  · have h1 : oTb o = true ∧ ¬ o = 0 := by
      have : o = 17 ∨ o = 18 ∨ o = 19 ∨ o = 20 ∨ o = 21 ∨ o = 22 := by simpa using ho
      rcases this with e | e | e | e | e | e <;> subst e <;> decide
    rw [g.arrs hO h1.1 h1.2]
  · rw [g.arrs (o := 23) hO rfl (by decide)]
  · rw [g.arrs (o := 24) hO rfl (by decide)]
  · rw [g.arrs (o := 26) hO rfl (by decide)]
theorem tb_ts {h h' : hh_T} {m p : Nat} {b : zB} (g : ts h h' m p) (B : tb h m p b) : tb h' m p b := by
  obtain ⟨g1, g2, g3, g4⟩ := g
  obtain ⟨b1, b2, b3, b4, b5, b6, b7, b8, b9, b10, b11, b12⟩ := B
  refine ⟨by rw [g1 20 rfl]; exact b1, b2, by rw [g1 21 rfl]; exact b3, b4, b5, by rw [g1 22 rfl]; exact b6, b7, b8, fun c hc => ?_, by rw [g3]; exact b10, by rw [g1 19 rfl]; exact b11, fun l hl => ⟨(b12 l hl).1, fun i hi => ?_⟩⟩
  · rw [(g2 c (by omega)).1, (g2 c (by omega)).2]; exact b9 c hc
  · rw [g4 i (by omega)]; exact (b12 l hl).2 i hi
/-- what stands in a plan: a hole; a block that is there; a new one -/
def tpe (h : hh_T) (m : Nat) (β : Nat → zB) (k : Nat) (q : Option zB × Option zBy) : Prop := match q.1, q.2 with
  | none, _ => hh_i h (m + 30) k = Int32.ofInt (-1) ∧ hh_i h (m + 31) k = (Int32.ofNat 0)
  | some b, none => ∃ p, p < 640 ∧ hh_i h (m + 30) k = (Int32.ofNat p) ∧ hh_i h (m + 31) k = (Int32.ofNat 0) ∧ hh_i h (m + 18) p = (Int32.ofNat 1) ∧ β p = b
  | some b, some l => ∃ p, p < 640 ∧ hh_i h (m + 30) k = (Int32.ofNat p) ∧ hh_i h (m + 31) k = (Int32.ofNat 1) ∧ hh_i h (m + 18) p = (Int32.ofNat 1) ∧ β p = b ∧ ∀ i, i < 8 * zb_k b → hh_i h (m + 26) (32 * p + i) = lf l i
/-- the table as it is while a plan is made: U in use, at places β -/
def tpt (h : hh_T) (m : Nat) (G : zG) (U : List zB) (β : Nat → zB) : Prop := (∀ p, p < 640 → (hh_i h (m + 18) p = (Int32.ofNat 1) ∧ hh_i h (m + 17) p = (Int32.ofNat 1) ∧ tb h m p (β p) ∧ zb_ok G (β p) ∧ β p ∈ U) ∨ (hh_i h (m + 18) p = (Int32.ofNat 0) ∧ hh_i h (m + 17) p = (Int32.ofNat 0)))
  ∧ (∀ b, b ∈ U → ∃ p, p < 640 ∧ hh_i h (m + 18) p = (Int32.ofNat 1) ∧ β p = b) ∧ tkd h m G U
  ∧ (∀ p q, p < 640 → q < 640 → hh_i h (m + 18) p = (Int32.ofNat 1) → hh_i h (m + 18) q = (Int32.ofNat 1) → zb_key (β p) = zb_key (β q) → p = q)
  ∧ ∀ b b', b ∈ U → b' ∈ U → zb_co b = zb_co b' → zb_k b = zb_k b' → zb_sh b = zb_sh b' → (zb_sh b).isSome = true → b = b'
def tpn (h : hh_T) (m : Nat) (G : zG) (U : List zB) (β : Nat → zB) (np : Nat) (π : Nat → Option zB × Option zBy) : Prop := tpt h m G U β ∧ hh_i h m 41 = (Int32.ofNat np) ∧ ∀ k, k < np → tpe h m β k (π k)
theorem tpt.at {h : hh_T} {m : Nat} {G : zG} {U : List zB} {β : Nat → zB} (t : tpt h m G U β) {p : Nat} (hp : p < 640) (e : hh_i h (m + 18) p = (Int32.ofNat 1)) : hh_i h (m + 17) p = (Int32.ofNat 1) ∧ tb h m p (β p) ∧ zb_ok G (β p) ∧ β p ∈ U := by
  rcases t.1 p hp with ⟨-, q⟩ | ⟨q, -⟩
  · exact q
  · rw [e] at q; exact absurd q (by decide)
/-- a frame that leaves the table as it is -/
theorem tpt_fr {O F : List Nat} {h h' : hh_T} {m : Nat} {G : zG} {U : List zB} {β : Nat → zB} (t : tpt h m G U β) (g : fr (tO m O F) h h') (hO : (O.all fun o => !(oTb o || Nat.beq o 27)) = true) : tpt h' m G U β := by
  have hO2 : (O.all fun o => !(oTb o)) = true := by
    rw [List.all_eq_true] at hO ⊢
    intro o ho
    have := hO o ho
    cases z : oTb o with
    | false => rfl
    | true => rw [z] at this; cases this
  have s : ∀ p, ts h h' m p := fun p => ts_fr g hO2
  have a : ∀ o, oTb o = true → ¬ o = 0 → hh_i h' (m + o) = hh_i h (m + o) := fun o ho h0 => g.arrs hO2 ho h0
  have a27 : hh_i h' (m + 27) = hh_i h (m + 27) := g.arrs (o := 27) hO rfl (by decide)
  obtain ⟨t1, t2, t3, t4, t5⟩ := t
  unfold tpt tkd
  rw [a 18 rfl (by decide), a 17 rfl (by decide), a27]
  refine ⟨fun p hp => ?_, t2, t3, t4, t5⟩
  rcases t1 p hp with ⟨q1, q2, q3, q4⟩ | q
  · exact Or.inl ⟨q1, q2, tb_ts (s p) q3, q4⟩
  · exact Or.inr q
section TPb
variable {h : hh_T} {m : Nat} {Q : Option Value ⊕ Nat → hh_T → Prop} {P : zP} {G : zG} {U V : List zB}
theorem t_take1 {p c g a k : Nat} (hT : tw_ok h m) (R : rT_G h m G) (K : zg_ok P G) (hp : p < 640) (hc : c < 2) (e23 : hh_i h (m + 23) (2 * p + c) = (Int32.ofNat g)) (e24 : hh_i h (m + 24) (2 * p + c) = (Int32.ofNat a)) (e21 : hh_i h (m + 21) p = (Int32.ofNat k)) (z1 : g < zg_ng G) (z2 : a + zg_sp G g k ≤ zg_pl G g) (hk : k ≤ 4)
    (H : ∀ h', fr (tO m [27] []) h h' → (∀ x, hh_i h' (m + 27) x = if 384 * g + a ≤ x ∧ x < 384 * g + a + zg_sp G g k then (Int32.ofNat 1) else hh_i h (m + 27) x) → Q (.inl none) h') : gm_G 303 0 [some (.ref m), some (.int (Int32.ofNat p)), some (.int (Int32.ofNat c))] [] h Q := by
  have hpl := zg_pl_le K z1
  have hn := K.1
  refine w_303_0 hT ⟨2 * p + c, by rw [i_mul, i_add]; exact ix_n (by omega) (by omega), p, ix_n hp (by omega), ?_⟩
  rw [e23, e21]
  refine t_room hT R K z1 (by omega) ?_
  show gm_G 303 27 _ [] h Q
  refine lp_fill (m := m) (o := 27) (b := 384 * g + a) (n := zg_sp G g k) (fun i => [some (.ref m), some (.int (Int32.ofNat p)), some (.int (Int32.ofNat c)), some (.int (Int32.ofNat g)), some (.int (Int32.ofNat ((zg_sp G g k)))), some (.int (Int32.ofNat i))]) (fun _ => (Int32.ofNat 1)) (by decide) (fun i h1 hi g1 _ k => ?_) (fun h' g1 e => ?_)
  · have e24' : hh_i h1 (m + 24) (2 * p + c) = (Int32.ofNat a) := by rw [g1.arr (o := 24) rfl]; exact e24
    refine w_303_27 (hT.fr g1) ?_
    simp (disch := omega) only [forall_eq, exists_eq_left, exists_eq_left', Option.some.injEq, ex_ix, i_add, i_mul, i_sub, i_lt, i_le, i_eq, i_tn, hi_e, hi_n, hj_e, hj_n, hi_wj, hj_wi, hr_wi, hr_wj, ht_wi, ht_wj, hl_wi, hl_wj, hz_wi, hz_wj, hs_wi, hs_wj, hi_wr, hj_wr, hr_e, hr_n, ht_wr, hl_wr, hz_wr, hs_wr, n_lt_t, n_lt_f, n_le_t, n_le_f, n_eq_t, n_eq_f, true_and, and_true, false_and, and_false, true_or, or_true, false_or, or_false, not_true_eq_false, not_false_eq_true, forall_const, implies_true, true_imp_iff, false_imp_iff, gs_t, reduceIte, ite_true, ite_false, e24']
    exact k
  · refine w_303_27 (hT.fr g1) ⟨fun _ => H h' g1 e, fun z => absurd z (by rw [i_lt (by omega) (by omega)]; omega)⟩
theorem tkd_take {h' : hh_T} {g a k : Nat} (T : tkd h m G U) (hg : g < 3) (hpl : a + zg_sp G g k ≤ 384) (e : ∀ x, hh_i h' (m + 27) x = if 384 * g + a ≤ x ∧ x < 384 * g + a + zg_sp G g k then (Int32.ofNat 1) else hh_i h (m + 27) x)
    (hV : ∀ g' x, zl_tk G V g' x = ((decide (g = g') && decide (a ≤ x) && decide (x < a + zg_sp G g' k)) || zl_tk G U g' x)) : tkd h' m G V := by
  intro g' x hg' hx
  rw [e, hV]
  by_cases c : 384 * g + a ≤ 384 * g' + x ∧ 384 * g' + x < 384 * g + a + zg_sp G g k
  · have eg : g = g' := by omega
    subst eg
    rw [if_pos c, decide_eq_true rfl, decide_eq_true (by omega), decide_eq_true (by omega)]
    rfl
  · rw [if_neg c, T g' x hg' hx]
    by_cases y : g = g'
    · subst y
      by_cases y2 : a ≤ x
      · rw [decide_eq_false (show ¬ x < a + zg_sp G g k by omega), Bool.and_false, Bool.false_or]
      · rw [decide_eq_false y2, Bool.and_false, Bool.false_and, Bool.false_or]
    · rw [decide_eq_false y, Bool.false_and, Bool.false_and, Bool.false_or]
/-- one copy gets its place -/
theorem t_pb_493 {x k c g a co n : Nat} {sh : Bool} (hT : tw_ok h m) (R : rT_G h m G) (K : zg_ok P G) (T : tkd h m G V) (hx : x < 640) (hk4 : k ≤ 4) (e21 : hh_i h (m + 21) x = (Int32.ofNat k)) (hc : c < 2) (hg : g < zg_ng G) (hf : zl_fr G V g (zg_sp G g k) = some a)
    (H : ∀ h2, fr (tO m [22, 23, 24, 27] []) h h2 → (∀ p, ¬ p = x → hh_i h2 (m + 22) p = hh_i h (m + 22) p) → (∀ y, ¬ y = 2 * x + c → hh_i h2 (m + 23) y = hh_i h (m + 23) y ∧ hh_i h2 (m + 24) y = hh_i h (m + 24) y) → hh_i h2 (m + 22) x = (Int32.ofNat (c + 1)) → hh_i h2 (m + 23) (2 * x + c) = (Int32.ofNat g) → hh_i h2 (m + 24) (2 * x + c) = (Int32.ofNat a) → (∀ W, (∀ g' y, zl_tk G W g' y = ((decide (g = g') && decide (a ≤ y) && decide (y < a + zg_sp G g' k)) || zl_tk G V g' y)) → tkd h2 m G W) → gm_G 408 439 [some (.ref m), none, none, none, none, some (.int (Int32.ofNat co)), none, some (.int (Int32.ofNat k)), some (.int (bi sh)), some (.int (Int32.ofNat x)), some (.int (Int32.ofNat n)), some (.int (Int32.ofNat ((c + 1))))] [] h2 Q) : gm_G 408 493 [some (.ref m), none, none, none, none, some (.int (Int32.ofNat co)), none, some (.int (Int32.ofNat k)), some (.int (bi sh)), some (.int (Int32.ofNat x)), some (.int (Int32.ofNat n)), some (.int (Int32.ofNat c)), some (.int (Int32.ofNat g))] [] h Q := by
  obtain ⟨z2, z3⟩ := zl_fr_ok hf
  have hpl := zg_pl_le K hg
  have hn := K.1
  have hsp := zg_sp_le K hg hk4
  refine w_408_493 hT ⟨fun _ => ⟨2 * x + c, by rw [i_mul, i_add]; exact ix_n (by omega) (by omega), fun h2 a2 => ?_⟩, fun z => absurd z (by rw [i_n0 (by omega)]; exact id)⟩
  have g2 : fr (tO m [22, 23, 24, 27] []) h h2 := by rw [a2]; exact fr.a rfl
  have T2 : tkd h2 m G V := fun g' y hg' hy => by rw [a2, hi_n (by omega)]; exact T g' y hg' hy
  refine t_room (hT.fr g2) (R.fr g2 rfl rfl) K hg (by omega) ?_
  refine t_freeRow (hT.fr g2) (R.fr g2 rfl rfl) K hg T2 hsp ?_
  rw [hf]
  refine ⟨2 * x + c, by rw [i_mul, i_add]; exact ix_n (by omega) (by omega), fun h8 a8 => ⟨x, ix_n hx (by omega), fun h10 a10 => ?_⟩⟩
  rw [i_add] at a10
  have g8 : fr (tO m [22, 23, 24, 27] []) h2 h8 := by rw [a8]; exact fr.a rfl
  have g10 : fr (tO m [22, 23, 24, 27] []) h8 h10 := by rw [a10]; exact fr.a rfl
  have g0 := (g2.trans g8).trans g10
  have f23 : hh_i h10 (m + 23) (2 * x + c) = (Int32.ofNat g) := by rw [a10, hi_n (by omega), a8, hi_n (by omega), a2, hi_e ⟨rfl, rfl⟩]
  have f24 : hh_i h10 (m + 24) (2 * x + c) = (Int32.ofNat a) := by rw [a10, hi_n (by omega), a8, hi_e ⟨rfl, rfl⟩]; rfl
  have f21 : hh_i h10 (m + 21) x = (Int32.ofNat k) := by rw [g0.arr (o := 21) rfl]; exact e21
  have T10 : tkd h10 m G V := fun g' y hg' hy => by rw [a10, hi_n (by omega), a8, hi_n (by omega)]; exact T2 g' y hg' hy
  refine t_take1 (hT.fr g0) (R.fr g0 rfl rfl) K hx hc f23 f24 f21 hg z2 hk4 (fun h11 g11 e11 => ?_)
  show gm_G 408 439 _ [] h11 Q
  rw [i_add]
  refine H h11 (g0.trans (g11.up rfl rfl)) (fun p hp => ?_) (fun y hy => ⟨?_, ?_⟩) ?_ ?_ ?_ (fun W hW => tkd_take T10 (by omega) (by omega) e11 hW)
  · rw [g11.arr (o := 22) rfl, a10, hi_n (by omega), a8, hi_n (by omega), a2, hi_n (by omega)]
  · rw [g11.arr (o := 23) rfl, a10, hi_n (by omega), a8, hi_n (by omega), a2, hi_n (by omega)]
  · rw [g11.arr (o := 24) rfl, a10, hi_n (by omega), a8, hi_n (by omega), a2, hi_n (by omega)]
  · rw [g11.arr (o := 22) rfl, a10, hi_e ⟨rfl, rfl⟩]
  · rw [g11.arr (o := 23) rfl]; exact f23
  · rw [g11.arr (o := 24) rfl]; exact f24
end TPb
