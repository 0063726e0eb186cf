/-! STAGE 3, 1: rules for walking by simp -/
theorem ix_iff {k n L : Nat} (hk : k < 2147483648) : gm_ix (Int32.ofNat k) n L ↔ n = k ∧ k < L := by
  constructor
  · rintro ⟨h1, -, h3⟩
    rw [i_tn hk] at h1
    omega
  · rintro ⟨rfl, h⟩
    exact ix_n h hk
theorem ex_ix {k L : Nat} {P : Nat → Prop} (hk : k < 2147483648) : (∃ n, gm_ix (Int32.ofNat k) n L ∧ P n) ↔ k < L ∧ P k := by
  constructor
  · rintro ⟨n, h1, h2⟩
    obtain ⟨rfl, h3⟩ := (ix_iff hk).mp h1
    exact ⟨h3, h2⟩
  · rintro ⟨h1, h2⟩
    exact ⟨k, ix_n h1 hk, h2⟩
theorem i_cases (x : Int32) : x < (Int32.ofNat 0) ∨ ∃ n, n < 2147483648 ∧ x = (Int32.ofNat n) := by
  by_cases h : x < (Int32.ofNat 0)
  · exact Or.inl h
  · exact Or.inr (i_nat h)
theorem i_n0 {k : Nat} (hk : k < 2147483648) : ((Int32.ofNat k) < (Int32.ofNat 0)) ↔ False := by
  rw [i_lt hk (by decide)]
  exact ⟨fun z => absurd z (Nat.not_lt_zero _), False.elim⟩
/-- reads behind writes -/
theorem hi_e {h : hh_T} {a k b j : Nat} {x : Int32} (e : b = a ∧ j = k) : hh_i (hh_wi h a k x) b j = x := by rw [hi_wi, if_pos e]
theorem hi_n {h : hh_T} {a k b j : Nat} {x : Int32} (e : ¬ (b = a ∧ j = k)) : hh_i (hh_wi h a k x) b j = hh_i h b j := by rw [hi_wi, if_neg e]
theorem hj_e {h : hh_T} {a k b j : Nat} {x : Int64} (e : b = a ∧ j = k) : hh_j (hh_wj h a k x) b j = x := by rw [hj_wj, if_pos e]
theorem hj_n {h : hh_T} {a k b j : Nat} {x : Int64} (e : ¬ (b = a ∧ j = k)) : hh_j (hh_wj h a k x) b j = hh_j h b j := by rw [hj_wj, if_neg e]
theorem hr_e {h : hh_T} {a k b j : Nat} {x : Option Nat} (e : b = a ∧ j = k) : hh_r (hh_wr h a k x) b j = x := by rw [hr_wr, if_pos e]
theorem hr_n {h : hh_T} {a k b j : Nat} {x : Option Nat} (e : ¬ (b = a ∧ j = k)) : hh_r (hh_wr h a k x) b j = hh_r h b j := by rw [hr_wr, if_neg e]
theorem n_lt_t {a b : Nat} (h : a < b) : (a < b) = True := eq_true h
theorem n_lt_f {a b : Nat} (h : ¬ a < b) : (a < b) = False := eq_false h
theorem n_le_t {a b : Nat} (h : a ≤ b) : (a ≤ b) = True := eq_true h
theorem n_le_f {a b : Nat} (h : ¬ a ≤ b) : (a ≤ b) = False := eq_false h
theorem n_eq_t {a b : Nat} (h : a = b) : (a = b) = True := eq_true h
theorem n_eq_f {a b : Nat} (h : ¬ a = b) : (a = b) = False := eq_false h
theorem gs_t : gm_sub 1 0 = true ∧ gm_sub 2 1 = true ∧ gm_sub 3 2 = true ∧ gm_sub 5 3 = true ∧ gm_sub 7 3 = true ∧ gm_sub 5 4 = true ∧ gm_sub 6 5 = true ∧ gm_sub 7 6 = true ∧ gm_sub 8 7 = true ∧ gm_sub 9 8 = true ∧ gm_sub 10 9 = true ∧ gm_sub 11 10 = true ∧ gm_sub 12 11 = true ∧ gm_sub 13 12 = true ∧ gm_sub 14 13 = true ∧ gm_sub 15 14 = true ∧ gm_sub 16 15 = true ∧ gm_sub 17 16 = true ∧ gm_sub 18 17 = true ∧ gm_sub 19 18 = true ∧ gm_sub 21 20 = true ∧ gm_sub 22 21 = true ∧ gm_sub 23 22 = true ∧ gm_sub 24 23 = true ∧ gm_sub 25 24 = true ∧ gm_sub 27 25 = true ∧ gm_sub 28 25 = true ∧ gm_sub 29 25 = true ∧ gm_sub 27 26 = true ∧ gm_sub 28 27 = true ∧ gm_sub 29 28 = true ∧ gm_sub 30 29 = true ∧ gm_sub 31 30 = true ∧ gm_sub 32 31 = true ∧ gm_sub 33 32 = true ∧ gm_sub 35 33 = true ∧ gm_sub 36 33 = true ∧ gm_sub 37 33 = true ∧ gm_sub 38 33 = true ∧ gm_sub 39 33 = true ∧ gm_sub 40 33 = true ∧ gm_sub 42 33 = true ∧ gm_sub 45 33 = true ∧ gm_sub 46 33 = true ∧ gm_sub 47 33 = true ∧ gm_sub 35 34 = true ∧ gm_sub 36 35 = true ∧ gm_sub 37 36 = true ∧ gm_sub 38 37 = true ∧ gm_sub 39 38 = true ∧ gm_sub 40 39 = true ∧ gm_sub 42 40 = true ∧ gm_sub 45 40 = true ∧ gm_sub 46 40 = true ∧ gm_sub 47 40 = true ∧ gm_sub 42 41 = true ∧ gm_sub 43 42 = true ∧ gm_sub 44 43 = true ∧ gm_sub 45 44 = true ∧ gm_sub 46 45 = true ∧ gm_sub 47 46 = true ∧ gm_sub 48 47 = true := by decide
/-- an int is answered -/
def rI (v : Int32) (P : hh_T → Prop) (r : Option Value ⊕ Nat) (h : hh_T) : Prop := r = .inl (some (.int v)) ∧ P h
/-- places of the twin: arrays O, fields F -/
def tO (m : Nat) (O F : List Nat) (a k : Nat) : Prop := (∃ o, o ∈ O ∧ a = m + o ∧ ¬ o = 0) ∨ (a = m ∧ k ∈ F)
theorem tO.a {m : Nat} {O F : List Nat} {o k : Nat} (ho : o ∈ O) (h0 : ¬ o = 0) : tO m O F (m + o) k := Or.inl ⟨o, ho, rfl, h0⟩
theorem tO.f {m : Nat} {O F : List Nat} {k : Nat} (hk : k ∈ F) : tO m O F m k := Or.inr ⟨rfl, hk⟩
theorem tO.mono {m : Nat} {O F O' F' : List Nat} {a k : Nat} (h1 : (O.all fun o => O'.contains o) = true) (h2 : (F.all fun o => F'.contains o) = true) (h : tO m O F a k) : tO m O' F' a k := by
  rcases h with ⟨o, ho, e, z⟩ | ⟨e, hk⟩
  · exact Or.inl ⟨o, by simpa using List.all_eq_true.mp h1 o ho, e, z⟩
  · exact Or.inr ⟨e, by simpa using List.all_eq_true.mp h2 k hk⟩
theorem fr.up {m : Nat} {O F O' F' : List Nat} {h h' : hh_T} (g : fr (tO m O F) h h') (h1 : (O.all fun o => O'.contains o) = true) (h2 : (F.all fun o => F'.contains o) = true) : fr (tO m O' F') h h' := g.mono fun _ _ => tO.mono h1 h2
theorem fr.arr {m : Nat} {O F : List Nat} {h h' : hh_T} (g : fr (tO m O F) h h') {o : Nat} (ho : (O.contains o || Nat.beq o 0) = false) : hh_i h' (m + o) = hh_i h (m + o) := by
  funext k
  rw [Bool.or_eq_false_iff] at ho
  have h0 : ¬ o = 0 := fun e => by rw [e] at ho; exact absurd ho.2 (by decide)
  refine g.2.2.2.2.2.2 _ _ ?_
  rintro (⟨o', h1, h2, h3⟩ | ⟨h1, h2⟩)
  · have : o = o' := by omega
    subst this
    have := ho.1
    simp [h1] at this
  · omega
theorem fr.fld {m : Nat} {O F : List Nat} {h h' : hh_T} (g : fr (tO m O F) h h') {f : Nat} (hf : F.contains f = false) : hh_i h' m f = hh_i h m f := by
  refine g.2.2.2.2.2.2 _ _ ?_
  rintro (⟨o', h1, h2, h3⟩ | ⟨h1, h2⟩)
  · omega
  · simp [h2] at hf
theorem fr.out {m : Nat} {O F : List Nat} {h h' : hh_T} (g : fr (tO m O F) h h') {a : Nat} (ha : a < m ∨ (∀ o, o ∈ O → a ≠ m + o) ∧ a ≠ m) : hh_i h' a = hh_i h a := by
  funext k
  refine g.2.2.2.2.2.2 _ _ ?_
  rintro (⟨o', h1, h2, h3⟩ | ⟨h1, h2⟩)
  · rcases ha with ha | ha
    · omega
    · exact ha.1 o' h1 h2
  · omega
theorem fr.arrs {m : Nat} {O F : List Nat} {h h' : hh_T} (g : fr (tO m O F) h h') {P : Nat → Bool} (ho : (O.all fun o => !(P o)) = true) {o : Nat} (hP : P o = true) (h0 : ¬ o = 0) : hh_i h' (m + o) = hh_i h (m + o) := by
  refine g.arr ?_
  rw [Bool.or_eq_false_iff]
  constructor
  · cases q : O.contains o with
    | false => rfl
    | true =>
      have := List.all_eq_true.mp ho o (by simpa using q)
      rw [hP] at this
      cases this
  · cases q : Nat.beq o 0 with
    | false => rfl
    | true => exact absurd (Nat.eq_of_beq_eq_true q) h0
theorem fr.a {m o k : Nat} {O F : List Nat} {h : hh_T} {x : Int32} (ho : (O.contains o && !(Nat.beq o 0)) = true) : fr (tO m O F) h (hh_wi h (m + o) k x) := by
  rw [Bool.and_eq_true] at ho
  refine fr.wi (tO.a (by simpa using ho.1) (fun e => ?_))
  rw [e] at ho
  exact absurd ho.2 (by decide)
theorem fr.f {m k : Nat} {O F : List Nat} {h : hh_T} {x : Int32} (ho : F.contains k = true) : fr (tO m O F) h (hh_wi h m k x) := fr.wi (tO.f (by simpa using ho))
theorem fr.tg {A : Nat → Nat → Prop} {h h' : hh_T} (g : fr A h h') : hh_tg h' = hh_tg h := g.2.2.1
theorem fr.ln {A : Nat → Nat → Prop} {h h' : hh_T} (g : fr A h h') : hh_ln h' = hh_ln h := g.2.2.2.1
theorem fr.jj {A : Nat → Nat → Prop} {h h' : hh_T} (g : fr A h h') : hh_j h' = hh_j h := g.2.2.2.2.1
theorem fr.rr {A : Nat → Nat → Prop} {h h' : hh_T} (g : fr A h h') : hh_r h' = hh_r h := g.2.2.2.2.2.1
theorem lf_eq {l : zBy} {i : Nat} : lf l i = l.getD i 0 := rfl
/-- the twin's picture, 1: tape, answer, clock, actor, classes -/
def rT_A (h : hh_T) (m : Nat) (A : zA) : Prop := hh_i h m 2 = (Int32.ofNat ((za_tape A).length)) ∧ (za_tape A).length ≤ 320 ∧ (∀ i, i < (za_tape A).length → hh_i h (m + 1) i = lf (za_tape A) i) ∧ hh_i h m 3 = (Int32.ofNat ((za_out A).length)) ∧ (za_out A).length ≤ 320 ∧ (∀ i, i < (za_out A).length → hh_i h (m + 2) i = lf (za_out A) i)
  ∧ hh_i h m 4 = (Int32.ofNat (za_clock A)) ∧ za_clock A ≤ 2000000000 ∧ hh_i h m 5 = (Int32.ofNat (za_actor A)) ∧ za_actor A < 8 ∧ ∀ i, i < 64 → hh_i h (m + 3) i = bi (za_cls A i)
theorem rT_A.fr {h h' : hh_T} {m : Nat} {A : zA} {O F : List Nat} (R : rT_A h m A) (g : fr (tO m O F) h h') (hO : (O.all fun o => !([1, 2, 3].contains o)) = true) (hF : (F.all fun f => !([2, 3, 4, 5].contains f)) = true) : rT_A h' m A := by
  have a : ∀ o, [1, 2, 3].contains o = true → ¬ o = 0 → hh_i h' (m + o) = hh_i h (m + o) := fun o ho h0 => g.arrs hO ho h0
  have f : ∀ o, [2, 3, 4, 5].contains o = true → hh_i h' m o = hh_i h m o := fun o ho => g.fld (by
    cases q : F.contains o with
    | false => rfl
    | true =>
      have := List.all_eq_true.mp hF o (by simpa using q)
      rw [ho] at this
      cases this)
  unfold rT_A
  rw [a 1 rfl (by decide), a 2 rfl (by decide), a 3 rfl (by decide), f 2 rfl, f 3 rfl, f 4 rfl, f 5 rfl]
  exact R
