/-! STAGE 3: an entry goes; objects are made and cleared -/
theorem nd_get {L : List Int64} (nd : L.Nodup) {a b : Nat} (ha : a < L.length) (hb : b < L.length) (e : L[a] = L[b]) : a = b := by
  have : ∀ (L : List Int64), L.Nodup → ∀ a b (ha : a < L.length) (hb : b < L.length), a < b → L[a] = L[b] → False := by
    intro L
    induction L with
    | nil => intro _ a b ha; exact absurd ha (Nat.not_lt_zero _)
    | cons x r ih =>
      intro nd a b ha hb hab e
      rw [List.nodup_cons] at nd
      cases b with
      | zero => omega
      | succ b =>
        cases a with
        | zero =>
          have e : x = r[b]'(by simpa using hb) := e
          exact nd.1 (by rw [e]; exact List.getElem_mem _)
        | succ a => exact ih nd.2 a b (by simpa using ha) (by simpa using hb) (by omega) e
  by_cases y : a < b
  · exact (this L nd a b ha hb y e).elim
  · by_cases z : b < a
    · exact (this L nd b a hb ha z e.symm).elim
    · omega
/-- as many places as names: no name stands twice -/
theorem en_inj {l : Nat} {L : List Int64} (hL : L.length = l) (nd : L.Nodup) {P : Nat → Int64 → Prop} (det : ∀ j v v', P j v → P j v' → v = v') (sur : ∀ x, x ∈ L → ∃ j, j < l ∧ P j x) {j j' : Nat} {v : Int64} (hj : j < l) (hj' : j' < l) (h1 : P j v) (h2 : P j' v) (hv : v ∈ L) : j = j' := by
  by_cases c : j = j'
  · exact c
  · exfalso
    have sur' : ∀ k, k < l → ∃ p, p < l ∧ P p (L.getD k 0) := fun k hk => by
      have : L.getD k 0 ∈ L := by
        rw [List.getD_eq_getElem?_getD, List.getElem?_eq_getElem (by omega)]
        exact List.getElem_mem _
      exact sur _ this
    obtain ⟨π, hπ⟩ : ∃ π : Nat → Nat, ∀ k, k < l → π k < l ∧ P (π k) (L.getD k 0) := ⟨fun k => Classical.epsilon (fun p => p < l ∧ P p (L.getD k 0)), fun k hk => Classical.epsilon_spec (sur' k hk)⟩
    have ginj : ∀ a b, a < l → b < l → L.getD a 0 = L.getD b 0 → a = b := fun a b ha hb e => by
      rw [List.getD_eq_getElem?_getD, List.getElem?_eq_getElem (show a < L.length by omega), List.getD_eq_getElem?_getD, List.getElem?_eq_getElem (show b < L.length by omega)] at e
      exact nd_get nd (by omega) (by omega) e
    have pinj : ∀ a b, a < l → b < l → π a = π b → a = b := fun a b ha hb e => by
      have x := (hπ a ha).2
      have y := (hπ b hb).2
      rw [e] at x
      exact ginj a b ha hb (det _ _ _ x y)
    obtain ⟨k0, hk0, ek0⟩ := List.getElem_of_mem hv
    have eg : L.getD k0 0 = v := by rw [List.getD_eq_getElem?_getD, List.getElem?_eq_getElem hk0, ek0]; rfl
    -- a place that nothing goes to
    obtain ⟨z, hz, pz, nz⟩ : ∃ z, z < l ∧ P z v ∧ ¬ π k0 = z := by
      by_cases y : π k0 = j
      · exact ⟨j', hj', h2, fun q => c (y.symm.trans q)⟩
      · exact ⟨j, hj, h1, y⟩
    have nim : ∀ k, k < l → ¬ π k = z := fun k hk e => by
      have x := (hπ k hk).2
      rw [e] at x
      have : k = k0 := ginj k k0 hk (by omega) ((det _ _ _ x pz).trans eg.symm)
      rw [this] at e
      exact nz e
    obtain ⟨a, b, q1, q2, q3⟩ := pigeon (l - 1) (fun k => if π k = l - 1 then z else π k) (fun k hk => by
      have x := (hπ k (by omega)).1
      have y := nim k (by omega)
      (try dsimp only)
      split <;> omega)
    (try dsimp only at q3)
    have xa := nim a (by omega)
    have xb := nim b (by omega)
    have : π a = π b := by split at q3 <;> split at q3 <;> omega
    have := pinj a b (by omega) (by omega) this
    omega
theorem flt_len {na : Int64} : ∀ {l : List (Int64 × Nat)}, (l.map (fun x => x.1)).Nodup → (∃ x, x ∈ l ∧ x.1 = na) → (l.filter (fun x => !(decide (x.1 = na)))).length + 1 = l.length
  | [], _, h => by obtain ⟨x, q, -⟩ := h; exact absurd q (List.not_mem_nil)
  | y :: r, nd, h => by
    rw [List.map_cons, List.nodup_cons] at nd
    by_cases c : y.1 = na
    · rw [List.filter_cons_of_neg (by rw [decide_eq_true c]; decide)]
      have : r.filter (fun x => !(decide (x.1 = na))) = r := by
        rw [List.filter_eq_self]
        intro x hx
        have : ¬ x.1 = na := fun e => nd.1 (by rw [c, ← e]; exact List.mem_map.mpr ⟨x, hx, rfl⟩)
        rw [decide_eq_false this]
        rfl
      rw [this]
      rfl
    · rw [List.filter_cons_of_pos (p := fun x : Int64 × Nat => !(decide (x.1 = na))) (by rw [decide_eq_false c]; rfl)]
      have := flt_len (l := r) nd.2 (by
        obtain ⟨x, q1, q2⟩ := h
        rcases List.mem_cons.mp q1 with e | q1
        · rw [e] at q2; exact absurd q2 c
        · exact ⟨x, q1, q2⟩)
      rw [List.length_cons, List.length_cons]
      omega
section DR
variable {h h' : hh_T} {m : Nat} {S : zS} {i t : Nat} {d : zD} {T : zT} {Q : Option Value ⊕ Nat → hh_T → Prop}
/-- an entry less, without the time -/
def zn_dr0 (N : zN) (n : Int64) : zN := zn_en_ (zn_at_ N (fu (zn_at N) 5 (zn_at N 5 - 1))) ((zn_en N).filter (fun x => !(decide (x.1 = n))))
theorem tw_en_det {r : Nat} {x y : Int64 × Nat} (a : tw_en h m r x) (b : tw_en h m r y) : x = y := by
  obtain ⟨a1, a2, n, a3, a4, a5⟩ := a
  obtain ⟨b1, b2, n', b3, b4, b5⟩ := b
  have h1 := (nm_ok_inv a4).2.1
  have h2 := (nm_ok_inv b4).2.1
  have en : n = n' := (i_eq (by omega) (by omega)).mp (a3.symm.trans b3)
  subst en
  exact Prod.ext (a5.symm.trans b5) ((i_eq (by omega) (by omega)).mp (a1.symm.trans b1))
theorem ow_drop {fo e ob : Nat} {N : zN} {na : Int64} (R : rOw h m S i t d T) (w : gy_wf h) (up : zs_up S = true) (hi : i < 8) (hfo : fo < 16) (eN : zt_ob T fo = some N) (k2 : zn_at N 0 = 2) (nd : ((zn_en N).map (fun x => x.1)).Nodup) (he : e < (zn_en N).length) (ee : tw_en h m (8 * (16 * t + fo) + e) (na, ob))
    (H : ∀ h', fr (tO m [45, 53, 54, 56] []) h h' → rOw h' m S i t d (zt_put T fo (zn_dr0 N na)) → Q (.inl none) h') : gm_G 102 0 [some (.ref m), some (.int (Int32.ofNat ((16 * t + fo)))), some (.int (Int32.ofNat e))] [] h Q := by
  have htt := R.2.2.2.1.1
  have hT := R.1.1
  have R0 := rOw_N R hfo eN
  obtain ⟨q, eq⟩ : ∃ q, q = 16 * t + fo := ⟨_, rfl⟩
  rw [← eq] at R0 ee ⊢
  have hq : q < 1536 := by omega
  obtain ⟨r1, r2, r3, r4, r5, r6, r7, r8, r9, r10, r11, r12⟩ := id R0
  obtain ⟨s1, s2, s3, s4, s5, s6⟩ := r10 k2
  obtain ⟨l, el⟩ : ∃ l, l = (zn_en N).length := ⟨_, rfl⟩
  rw [← el] at s3 s4 s5 s6 he
  have e45 : hh_i h (m + 45) q = (Int32.ofNat l) := by rw [← s3]; exact (r1 5 (by decide)).1
  have b56 := (hT.2.2 56 (by decide)).1
  -- the entry is one of the folder's
  obtain ⟨x0, hx0, tx0⟩ := s5 e he
  have ex0 : x0 = (na, ob) := tw_en_det tx0 ee
  rw [ex0] at hx0
  have pin : ∀ j j' x y, j < l → j' < l → tw_en h m (8 * q + j) x → tw_en h m (8 * q + j') y → x.1 = y.1 → j = j' := fun j j' x y hj hj' a b exy => by
    obtain ⟨x', hx', tx'⟩ := s5 j hj
    have : x' = x := tw_en_det tx' a
    rw [this] at hx'
    exact en_inj (l := l) (L := (zn_en N).map (fun x => x.1)) (by rw [List.length_map, ← el]) nd (P := fun j v => ∃ x, tw_en h m (8 * q + j) x ∧ x.1 = v) (fun j v v' p1 p2 => by
      obtain ⟨y1, z1, z2⟩ := p1
      obtain ⟨y2, z3, z4⟩ := p2
      rw [← z2, ← z4, tw_en_det z1 z3]) (fun v hv => by
      obtain ⟨y1, z1, z2⟩ := List.mem_map.mp hv
      obtain ⟨j, j1, j2⟩ := s6 y1 z1
      exact ⟨j, j1, y1, j2, z2⟩) hj hj' ⟨x, a, rfl⟩ ⟨y, b, exy.symm⟩ (List.mem_map.mpr ⟨x, hx', rfl⟩)
  -- the end
  have fin : ∀ h1, fr (tO m [45, 53, 54, 56] []) h h1 → hh_i h1 (m + 45) = hh_i h (m + 45) → (∀ x, hh_i h1 (m + 53) x = if 8 * q + e ≤ x ∧ x < 8 * q + (l - 1) then hh_i h (m + 53) (x + 1) else hh_i h (m + 53) x) → (∀ x, hh_i h1 (m + 54) x = if 8 * q + e ≤ x ∧ x < 8 * q + (l - 1) then hh_i h (m + 54) (x + 1) else hh_i h (m + 54) x) → (∀ x, hh_i h1 (m + 56) x = if 64 * q + 8 * e ≤ x ∧ x < 64 * q + 8 * (l - 1) then hh_i h (m + 56) (x + 8) else hh_i h (m + 56) x) → gm_G 102 7 [some (.ref m), some (.int (Int32.ofNat q)), none, some (.int (Int32.ofNat ((8 * q + (l - 1)))))] [] h1 Q := by
    intro h1 g1 c45 c53 c54 c56
    have f45 : hh_i h1 (m + 45) q = (Int32.ofNat l) := by rw [c45]; exact e45
    refine w_102_7 (hT.fr g1) ⟨q, ix_n hq (by omega), fun _ => ⟨q, ix_n hq (by omega), q, ix_n hq (by omega), fun h9 a9 => ?_⟩, fun z => absurd z (by rw [f45, i_mul, i_add, i_sub (by omega), i_lt (by omega) (by omega)]; omega)⟩
    rw [f45, i_sub (by omega)] at a9
    have g9 : fr (tO m [45, 53, 54, 56] []) h h9 := g1.trans (by rw [a9]; exact fr.a rfl)
    have v45 : ∀ x, hh_i h9 (m + 45) x = if x = q then (Int32.ofNat (l - 1)) else hh_i h (m + 45) x := fun x => by
      rw [a9]
      by_cases y : x = q
      · rw [hi_e ⟨rfl, y⟩, if_pos y]
      · rw [hi_n (by omega), if_neg y, c45]
    have v53 : ∀ x, hh_i h9 (m + 53) x = if 8 * q + e ≤ x ∧ x < 8 * q + (l - 1) then hh_i h (m + 53) (x + 1) else hh_i h (m + 53) x := fun x => by rw [a9, hi_n (by omega)]; exact c53 x
    have v54 : ∀ x, hh_i h9 (m + 54) x = if 8 * q + e ≤ x ∧ x < 8 * q + (l - 1) then hh_i h (m + 54) (x + 1) else hh_i h (m + 54) x := fun x => by rw [a9, hi_n (by omega)]; exact c54 x
    have v56 : ∀ x, hh_i h9 (m + 56) x = if 64 * q + 8 * e ≤ x ∧ x < 64 * q + 8 * (l - 1) then hh_i h (m + 56) (x + 8) else hh_i h (m + 56) x := fun x => by rw [a9, hi_n (by omega)]; exact c56 x
    have tbk : ∀ p b0, tb h m p b0 → tb h9 m p b0 := fun p b0 B => tb_f8 B g9 rfl
    have en1 : ∀ j x, j < e → tw_en h m (8 * q + j) x → tw_en h9 m (8 * q + j) x := by
      rintro j x hj ⟨t1, t2, n', t3, t4, t5⟩
      have hn8 := (nm_ok_inv t4).2.1
      obtain ⟨c1, c2⟩ := nm_cg (f := hh_i h (m + 56)) (g := hh_i h9 (m + 56)) (p := 8 * (8 * q + j)) (q := 8 * (8 * q + j)) (n := n') (fun y hy => by rw [v56, if_neg (by omega)])
      exact ⟨by rw [v53, if_neg (by omega)]; exact t1, t2, n', by rw [v54, if_neg (by omega)]; exact t3, c1.trans t4, c2.trans t5⟩
    have en2 : ∀ j x, e ≤ j → j < l - 1 → tw_en h m (8 * q + (j + 1)) x → tw_en h9 m (8 * q + j) x := by
      rintro j x hj hj2 ⟨t1, t2, n', t3, t4, t5⟩
      have hn8 := (nm_ok_inv t4).2.1
      obtain ⟨c1, c2⟩ := nm_cg (f := hh_i h (m + 56)) (g := hh_i h9 (m + 56)) (p := 8 * (8 * q + (j + 1))) (q := 8 * (8 * q + j)) (n := n') (fun y hy => by rw [v56, if_pos (by omega), show 8 * (8 * q + j) + y + 8 = 8 * (8 * q + (j + 1)) + y by omega])
      exact ⟨by rw [v53, if_pos (by omega)]; exact t1, t2, n', by rw [v54, if_pos (by omega)]; exact t3, c1.trans t4, c2.trans t5⟩
    have hlen : ((zn_en N).filter (fun x => !(decide (x.1 = na)))).length = l - 1 := by
      have := flt_len nd ⟨(na, ob), hx0, rfl⟩
      rw [← el] at this
      exact Nat.eq_sub_of_add_eq this
    have at5 : ∀ f, fu (zn_at N) 5 (zn_at N 5 - 1) f = if f = 5 then l - 1 else zn_at N f := fun f => by
      rw [fu]
      by_cases y : f = 5
      · rw [if_pos y, if_pos y, s3]
      · rw [if_neg y, if_neg y]
    have mem : ∀ j x, j < l → ¬ j = e → tw_en h m (8 * q + j) x → x ∈ (zn_en N).filter (fun x => !(decide (x.1 = na))) := fun j x hj hje tx => by
      obtain ⟨x', hx', tx'⟩ := s5 j hj
      have : x' = x := tw_en_det tx' tx
      rw [this] at hx'
      rw [List.mem_filter]
      refine ⟨hx', ?_⟩
      have : ¬ x.1 = na := fun y => hje (pin j e x (na, ob) hj he tx ee y)
      rw [decide_eq_false this]
      rfl
    refine H h9 g9 ?_
    refine rOw_ob R up hi hfo g9 rfl rfl (fun x hx => ?_) (Or.inr ⟨_, rfl, ?_⟩) (fun k' p hk' h1 h2 hp => ?_)
    · rw [← eq] at hx
      refine ⟨fun o h1 h2 => ?_, fun o k h1 h2 _ => ?_, fun o k' h1 h2 hk' => ?_, fun k' hk' => by rw [v56, if_neg (by omega)], fun k' _ => by rw [g9.arr (o := 57) rfl]⟩
      · by_cases y : o = 45
        · subst y; rw [v45, if_neg hx]
        · rw [g9.arrs (P := fun o => Nat.ble o 52 && !(Nat.beq o 45)) rfl (by
            (try dsimp only)
            rw [Bool.and_eq_true, Nat.ble_eq]
            refine ⟨by omega, ?_⟩
            cases q2 : Nat.beq o 45 with
            | false => rfl
            | true => exact absurd (Nat.eq_of_beq_eq_true q2) y) (by omega)]
      · rw [g9.arrs (P := fun o => Nat.ble o 52 && Nat.ble 50 o) rfl (by (try dsimp only); rw [Bool.and_eq_true, Nat.ble_eq, Nat.ble_eq]; omega) (by omega)]
      · rcases (show o = 53 ∨ o = 54 ∨ o = 55 by omega) with y | y | y <;> subst y
        · rw [v53, if_neg (by omega)]
        · rw [v54, if_neg (by omega)]
        · rw [g9.arr (o := 55) rfl]
    · rw [← eq]
      refine ⟨fun f hf => ?_, ?_, ?_, ?_, ?_, ?_, by rw [g9.arr (o := 49) rfl]; exact r7, r8, by rw [g9.arr (o := 50) rfl, g9.arr (o := 51) rfl, g9.arr (o := 52) rfl]; exact r9, fun _ => ?_, fun z => ?_, fun k' hk' => ?_⟩
      · show hh_i h9 (m + (40 + f)) q = (Int32.ofNat (fu (zn_at N) 5 (zn_at N 5 - 1) f)) ∧ fu (zn_at N) 5 (zn_at N 5 - 1) f < _
        rw [at5]
        by_cases y : f = 5
        · subst y
          rw [if_pos rfl]
          refine ⟨?_, by omega⟩
          show hh_i h9 (m + 45) q = _
          rw [v45, if_pos rfl]
        · rw [if_neg y, g9.arrs (P := fun o => Nat.ble o 47 && !(Nat.beq o 45)) rfl (by
            (try dsimp only)
            rw [Bool.and_eq_true, Nat.ble_eq]
            refine ⟨by omega, ?_⟩
            cases q2 : Nat.beq (40 + f) 45 with
            | false => rfl
            | true => have := Nat.eq_of_beq_eq_true q2; omega) (by omega)]
          exact r1 f hf
      · show 1 ≤ fu (zn_at N) 5 (zn_at N 5 - 1) 0
        rw [at5]; exact r2
      · show fu (zn_at N) 5 (zn_at N 5 - 1) 0 ≤ 4
        rw [at5]; exact r3
      · show fu (zn_at N) 5 (zn_at N 5 - 1) 2 < 8
        rw [at5]; exact r4
      · show fu (zn_at N) 5 (zn_at N 5 - 1) 3 < 8
        rw [at5]; exact r5
      · show fu (zn_at N) 5 (zn_at N 5 - 1) 5 ≤ 256
        rw [at5, if_pos rfl]; omega
      · refine ⟨by rw [g9.arr (o := 48) rfl]; exact s1, s2, ?_, ?_, fun j hj => ?_, fun x hx => ?_⟩
        · show fu (zn_at N) 5 (zn_at N 5 - 1) 5 = ((zn_en N).filter (fun x => !(decide (x.1 = na)))).length
          rw [at5, if_pos rfl, hlen]
        · show ((zn_en N).filter (fun x => !(decide (x.1 = na)))).length ≤ 8
          omega
        · have hj : j < ((zn_en N).filter (fun x => !(decide (x.1 = na)))).length := hj
          rw [hlen] at hj
          by_cases y : j < e
          · obtain ⟨x, z1, z2⟩ := s5 j (by omega)
            exact ⟨x, mem j x (by omega) (by omega) z2, en1 j x y z2⟩
          · obtain ⟨x, z1, z2⟩ := s5 (j + 1) (by omega)
            exact ⟨x, mem (j + 1) x (by omega) (by omega) z2, en2 j x (by omega) hj z2⟩
        · show ∃ j, j < ((zn_en N).filter (fun x => !(decide (x.1 = na)))).length ∧ _
          rw [hlen]
          have hx : x ∈ (zn_en N).filter (fun x => !(decide (x.1 = na))) := hx
          rw [List.mem_filter] at hx
          have hne : ¬ x.1 = na := fun y => by have := hx.2; rw [decide_eq_true y] at this; cases this
          obtain ⟨j, z1, z2⟩ := s6 x hx.1
          have hje : ¬ j = e := fun y => by
            rw [y] at z2
            exact hne (by rw [tw_en_det z2 ee])
          by_cases y : j < e
          · exact ⟨j, by omega, en1 j x y z2⟩
          · exact ⟨j - 1, by omega, en2 (j - 1) x (by omega) (by omega) (by rw [show j - 1 + 1 = j by omega]; exact z2)⟩
      · have z : fu (zn_at N) 5 (zn_at N 5 - 1) 0 = 3 := z
        rw [at5, if_neg (by decide), k2] at z
        exact absurd z (by decide)
      · rw [g9.arr (o := 55) rfl]
        show (zn_pt N k' = none ∧ _) ∨ ∃ b p, zn_pt N k' = some b ∧ p < 640 ∧ _ ∧ _ ∧ (fu (zn_at N) 5 (zn_at N 5 - 1) 0 = 1 ∨ fu (zn_at N) 5 (zn_at N 5 - 1) 0 = 4)
        rw [at5, if_neg (by decide)]
        rcases r12 k' hk' with z | ⟨b, p, z1, z2, z3, z4, z5⟩
        · exact Or.inl z
        · exact Or.inr ⟨b, p, z1, z2, z3, tbk _ _ z4, z5⟩
    · rw [← eq] at h1 h2 ⊢
      refine ⟨tn_k0 R0, ?_⟩
      rw [g9.arr (o := 55) rfl] at h2
      exact h2
  refine w_102_0 hT ?_
  rw [i_mul, i_add]
  have lp : ∀ f k h1, k + f = l - 1 → e ≤ k → fr (tO m [45, 53, 54, 56] []) h h1 → hh_i h1 (m + 45) = hh_i h (m + 45) → (∀ x, hh_i h1 (m + 53) x = if 8 * q + e ≤ x ∧ x < 8 * q + k then hh_i h (m + 53) (x + 1) else hh_i h (m + 53) x) → (∀ x, hh_i h1 (m + 54) x = if 8 * q + e ≤ x ∧ x < 8 * q + k then hh_i h (m + 54) (x + 1) else hh_i h (m + 54) x) → (∀ x, hh_i h1 (m + 56) x = if 64 * q + 8 * e ≤ x ∧ x < 64 * q + 8 * k then hh_i h (m + 56) (x + 8) else hh_i h (m + 56) x) → gm_G 102 7 [some (.ref m), some (.int (Int32.ofNat q)), none, some (.int (Int32.ofNat ((8 * q + k))))] [] h1 Q := by
    intro f
    induction f with
    | zero =>
      intro k h1 ek hke g1 c45 c53 c54 c56
      have ek : k = l - 1 := by omega
      subst ek
      exact fin h1 g1 c45 c53 c54 c56
    | succ f ih =>
      intro k h1 ek hke g1 c45 c53 c54 c56
      have f45 : hh_i h1 (m + 45) q = (Int32.ofNat l) := by rw [c45]; exact e45
      refine w_102_7 (hT.fr g1) ⟨q, ix_n hq (by omega), fun z => absurd (by rw [f45, i_mul, i_add, i_sub (by omega), i_lt (by omega) (by omega)]; omega) z, fun _ => ⟨8 * q + k + 1, by rw [i_add]; exact ix_n (by omega) (by omega), 8 * q + k, ix_n (by omega) (by omega), fun h7 a7 => ⟨8 * q + k + 1, by rw [i_add]; exact ix_n (by omega) (by omega), 8 * q + k, ix_n (by omega) (by omega), fun h10 a10 => ?_⟩⟩⟩
      rw [c53, if_neg (by omega)] at a7
      have e54 : hh_i h7 (m + 54) (8 * q + k + 1) = hh_i h (m + 54) (8 * q + k + 1) := by rw [a7, hi_n (by omega), c54, if_neg (by omega)]
      rw [e54] at a10
      have g10 : fr (tO m [45, 53, 54, 56] []) h h10 := g1.trans (by rw [a10, a7]; exact (fr.a rfl).trans (fr.a rfl))
      have d53 : ∀ x, hh_i h10 (m + 53) x = if 8 * q + e ≤ x ∧ x < 8 * q + (k + 1) then hh_i h (m + 53) (x + 1) else hh_i h (m + 53) x := fun x => by
        rw [a10, hi_n (by omega), a7]
        by_cases y : x = 8 * q + k
        · rw [hi_e ⟨rfl, y⟩, if_pos (by omega), y]
        · rw [hi_n (by omega), c53]
          by_cases y2 : 8 * q + e ≤ x ∧ x < 8 * q + k
          · rw [if_pos y2, if_pos (by omega)]
          · rw [if_neg y2, if_neg (by omega)]
      have d54 : ∀ x, hh_i h10 (m + 54) x = if 8 * q + e ≤ x ∧ x < 8 * q + (k + 1) then hh_i h (m + 54) (x + 1) else hh_i h (m + 54) x := fun x => by
        rw [a10]
        by_cases y : x = 8 * q + k
        · rw [hi_e ⟨rfl, y⟩, if_pos (by omega), y]
        · rw [hi_n (by omega), a7, hi_n (by omega), c54]
          by_cases y2 : 8 * q + e ≤ x ∧ x < 8 * q + k
          · rw [if_pos y2, if_pos (by omega)]
          · rw [if_neg y2, if_neg (by omega)]
      have d45 : hh_i h10 (m + 45) = hh_i h (m + 45) := by funext x; rw [a10, hi_n (by omega), a7, hi_n (by omega), c45]
      have d56 : hh_i h10 (m + 56) = hh_i h1 (m + 56) := by funext x; rw [a10, hi_n (by omega), a7, hi_n (by omega)]
      refine lp_fill (m := m) (o := 56) (b := 64 * q + 8 * k) (n := 8) (fun j => [some (.ref m), some (.int (Int32.ofNat q)), none, some (.int (Int32.ofNat ((8 * q + k)))), some (.int (Int32.ofNat j))]) (fun j => hh_i h (m + 56) (64 * q + 8 * k + 8 + j)) (by decide) (fun j h11 hj g11 c11 kk => ?_) (fun h11 g11 c11 => ?_)
      · have vv : hh_i h11 (m + 56) (64 * q + 8 * k + 8 + j) = hh_i h (m + 56) (64 * q + 8 * k + 8 + j) := by rw [c11, if_neg (by omega), d56, c56, if_neg (by omega)]
        have bb : (hh_i h (m + 56) (64 * q + 8 * k + 8 + j)).toInt8.toInt32 = hh_i h (m + 56) (64 * q + 8 * k + 8 + j) := w.2.1 _ _ b56
        refine w_102_55 ((hT.fr g10).fr g11) ⟨fun z => absurd (by rw [i_lt (by omega) (by decide)]; exact hj) z, fun _ => ⟨64 * q + 8 * k + 8 + j, by rw [i_mul, i_add, i_add, show 8 * (8 * q + k) + 8 + j = 64 * q + 8 * k + 8 + j by omega]; exact ix_n (by omega) (by omega), 64 * q + 8 * k + j, by rw [i_mul, i_add, show 8 * (8 * q + k) + j = 64 * q + 8 * k + j by omega]; exact ix_n (by omega) (by omega), fun h3 a3 => ?_⟩⟩
        rw [vv, bb] at a3
        rw [a3, i_add]
        exact kk
      · refine w_102_55 ((hT.fr g10).fr g11) ⟨fun _ => ?_, fun z => absurd z (by decide)⟩
        rw [i_add]
        refine ih (k + 1) h11 (by omega) (by omega) (g10.trans (g11.up rfl rfl)) (by rw [g11.arr (o := 45) rfl]; exact d45) (by rw [g11.arr (o := 53) rfl]; exact d53) (by rw [g11.arr (o := 54) rfl]; exact d54) (fun x => ?_)
        rw [c11, d56, c56]
        by_cases y : 64 * q + 8 * k ≤ x ∧ x < 64 * q + 8 * k + 8
        · rw [if_pos y, if_pos (by omega), show 64 * q + 8 * k + 8 + (x - (64 * q + 8 * k)) = x + 8 by omega]
        · rw [if_neg y]
          by_cases y2 : 64 * q + 8 * e ≤ x ∧ x < 64 * q + 8 * k
          · rw [if_pos y2, if_pos (by omega)]
          · rw [if_neg y2, if_neg (by omega)]
  refine lp (l - 1 - e) e h (by omega) (Nat.le_refl _) (fr.refl _ _) rfl (fun x => by rw [if_neg (by omega)]) (fun x => by rw [if_neg (by omega)]) (fun x => by rw [if_neg (by omega)])
end DR
