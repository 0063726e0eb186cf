/-! STAGE 3: a change more in the row of a set -/
theorem rsum_cg {f g : Nat → Nat} : ∀ n, (∀ i, i < n → f i = g i) → rsum f n = rsum g n
  | 0, _ => rfl
  | n + 1, e => by rw [rsum_S, rsum_S, rsum_cg n (fun i hi => e i (by omega)), e n (by omega)]
theorem rsum_z : ∀ n, rsum (fun _ => 0) n = 0
  | 0 => rfl
  | n + 1 => by rw [rsum_S, rsum_z n]
theorem rsum_add (f g : Nat → Nat) : ∀ n, rsum (fun i => f i + g i) n = rsum f n + rsum g n
  | 0 => rfl
  | n + 1 => by rw [rsum_S, rsum_S, rsum_S, rsum_add f g n]; omega
theorem rsum_sw (F : Nat → Nat → Nat) (N : Nat) : ∀ M, rsum (fun i => rsum (F i) N) M = rsum (fun n => rsum (fun i => F i n) M) N
  | 0 => by
    show 0 = rsum (fun n => 0) N
    rw [rsum_z]
  | M + 1 => by
    rw [rsum_S, rsum_sw F N M, ← rsum_add]
    refine rsum_cg N (fun n _ => ?_)
    rw [rsum_S]
/-- a sum with one place that counts -/
theorem rsum_one {f : Nat → Nat} {k : Nat} : ∀ {n : Nat}, k < n → (∀ i, i < n → ¬ i = k → f i = 0) → rsum f n = f k
  | 0, h, _ => absurd h (Nat.not_lt_zero _)
  | n + 1, h, e => by
    rw [rsum_S]
    by_cases y : k = n
    · subst y
      rw [rsum_cg k (g := fun _ => 0) (fun i hi => e i (by omega) (by omega)), rsum_z, Nat.zero_add]
    · rw [rsum_one (n := n) (by omega) (fun i hi => e i (by omega)), e n (by omega) (fun q => y q.symm), Nat.add_zero]
/-- sums over places are sums over numbers -/
theorem rsum_pl {N : Nat} {f : Nat → Nat} {ν : Nat → Option Nat} (h1 : ∀ i n, i < 8 → ν i = some n → n < N) (h2 : ∀ i j n, i < 8 → j < 8 → ν i = some n → ν j = some n → i = j) (h3 : ∀ n, n < N → (∀ i, i < 8 → ¬ ν i = some n) → f n = 0) : rsum (fun i => match ν i with | none => 0 | some n => f n) 8 = rsum f N := by
  have e1 : rsum (fun i => match ν i with | none => 0 | some n => f n) 8 = rsum (fun i => rsum (fun n => if ν i = some n then f n else 0) N) 8 := by
    refine rsum_cg 8 (fun i hi => ?_)
    (try dsimp only)
    cases q : ν i with
    | none =>
      (try dsimp only)
      rw [rsum_cg N (g := fun _ => 0) (fun n _ => if_neg (by intro z; cases z)), rsum_z]
    | some n =>
      (try dsimp only)
      rw [rsum_one (k := n) (h1 i n hi q) (fun x _ hx => if_neg (fun z => hx (Option.some.inj z).symm)), if_pos rfl]
  rw [e1, rsum_sw]
  refine rsum_cg N (fun n hn => ?_)
  by_cases c : ∃ i, i < 8 ∧ ν i = some n
  · obtain ⟨i, c1, c2⟩ := c
    rw [rsum_one (k := i) c1 (fun j hj hji => if_neg (fun z => hji (h2 j i n hj c1 z c2))), if_pos c2]
  · have c' : ∀ i, i < 8 → ¬ ν i = some n := fun i hi z => c ⟨i, hi, z⟩
    rw [rsum_cg 8 (g := fun _ => 0) (fun i hi => if_neg (c' i hi)), rsum_z, h3 n hn c']
section BE
variable {h : hh_T} {m : Nat} {S : zS} {Q : Option Value ⊕ Nat → hh_T → Prop}
theorem t_promised (hT : tw_ok h m) {f : Nat → Nat} (hf : ∀ i, i < 8 → hh_i h (m + 81) i = (Int32.ofNat (f i))) (H : Q (.inl (some (.int (Int32.ofNat (rsum f 8))))) h) : gm_G 145 0 [some (.ref m)] [] h Q := by
  have lp : ∀ e k, k + e = 8 → gm_G 145 4 [some (.ref m), some (.int (Int32.ofNat ((rsum f k)))), some (.int (Int32.ofNat k))] [] h Q := by
    intro e
    induction e with
    | zero =>
      intro k ek
      have ek : k = 8 := by omega
      subst ek
      exact w_145_4 hT ⟨fun _ => H, fun z => absurd z (by decide)⟩
    | succ e ih =>
      intro k ek
      refine w_145_4 hT ⟨fun z => absurd (by rw [i_lt (by omega) (by decide)]; omega) z, fun _ => ⟨k, ix_n (by omega) (by omega), ?_⟩⟩
      rw [hf k (by omega), i_add, i_add, ← rsum_S]
      exact ih (k + 1) (by omega)
  exact w_145_0 hT (lp 8 0 rfl)
/-- numbers of sets, by places of the latest head -/
def tw_no (h : hh_T) (m i : Nat) : Option Nat := if hh_i h (m + 59) i < (Int32.ofNat 0) then none else some (hh_i h (m + 59) i).toNatClampNeg
theorem tw_no_td {i : Nat} {d : zD} (D : td h m i d) : tw_no h m i = some (zd_no d) := by
  unfold tw_no
  rw [D.1, if_neg (by rw [i_n0 (by have := D.2.1; omega)]; exact id), i_tn (by have := D.2.1; omega)]
/-- rows of changes when the house is up: by places of living sets -/
theorem rT_R_up {E : zE} {R : Nat → List zH × Nat} (RR : rT_R h m E R) (RE : rT_E h m E) (up : ze_up E = true) (hh : ¬ ze_heads E = []) : (∀ i, i < 8 → hh_i h (m + 59) i = Int32.ofInt (-1) → hh_i h (m + 80) i = (Int32.ofNat 0) ∧ hh_i h (m + 81) i = (Int32.ofNat 0)) ∧ (∀ i d, i < 8 → td h m i d → hh_i h (m + 80) i = (Int32.ofNat ((R (zd_no d)).1.length)) ∧ hh_i h (m + 81) i = (Int32.ofNat ((R (zd_no d)).2)) ∧ (R (zd_no d)).2 ≤ (R (zd_no d)).1.length ∧ (R (zd_no d)).1.length < 100000 ∧ ∀ k c, k < 16 → (R (zd_no d)).1[k]? = some c → tw_lg h m (290 * (16 * i + k)) c) := by
  obtain ⟨a, b, c, e⟩ := RR
  have h0 : 0 < (ze_heads E).length := List.length_pos_iff.mpr hh
  obtain ⟨j, z1, z2, z3⟩ := rT_E_hs RE 0 h0
  have e := e up j z1 z3
  have b := b j z1 z3 hh
  refine ⟨fun i hi z => ?_, fun i d hi D => ?_⟩
  · rw [e i hi] at z
    exact (b i hi).1 z
  · exact (b i hi).2 (zd_no d) D.2.1 (by rw [← e i hi]; exact D.1)
theorem zs_np_pl (RR : rT_R h m (zs_E S) (zs_R S)) (RE : rT_E h m (zs_E S)) (up : zs_up S = true) (hh : ¬ ze_heads (zs_E S) = []) (h100 : ∀ d, d ∈ zu_sets (zs_liv S) → zd_no d < 100) : ∃ f : Nat → Nat, (∀ i, i < 8 → hh_i h (m + 81) i = (Int32.ofNat (f i))) ∧ rsum f 8 = zs_np S ∧ ∀ i d, i < 8 → td h m i d → f i = (zs_R S (zd_no d)).2 := by
  obtain ⟨u1, u2⟩ := rT_R_up RR RE up hh
  obtain ⟨TU, -⟩ := RE.2.2.1 up
  obtain ⟨t1, t2, t3, t4, t5, -⟩ := TU
  simp only [Nat.mul_zero, Nat.zero_add] at t1 t2 t5
  have nn : ∀ i, i < 8 → (tw_no h m i = none ∧ hh_i h (m + 59) i = Int32.ofInt (-1)) ∨ ∃ d, d ∈ zu_sets (zs_liv S) ∧ td h m i d ∧ tw_no h m i = some (zd_no d) := fun i hi => by
    rcases t1 i hi with z | ⟨d, z1, z2⟩
    · refine Or.inl ⟨?_, z⟩
      unfold tw_no
      rw [z, if_pos (by decide)]
    · exact Or.inr ⟨d, z1, z2, tw_no_td z2⟩
  refine ⟨fun i => match tw_no h m i with | none => 0 | some n => (zs_R S n).2, fun i hi => ?_, ?_, fun i d hi D => ?_⟩
  · rcases nn i hi with ⟨z1, z2⟩ | ⟨d, z1, z2, z3⟩
    · (try dsimp only)
      rw [z1]
      exact (u1 i hi z2).2
    · (try dsimp only)
      rw [z3]
      exact (u2 i d hi z2).2.1
  · refine rsum_pl (N := 100) (f := fun n => (zs_R S n).2) (ν := tw_no h m) (fun i n hi e => ?_) (fun i j n hi hj e1 e2 => ?_) (fun n hn e => ?_)
    · rcases nn i hi with ⟨z1, z2⟩ | ⟨d, z1, z2, z3⟩
      · rw [z1] at e; cases e
      · rw [z3] at e
        cases e
        exact h100 d z1
    · rcases nn i hi with ⟨z1, z2⟩ | ⟨d, z1, z2, z3⟩
      · rw [z1] at e1; cases e1
      · rcases nn j hj with ⟨y1, y2⟩ | ⟨d', y1, y2, y3⟩
        · rw [y1] at e2; cases e2
        · rw [z3] at e1
          rw [y3] at e2
          have : zd_no d = zd_no d' := (Option.some.inj e1).trans (Option.some.inj e2).symm
          exact t5 i j hi hj (td_ne z2) (by rw [z2.1, y2.1, this])
    · have : zs_R S n = ([], 0) := by
        refine RR.2.2.1 n (fun s hs => ?_)
        cases q : zu_set s n with
        | none => rfl
        | some d' =>
          exfalso
          obtain ⟨q1, q2⟩ := zu_set_m q
          obtain ⟨j, y1, y2, y3, y4, y5, y6⟩ := RE.2.2.2.2.2.1 0 s hs
          obtain ⟨k, k1, k2⟩ := y6.2.1 d' q1
          have ek := RR.2.2.2 up j y1 y3 k k1
          rcases nn k k1 with ⟨x1, x2⟩ | ⟨d, x1, x2, x3⟩
          · rw [x2, k2.1] at ek
            exact absurd ek.symm (i_nm1 (by have := k2.2.1; omega))
          · refine e k k1 ?_
            rw [x2.1, k2.1] at ek
            have : zd_no d = zd_no d' := (i_eq (by have := x2.2.1; omega) (by have := k2.2.1; omega)).mp ek
            rw [x3, this, q2]
      rw [this]
  · (try dsimp only)
    rw [tw_no_td D]
/-- how many changes of a set are promised behind one more -/
def zs_pm (S : zS) (d : zD) (rp : Bool) : Nat × Bool := if rp then ((zs_R S (zd_no d)).1.length + 1, false) else if zu_pr (zs_liv S) d 4 = 1 then (if zs_np S - (zs_R S (zd_no d)).2 + ((zs_R S (zd_no d)).1.length + 1) ≤ 16 then ((zs_R S (zd_no d)).1.length + 1, false) else ((zs_R S (zd_no d)).2, true)) else ((zs_R S (zd_no d)).2, false)
theorem zs_np_ge (S : zS) (n : Nat) (hn : n < 100) : (zs_R S n).2 ≤ zs_np S := by
  have : ∀ N, n < N → (zs_R S n).2 ≤ rsum (fun n => (zs_R S n).2) N := by
    intro N
    induction N with
    | zero => intro z; omega
    | succ N ih =>
      intro z
      rw [rsum_S]
      by_cases y : n = N
      · subst y; omega
      · have := ih (by omega)
        omega
  exact this 100 hn
/-- begin: the row grows, the change stands in the log but for its names and bytes -/
theorem t_begin {i op a b x : Nat} {y z : Int32} {d : zD} {rp : Bool} (hT : tw_ok h m) (RA : rT_A h m (zs_A S)) (RE : rT_E h m (zs_E S)) (RR : rT_R h m (zs_E S) (zs_R S)) (up : zs_up S = true) (hh : ¬ ze_heads (zs_E S) = []) (h100 : ∀ d, d ∈ zu_sets (zs_liv S) → zd_no d < 100) (hi : i < 8) (D : td h m i d) (hd : d ∈ zu_sets (zs_liv S)) (hch : zu_ch (zs_liv S) 9 d) (hp4 : zu_pr (zs_liv S) d 4 ≤ 2) (hnp : zs_np S ≤ 800000) (e111 : hh_i h m 111 = bi rp)
    (H : ∀ h', fr (tO m [80, 81, 82] [108, 109, 112]) h h' → (∀ k, hh_i h' (m + 80) k = if k = i then (Int32.ofNat ((zs_R S (zd_no d)).1.length + 1)) else hh_i h (m + 80) k) → (∀ k, hh_i h' (m + 81) k = if k = i then (Int32.ofNat ((zs_pm S d rp).1)) else hh_i h (m + 81) k) → hh_i h' m 112 = (if (zs_pm S d rp).2 then (Int32.ofNat 1) else hh_i h m 112)
      → ((16 ≤ (zs_R S (zd_no d)).1.length ∧ hh_i h' m 108 = Int32.ofInt (-1) ∧ hh_i h' (m + 82) = hh_i h (m + 82)) ∨ ((zs_R S (zd_no d)).1.length < 16 ∧ hh_i h' m 108 = (Int32.ofNat (290 * (16 * i + (zs_R S (zd_no d)).1.length))) ∧ hh_i h' m 109 = (Int32.ofNat (290 * (16 * i + (zs_R S (zd_no d)).1.length) + 10)) ∧ ∀ q, hh_i h' (m + 82) q = if 290 * (16 * i + (zs_R S (zd_no d)).1.length) ≤ q ∧ q < 290 * (16 * i + (zs_R S (zd_no d)).1.length) + 10 then [(Int32.ofNat op), (Int32.ofNat a), (Int32.ofNat b), (Int32.ofNat x), y, z, (Int32.ofNat (za_clock (zs_A S))), (Int32.ofNat (za_actor (zs_A S))), (Int32.ofNat 0), (Int32.ofNat 0)].getD (q - 290 * (16 * i + (zs_R S (zd_no d)).1.length)) 0 else hh_i h (m + 82) q)) → Q (.inl none) h') : gm_G 364 0 [some (.ref m), some (.int (Int32.ofNat i)), some (.int (Int32.ofNat op)), some (.int (Int32.ofNat a)), some (.int (Int32.ofNat b)), some (.int (Int32.ofNat x)), some (.int y), some (.int z)] [] h Q := by
  obtain ⟨u1, u2⟩ := rT_R_up RR RE up hh
  obtain ⟨v80, v81, v1, v2, -⟩ := u2 i d hi D
  obtain ⟨f, f1, f2, f3⟩ := zs_np_pl RR RE up hh h100
  obtain ⟨l, el⟩ : ∃ l, l = (zs_R S (zd_no d)).1.length := ⟨_, rfl⟩
  rw [← el] at v80 v1 v2 H
  have e4 : hh_i h m 4 = (Int32.ofNat (za_clock (zs_A S))) := RA.2.2.2.2.2.2.1
  have e5 : hh_i h m 5 = (Int32.ofNat (za_actor (zs_A S))) := RA.2.2.2.2.2.2.2.2.1
  -- the promise
  have pro : ∀ h1, fr (tO m [80, 82] [108, 109]) h h1 → (∀ k, hh_i h1 (m + 80) k = if k = i then (Int32.ofNat (l + 1)) else hh_i h (m + 80) k) → (∀ h', fr (tO m [81] [112]) h1 h' → (∀ k, hh_i h' (m + 81) k = if k = i then (Int32.ofNat ((zs_pm S d rp).1)) else hh_i h (m + 81) k) → hh_i h' m 112 = (if (zs_pm S d rp).2 then (Int32.ofNat 1) else hh_i h m 112) → Q (.inl none) h') → gm_G 364 194 [some (.ref m), some (.int (Int32.ofNat i))] [] h1 Q := by
    intro h1 g1 c1 K
    have hT1 := hT.fr g1
    have w81 : hh_i h1 (m + 81) i = (Int32.ofNat ((zs_R S (zd_no d)).2)) := by rw [g1.arr (o := 81) rfl]; exact v81
    have w80 : hh_i h1 (m + 80) i = (Int32.ofNat (l + 1)) := by rw [c1, if_pos rfl]
    have w112 : hh_i h1 m 112 = hh_i h m 112 := g1.fld rfl
    have e81 : hh_i h1 (m + 81) = hh_i h (m + 81) := g1.arr rfl
    have put : ∀ h9, h9 = hh_wi h1 (m + 81) i (Int32.ofNat (l + 1)) → (zs_pm S d rp) = (l + 1, false) → Q (.inl none) h9 := by
      intro h9 a9 e
      refine K h9 (by rw [a9]; exact fr.a rfl) (fun k => ?_) (by rw [e, a9, hi_n (by omega)]; exact w112)
      rw [e, a9]
      by_cases q : k = i
      · rw [hi_e ⟨rfl, q⟩, if_pos q]
      · rw [hi_n (by omega), if_neg q, e81]
    have same : (zs_pm S d rp) = ((zs_R S (zd_no d)).2, false) → Q (.inl none) h1 := by
      intro e
      refine K h1 (fr.refl _ _) (fun k => ?_) (by rw [e]; exact w112)
      rw [e]
      by_cases q : k = i
      · rw [if_pos q, q]; exact w81
      · rw [if_neg q, e81]
    refine w_364_194 hT1 ⟨fun q => ?_, fun q => ⟨i, ix_n hi (by omega), i, ix_n hi (by omega), fun h9 a9 => put h9 (by rw [a9, w80]) ?_⟩⟩
    · rw [g1.fld (f := 111) rfl, e111] at q
      have er : rp = false := by cases rp with
        | false => rfl
        | true => exact absurd q (by decide)
      have TU1 : tu h1 m 0 (zs_liv S) := (RE.2.2.1 up).1.sm (F := f0) (g1.sm rfl rfl)
      have D1 : td h1 m i d := D.sm (F := f0) (g1.sm rfl rfl)
      have up1 : hh_i h1 m 77 = (Int32.ofNat 1) := by rw [g1.fld (f := 77) rfl, RE.2.1, show ze_up (zs_E S) = true from up]; rfl
      refine w_297_0 hT1 (t_property0 hT1 up1 TU1 (by decide) 9 i d hi D1 hch ?_)
      refine ⟨fun y => same ?_, fun y => ?_⟩
      · unfold zs_pm
        rw [er, if_neg (by decide), if_neg (fun e => y (by rw [show zu_prop (zs_liv S) 4 9 d = 1 from e]))]
      · have y : zu_pr (zs_liv S) d 4 = 1 := (i_eq (by show zu_pr (zs_liv S) d 4 < _; omega) (by decide)).mp y
        have hn := h100 d hd
        have hge := zs_np_ge S (zd_no d) hn
        refine t_promised hT1 (f := f) (fun k hk => by rw [e81]; exact f1 k hk) ?_
        rw [f2]
        refine ⟨i, ix_n hi (by omega), i, ix_n hi (by omega), ?_⟩
        rw [w81, w80, i_sub hge, i_add]
        refine ⟨fun q2 => ⟨i, ix_n hi (by omega), i, ix_n hi (by omega), fun h9 a9 => put h9 (by rw [a9, w80]) ?_⟩, fun q2 h9 a9 => ?_⟩
        · rw [i_lt (by decide) (by omega)] at q2
          unfold zs_pm
          rw [er, if_neg (by decide), if_pos y, ← el, if_pos (by omega)]
        · rw [i_lt (by decide) (by omega)] at q2
          have e : zs_pm S d rp = ((zs_R S (zd_no d)).2, true) := by
            unfold zs_pm
            rw [er, if_neg (by decide), if_pos y, ← el, if_neg (by omega)]
          refine K h9 (by rw [a9]; exact fr.f rfl) (fun k => ?_) (by rw [e, a9, hi_e ⟨rfl, rfl⟩]; rfl)
          rw [e, a9, hi_n (by omega)]
          by_cases q3 : k = i
          · rw [if_pos q3, q3]; exact w81
          · rw [if_neg q3, e81]
    · have er : rp = true := by cases rp with
        | true => rfl
        | false => exact absurd (by rw [g1.fld (f := 111) rfl, e111]; rfl) q
      unfold zs_pm
      rw [er, if_pos rfl, ← el]
  refine w_364_0 hT ⟨i, ix_n hi (by omega), i, ix_n hi (by omega), i, ix_n hi (by omega), fun h4 a4 => ?_⟩
  rw [v80, i_add] at a4
  have g4 : fr (tO m [80, 82] [108, 109]) h h4 := by rw [a4]; exact fr.a rfl
  have c4 : ∀ k, hh_i h4 (m + 80) k = if k = i then (Int32.ofNat (l + 1)) else hh_i h (m + 80) k := fun k => by
    rw [a4]
    by_cases q : k = i
    · rw [hi_e ⟨rfl, q⟩, if_pos q]
    · rw [hi_n (by omega), if_neg q]
  rw [v80]
  refine ⟨fun q => ?_, fun q => ?_⟩
  · rw [i_lt (by omega) (by decide)] at q
    refine w_364_41 (hT.fr g4) (fun h1 a1 => ⟨fun _ => ?_, fun q2 => absurd (by rw [a1, hi_e ⟨rfl, rfl⟩]; decide) q2⟩)
    have g1 : fr (tO m [80, 82] [108, 109]) h h1 := g4.trans (by rw [a1]; exact fr.f rfl)
    refine pro h1 g1 (fun k => by rw [a1, hi_n (by omega)]; exact c4 k) (fun h' g' k1 k2 => ?_)
    refine H h' ((g1.up rfl rfl).trans (g'.up rfl rfl)) (fun k => by rw [g'.arr (o := 80) rfl, a1, hi_n (by omega)]; exact c4 k) k1 k2 (Or.inl ⟨by omega, by rw [g'.fld (f := 108) rfl, a1, hi_e ⟨rfl, rfl⟩], ?_⟩)
    funext q3
    rw [g'.arr (o := 82) rfl, a1, hi_n (by omega), a4, hi_n (by omega)]
  · rw [i_lt (by omega) (by decide)] at q
    rw [i_mul, i_add, i_mul, show (16 * i + l) * 290 = 290 * (16 * i + l) by omega]
    obtain ⟨A, eA⟩ : ∃ A, A = 290 * (16 * i + l) := ⟨_, rfl⟩
    rw [← eA] at H ⊢
    have hA : A + 290 ≤ 37120 := by omega
    refine w_364_41 (hT.fr g4) (fun h1 a1 => ?_)
    have x108 : hh_i h1 m 108 = (Int32.ofNat A) := by rw [a1, hi_e ⟨rfl, rfl⟩]
    have x4 : hh_i h1 m 4 = (Int32.ofNat (za_clock (zs_A S))) := by rw [a1, hi_n (by omega), g4.fld (f := 4) rfl]; exact e4
    have x5 : hh_i h1 m 5 = (Int32.ofNat (za_actor (zs_A S))) := by rw [a1, hi_n (by omega), g4.fld (f := 5) rfl]; exact e5
    refine ⟨fun y => absurd y (by rw [x108, i_n0 (by omega)]; exact id), fun _ => ?_⟩
    simp (disch := omega) only [forall_eq, exists_eq_left, exists_eq_left', Option.some.injEq, ex_ix, i_add, i_mul, i_sub, i_lt, i_le, i_eq, i_tn, hi_e, hi_n, hj_e, hj_n, hi_wj, hj_wi, hr_wi, hr_wj, ht_wi, ht_wj, hl_wi, hl_wj, hz_wi, hz_wj, hs_wi, hs_wj, hi_wr, hj_wr, hr_e, hr_n, ht_wr, hl_wr, hz_wr, hs_wr, n_lt_t, n_lt_f, n_le_t, n_le_f, n_eq_t, n_eq_f, true_and, and_true, false_and, and_false, true_or, or_true, false_or, or_false, not_true_eq_false, not_false_eq_true, forall_const, implies_true, true_imp_iff, false_imp_iff, gs_t, reduceIte, ite_true, ite_false, x108, x4, x5]
    have g1 : fr (tO m [80, 82] [108, 109]) h h1 := g4.trans (by rw [a1]; exact fr.f rfl)
    have e82 : hh_i h1 (m + 82) = hh_i h (m + 82) := by funext q3; rw [a1, hi_n (by omega), a4, hi_n (by omega)]
    refine pro _ (g1.trans (((((((((((fr.a (O := [80, 82]) (F := [108, 109]) rfl).trans (fr.a rfl)).trans (fr.a rfl)).trans (fr.a rfl)).trans (fr.a rfl)).trans (fr.a rfl)).trans (fr.a rfl)).trans (fr.a rfl)).trans (fr.a rfl)).trans (fr.a rfl)).trans (fr.f rfl))) (fun k => ?_) (fun h' g' k1 k2 => ?_)
    · simp (disch := omega) only [hi_n]
      rw [a1, hi_n (by omega)]
      exact c4 k
    · refine H h' ((g1.up rfl rfl).trans ((((((((((((fr.a (O := [80, 81, 82]) (F := [108, 109, 112]) rfl).trans (fr.a rfl)).trans (fr.a rfl)).trans (fr.a rfl)).trans (fr.a rfl)).trans (fr.a rfl)).trans (fr.a rfl)).trans (fr.a rfl)).trans (fr.a rfl)).trans (fr.a rfl)).trans (fr.f rfl)).trans (g'.up rfl rfl))) (fun k => ?_) k1 k2 (Or.inr ⟨q, ?_, ?_, fun q3 => ?_⟩)
      · rw [g'.arr (o := 80) rfl]
        simp (disch := omega) only [hi_n]
        rw [a1, hi_n (by omega)]
        exact c4 k
      · rw [g'.fld (f := 108) rfl]
        simp (disch := omega) only [hi_n]
        exact x108
      · rw [g'.fld (f := 109) rfl, hi_e ⟨rfl, rfl⟩]
      · rw [g'.arr (o := 82) rfl, hi_n (by omega)]
        by_cases q4 : A ≤ q3 ∧ q3 < A + 10
        · rw [if_pos q4]
          obtain ⟨k, ek⟩ : ∃ k, q3 = A + k := ⟨q3 - A, by omega⟩
          subst ek
          rw [show A + k - A = k by omega]
          rcases (show k = 0 ∨ k = 1 ∨ k = 2 ∨ k = 3 ∨ k = 4 ∨ k = 5 ∨ k = 6 ∨ k = 7 ∨ k = 8 ∨ k = 9 by omega) with u | u | u | u | u | u | u | u | u | u <;> subst u <;> simp (disch := omega) only [hi_e, hi_n] <;> rfl
        · rw [if_neg q4]
          simp (disch := omega) only [hi_n]
          rw [e82]
end BE
