/-! STAGE 3: in the midst of a change: a living set with a tree of its own -/
/-- at rest, but for what is due -/
def rTp (h : hh_T) (m : Nat) (S : zS) : Prop := tw_ok h m ∧ rT_A h m (zs_A S) ∧ rT_P h m (zs_P S) ∧ rT_G h m (zs_G S) ∧ rT_E h m (zs_E S) ∧ rT_C h m (zs_C S) ∧ rT_R h m (zs_E S) (zs_R S) ∧ rT_F h m (zs_F S) ∧ rT_X h m (zs_X S) ∧ rT_M h m (zs_M S)
/-- in the midst of a change -/
def rTq (h : hh_T) (m : Nat) (S : zS) : Prop := tw_ok h m ∧ rT_A h m (zs_A S) ∧ rT_P h m (zs_P S) ∧ rT_G h m (zs_G S) ∧ rT_E h m (zs_E S) ∧ rT_D h m (zs_C S) ∧ rT_R h m (zs_E S) (zs_R S) ∧ rT_F h m (zs_F S) ∧ rT_X h m (zs_X S) ∧ rT_M h m (zs_M S)
theorem rT.p {h : hh_T} {m : Nat} {S : zS} (R : rT h m S) : rTp h m S := by
  obtain ⟨r0, r1, r2, r3, r4, r5, r6, r7, r8, r9, -⟩ := R
  exact ⟨r0, r1, r2, r3, r4, r5, r6, r7, r8, r9⟩
theorem rTp.q {h : hh_T} {m : Nat} {S : zS} (R : rTp h m S) : rTq h m S := by
  obtain ⟨r0, r1, r2, r3, r4, r5, r6, r7, r8, r9⟩ := R
  exact ⟨r0, r1, r2, r3, r4, rT_C_d r4 r5, r6, r7, r8, r9⟩
theorem rTq.m0 {h : hh_T} {m : Nat} {S : zS} (R : rTq h m S) : rT0 h m S := by
  obtain ⟨r0, r1, r2, r3, r4, r5, r6, r7, r8, r9⟩ := R
  exact ⟨r0, r1, r2, r3, r4.e0, ⟨r5.2.2.2.1, r5.2.2.2.2⟩, r6.r0, r8, r9⟩
theorem zu_up_up (s : zU) (n : Nat) (T T' : zT) : zu_up (zu_up s n (fun d => zd_tr_ d T)) n (fun d => zd_tr_ d T') = zu_up s n (fun d => zd_tr_ d T') := by
  show zu_sets_ (zu_sets_ s _) _ = zu_sets_ s _
  have : ((zu_sets s).map (fun d => if zd_no d = n then zd_tr_ d T else d)).map (fun d => if zd_no d = n then zd_tr_ d T' else d) = (zu_sets s).map (fun d => if zd_no d = n then zd_tr_ d T' else d) := by
    rw [List.map_map]
    refine List.map_congr_left (fun d _ => ?_)
    show (if zd_no (if zd_no d = n then zd_tr_ d T else d) = n then zd_tr_ (if zd_no d = n then zd_tr_ d T else d) T' else (if zd_no d = n then zd_tr_ d T else d)) = _
    by_cases c : zd_no d = n
    · rw [if_pos c, if_pos c]
      show (if zd_no d = n then _ else _) = _
      rw [if_pos c]
      rfl
    · rw [if_neg c, if_neg c]
  show zu_sets_ s _ = zu_sets_ s _
  exact congrArg (zu_sets_ s) this
/-- with a tree in place of that of a set -/
def zs_trc (S : zS) (n : Nat) (T : zT) : zS := zs_liv_ S (zu_up (zs_liv S) n (fun d => zd_tr_ d T))
theorem zs_tr_c {S : zS} {d : zD} (hu : ∀ x, x ∈ zu_sets (zs_liv S) → zd_no x = zd_no d → x = d) (f : zT → zT) : zs_tr_ S (zd_no d) f = zs_trc S (zd_no d) (f (zd_tr d)) := by
  unfold zs_tr_ zs_trc
  congr 1
  unfold zu_up
  congr 1
  refine List.map_congr_left (fun x hx => ?_)
  (try dsimp only)
  split
  · rename_i z
    rw [hu x hx z]
  · rfl
theorem zs_trc_id {S : zS} {d : zD} (hu : ∀ x, x ∈ zu_sets (zs_liv S) → zd_no x = zd_no d → x = d) : zs_trc S (zd_no d) (zd_tr d) = S := by
  unfold zs_trc
  rw [zu_up_id hu]
  rfl
theorem rT_R_E {h : hh_T} {m : Nat} {E E' : zE} {R : Nat → List zH × Nat} (e1 : ze_heads E' = ze_heads E) (e2 : ze_up E' = ze_up E) (q : rT_R h m E R) : rT_R h m E' R := by
  unfold rT_R at q ⊢
  rw [e1, e2]
  exact q
theorem rTq_tr {h : hh_T} {m : Nat} (S : zS) (n : Nat) (T : zT) : rTq h m (zs_trc S n T) ↔ tw_ok h m ∧ rT_A h m (zs_A S) ∧ rT_P h m (zs_P S) ∧ rT_G h m (zs_G S) ∧ rT_E h m (zs_E (zs_trc S n T)) ∧ rT_D h m (zs_C S) ∧ rT_R h m (zs_E S) (zs_R S) ∧ rT_F h m (zs_F S) ∧ rT_X h m (zs_X S) ∧ rT_M h m (zs_M S) := by
  constructor
  · rintro ⟨r0, r1, r2, r3, r4, r5, r6, r7, r8, r9⟩
    exact ⟨r0, r1, r2, r3, r4, r5, rT_R_E rfl rfl r6, r7, r8, r9⟩
  · rintro ⟨r0, r1, r2, r3, r4, r5, r6, r7, r8, r9⟩
    exact ⟨r0, r1, r2, r3, r4, r5, rT_R_E rfl rfl r6, r7, r8, r9⟩
/-- the living set d at place i has slot t for its own, with tree T -/
def rOw (h : hh_T) (m : Nat) (S : zS) (i t : Nat) (d : zD) (T : zT) : Prop := rTq h m (zs_trc S (zd_no d) T) ∧ td h m i (zd_tr_ d T) ∧ hh_i h (m + 63) i = (Int32.ofNat t) ∧ tt h m t T ∧ ¬ tw_ot h m (ze_heads (zs_E S)).length i t
theorem rL_eq {h : hh_T} {m l : Nat} {I J : Nat → List Nat} (a : rL h m I) (b : rL h m J) (hl : l < 4) : I l = J l := by
  obtain ⟨a1, a2, a3⟩ := a l hl
  obtain ⟨b1, b2, b3⟩ := b l hl
  have e : (I l).length = (J l).length := (i_eq (by omega) (by omega)).mp (a1.symm.trans b1)
  refine List.ext_getElem e (fun j h1 h2 => ?_)
  obtain ⟨x1, x2⟩ := a3 j h1
  obtain ⟨y1, y2⟩ := b3 j h2
  have := (i_eq (by omega) (by omega)).mp (x1.symm.trans y1)
  rw [List.getD_eq_getElem?_getD, List.getElem?_eq_getElem h1, List.getD_eq_getElem?_getD, List.getElem?_eq_getElem h2] at this
  exact this
section RO
variable {h h' : hh_T} {m : Nat} {S : zS} {i t : Nat} {d : zD} {T T' : zT}
/-- the tree is changed; all that is in use then is in A -/
theorem rOw_ch {A : Nat → Prop} {O F : List Nat} (R : rOw h m S i t d T) (up : zs_up S = true) (hi : i < 8) (g : fr (tO m O F) h h') (hO : (O.all fun o => Nat.ble 40 o && Nat.ble o 58) = true) (hF : (F.all fun f => [41, 42, 43, 110].contains f && !(Nat.beq f 42)) = true)
    (s2 : ∀ q, ¬ q / 16 = t → so h h' m q q) (e58 : ∀ t1, ¬ t1 = t → hh_i h' (m + 58) t1 = hh_i h (m + 58) t1) (N : tt h' m t T')
    (hA1 : ∀ p, p < 640 → tw_l1 h' m t p → A p) (hA2 : ∀ p, p < 640 → tw_uN h m p → A p) (u1 : ∀ p q, p < 640 → q < 640 → A p → A q → hh_i h (m + 23) (2 * p) = hh_i h (m + 23) (2 * q) → hh_i h (m + 24) (2 * p) = hh_i h (m + 24) (2 * q) → p = q) (u2 : ∀ p, p < 640 → A p → hh_i h (m + 17) p = (Int32.ofNat 1))
    (hC : ∀ (I : Nat → List Nat) l p, rL h m I → l < 4 → p ∈ I l → p < 640 → (∀ q, q < 640 → tw_uN h m q → hh_i h (m + 23) (2 * q) = hh_i h (m + 23) (2 * p) → hh_i h (m + 24) (2 * q) = hh_i h (m + 24) (2 * p) → q = p) → ∀ q, q < 640 → A q → hh_i h (m + 23) (2 * q) = hh_i h (m + 23) (2 * p) → hh_i h (m + 24) (2 * q) = hh_i h (m + 24) (2 * p) → q = p) : rOw h' m S i t d T' := by
  obtain ⟨RQ, D, e63, TT, hot⟩ := R
  obtain ⟨r0, r1, r2, r3, r4, r5, r6, r7, r8, r9⟩ := (rTq_tr S (zd_no d) T).mp RQ
  have nO : ∀ (P : Nat → Bool), (∀ o, 40 ≤ o → o ≤ 58 → P o = false) → (O.all fun o => !(P o)) = true := fun P hP => by
    rw [List.all_eq_true] at hO ⊢
    intro o ho
    have := hO o ho
    rw [Bool.and_eq_true, Nat.ble_eq, Nat.ble_eq] at this
    rw [hP o this.1 this.2]
    rfl
  have nF : ∀ (P : Nat → Bool), P 41 = false → P 43 = false → P 110 = false → (F.all fun f => !(P f)) = true := fun P h1 h2 h3 => by
    rw [List.all_eq_true] at hF ⊢
    intro f hf
    have := hF f hf
    rw [Bool.and_eq_true] at this
    have q : f = 41 ∨ f = 42 ∨ f = 43 ∨ f = 110 := by simpa using this.1
    rcases q with q | q | q | q <;> subst q
    · rw [h1]; rfl
    · exact absurd this.2 (by decide)
    · rw [h2]; rfl
    · rw [h3]; rfl
  have ar : ∀ o, (Nat.ble 40 o && Nat.ble o 58) = false → ¬ o = 0 → hh_i h' (m + o) = hh_i h (m + o) := fun o h1 h2 => by
    refine g.arr ?_
    rw [Bool.or_eq_false_iff]
    constructor
    · cases q : O.contains o with
      | false => rfl
      | true =>
        have := List.all_eq_true.mp hO o (by simpa using q)
        rw [h1] at this
        cases this
    · cases q : Nat.beq o 0 with
      | false => rfl
      | true => exact absurd (Nat.eq_of_beq_eq_true q) h2
  have fl : ∀ f, fE f = true ∨ f = 46 ∨ f = 47 ∨ f = 48 → hh_i h' m f = hh_i h m f := fun f hf => by
    refine g.fld ?_
    cases q : F.contains f with
    | false => rfl
    | true =>
      have := List.all_eq_true.mp hF f (by simpa using q)
      rw [Bool.and_eq_true] at this
      have q : f = 41 ∨ f = 42 ∨ f = 43 ∨ f = 110 := by simpa using this.1
      rcases q with q | q | q | q <;> subst q <;> rcases hf with z | z | z | z <;> first | cases z | exact absurd z (by decide)
  have a : aSt h h' m := fun o h1 h2 h3 => ar o (by
    cases q : (Nat.ble 40 o && Nat.ble o 58) with
    | false => rfl
    | true => rw [Bool.and_eq_true, Nat.ble_eq, Nat.ble_eq] at q; omega) (by omega)
  have tbk : ∀ p b0, tb h m p b0 → tb h' m p b0 := fun p b0 B => tb_f8 B g (nO _ (fun o h1 h2 => by
    unfold oB
    cases q : (Nat.ble 19 o && Nat.ble o 26) with
    | false => rfl
    | true => rw [Bool.and_eq_true, Nat.ble_eq, Nat.ble_eq] at q; omega))
  have D0 : zd_no (zd_tr_ d T) = zd_no d := rfl
  obtain ⟨R9, hA⟩ := rT_E_ch (A := A) (T' := T') r4 up hi D e63 TT.1 hot a (ar 63 rfl (by decide)) (fun o ho => fl o (Or.inl ho)) s2 e58 (fun p b0 _ _ B => tbk p b0 B) N hA1 hA2 (by rw [ar 23 rfl (by decide), ar 24 rfl (by decide)]; exact u1) (by rw [ar 17 rfl (by decide)]; exact u2)
  have eE : ze_liv_ (zs_E (zs_trc S (zd_no d) T)) (zu_up (ze_liv (zs_E (zs_trc S (zd_no d) T))) (zd_no d) (fun d => zd_tr_ d T')) = zs_E (zs_trc S (zd_no d) T') := by
    show ze_liv_ _ (zu_up (zu_up (zs_liv S) (zd_no d) (fun d => zd_tr_ d T)) (zd_no d) (fun d => zd_tr_ d T')) = _
    rw [zu_up_up]
    rfl
  rw [D0, eE] at R9
  have D9 := td_of (T' := T') a D ⟨t, by rw [ar 63 rfl (by decide)]; exact e63, N⟩
  refine ⟨(rTq_tr S (zd_no d) T').mpr ⟨r0.fr g, r1.fr g (nO _ (fun o h1 h2 => ?_)) (nF _ rfl rfl rfl), r2.fr g (nO _ (fun o h1 h2 => ?_)) (nF _ rfl rfl rfl), r3.fr g (nO _ (fun o h1 h2 => ?_)) (nF _ rfl rfl rfl), R9, ?_, ?_, r7.fr g (nO _ (fun o h1 h2 => ?_)), r8.fr g (nO _ (fun o h1 h2 => ?_)), r9.fr g (nO _ (fun o h1 h2 => ?_)) (nF _ rfl rfl rfl)⟩, D9, by rw [ar 63 rfl (by decide)]; exact e63, N, fun q => hot ((tw_ot_a a (fun k _ => by rw [ar 63 rfl (by decide)]) hi).mp q)⟩
  · have : ¬ o = 1 ∧ ¬ o = 2 ∧ ¬ o = 3 := by omega
    simp [this]
  · have : ¬ o = 4 ∧ ¬ o = 6 ∧ ¬ o = 7 ∧ ¬ o = 8 ∧ ¬ o = 9 ∧ ¬ o = 10 := by omega
    simp [oP, this]
  · have : ¬ o = 5 ∧ ¬ o = 11 ∧ ¬ o = 12 ∧ ¬ o = 13 ∧ ¬ o = 14 ∧ ¬ o = 15 := by omega
    simp [oG, this]
  · obtain ⟨⟨I, f, d1, d2, d3⟩, d4⟩ := r5
    refine ⟨⟨I, f, ?_, d2, fun l p hl hp => ?_⟩, ?_⟩
    · exact fun l hl => (d1 l hl).fr (by rw [ar 33 rfl (by decide)]) (fun j _ => by rw [ar 32 rfl (by decide)])
    · obtain ⟨z1, z2, z3, z4⟩ := d3 l p hl hp
      refine ⟨z1, tbk _ _ z2, fun q hq u e1 e2 => ?_, fun hl2 i hi => by rw [ar 36 rfl (by decide)]; exact z4 hl2 i hi⟩
      rw [ar 23 rfl (by decide)] at e1
      rw [ar 24 rfl (by decide)] at e2
      exact hC I l p d1 hl hp z1 z3 q hq (hA q hq u) e1 e2
    · rw [fl 46 (Or.inr (Or.inl rfl)), fl 47 (Or.inr (Or.inr (Or.inl rfl))), fl 48 (Or.inr (Or.inr (Or.inr rfl)))]
      exact d4
  · refine r6.fr g (nO _ (fun o h1 h2 => ?_))
    have : ¬ o = 59 ∧ ¬ o = 78 ∧ ¬ o = 80 ∧ ¬ o = 81 ∧ ¬ o = 82 := by omega
    simp [oR, this]
  · unfold oF
    have : ¬ o = 59 := by omega
    cases q1 : Nat.beq o 59 with
    | true => exact absurd (Nat.eq_of_beq_eq_true q1) this
    | false =>
      cases q2 : (Nat.ble 88 o && Nat.ble o 102) with
      | true => rw [Bool.and_eq_true, Nat.ble_eq, Nat.ble_eq] at q2; omega
      | false =>
        cases q3 : (Nat.ble 116 o && Nat.ble o 120) with
        | true => rw [Bool.and_eq_true, Nat.ble_eq, Nat.ble_eq] at q3; omega
        | false => rfl
  · have : ¬ o = 112 ∧ ¬ o = 113 ∧ ¬ o = 115 := by omega
    simp [oX, this]
  · have : ¬ o = 34 := by omega
    simp [oM, this]
/-- a change without new blocks -/
theorem rOw_tt {O F : List Nat} (R : rOw h m S i t d T) (up : zs_up S = true) (hi : i < 8) (g : fr (tO m O F) h h') (hO : (O.all fun o => Nat.ble 40 o && Nat.ble o 58) = true) (hF : (F.all fun f => [41, 42, 43, 110].contains f && !(Nat.beq f 42)) = true)
    (s2 : ∀ q, ¬ q / 16 = t → so h h' m q q) (e58 : ∀ t1, ¬ t1 = t → hh_i h' (m + 58) t1 = hh_i h (m + 58) t1) (N : tt h' m t T') (hA : ∀ p, p < 640 → tw_l1 h' m t p → tw_l1 h m t p) : rOw h' m S i t d T' := by
  have RE := R.1.2.2.2.2.1
  have upE : ze_up (zs_E (zs_trc S (zd_no d) T)) = true := up
  have e63 := R.2.2.1
  have h59 := td_ne R.2.1
  refine rOw_ch (A := tw_uN h m) R up hi g hO hF s2 e58 N (fun p hp l => ?_) (fun p _ u => u) (fun p q hp hq u v e1 e2 => RE.2.2.2.2.2.2.2.1 p q hp hq ((tw_uN.of RE).mp u) ((tw_uN.of RE).mp v) e1 e2) (fun p hp u => us_17 RE hp u) (fun I l p _ _ _ _ k q hq a => k q hq a)
  rw [tw_uN.of RE, tw_us_l1, upE]
  exact ⟨t, (tw_sl_ot (rT_E_hs RE) hi h59).mpr (Or.inl e63), R.2.2.2.1.1, hA p hp l⟩
/-- one object is changed -/
theorem rOw_ob {o : Nat} {X : Option zN} {O F : List Nat} (R : rOw h m S i t d T) (up : zs_up S = true) (hi : i < 8) (ho : o < 16) (g : fr (tO m O F) h h') (hO : (O.all fun o => Nat.ble 40 o && Nat.ble o 57) = true) (hF : (F.all fun f => [41, 42, 43, 110].contains f && !(Nat.beq f 42)) = true)
    (s2 : ∀ q, ¬ q = 16 * t + o → so h h' m q q) (N : (X = none ∧ hh_i h' (m + 40) (16 * t + o) = (Int32.ofNat 0)) ∨ ∃ N', X = some N' ∧ tn h' m (16 * t + o) N') (hA : ∀ k p, k < 8 → ¬ hh_i h' (m + 40) (16 * t + o) = (Int32.ofNat 0) → hh_i h' (m + 55) (8 * (16 * t + o) + k) = (Int32.ofNat p) → p < 640 → ¬ hh_i h (m + 40) (16 * t + o) = (Int32.ofNat 0) ∧ hh_i h (m + 55) (8 * (16 * t + o) + k) = (Int32.ofNat p)) : rOw h' m S i t d (zt_ob_ T (fu (zt_ob T) o X)) := by
  have TT := R.2.2.2.1
  have a58 : hh_i h' (m + 58) = hh_i h (m + 58) := by
    refine g.arr ?_
    rw [Bool.or_eq_false_iff]
    refine ⟨?_, rfl⟩
    cases q : O.contains 58 with
    | false => rfl
    | true =>
      have := List.all_eq_true.mp hO 58 (by simpa using q)
      cases this
  have hO2 : (O.all fun o => Nat.ble 40 o && Nat.ble o 58) = true := by
    rw [List.all_eq_true] at hO ⊢
    intro o ho
    have := hO o ho
    rw [Bool.and_eq_true, Nat.ble_eq, Nat.ble_eq] at this ⊢
    omega
  have tbk : ∀ p b0, tb h m p b0 → tb h' m p b0 := fun p b0 B => tb_f8 B g (by
    rw [List.all_eq_true] at hO ⊢
    intro o ho
    have := hO o ho
    rw [Bool.and_eq_true, Nat.ble_eq, Nat.ble_eq] at this
    unfold oB
    cases q : (Nat.ble 19 o && Nat.ble o 26) with
    | false => rfl
    | true => rw [Bool.and_eq_true, Nat.ble_eq, Nat.ble_eq] at q; omega)
  refine rOw_tt R up hi g hO2 hF (fun q hq => s2 q (by omega)) (fun t1 _ => by rw [a58]) ⟨TT.1, by rw [a58]; exact TT.2.1, TT.2.2.1, fun o' ho' => ?_⟩ (fun p hp l => ?_)
  · show (fu (zt_ob T) o X o' = none ∧ _) ∨ ∃ N, fu (zt_ob T) o X o' = some N ∧ _
    by_cases y : o' = o
    · subst y
      rw [fu, if_pos rfl]
      exact N
    · rw [fu, if_neg y]
      have s := s2 (16 * t + o') (by omega)
      rcases TT.2.2.2 o' ho' with ⟨z1, z2⟩ | ⟨N0, z1, z2⟩
      · exact Or.inl ⟨z1, by rw [s.1 40 (by decide) (by decide)]; exact z2⟩
      · exact Or.inr ⟨N0, z1, tn_so s (fun k p b0 _ _ _ B => tbk p b0 B) z2⟩
  · obtain ⟨o', k, o1, k1, q1, q2⟩ := l
    by_cases y : o' = o
    · subst y
      obtain ⟨x1, x2⟩ := hA k p k1 q1 q2 hp
      exact ⟨o', k, o1, k1, x1, x2⟩
    · have s := s2 (16 * t + o') (by omega)
      rw [s.1 40 (by decide) (by decide)] at q1
      rw [s.2.2.1 55 k (by decide) (by decide) k1] at q2
      exact ⟨o', k, o1, k1, q1, q2⟩
end RO
