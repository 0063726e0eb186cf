/-! STAGE 3: the tree of a living set becomes another one -/
theorem zu_set_up (s : zU) (n : Nat) (f : zD → zD) (hf : ∀ d, zd_no (f d) = zd_no d) (x : Nat) : zu_set (zu_up s n f) x = (zu_set s x).map (fun d => if zd_no d = n then f d else d) := by
  show ((zu_sets s).map (fun d => if zd_no d = n then f d else d)).find? (fun d => decide (zd_no d = x)) = _
  rw [List.find?_map]
  have : ((fun d => decide (zd_no d = x)) ∘ fun d => if zd_no d = n then f d else d) = fun d => decide (zd_no d = x) := by
    funext d
    show decide (zd_no (if zd_no d = n then f d else d) = x) = _
    split
    · rw [hf]
    · rfl
  rw [this]
  rfl
theorem zu_pl_up (s : zU) (n : Nat) (f : zD → zD) (hf : ∀ d, zd_no (f d) = zd_no d) (hs : ∀ d, zd_sn (f d) = zd_sn d) (k : zK) : zu_pl (zu_up s n f) k = zu_pl s k := by
  unfold zu_pl
  rw [zu_set_up s n f hf]
  cases zu_set s (zk_se k) with
  | none => rfl
  | some d =>
    show (zd_sn (if zd_no d = n then f d else d)).idxOf _ = _
    split
    · rw [hs]
    · rfl
section TE
variable {h h' : hh_T} {m : Nat}
/-- arrays of states, but for the slots of sets -/
def aSt (h h' : hh_T) (m : Nat) : Prop := ∀ o, 59 ≤ o → o ≤ 79 → ¬ o = 63 → hh_i h' (m + o) = hh_i h (m + o)
theorem td_of {k : Nat} {d : zD} {T' : zT} (a : aSt h h' m) (D : td h m k d) (X : ∃ t, hh_i h' (m + 63) k = (Int32.ofNat t) ∧ tt h' m t T') : td h' m k (zd_tr_ d T') := by
  obtain ⟨d1, d2, d3, d4, d5, d6, d7, d8, d9, ⟨n, d10, d11, d12⟩, d13, d14⟩ := D
  refine ⟨by rw [a 59 (by decide) (by decide) (by decide)]; exact d1, d2, by rw [a 60 (by decide) (by decide) (by decide)]; exact d3, d4, by rw [a 61 (by decide) (by decide) (by decide)]; exact d5, d6, by rw [a 62 (by decide) (by decide) (by decide)]; exact d7, d8, X, ⟨n, by rw [a 64 (by decide) (by decide) (by decide)]; exact d10, d11, ?_⟩, by rw [a 65 (by decide) (by decide) (by decide)]; exact d13, by rw [a 66 (by decide) (by decide) (by decide)]; exact d14⟩
  unfold tnm at d12 ⊢
  rw [a 67 (by decide) (by decide) (by decide)]
  exact d12
theorem tk_of {k pl : Nat} {x : zK} (a : aSt h h' m) (R : tk h m k x pl) (X : ∀ t T, hh_i h (m + 74) k = (Int32.ofNat t) → tt h m t T → tt h' m t T) : tk h' m k x pl := by
  obtain ⟨r1, r2, r3, r4, r5, r6, r7, r8, r9, ⟨t, r10, r11⟩, n, r12, r13, r14⟩ := R
  refine ⟨by rw [a 69 (by decide) (by decide) (by decide)]; exact r1, r2, by rw [a 70 (by decide) (by decide) (by decide)]; exact r3, r4, by rw [a 71 (by decide) (by decide) (by decide)]; exact r5, by rw [a 72 (by decide) (by decide) (by decide)]; exact r6, r7, by rw [a 73 (by decide) (by decide) (by decide)]; exact r8, r9, ⟨t, by rw [a 74 (by decide) (by decide) (by decide)]; exact r10, X t _ r10 r11⟩, n, by rw [a 75 (by decide) (by decide) (by decide)]; exact r12, r13, ?_⟩
  unfold tnm at r14 ⊢
  rw [a 68 (by decide) (by decide) (by decide)]
  exact r14
theorem td_ne {k : Nat} {d : zD} (D : td h m k d) : ¬ hh_i h (m + 59) k = Int32.ofInt (-1) := by
  rw [D.1]
  exact i_nm1 (by have := D.2.1; omega)
theorem tk_ne {k pl : Nat} {d : zK} (D : tk h m k d pl) : ¬ hh_i h (m + 69) k = Int32.ofInt (-1) := by
  rw [D.1]
  exact i_nm1 (by have := D.2.1; omega)
theorem tu_keep {j : Nat} {s : zU} (a : aSt h h' m) (e63 : ∀ k, k < 8 → hh_i h' (m + 63) (8 * j + k) = hh_i h (m + 63) (8 * j + k)) (ks : ∀ k t T, k < 8 → ¬ hh_i h (m + 59) (8 * j + k) = Int32.ofInt (-1) → hh_i h (m + 63) (8 * j + k) = (Int32.ofNat t) → tt h m t T → tt h' m t T)
    (kk : ∀ k t T, k < 12 → ¬ hh_i h (m + 69) (12 * j + k) = Int32.ofInt (-1) → hh_i h (m + 74) (12 * j + k) = (Int32.ofNat t) → tt h m t T → tt h' m t T) (R : tu h m j s) : tu h' m j s := by
  have kd : ∀ k d, k < 8 → td h m (8 * j + k) d → td h' m (8 * j + k) d := fun k d hk D => by
    obtain ⟨t, t1, t2⟩ := D.2.2.2.2.2.2.2.2.1
    exact td_of (T' := zd_tr d) a D ⟨t, by rw [e63 k hk]; exact t1, ks k t _ hk (td_ne D) t1 t2⟩
  have kx : ∀ k x pl, k < 12 → tk h m (12 * j + k) x pl → tk h' m (12 * j + k) x pl := fun k x pl hk D => tk_of a D (fun t T e q => kk k t T hk (tk_ne D) e q)
  obtain ⟨r1, r2, r3, r4, r5⟩ := R
  unfold tu
  rw [a 59 (by decide) (by decide) (by decide), a 69 (by decide) (by decide) (by decide), a 76 (by decide) (by decide) (by decide), a 77 (by decide) (by decide) (by decide)]
  refine ⟨fun k hk => ?_, fun d hd => ?_, fun k hk => ?_, fun x hx => ?_, r5⟩
  · rcases r1 k hk with z | ⟨d, z1, z2⟩
    · exact Or.inl z
    · exact Or.inr ⟨d, z1, kd k d hk z2⟩
  · obtain ⟨k, z1, z2⟩ := r2 d hd
    exact ⟨k, z1, kd k d z1 z2⟩
  · rcases r3 k hk with z | ⟨d, z1, z2⟩
    · exact Or.inl z
    · exact Or.inr ⟨d, z1, kx k d _ hk z2⟩
  · obtain ⟨k, z1, z2⟩ := r4 x hx
    exact ⟨k, z1, kx k x _ z1 z2⟩
theorem tu_tree {i t' : Nat} {s : zU} {d : zD} {T' : zT} (TU : tu h m 0 s) (hi : i < 8) (D : td h m i d) (a : aSt h h' m) (g63 : ∀ k, k < 8 → ¬ k = i → hh_i h' (m + 63) k = hh_i h (m + 63) k) (e63 : hh_i h' (m + 63) i = (Int32.ofNat t'))
    (ks : ∀ k t T, k < 8 → ¬ k = i → ¬ hh_i h (m + 59) k = Int32.ofInt (-1) → hh_i h (m + 63) k = (Int32.ofNat t) → tt h m t T → tt h' m t T) (kk : ∀ k t T, k < 12 → ¬ hh_i h (m + 69) k = Int32.ofInt (-1) → hh_i h (m + 74) k = (Int32.ofNat t) → tt h m t T → tt h' m t T) (N : tt h' m t' T') : tu h' m 0 (zu_up s (zd_no d) (fun d => zd_tr_ d T')) := by
  have kd : ∀ k d, k < 8 → ¬ k = i → td h m k d → td h' m k d := fun k d hk hki D => by
    obtain ⟨t, t1, t2⟩ := D.2.2.2.2.2.2.2.2.1
    exact td_of (T' := zd_tr d) a D ⟨t, by rw [g63 k hk hki]; exact t1, ks k t _ hk hki (td_ne D) t1 t2⟩
  have ki : ∀ d, td h m i d → td h' m i (zd_tr_ d T') := fun d D => td_of a D ⟨t', e63, N⟩
  have kx : ∀ k x pl, k < 12 → tk h m k x pl → tk h' m k x pl := fun k x pl hk D => tk_of a D (fun t T e q => kk k t T hk (tk_ne D) e q)
  obtain ⟨r1, r2, r3, r4, r5, r6, r7⟩ := TU
  have pl : ∀ x, zu_pl (zu_up s (zd_no d) (fun d => zd_tr_ d T')) x = zu_pl s x := fun x => zu_pl_up s (zd_no d) (fun d => zd_tr_ d T') (fun _ => rfl) (fun _ => rfl) x
  simp only [Nat.mul_zero, Nat.zero_add] at r1 r2 r3 r4 r5 r6
  unfold tu
  simp only [Nat.mul_zero, Nat.zero_add, pl]
  rw [a 59 (by decide) (by decide) (by decide), a 69 (by decide) (by decide) (by decide), a 76 (by decide) (by decide) (by decide), a 77 (by decide) (by decide) (by decide)]
  refine ⟨fun k hk => ?_, fun x hx => ?_, fun k hk => ?_, fun x hx => ?_, r5, r6, r7⟩
  · rcases r1 k hk with z | ⟨x, z1, z2⟩
    · exact Or.inl z
    · right
      by_cases y : k = i
      · subst y
        have en : zd_no x = zd_no d := (i_eq (by have := z2.2.1; omega) (by have := D.2.1; omega)).mp (z2.1.symm.trans D.1)
        exact ⟨zd_tr_ x T', List.mem_map.mpr ⟨x, z1, if_pos en⟩, ki x z2⟩
      · have en : ¬ zd_no x = zd_no d := fun e => y (r5 k i hk hi (td_ne z2) (by rw [z2.1, D.1, e]))
        exact ⟨x, List.mem_map.mpr ⟨x, z1, if_neg en⟩, kd k x hk y z2⟩
  · obtain ⟨y, z1, z2⟩ := List.mem_map.mp hx
    obtain ⟨k, z3, z4⟩ := r2 y z1
    refine ⟨k, z3, ?_⟩
    by_cases c : zd_no y = zd_no d
    · have z2 : zd_tr_ y T' = x := by rw [← z2]; exact (if_pos c).symm
      have ek : k = i := r5 k i z3 hi (td_ne z4) (by rw [z4.1, D.1, c])
      rw [← z2, ek]
      rw [ek] at z4
      exact ki y z4
    · have z2 : y = x := by rw [← z2]; exact (if_neg c).symm
      have ek : ¬ k = i := fun e => c ((i_eq (by have := z4.2.1; omega) (by have := D.2.1; omega)).mp (z4.1.symm.trans (by rw [e]; exact D.1)))
      rw [← z2]
      exact kd k y z3 ek z4
  · rcases r3 k hk with z | ⟨x, z1, z2⟩
    · exact Or.inl z
    · exact Or.inr ⟨x, z1, kx k x _ hk z2⟩
  · obtain ⟨k, z1, z2⟩ := r4 x hx
    exact ⟨k, z1, kx k x _ z1 z2⟩
/-- a slot that something else than the living set at place i holds -/
def tw_os (h : hh_T) (m j t : Nat) : Prop := (∃ k, k < 8 ∧ ¬ hh_i h (m + 59) (8 * j + k) = Int32.ofInt (-1) ∧ hh_i h (m + 63) (8 * j + k) = (Int32.ofNat t)) ∨ ∃ k, k < 12 ∧ ¬ hh_i h (m + 69) (12 * j + k) = Int32.ofInt (-1) ∧ hh_i h (m + 74) (12 * j + k) = (Int32.ofNat t)
def tw_ot (h : hh_T) (m nh i t : Nat) : Prop := (∃ k, k < 8 ∧ ¬ k = i ∧ ¬ hh_i h (m + 59) k = Int32.ofInt (-1) ∧ hh_i h (m + 63) k = (Int32.ofNat t)) ∨ (∃ k, k < 12 ∧ ¬ hh_i h (m + 69) k = Int32.ofInt (-1) ∧ hh_i h (m + 74) k = (Int32.ofNat t)) ∨ ∃ c j, c < nh ∧ hh_i h (m + 78) c = (Int32.ofNat j) ∧ 1 ≤ j ∧ j < 4 ∧ tw_os h m j t
theorem rT_E_tree {i t' : Nat} {d : zD} {T' : zT} {E : zE} (R : rT_E h m E) (up : ze_up E = true) (hi : i < 8) (D : td h m i d) (a : aSt h h' m) (f : ∀ o, fE o = true → hh_i h' m o = hh_i h m o) (g63 : ∀ k, ¬ k = i → hh_i h' (m + 63) k = hh_i h (m + 63) k) (e63 : hh_i h' (m + 63) i = (Int32.ofNat t'))
    (keep : ∀ t T, tw_ot h m (ze_heads E).length i t → tt h m t T → tt h' m t T) (N : tt h' m t' T')
    (U1 : ∀ p q, p < 640 → q < 640 → tw_us h' m (tw_sl h' m (ze_up E) (ze_heads E).length) p → tw_us h' m (tw_sl h' m (ze_up E) (ze_heads E).length) q → hh_i h' (m + 23) (2 * p) = hh_i h' (m + 23) (2 * q) → hh_i h' (m + 24) (2 * p) = hh_i h' (m + 24) (2 * q) → p = q)
    (U2 : ∀ p, p < 640 → tw_us h' m (tw_sl h' m (ze_up E) (ze_heads E).length) p → hh_i h' (m + 17) p = (Int32.ofNat 1)) : rT_E h' m (ze_liv_ E (zu_up (ze_liv E) (zd_no d) (fun d => zd_tr_ d T'))) := by
  obtain ⟨r1, r2, r3, r4, r5, r6, r7, -⟩ := R
  obtain ⟨l1, l2, l3⟩ := r3 up
  refine ⟨by rw [f 76 rfl]; exact r1, by rw [f 77 rfl]; exact r2, fun _ => ⟨?_, by rw [f 100 rfl]; exact l2, l3⟩, by rw [f 99 rfl]; exact r4, r5, fun c s hs => ?_, by rw [a 78 (by decide) (by decide) (by decide)]; exact r7, U1, U2⟩
  · exact tu_tree l1 hi D a (fun k _ hk => g63 k hk) e63 (fun k t T hk hki h1 h2 q => keep t T (Or.inl ⟨k, hk, hki, h1, h2⟩) q) (fun k t T hk h1 h2 q => keep t T (Or.inr (Or.inl ⟨k, hk, h1, h2⟩)) q) N
  · obtain ⟨j, z1, z2, z3, z4, z5, z6⟩ := r6 c s hs
    have hc : c < (ze_heads E).length := (List.getElem?_eq_some_iff.mp hs).1
    refine ⟨j, by rw [a 78 (by decide) (by decide) (by decide)]; exact z1, z2, z3, by rw [a 79 (by decide) (by decide) (by decide)]; exact z4, z5, ?_⟩
    refine tu_keep a (fun k hk => g63 _ (by omega)) (fun k t T hk h1 h2 q => keep t T (Or.inr (Or.inr ⟨c, j, hc, z1, z2, z3, Or.inl ⟨k, hk, h1, h2⟩⟩)) q) (fun k t T hk h1 h2 q => keep t T (Or.inr (Or.inr ⟨c, j, hc, z1, z2, z3, Or.inr ⟨k, hk, h1, h2⟩⟩)) q) z6
/-- slots that count: the living set at i, and all else -/
theorem tw_sl_ot {i t nh : Nat} (hs : ∀ c, c < nh → ∃ j, hh_i h (m + 78) c = (Int32.ofNat j) ∧ 1 ≤ j ∧ j < 4) (hi : i < 8) (h59 : ¬ hh_i h (m + 59) i = Int32.ofInt (-1)) : tw_sl h m true nh t ↔ hh_i h (m + 63) i = (Int32.ofNat t) ∨ tw_ot h m nh i t := by
  constructor
  · rintro ⟨j, hj, hj4, q⟩
    rcases hj with ⟨e, -⟩ | ⟨c, hc, e⟩
    · subst e
      simp only [Nat.mul_zero, Nat.zero_add] at q
      rcases q with ⟨k, k1, k2, k3⟩ | ⟨k, k1, k2, k3⟩
      · by_cases y : k = i
        · rw [y] at k3; exact Or.inl k3
        · exact Or.inr (Or.inl ⟨k, k1, y, k2, k3⟩)
      · exact Or.inr (Or.inr (Or.inl ⟨k, k1, k2, k3⟩))
    · obtain ⟨j', z1, z2, z3⟩ := hs c hc
      have ej : j = j' := (i_eq (by omega) (by omega)).mp (e.symm.trans z1)
      subst ej
      exact Or.inr (Or.inr (Or.inr ⟨c, j, hc, z1, z2, z3, q⟩))
  · rintro (e | ⟨k, k1, k2, k3, k4⟩ | ⟨k, k1, k2, k3⟩ | ⟨c, j, hc, z1, z2, z3, q⟩)
    · exact ⟨0, Or.inl ⟨rfl, rfl⟩, by decide, Or.inl ⟨i, hi, by rw [Nat.mul_zero, Nat.zero_add]; exact h59, by rw [Nat.mul_zero, Nat.zero_add]; exact e⟩⟩
    · exact ⟨0, Or.inl ⟨rfl, rfl⟩, by decide, Or.inl ⟨k, k1, by rw [Nat.mul_zero, Nat.zero_add]; exact k3, by rw [Nat.mul_zero, Nat.zero_add]; exact k4⟩⟩
    · exact ⟨0, Or.inl ⟨rfl, rfl⟩, by decide, Or.inr ⟨k, k1, by rw [Nat.mul_zero, Nat.zero_add]; exact k2, by rw [Nat.mul_zero, Nat.zero_add]; exact k3⟩⟩
    · exact ⟨j, Or.inr ⟨c, hc, z1⟩, z3, q⟩
theorem tw_ot_a {nh i t : Nat} (a : aSt h h' m) (g63 : ∀ k, ¬ k = i → hh_i h' (m + 63) k = hh_i h (m + 63) k) (hi : i < 8) : tw_ot h' m nh i t ↔ tw_ot h m nh i t := by
  have a59 := a 59 (by decide) (by decide) (by decide)
  have a69 := a 69 (by decide) (by decide) (by decide)
  have a74 := a 74 (by decide) (by decide) (by decide)
  have a78 := a 78 (by decide) (by decide) (by decide)
  unfold tw_ot tw_os
  rw [a59, a69, a74, a78]
  constructor
  · rintro (⟨k, k1, k2, k3, k4⟩ | q | ⟨c, j, hc, z1, z2, z3, ⟨k, k1, k2, k3⟩ | q⟩)
    · exact Or.inl ⟨k, k1, k2, k3, by rw [g63 k k2] at k4; exact k4⟩
    · exact Or.inr (Or.inl q)
    · exact Or.inr (Or.inr ⟨c, j, hc, z1, z2, z3, Or.inl ⟨k, k1, k2, by rw [g63 _ (by omega)] at k3; exact k3⟩⟩)
    · exact Or.inr (Or.inr ⟨c, j, hc, z1, z2, z3, Or.inr q⟩)
  · rintro (⟨k, k1, k2, k3, k4⟩ | q | ⟨c, j, hc, z1, z2, z3, ⟨k, k1, k2, k3⟩ | q⟩)
    · exact Or.inl ⟨k, k1, k2, k3, by rw [g63 k k2]; exact k4⟩
    · exact Or.inr (Or.inl q)
    · exact Or.inr (Or.inr ⟨c, j, hc, z1, z2, z3, Or.inl ⟨k, k1, k2, by rw [g63 _ (by omega)]; exact k3⟩⟩)
    · exact Or.inr (Or.inr ⟨c, j, hc, z1, z2, z3, Or.inr q⟩)
end TE
